/-! java/util/AbstractCollection -/
set_option maxRecDepth 100000
def RJ0 : String := "java/util/AbstractCollection"
abbrev cJ0_init : ByteArray := prog_36_method_1_code
def yJ0_init : MethodName := ⟨RJ0, "<init>", "()V"⟩
theorem dJ0_init_0 : decode cJ0_init 0 = .ok (.aload_n 0, 1) := by decide +kernel
theorem dJ0_init_1 : decode cJ0_init 1 = .ok (.invokespecial 1, 3) := by decide +kernel
theorem dJ0_init_4 : decode cJ0_init 4 = .ok (.return_, 1) := by decide +kernel
theorem q84 : (Jvm.Cond.initialized "java/util/AbstractCollection") ∈ lw_all := lw_g (lw_at lw_m1 3 rfl) rfl
theorem q140 : (Jvm.Cond.instanceMethod ({ cls := "java/util/AbstractCollection", name := "<init>", desc := "()V" } : Jvm.MethodName)) ∈ lw_all := lw_g (lw_at lw_m1 59 rfl) rfl
theorem q141 : (Jvm.Cond.code ({ cls := "java/util/AbstractCollection", name := "<init>", desc := "()V" } : Jvm.MethodName) prog_36_method_1_code (1 : Nat) (Option.none : Option Jvm.ClassFile.FieldType)) ∈ lw_all := lw_g (lw_at lw_m1 60 rfl) rfl
theorem q142 : (Jvm.Cond.methodLink "java/util/AbstractCollection" (1 : Nat) ({ cls := "java/lang/Object", name := "<init>", desc := "()V" } : Jvm.MethodName)) ∈ lw_all := lw_g (lw_at lw_m1 61 rfl) rfl

/-! java/util/AbstractList -/
set_option maxRecDepth 100000
def RJ1 : String := "java/util/AbstractList"
abbrev cJ1_init : ByteArray := prog_37_method_1_code
def yJ1_init : MethodName := ⟨RJ1, "<init>", "()V"⟩
def dkwJ1_init_0 : List UInt8 := [42, 183, 0, 1, 42, 3, 181, 0, 7, 177]
abbrev dktJ1_init_0 : List UInt8 := dkwJ1_init_0 ++ []
theorem dksJ1_init_0 : cJ1_init.data.toList.drop 0 = dktJ1_init_0 := by decide +kernel
theorem dJ1_init_0 : decode cJ1_init 0 = .ok (.aload_n 0, 1) := dk_42 (dk_at dksJ1_init_0 0 rfl rfl)
theorem dJ1_init_1 : decode cJ1_init 1 = .ok (.invokespecial 1, 3) := dk_183 0 1 (dk_at dksJ1_init_0 1 rfl rfl)
theorem dJ1_init_4 : decode cJ1_init 4 = .ok (.aload_n 0, 1) := dk_42 (dk_at dksJ1_init_0 4 rfl rfl)
theorem dJ1_init_5 : decode cJ1_init 5 = .ok (.iconst 0, 1) := dk_3 (dk_at dksJ1_init_0 5 rfl rfl)
theorem dJ1_init_6 : decode cJ1_init 6 = .ok (.putfield 7, 3) := dk_181 0 7 (dk_at dksJ1_init_0 6 rfl rfl)
theorem dJ1_init_9 : decode cJ1_init 9 = .ok (.return_, 1) := dk_177 (dk_at dksJ1_init_0 9 rfl rfl)
theorem q85 : (Jvm.Cond.initialized "java/util/AbstractList") ∈ lw_all := lw_g (lw_at lw_m1 4 rfl) rfl
theorem q137 : (Jvm.Cond.instanceMethod ({ cls := "java/util/AbstractList", name := "<init>", desc := "()V" } : Jvm.MethodName)) ∈ lw_all := lw_g (lw_at lw_m1 56 rfl) rfl
theorem q138 : (Jvm.Cond.code ({ cls := "java/util/AbstractList", name := "<init>", desc := "()V" } : Jvm.MethodName) prog_37_method_1_code (1 : Nat) (Option.none : Option Jvm.ClassFile.FieldType)) ∈ lw_all := lw_g (lw_at lw_m1 57 rfl) rfl
theorem q139 : (Jvm.Cond.methodLink "java/util/AbstractList" (1 : Nat) ({ cls := "java/util/AbstractCollection", name := "<init>", desc := "()V" } : Jvm.MethodName)) ∈ lw_all := lw_g (lw_at lw_m1 58 rfl) rfl
theorem q147 : (Jvm.Cond.fieldLink "java/util/AbstractList" (7 : Nat) "java/util/AbstractList" "modCount" "I") ∈ lw_all := lw_g (lw_at lw_m1 66 rfl) rfl
theorem q155 : (Jvm.Cond.soleField "java/util/AbstractList" "modCount") ∈ lw_all := lw_g (lw_at lw_m1 74 rfl) rfl

/-! jdk/internal/util/Preconditions -/
set_option maxRecDepth 100000
def RJ10 : String := "jdk/internal/util/Preconditions"
abbrev cJ10_checkIndex : ByteArray := prog_46_method_11_code
def yJ10_checkIndex : MethodName := ⟨RJ10, "checkIndex", "(IILjava/util/function/BiFunction;)I"⟩
def dkwJ10_checkIndex_0 : List UInt8 := [26, 155, 0, 8, 26, 27, 161, 0, 10, 44, 26, 27, 184, 0, 95, 191, 26, 172]
abbrev dktJ10_checkIndex_0 : List UInt8 := dkwJ10_checkIndex_0 ++ []
theorem dksJ10_checkIndex_0 : cJ10_checkIndex.data.toList.drop 0 = dktJ10_checkIndex_0 := by decide +kernel
theorem dJ10_checkIndex_0 : decode cJ10_checkIndex 0 = .ok (.iload_n 0, 1) := dk_26 (dk_at dksJ10_checkIndex_0 0 rfl rfl)
theorem dJ10_checkIndex_1 : decode cJ10_checkIndex 1 = .ok (.ifCond .lt 8, 3) := dk_155 0 8 (dk_at dksJ10_checkIndex_0 1 rfl rfl)
theorem dJ10_checkIndex_4 : decode cJ10_checkIndex 4 = .ok (.iload_n 0, 1) := dk_26 (dk_at dksJ10_checkIndex_0 4 rfl rfl)
theorem dJ10_checkIndex_5 : decode cJ10_checkIndex 5 = .ok (.iload_n 1, 1) := dk_27 (dk_at dksJ10_checkIndex_0 5 rfl rfl)
theorem dJ10_checkIndex_6 : decode cJ10_checkIndex 6 = .ok (.if_icmp .lt 10, 3) := dk_161 0 10 (dk_at dksJ10_checkIndex_0 6 rfl rfl)
theorem dJ10_checkIndex_9 : decode cJ10_checkIndex 9 = .ok (.aload_n 2, 1) := dk_44 (dk_at dksJ10_checkIndex_0 9 rfl rfl)
theorem dJ10_checkIndex_10 : decode cJ10_checkIndex 10 = .ok (.iload_n 0, 1) := dk_26 (dk_at dksJ10_checkIndex_0 10 rfl rfl)
theorem dJ10_checkIndex_11 : decode cJ10_checkIndex 11 = .ok (.iload_n 1, 1) := dk_27 (dk_at dksJ10_checkIndex_0 11 rfl rfl)
theorem dJ10_checkIndex_12 : decode cJ10_checkIndex 12 = .ok (.invokestatic 95, 3) := dk_184 0 95 (dk_at dksJ10_checkIndex_0 12 rfl rfl)
theorem dJ10_checkIndex_15 : decode cJ10_checkIndex 15 = .ok (.athrow, 1) := dk_191 (dk_at dksJ10_checkIndex_0 15 rfl rfl)
theorem dJ10_checkIndex_16 : decode cJ10_checkIndex 16 = .ok (.iload_n 0, 1) := dk_26 (dk_at dksJ10_checkIndex_0 16 rfl rfl)
theorem dJ10_checkIndex_17 : decode cJ10_checkIndex 17 = .ok (.ireturn, 1) := dk_172 (dk_at dksJ10_checkIndex_0 17 rfl rfl)
theorem q107 : (Jvm.Cond.initialized "jdk/internal/util/Preconditions") ∈ lw_all := lw_g (lw_at lw_m1 26 rfl) rfl
theorem q635 : (Jvm.Cond.laysStatic "jdk/internal/util/Preconditions" "SIOOBE_FORMATTER" "Ljava/util/function/BiFunction;") ∈ lw_tbl := lw_at lw_m3 74 rfl
theorem q637 : (Jvm.Cond.static ({ cls := "jdk/internal/util/Preconditions", name := "checkIndex", desc := "(IILjava/util/function/BiFunction;)I" } : Jvm.MethodName)) ∈ lw_all := lw_g (lw_at lw_m3 76 rfl) rfl
theorem q638 : (Jvm.Cond.code ({ cls := "jdk/internal/util/Preconditions", name := "checkIndex", desc := "(IILjava/util/function/BiFunction;)I" } : Jvm.MethodName) prog_46_method_11_code (3 : Nat) (Option.some Jvm.ClassFile.FieldType.int)) ∈ lw_all := lw_g (lw_at lw_m3 77 rfl) rfl

/-! java/lang/StringUTF16 -/
set_option maxRecDepth 100000
def RJ11 : String := "java/lang/StringUTF16"
abbrev cJ11_charAt : ByteArray := prog_31_method_83_code
def yJ11_charAt : MethodName := ⟨RJ11, "charAt", "([BI)C"⟩
def dkwJ11_charAt_0 : List UInt8 := [27, 42, 184, 0, 67, 42, 27, 184, 0, 71, 172]
abbrev dktJ11_charAt_0 : List UInt8 := dkwJ11_charAt_0 ++ []
theorem dksJ11_charAt_0 : cJ11_charAt.data.toList.drop 0 = dktJ11_charAt_0 := by decide +kernel
theorem dJ11_charAt_0 : decode cJ11_charAt 0 = .ok (.iload_n 1, 1) := dk_27 (dk_at dksJ11_charAt_0 0 rfl rfl)
theorem dJ11_charAt_1 : decode cJ11_charAt 1 = .ok (.aload_n 0, 1) := dk_42 (dk_at dksJ11_charAt_0 1 rfl rfl)
theorem dJ11_charAt_2 : decode cJ11_charAt 2 = .ok (.invokestatic 67, 3) := dk_184 0 67 (dk_at dksJ11_charAt_0 2 rfl rfl)
theorem dJ11_charAt_5 : decode cJ11_charAt 5 = .ok (.aload_n 0, 1) := dk_42 (dk_at dksJ11_charAt_0 5 rfl rfl)
theorem dJ11_charAt_6 : decode cJ11_charAt 6 = .ok (.iload_n 1, 1) := dk_27 (dk_at dksJ11_charAt_0 6 rfl rfl)
theorem dJ11_charAt_7 : decode cJ11_charAt 7 = .ok (.invokestatic 71, 3) := dk_184 0 71 (dk_at dksJ11_charAt_0 7 rfl rfl)
theorem dJ11_charAt_10 : decode cJ11_charAt 10 = .ok (.ireturn, 1) := dk_172 (dk_at dksJ11_charAt_0 10 rfl rfl)
abbrev cJ11_checkIndex : ByteArray := prog_31_method_91_code
def yJ11_checkIndex : MethodName := ⟨RJ11, "checkIndex", "(I[B)V"⟩
def dkwJ11_checkIndex_0 : List UInt8 := [26, 43, 184, 0, 48, 184, 1, 158, 177]
abbrev dktJ11_checkIndex_0 : List UInt8 := dkwJ11_checkIndex_0 ++ []
theorem dksJ11_checkIndex_0 : cJ11_checkIndex.data.toList.drop 0 = dktJ11_checkIndex_0 := by decide +kernel
theorem dJ11_checkIndex_0 : decode cJ11_checkIndex 0 = .ok (.iload_n 0, 1) := dk_26 (dk_at dksJ11_checkIndex_0 0 rfl rfl)
theorem dJ11_checkIndex_1 : decode cJ11_checkIndex 1 = .ok (.aload_n 1, 1) := dk_43 (dk_at dksJ11_checkIndex_0 1 rfl rfl)
theorem dJ11_checkIndex_2 : decode cJ11_checkIndex 2 = .ok (.invokestatic 48, 3) := dk_184 0 48 (dk_at dksJ11_checkIndex_0 2 rfl rfl)
theorem dJ11_checkIndex_5 : decode cJ11_checkIndex 5 = .ok (.invokestatic 414, 3) := dk_184 1 158 (dk_at dksJ11_checkIndex_0 5 rfl rfl)
theorem dJ11_checkIndex_8 : decode cJ11_checkIndex 8 = .ok (.return_, 1) := dk_177 (dk_at dksJ11_checkIndex_0 8 rfl rfl)
abbrev cJ11_length : ByteArray := prog_31_method_6_code
def yJ11_length : MethodName := ⟨RJ11, "length", "([B)I"⟩
def dkwJ11_length_0 : List UInt8 := [42, 190, 4, 122, 172]
abbrev dktJ11_length_0 : List UInt8 := dkwJ11_length_0 ++ []
theorem dksJ11_length_0 : cJ11_length.data.toList.drop 0 = dktJ11_length_0 := by decide +kernel
theorem dJ11_length_0 : decode cJ11_length 0 = .ok (.aload_n 0, 1) := dk_42 (dk_at dksJ11_length_0 0 rfl rfl)
theorem dJ11_length_1 : decode cJ11_length 1 = .ok (.arraylength, 1) := dk_190 (dk_at dksJ11_length_0 1 rfl rfl)
theorem dJ11_length_2 : decode cJ11_length 2 = .ok (.iconst 1, 1) := dk_4 (dk_at dksJ11_length_0 2 rfl rfl)
theorem dJ11_length_3 : decode cJ11_length 3 = .ok (.ishr, 1) := dk_122 (dk_at dksJ11_length_0 3 rfl rfl)
theorem dJ11_length_4 : decode cJ11_length 4 = .ok (.ireturn, 1) := dk_172 (dk_at dksJ11_length_0 4 rfl rfl)
abbrev cJ11_getChar : ByteArray := prog_31_method_5_code
def yJ11_getChar : MethodName := ⟨RJ11, "getChar", "([BI)C"⟩
def dkwJ11_getChar_2 : List UInt8 := [51, 17, 0, 255, 126, 178, 0, 63, 120, 128, 146, 172]
abbrev dktJ11_getChar_2 : List UInt8 := dkwJ11_getChar_2 ++ []
def dkwJ11_getChar_1 : List UInt8 := [183, 0, 56, 191, 27, 4, 120, 60, 42, 27, 132, 1, 1, 51, 17, 0, 255, 126, 178, 0, 59, 120, 42, 27]
abbrev dktJ11_getChar_1 : List UInt8 := dkwJ11_getChar_1 ++ dktJ11_getChar_2
def dkwJ11_getChar_0 : List UInt8 := [178, 0, 44, 154, 0, 25, 27, 155, 0, 11, 27, 42, 184, 0, 48, 161, 0, 13, 187, 0, 52, 89, 18, 54]
abbrev dktJ11_getChar_0 : List UInt8 := dkwJ11_getChar_0 ++ dktJ11_getChar_1
theorem dksJ11_getChar_0 : cJ11_getChar.data.toList.drop 0 = dktJ11_getChar_0 := by decide +kernel
theorem dksJ11_getChar_1 : cJ11_getChar.data.toList.drop 24 = dktJ11_getChar_1 := dk_seg dksJ11_getChar_0 24 rfl rfl
theorem dksJ11_getChar_2 : cJ11_getChar.data.toList.drop 48 = dktJ11_getChar_2 := dk_seg dksJ11_getChar_1 24 rfl rfl
theorem dJ11_getChar_0 : decode cJ11_getChar 0 = .ok (.getstatic 44, 3) := dk_178 0 44 (dk_at dksJ11_getChar_0 0 rfl rfl)
theorem dJ11_getChar_3 : decode cJ11_getChar 3 = .ok (.ifCond .ne 25, 3) := dk_154 0 25 (dk_at dksJ11_getChar_0 3 rfl rfl)
theorem dJ11_getChar_6 : decode cJ11_getChar 6 = .ok (.iload_n 1, 1) := dk_27 (dk_at dksJ11_getChar_0 6 rfl rfl)
theorem dJ11_getChar_7 : decode cJ11_getChar 7 = .ok (.ifCond .lt 11, 3) := dk_155 0 11 (dk_at dksJ11_getChar_0 7 rfl rfl)
theorem dJ11_getChar_10 : decode cJ11_getChar 10 = .ok (.iload_n 1, 1) := dk_27 (dk_at dksJ11_getChar_0 10 rfl rfl)
theorem dJ11_getChar_11 : decode cJ11_getChar 11 = .ok (.aload_n 0, 1) := dk_42 (dk_at dksJ11_getChar_0 11 rfl rfl)
theorem dJ11_getChar_12 : decode cJ11_getChar 12 = .ok (.invokestatic 48, 3) := dk_184 0 48 (dk_at dksJ11_getChar_0 12 rfl rfl)
theorem dJ11_getChar_15 : decode cJ11_getChar 15 = .ok (.if_icmp .lt 13, 3) := dk_161 0 13 (dk_at dksJ11_getChar_0 15 rfl rfl)
theorem dJ11_getChar_18 : decode cJ11_getChar 18 = .ok (.new 52, 3) := dk_187 0 52 (dk_at dksJ11_getChar_0 18 rfl rfl)
theorem dJ11_getChar_21 : decode cJ11_getChar 21 = .ok (.dup, 1) := dk_89 (dk_at dksJ11_getChar_0 21 rfl rfl)
theorem dJ11_getChar_22 : decode cJ11_getChar 22 = .ok (.ldc 54, 2) := dk_18 54 (dk_at dksJ11_getChar_0 22 rfl rfl)
theorem dJ11_getChar_24 : decode cJ11_getChar 24 = .ok (.invokespecial 56, 3) := dk_183 0 56 (dk_at dksJ11_getChar_1 0 rfl rfl)
theorem dJ11_getChar_27 : decode cJ11_getChar 27 = .ok (.athrow, 1) := dk_191 (dk_at dksJ11_getChar_1 3 rfl rfl)
theorem dJ11_getChar_28 : decode cJ11_getChar 28 = .ok (.iload_n 1, 1) := dk_27 (dk_at dksJ11_getChar_1 4 rfl rfl)
theorem dJ11_getChar_29 : decode cJ11_getChar 29 = .ok (.iconst 1, 1) := dk_4 (dk_at dksJ11_getChar_1 5 rfl rfl)
theorem dJ11_getChar_30 : decode cJ11_getChar 30 = .ok (.ishl, 1) := dk_120 (dk_at dksJ11_getChar_1 6 rfl rfl)
theorem dJ11_getChar_31 : decode cJ11_getChar 31 = .ok (.istore_n 1, 1) := dk_60 (dk_at dksJ11_getChar_1 7 rfl rfl)
theorem dJ11_getChar_32 : decode cJ11_getChar 32 = .ok (.aload_n 0, 1) := dk_42 (dk_at dksJ11_getChar_1 8 rfl rfl)
theorem dJ11_getChar_33 : decode cJ11_getChar 33 = .ok (.iload_n 1, 1) := dk_27 (dk_at dksJ11_getChar_1 9 rfl rfl)
theorem dJ11_getChar_34 : decode cJ11_getChar 34 = .ok (.iinc 1 1, 3) := dk_132 1 1 (dk_at dksJ11_getChar_1 10 rfl rfl)
theorem dJ11_getChar_37 : decode cJ11_getChar 37 = .ok (.baload, 1) := dk_51 (dk_at dksJ11_getChar_1 13 rfl rfl)
theorem dJ11_getChar_38 : decode cJ11_getChar 38 = .ok (.sipush 255, 3) := dk_17 0 255 (dk_at dksJ11_getChar_1 14 rfl rfl)
theorem dJ11_getChar_41 : decode cJ11_getChar 41 = .ok (.iand, 1) := dk_126 (dk_at dksJ11_getChar_1 17 rfl rfl)
theorem dJ11_getChar_42 : decode cJ11_getChar 42 = .ok (.getstatic 59, 3) := dk_178 0 59 (dk_at dksJ11_getChar_1 18 rfl rfl)
theorem dJ11_getChar_45 : decode cJ11_getChar 45 = .ok (.ishl, 1) := dk_120 (dk_at dksJ11_getChar_1 21 rfl rfl)
theorem dJ11_getChar_46 : decode cJ11_getChar 46 = .ok (.aload_n 0, 1) := dk_42 (dk_at dksJ11_getChar_1 22 rfl rfl)
theorem dJ11_getChar_47 : decode cJ11_getChar 47 = .ok (.iload_n 1, 1) := dk_27 (dk_at dksJ11_getChar_1 23 rfl rfl)
theorem dJ11_getChar_48 : decode cJ11_getChar 48 = .ok (.baload, 1) := dk_51 (dk_at dksJ11_getChar_2 0 rfl rfl)
theorem dJ11_getChar_49 : decode cJ11_getChar 49 = .ok (.sipush 255, 3) := dk_17 0 255 (dk_at dksJ11_getChar_2 1 rfl rfl)
theorem dJ11_getChar_52 : decode cJ11_getChar 52 = .ok (.iand, 1) := dk_126 (dk_at dksJ11_getChar_2 4 rfl rfl)
theorem dJ11_getChar_53 : decode cJ11_getChar 53 = .ok (.getstatic 63, 3) := dk_178 0 63 (dk_at dksJ11_getChar_2 5 rfl rfl)
theorem dJ11_getChar_56 : decode cJ11_getChar 56 = .ok (.ishl, 1) := dk_120 (dk_at dksJ11_getChar_2 8 rfl rfl)
theorem dJ11_getChar_57 : decode cJ11_getChar 57 = .ok (.ior, 1) := dk_128 (dk_at dksJ11_getChar_2 9 rfl rfl)
theorem dJ11_getChar_58 : decode cJ11_getChar 58 = .ok (.i2c, 1) := dk_146 (dk_at dksJ11_getChar_2 10 rfl rfl)
theorem dJ11_getChar_59 : decode cJ11_getChar 59 = .ok (.ireturn, 1) := dk_172 (dk_at dksJ11_getChar_2 11 rfl rfl)
theorem q108 : (Jvm.Cond.initialized "java/lang/StringUTF16") ∈ lw_all := lw_g (lw_at lw_m1 27 rfl) rfl
theorem q640 : (Jvm.Cond.static ({ cls := "java/lang/StringUTF16", name := "charAt", desc := "([BI)C" } : Jvm.MethodName)) ∈ lw_all := lw_g (lw_at lw_m3 79 rfl) rfl
theorem q641 : (Jvm.Cond.code ({ cls := "java/lang/StringUTF16", name := "charAt", desc := "([BI)C" } : Jvm.MethodName) prog_31_method_83_code (2 : Nat) (Option.some Jvm.ClassFile.FieldType.char)) ∈ lw_all := lw_g (lw_at lw_m3 80 rfl) rfl
theorem q642 : (Jvm.Cond.methodLink "java/lang/StringUTF16" (67 : Nat) ({ cls := "java/lang/StringUTF16", name := "checkIndex", desc := "(I[B)V" } : Jvm.MethodName)) ∈ lw_all := lw_g (lw_at lw_m3 81 rfl) rfl
theorem q643 : (Jvm.Cond.static ({ cls := "java/lang/StringUTF16", name := "checkIndex", desc := "(I[B)V" } : Jvm.MethodName)) ∈ lw_all := lw_g (lw_at lw_m3 82 rfl) rfl
theorem q644 : (Jvm.Cond.code ({ cls := "java/lang/StringUTF16", name := "checkIndex", desc := "(I[B)V" } : Jvm.MethodName) prog_31_method_91_code (2 : Nat) (Option.none : Option Jvm.ClassFile.FieldType)) ∈ lw_all := lw_g (lw_at lw_m3 83 rfl) rfl
theorem q645 : (Jvm.Cond.methodLink "java/lang/StringUTF16" (48 : Nat) ({ cls := "java/lang/StringUTF16", name := "length", desc := "([B)I" } : Jvm.MethodName)) ∈ lw_all := lw_g (lw_at lw_m3 84 rfl) rfl
theorem q646 : (Jvm.Cond.static ({ cls := "java/lang/StringUTF16", name := "length", desc := "([B)I" } : Jvm.MethodName)) ∈ lw_all := lw_g (lw_at lw_m3 85 rfl) rfl
theorem q647 : (Jvm.Cond.code ({ cls := "java/lang/StringUTF16", name := "length", desc := "([B)I" } : Jvm.MethodName) prog_31_method_6_code (1 : Nat) (Option.some Jvm.ClassFile.FieldType.int)) ∈ lw_all := lw_g (lw_at lw_m3 86 rfl) rfl
theorem q648 : (Jvm.Cond.methodLink "java/lang/StringUTF16" (414 : Nat) ({ cls := "java/lang/String", name := "checkIndex", desc := "(II)V" } : Jvm.MethodName)) ∈ lw_all := lw_g (lw_at lw_m3 87 rfl) rfl
theorem q649 : (Jvm.Cond.methodLink "java/lang/StringUTF16" (71 : Nat) ({ cls := "java/lang/StringUTF16", name := "getChar", desc := "([BI)C" } : Jvm.MethodName)) ∈ lw_all := lw_g (lw_at lw_m3 88 rfl) rfl
theorem q650 : (Jvm.Cond.static ({ cls := "java/lang/StringUTF16", name := "getChar", desc := "([BI)C" } : Jvm.MethodName)) ∈ lw_all := lw_g (lw_at lw_m3 89 rfl) rfl
theorem q651 : (Jvm.Cond.code ({ cls := "java/lang/StringUTF16", name := "getChar", desc := "([BI)C" } : Jvm.MethodName) prog_31_method_5_code (2 : Nat) (Option.some Jvm.ClassFile.FieldType.char)) ∈ lw_all := lw_g (lw_at lw_m3 90 rfl) rfl
theorem q652 : (Jvm.Cond.fieldLink "java/lang/StringUTF16" (44 : Nat) "java/lang/StringUTF16" "$assertionsDisabled" "Z") ∈ lw_all := lw_g (lw_at lw_m3 91 rfl) rfl
theorem q653 : (Jvm.Cond.laysStatic "java/lang/StringUTF16" "$assertionsDisabled" "Z") ∈ lw_tbl := lw_at lw_m3 92 rfl
theorem q654 : (Jvm.Cond.fieldLink "java/lang/StringUTF16" (59 : Nat) "java/lang/StringUTF16" "HI_BYTE_SHIFT" "I") ∈ lw_all := lw_g (lw_at lw_m3 93 rfl) rfl
theorem q655 : (Jvm.Cond.laysStatic "java/lang/StringUTF16" "HI_BYTE_SHIFT" "I") ∈ lw_tbl := lw_at lw_m3 94 rfl
theorem q656 : (Jvm.Cond.fieldLink "java/lang/StringUTF16" (63 : Nat) "java/lang/StringUTF16" "LO_BYTE_SHIFT" "I") ∈ lw_all := lw_g (lw_at lw_m3 95 rfl) rfl
theorem q657 : (Jvm.Cond.laysStatic "java/lang/StringUTF16" "LO_BYTE_SHIFT" "I") ∈ lw_tbl := lw_at lw_m3 96 rfl

/-! jdk/internal/util/ArraysSupport -/
set_option maxRecDepth 100000
def RJ12 : String := "jdk/internal/util/ArraysSupport"
abbrev cJ12_newLength : ByteArray := prog_45_method_27_code
def yJ12_newLength : MethodName := ⟨RJ12, "newLength", "(III)I"⟩
def dkwJ12_newLength_1 : List UInt8 := [184, 0, 201, 172]
abbrev dktJ12_newLength_1 : List UInt8 := dkwJ12_newLength_1 ++ []
def dkwJ12_newLength_0 : List UInt8 := [26, 27, 28, 184, 0, 194, 96, 62, 3, 29, 162, 0, 11, 29, 18, 200, 163, 0, 5, 29, 172, 26, 27]
abbrev dktJ12_newLength_0 : List UInt8 := dkwJ12_newLength_0 ++ dktJ12_newLength_1
theorem dksJ12_newLength_0 : cJ12_newLength.data.toList.drop 0 = dktJ12_newLength_0 := by decide +kernel
theorem dksJ12_newLength_1 : cJ12_newLength.data.toList.drop 23 = dktJ12_newLength_1 := dk_seg dksJ12_newLength_0 23 rfl rfl
theorem dJ12_newLength_0 : decode cJ12_newLength 0 = .ok (.iload_n 0, 1) := dk_26 (dk_at dksJ12_newLength_0 0 rfl rfl)
theorem dJ12_newLength_1 : decode cJ12_newLength 1 = .ok (.iload_n 1, 1) := dk_27 (dk_at dksJ12_newLength_0 1 rfl rfl)
theorem dJ12_newLength_2 : decode cJ12_newLength 2 = .ok (.iload_n 2, 1) := dk_28 (dk_at dksJ12_newLength_0 2 rfl rfl)
theorem dJ12_newLength_3 : decode cJ12_newLength 3 = .ok (.invokestatic 194, 3) := dk_184 0 194 (dk_at dksJ12_newLength_0 3 rfl rfl)
theorem dJ12_newLength_6 : decode cJ12_newLength 6 = .ok (.iadd, 1) := dk_96 (dk_at dksJ12_newLength_0 6 rfl rfl)
theorem dJ12_newLength_7 : decode cJ12_newLength 7 = .ok (.istore_n 3, 1) := dk_62 (dk_at dksJ12_newLength_0 7 rfl rfl)
theorem dJ12_newLength_8 : decode cJ12_newLength 8 = .ok (.iconst 0, 1) := dk_3 (dk_at dksJ12_newLength_0 8 rfl rfl)
theorem dJ12_newLength_9 : decode cJ12_newLength 9 = .ok (.iload_n 3, 1) := dk_29 (dk_at dksJ12_newLength_0 9 rfl rfl)
theorem dJ12_newLength_10 : decode cJ12_newLength 10 = .ok (.if_icmp .ge 11, 3) := dk_162 0 11 (dk_at dksJ12_newLength_0 10 rfl rfl)
theorem dJ12_newLength_13 : decode cJ12_newLength 13 = .ok (.iload_n 3, 1) := dk_29 (dk_at dksJ12_newLength_0 13 rfl rfl)
theorem dJ12_newLength_14 : decode cJ12_newLength 14 = .ok (.ldc 200, 2) := dk_18 200 (dk_at dksJ12_newLength_0 14 rfl rfl)
theorem dJ12_newLength_16 : decode cJ12_newLength 16 = .ok (.if_icmp .gt 5, 3) := dk_163 0 5 (dk_at dksJ12_newLength_0 16 rfl rfl)
theorem dJ12_newLength_19 : decode cJ12_newLength 19 = .ok (.iload_n 3, 1) := dk_29 (dk_at dksJ12_newLength_0 19 rfl rfl)
theorem dJ12_newLength_20 : decode cJ12_newLength 20 = .ok (.ireturn, 1) := dk_172 (dk_at dksJ12_newLength_0 20 rfl rfl)
theorem dJ12_newLength_21 : decode cJ12_newLength 21 = .ok (.iload_n 0, 1) := dk_26 (dk_at dksJ12_newLength_0 21 rfl rfl)
theorem dJ12_newLength_22 : decode cJ12_newLength 22 = .ok (.iload_n 1, 1) := dk_27 (dk_at dksJ12_newLength_0 22 rfl rfl)
theorem dJ12_newLength_23 : decode cJ12_newLength 23 = .ok (.invokestatic 201, 3) := dk_184 0 201 (dk_at dksJ12_newLength_1 0 rfl rfl)
theorem dJ12_newLength_26 : decode cJ12_newLength 26 = .ok (.ireturn, 1) := dk_172 (dk_at dksJ12_newLength_1 3 rfl rfl)
abbrev cJ12_hugeLength : ByteArray := prog_45_method_28_code
def yJ12_hugeLength : MethodName := ⟨RJ12, "hugeLength", "(II)I"⟩
def dkwJ12_hugeLength_2 : List UInt8 := [191, 28, 18, 200, 163, 0, 6, 18, 200, 172, 28, 172]
abbrev dktJ12_hugeLength_2 : List UInt8 := dkwJ12_hugeLength_2 ++ []
def dkwJ12_hugeLength_1 : List UInt8 := [26, 182, 0, 98, 18, 208, 182, 0, 94, 27, 182, 0, 98, 18, 210, 182, 0, 94, 182, 0, 101, 183, 0, 212]
abbrev dktJ12_hugeLength_1 : List UInt8 := dkwJ12_hugeLength_1 ++ dktJ12_hugeLength_2
def dkwJ12_hugeLength_0 : List UInt8 := [26, 27, 96, 61, 28, 156, 0, 44, 187, 0, 204, 89, 187, 0, 89, 89, 183, 0, 91, 18, 206, 182, 0, 94]
abbrev dktJ12_hugeLength_0 : List UInt8 := dkwJ12_hugeLength_0 ++ dktJ12_hugeLength_1
theorem dksJ12_hugeLength_0 : cJ12_hugeLength.data.toList.drop 0 = dktJ12_hugeLength_0 := by decide +kernel
theorem dksJ12_hugeLength_1 : cJ12_hugeLength.data.toList.drop 24 = dktJ12_hugeLength_1 := dk_seg dksJ12_hugeLength_0 24 rfl rfl
theorem dksJ12_hugeLength_2 : cJ12_hugeLength.data.toList.drop 48 = dktJ12_hugeLength_2 := dk_seg dksJ12_hugeLength_1 24 rfl rfl
theorem dJ12_hugeLength_0 : decode cJ12_hugeLength 0 = .ok (.iload_n 0, 1) := dk_26 (dk_at dksJ12_hugeLength_0 0 rfl rfl)
theorem dJ12_hugeLength_1 : decode cJ12_hugeLength 1 = .ok (.iload_n 1, 1) := dk_27 (dk_at dksJ12_hugeLength_0 1 rfl rfl)
theorem dJ12_hugeLength_2 : decode cJ12_hugeLength 2 = .ok (.iadd, 1) := dk_96 (dk_at dksJ12_hugeLength_0 2 rfl rfl)
theorem dJ12_hugeLength_3 : decode cJ12_hugeLength 3 = .ok (.istore_n 2, 1) := dk_61 (dk_at dksJ12_hugeLength_0 3 rfl rfl)
theorem dJ12_hugeLength_4 : decode cJ12_hugeLength 4 = .ok (.iload_n 2, 1) := dk_28 (dk_at dksJ12_hugeLength_0 4 rfl rfl)
theorem dJ12_hugeLength_5 : decode cJ12_hugeLength 5 = .ok (.ifCond .ge 44, 3) := dk_156 0 44 (dk_at dksJ12_hugeLength_0 5 rfl rfl)
theorem dJ12_hugeLength_8 : decode cJ12_hugeLength 8 = .ok (.new 204, 3) := dk_187 0 204 (dk_at dksJ12_hugeLength_0 8 rfl rfl)
theorem dJ12_hugeLength_11 : decode cJ12_hugeLength 11 = .ok (.dup, 1) := dk_89 (dk_at dksJ12_hugeLength_0 11 rfl rfl)
theorem dJ12_hugeLength_12 : decode cJ12_hugeLength 12 = .ok (.new 89, 3) := dk_187 0 89 (dk_at dksJ12_hugeLength_0 12 rfl rfl)
theorem dJ12_hugeLength_15 : decode cJ12_hugeLength 15 = .ok (.dup, 1) := dk_89 (dk_at dksJ12_hugeLength_0 15 rfl rfl)
theorem dJ12_hugeLength_16 : decode cJ12_hugeLength 16 = .ok (.invokespecial 91, 3) := dk_183 0 91 (dk_at dksJ12_hugeLength_0 16 rfl rfl)
theorem dJ12_hugeLength_19 : decode cJ12_hugeLength 19 = .ok (.ldc 206, 2) := dk_18 206 (dk_at dksJ12_hugeLength_0 19 rfl rfl)
theorem dJ12_hugeLength_21 : decode cJ12_hugeLength 21 = .ok (.invokevirtual 94, 3) := dk_182 0 94 (dk_at dksJ12_hugeLength_0 21 rfl rfl)
theorem dJ12_hugeLength_24 : decode cJ12_hugeLength 24 = .ok (.iload_n 0, 1) := dk_26 (dk_at dksJ12_hugeLength_1 0 rfl rfl)
theorem dJ12_hugeLength_25 : decode cJ12_hugeLength 25 = .ok (.invokevirtual 98, 3) := dk_182 0 98 (dk_at dksJ12_hugeLength_1 1 rfl rfl)
theorem dJ12_hugeLength_28 : decode cJ12_hugeLength 28 = .ok (.ldc 208, 2) := dk_18 208 (dk_at dksJ12_hugeLength_1 4 rfl rfl)
theorem dJ12_hugeLength_30 : decode cJ12_hugeLength 30 = .ok (.invokevirtual 94, 3) := dk_182 0 94 (dk_at dksJ12_hugeLength_1 6 rfl rfl)
theorem dJ12_hugeLength_33 : decode cJ12_hugeLength 33 = .ok (.iload_n 1, 1) := dk_27 (dk_at dksJ12_hugeLength_1 9 rfl rfl)
theorem dJ12_hugeLength_34 : decode cJ12_hugeLength 34 = .ok (.invokevirtual 98, 3) := dk_182 0 98 (dk_at dksJ12_hugeLength_1 10 rfl rfl)
theorem dJ12_hugeLength_37 : decode cJ12_hugeLength 37 = .ok (.ldc 210, 2) := dk_18 210 (dk_at dksJ12_hugeLength_1 13 rfl rfl)
theorem dJ12_hugeLength_39 : decode cJ12_hugeLength 39 = .ok (.invokevirtual 94, 3) := dk_182 0 94 (dk_at dksJ12_hugeLength_1 15 rfl rfl)
theorem dJ12_hugeLength_42 : decode cJ12_hugeLength 42 = .ok (.invokevirtual 101, 3) := dk_182 0 101 (dk_at dksJ12_hugeLength_1 18 rfl rfl)
theorem dJ12_hugeLength_45 : decode cJ12_hugeLength 45 = .ok (.invokespecial 212, 3) := dk_183 0 212 (dk_at dksJ12_hugeLength_1 21 rfl rfl)
theorem dJ12_hugeLength_48 : decode cJ12_hugeLength 48 = .ok (.athrow, 1) := dk_191 (dk_at dksJ12_hugeLength_2 0 rfl rfl)
theorem dJ12_hugeLength_49 : decode cJ12_hugeLength 49 = .ok (.iload_n 2, 1) := dk_28 (dk_at dksJ12_hugeLength_2 1 rfl rfl)
theorem dJ12_hugeLength_50 : decode cJ12_hugeLength 50 = .ok (.ldc 200, 2) := dk_18 200 (dk_at dksJ12_hugeLength_2 2 rfl rfl)
theorem dJ12_hugeLength_52 : decode cJ12_hugeLength 52 = .ok (.if_icmp .gt 6, 3) := dk_163 0 6 (dk_at dksJ12_hugeLength_2 4 rfl rfl)
theorem dJ12_hugeLength_55 : decode cJ12_hugeLength 55 = .ok (.ldc 200, 2) := dk_18 200 (dk_at dksJ12_hugeLength_2 7 rfl rfl)
theorem dJ12_hugeLength_57 : decode cJ12_hugeLength 57 = .ok (.ireturn, 1) := dk_172 (dk_at dksJ12_hugeLength_2 9 rfl rfl)
theorem dJ12_hugeLength_58 : decode cJ12_hugeLength 58 = .ok (.iload_n 2, 1) := dk_28 (dk_at dksJ12_hugeLength_2 10 rfl rfl)
theorem dJ12_hugeLength_59 : decode cJ12_hugeLength 59 = .ok (.ireturn, 1) := dk_172 (dk_at dksJ12_hugeLength_2 11 rfl rfl)
theorem q109 : (Jvm.Cond.initialized "jdk/internal/util/ArraysSupport") ∈ lw_all := lw_g (lw_at lw_m1 28 rfl) rfl
theorem q705 : (Jvm.Cond.static ({ cls := "jdk/internal/util/ArraysSupport", name := "newLength", desc := "(III)I" } : Jvm.MethodName)) ∈ lw_all := lw_g (lw_at lw_m3 144 rfl) rfl
theorem q706 : (Jvm.Cond.code ({ cls := "jdk/internal/util/ArraysSupport", name := "newLength", desc := "(III)I" } : Jvm.MethodName) prog_45_method_27_code (4 : Nat) (Option.some Jvm.ClassFile.FieldType.int)) ∈ lw_all := lw_g (lw_at lw_m3 145 rfl) rfl
theorem q707 : (Jvm.Cond.methodLink "jdk/internal/util/ArraysSupport" (194 : Nat) ({ cls := "java/lang/Math", name := "max", desc := "(II)I" } : Jvm.MethodName)) ∈ lw_all := lw_g (lw_at lw_m3 146 rfl) rfl
theorem q710 : (Jvm.Cond.constant "jdk/internal/util/ArraysSupport" (200 : Nat) (2147483639 : Int32)) ∈ lw_all := lw_g (lw_at lw_m3 149 rfl) rfl
theorem q711 : (Jvm.Cond.methodLink "jdk/internal/util/ArraysSupport" (201 : Nat) ({ cls := "jdk/internal/util/ArraysSupport", name := "hugeLength", desc := "(II)I" } : Jvm.MethodName)) ∈ lw_all := lw_g (lw_at lw_m3 150 rfl) rfl
theorem q712 : (Jvm.Cond.static ({ cls := "jdk/internal/util/ArraysSupport", name := "hugeLength", desc := "(II)I" } : Jvm.MethodName)) ∈ lw_all := lw_g (lw_at lw_m3 151 rfl) rfl
theorem q713 : (Jvm.Cond.code ({ cls := "jdk/internal/util/ArraysSupport", name := "hugeLength", desc := "(II)I" } : Jvm.MethodName) prog_45_method_28_code (3 : Nat) (Option.some Jvm.ClassFile.FieldType.int)) ∈ lw_all := lw_g (lw_at lw_m3 152 rfl) rfl

/-! java/lang/Math -/
set_option maxRecDepth 100000
def RJ13 : String := "java/lang/Math"
abbrev cJ13_max : ByteArray := prog_27_method_65_code
def yJ13_max : MethodName := ⟨RJ13, "max", "(II)I"⟩
def dkwJ13_max_0 : List UInt8 := [26, 27, 161, 0, 7, 26, 167, 0, 4, 27, 172]
abbrev dktJ13_max_0 : List UInt8 := dkwJ13_max_0 ++ []
theorem dksJ13_max_0 : cJ13_max.data.toList.drop 0 = dktJ13_max_0 := by decide +kernel
theorem dJ13_max_0 : decode cJ13_max 0 = .ok (.iload_n 0, 1) := dk_26 (dk_at dksJ13_max_0 0 rfl rfl)
theorem dJ13_max_1 : decode cJ13_max 1 = .ok (.iload_n 1, 1) := dk_27 (dk_at dksJ13_max_0 1 rfl rfl)
theorem dJ13_max_2 : decode cJ13_max 2 = .ok (.if_icmp .lt 7, 3) := dk_161 0 7 (dk_at dksJ13_max_0 2 rfl rfl)
theorem dJ13_max_5 : decode cJ13_max 5 = .ok (.iload_n 0, 1) := dk_26 (dk_at dksJ13_max_0 5 rfl rfl)
theorem dJ13_max_6 : decode cJ13_max 6 = .ok (.goto 4, 3) := dk_167 0 4 (dk_at dksJ13_max_0 6 rfl rfl)
theorem dJ13_max_9 : decode cJ13_max 9 = .ok (.iload_n 1, 1) := dk_27 (dk_at dksJ13_max_0 9 rfl rfl)
theorem dJ13_max_10 : decode cJ13_max 10 = .ok (.ireturn, 1) := dk_172 (dk_at dksJ13_max_0 10 rfl rfl)
abbrev cJ13_min : ByteArray := prog_27_method_69_code
def yJ13_min : MethodName := ⟨RJ13, "min", "(II)I"⟩
def dkwJ13_min_0 : List UInt8 := [26, 27, 163, 0, 7, 26, 167, 0, 4, 27, 172]
abbrev dktJ13_min_0 : List UInt8 := dkwJ13_min_0 ++ []
theorem dksJ13_min_0 : cJ13_min.data.toList.drop 0 = dktJ13_min_0 := by decide +kernel
theorem dJ13_min_0 : decode cJ13_min 0 = .ok (.iload_n 0, 1) := dk_26 (dk_at dksJ13_min_0 0 rfl rfl)
theorem dJ13_min_1 : decode cJ13_min 1 = .ok (.iload_n 1, 1) := dk_27 (dk_at dksJ13_min_0 1 rfl rfl)
theorem dJ13_min_2 : decode cJ13_min 2 = .ok (.if_icmp .gt 7, 3) := dk_163 0 7 (dk_at dksJ13_min_0 2 rfl rfl)
theorem dJ13_min_5 : decode cJ13_min 5 = .ok (.iload_n 0, 1) := dk_26 (dk_at dksJ13_min_0 5 rfl rfl)
theorem dJ13_min_6 : decode cJ13_min 6 = .ok (.goto 4, 3) := dk_167 0 4 (dk_at dksJ13_min_0 6 rfl rfl)
theorem dJ13_min_9 : decode cJ13_min 9 = .ok (.iload_n 1, 1) := dk_27 (dk_at dksJ13_min_0 9 rfl rfl)
theorem dJ13_min_10 : decode cJ13_min 10 = .ok (.ireturn, 1) := dk_172 (dk_at dksJ13_min_0 10 rfl rfl)
theorem q110 : (Jvm.Cond.initialized "java/lang/Math") ∈ lw_all := lw_g (lw_at lw_m1 29 rfl) rfl
theorem q708 : (Jvm.Cond.static ({ cls := "java/lang/Math", name := "max", desc := "(II)I" } : Jvm.MethodName)) ∈ lw_all := lw_g (lw_at lw_m3 147 rfl) rfl
theorem q709 : (Jvm.Cond.code ({ cls := "java/lang/Math", name := "max", desc := "(II)I" } : Jvm.MethodName) prog_27_method_65_code (2 : Nat) (Option.some Jvm.ClassFile.FieldType.int)) ∈ lw_all := lw_g (lw_at lw_m3 148 rfl) rfl
theorem q744 : (Jvm.Cond.static ({ cls := "java/lang/Math", name := "min", desc := "(II)I" } : Jvm.MethodName)) ∈ lw_all := lw_g (lw_at lw_m3 183 rfl) rfl
theorem q745 : (Jvm.Cond.code ({ cls := "java/lang/Math", name := "min", desc := "(II)I" } : Jvm.MethodName) prog_27_method_69_code (2 : Nat) (Option.some Jvm.ClassFile.FieldType.int)) ∈ lw_all := lw_g (lw_at lw_m3 184 rfl) rfl

/-! java/util/Arrays -/
set_option maxRecDepth 100000
def RJ14 : String := "java/util/Arrays"
abbrev cJ14_copyOf : ByteArray := prog_39_method_119_code
def yJ14_copyOf : MethodName := ⟨RJ14, "copyOf", "([Ljava/lang/Object;I)[Ljava/lang/Object;"⟩
def dkwJ14_copyOf_0 : List UInt8 := [42, 27, 42, 182, 0, 86, 184, 1, 44, 176]
abbrev dktJ14_copyOf_0 : List UInt8 := dkwJ14_copyOf_0 ++ []
theorem dksJ14_copyOf_0 : cJ14_copyOf.data.toList.drop 0 = dktJ14_copyOf_0 := by decide +kernel
theorem dJ14_copyOf_0 : decode cJ14_copyOf 0 = .ok (.aload_n 0, 1) := dk_42 (dk_at dksJ14_copyOf_0 0 rfl rfl)
theorem dJ14_copyOf_1 : decode cJ14_copyOf 1 = .ok (.iload_n 1, 1) := dk_27 (dk_at dksJ14_copyOf_0 1 rfl rfl)
theorem dJ14_copyOf_2 : decode cJ14_copyOf 2 = .ok (.aload_n 0, 1) := dk_42 (dk_at dksJ14_copyOf_0 2 rfl rfl)
theorem dJ14_copyOf_3 : decode cJ14_copyOf 3 = .ok (.invokevirtual 86, 3) := dk_182 0 86 (dk_at dksJ14_copyOf_0 3 rfl rfl)
theorem dJ14_copyOf_6 : decode cJ14_copyOf 6 = .ok (.invokestatic 300, 3) := dk_184 1 44 (dk_at dksJ14_copyOf_0 6 rfl rfl)
theorem dJ14_copyOf_9 : decode cJ14_copyOf 9 = .ok (.areturn, 1) := dk_176 (dk_at dksJ14_copyOf_0 9 rfl rfl)
abbrev cJ14_copyOf_2 : ByteArray := prog_39_method_120_code
def yJ14_copyOf_2 : MethodName := ⟨RJ14, "copyOf", "([Ljava/lang/Object;ILjava/lang/Class;)[Ljava/lang/Object;"⟩
def dkwJ14_copyOf_2_1 : List UInt8 := [78, 42, 3, 45, 3, 42, 190, 27, 184, 1, 48, 184, 0, 150, 45, 176]
abbrev dktJ14_copyOf_2_1 : List UInt8 := dkwJ14_copyOf_2_1 ++ []
def dkwJ14_copyOf_2_0 : List UInt8 := [44, 18, 110, 166, 0, 10, 27, 189, 0, 2, 167, 0, 14, 44, 182, 0, 90, 27, 184, 0, 95, 192, 0, 110]
abbrev dktJ14_copyOf_2_0 : List UInt8 := dkwJ14_copyOf_2_0 ++ dktJ14_copyOf_2_1
theorem dksJ14_copyOf_2_0 : cJ14_copyOf_2.data.toList.drop 0 = dktJ14_copyOf_2_0 := by decide +kernel
theorem dksJ14_copyOf_2_1 : cJ14_copyOf_2.data.toList.drop 24 = dktJ14_copyOf_2_1 := dk_seg dksJ14_copyOf_2_0 24 rfl rfl
theorem dJ14_copyOf_2_0 : decode cJ14_copyOf_2 0 = .ok (.aload_n 2, 1) := dk_44 (dk_at dksJ14_copyOf_2_0 0 rfl rfl)
theorem dJ14_copyOf_2_1 : decode cJ14_copyOf_2 1 = .ok (.ldc 110, 2) := dk_18 110 (dk_at dksJ14_copyOf_2_0 1 rfl rfl)
theorem dJ14_copyOf_2_3 : decode cJ14_copyOf_2 3 = .ok (.if_acmp .ne 10, 3) := dk_166 0 10 (dk_at dksJ14_copyOf_2_0 3 rfl rfl)
theorem dJ14_copyOf_2_6 : decode cJ14_copyOf_2 6 = .ok (.iload_n 1, 1) := dk_27 (dk_at dksJ14_copyOf_2_0 6 rfl rfl)
theorem dJ14_copyOf_2_7 : decode cJ14_copyOf_2 7 = .ok (.anewarray 2, 3) := dk_189 0 2 (dk_at dksJ14_copyOf_2_0 7 rfl rfl)
theorem dJ14_copyOf_2_10 : decode cJ14_copyOf_2 10 = .ok (.goto 14, 3) := dk_167 0 14 (dk_at dksJ14_copyOf_2_0 10 rfl rfl)
theorem dJ14_copyOf_2_13 : decode cJ14_copyOf_2 13 = .ok (.aload_n 2, 1) := dk_44 (dk_at dksJ14_copyOf_2_0 13 rfl rfl)
theorem dJ14_copyOf_2_14 : decode cJ14_copyOf_2 14 = .ok (.invokevirtual 90, 3) := dk_182 0 90 (dk_at dksJ14_copyOf_2_0 14 rfl rfl)
theorem dJ14_copyOf_2_17 : decode cJ14_copyOf_2 17 = .ok (.iload_n 1, 1) := dk_27 (dk_at dksJ14_copyOf_2_0 17 rfl rfl)
theorem dJ14_copyOf_2_18 : decode cJ14_copyOf_2 18 = .ok (.invokestatic 95, 3) := dk_184 0 95 (dk_at dksJ14_copyOf_2_0 18 rfl rfl)
theorem dJ14_copyOf_2_21 : decode cJ14_copyOf_2 21 = .ok (.checkcast 110, 3) := dk_192 0 110 (dk_at dksJ14_copyOf_2_0 21 rfl rfl)
theorem dJ14_copyOf_2_24 : decode cJ14_copyOf_2 24 = .ok (.astore_n 3, 1) := dk_78 (dk_at dksJ14_copyOf_2_1 0 rfl rfl)
theorem dJ14_copyOf_2_25 : decode cJ14_copyOf_2 25 = .ok (.aload_n 0, 1) := dk_42 (dk_at dksJ14_copyOf_2_1 1 rfl rfl)
theorem dJ14_copyOf_2_26 : decode cJ14_copyOf_2 26 = .ok (.iconst 0, 1) := dk_3 (dk_at dksJ14_copyOf_2_1 2 rfl rfl)
theorem dJ14_copyOf_2_27 : decode cJ14_copyOf_2 27 = .ok (.aload_n 3, 1) := dk_45 (dk_at dksJ14_copyOf_2_1 3 rfl rfl)
theorem dJ14_copyOf_2_28 : decode cJ14_copyOf_2 28 = .ok (.iconst 0, 1) := dk_3 (dk_at dksJ14_copyOf_2_1 4 rfl rfl)
theorem dJ14_copyOf_2_29 : decode cJ14_copyOf_2 29 = .ok (.aload_n 0, 1) := dk_42 (dk_at dksJ14_copyOf_2_1 5 rfl rfl)
theorem dJ14_copyOf_2_30 : decode cJ14_copyOf_2 30 = .ok (.arraylength, 1) := dk_190 (dk_at dksJ14_copyOf_2_1 6 rfl rfl)
theorem dJ14_copyOf_2_31 : decode cJ14_copyOf_2 31 = .ok (.iload_n 1, 1) := dk_27 (dk_at dksJ14_copyOf_2_1 7 rfl rfl)
theorem dJ14_copyOf_2_32 : decode cJ14_copyOf_2 32 = .ok (.invokestatic 304, 3) := dk_184 1 48 (dk_at dksJ14_copyOf_2_1 8 rfl rfl)
theorem dJ14_copyOf_2_35 : decode cJ14_copyOf_2 35 = .ok (.invokestatic 150, 3) := dk_184 0 150 (dk_at dksJ14_copyOf_2_1 11 rfl rfl)
theorem dJ14_copyOf_2_38 : decode cJ14_copyOf_2 38 = .ok (.aload_n 3, 1) := dk_45 (dk_at dksJ14_copyOf_2_1 14 rfl rfl)
theorem dJ14_copyOf_2_39 : decode cJ14_copyOf_2 39 = .ok (.areturn, 1) := dk_176 (dk_at dksJ14_copyOf_2_1 15 rfl rfl)
theorem q111 : (Jvm.Cond.initialized "java/util/Arrays") ∈ lw_all := lw_g (lw_at lw_m1 30 rfl) rfl
theorem q715 : (Jvm.Cond.static ({ cls := "java/util/Arrays", name := "copyOf", desc := "([Ljava/lang/Object;I)[Ljava/lang/Object;" } : Jvm.MethodName)) ∈ lw_all := lw_g (lw_at lw_m3 154 rfl) rfl
theorem q716 : (Jvm.Cond.code ({ cls := "java/util/Arrays", name := "copyOf", desc := "([Ljava/lang/Object;I)[Ljava/lang/Object;" } : Jvm.MethodName) prog_39_method_119_code (2 : Nat) (Option.some (Jvm.ClassFile.FieldType.array (Jvm.ClassFile.FieldType.object "java/lang/Object")))) ∈ lw_all := lw_g (lw_at lw_m3 155 rfl) rfl
theorem q717 : (Jvm.Cond.methodLink "java/util/Arrays" (86 : Nat) ({ cls := "java/lang/Object", name := "getClass", desc := "()Ljava/lang/Class;" } : Jvm.MethodName)) ∈ lw_all := lw_g (lw_at lw_m3 156 rfl) rfl
theorem q737 : (Jvm.Cond.methodLink "java/util/Arrays" (300 : Nat) ({ cls := "java/util/Arrays", name := "copyOf", desc := "([Ljava/lang/Object;ILjava/lang/Class;)[Ljava/lang/Object;" } : Jvm.MethodName)) ∈ lw_all := lw_g (lw_at lw_m3 176 rfl) rfl
theorem q738 : (Jvm.Cond.static ({ cls := "java/util/Arrays", name := "copyOf", desc := "([Ljava/lang/Object;ILjava/lang/Class;)[Ljava/lang/Object;" } : Jvm.MethodName)) ∈ lw_all := lw_g (lw_at lw_m3 177 rfl) rfl
theorem q739 : (Jvm.Cond.code ({ cls := "java/util/Arrays", name := "copyOf", desc := "([Ljava/lang/Object;ILjava/lang/Class;)[Ljava/lang/Object;" } : Jvm.MethodName) prog_39_method_120_code (4 : Nat) (Option.some (Jvm.ClassFile.FieldType.array (Jvm.ClassFile.FieldType.object "java/lang/Object")))) ∈ lw_all := lw_g (lw_at lw_m3 178 rfl) rfl
theorem q740 : (Jvm.Cond.classLink "java/util/Arrays" (110 : Nat) "[Ljava/lang/Object;") ∈ lw_all := lw_g (lw_at lw_m3 179 rfl) rfl
theorem q742 : (Jvm.Cond.classLink "java/util/Arrays" (2 : Nat) "java/lang/Object") ∈ lw_all := lw_g (lw_at lw_m3 181 rfl) rfl
theorem q743 : (Jvm.Cond.methodLink "java/util/Arrays" (304 : Nat) ({ cls := "java/lang/Math", name := "min", desc := "(II)I" } : Jvm.MethodName)) ∈ lw_all := lw_g (lw_at lw_m3 182 rfl) rfl
theorem q746 : (Jvm.Cond.methodLink "java/util/Arrays" (150 : Nat) ({ cls := "java/lang/System", name := "arraycopy", desc := "(Ljava/lang/Object;ILjava/lang/Object;II)V" } : Jvm.MethodName)) ∈ lw_all := lw_g (lw_at lw_m3 185 rfl) rfl

/-! java/lang/Integer -/
set_option maxRecDepth 100000
def RJ15 : String := "java/lang/Integer"
abbrev cJ15_bitCount : ByteArray := prog_25_method_49_code
def yJ15_bitCount : MethodName := ⟨RJ15, "bitCount", "(I)I"⟩
def dkwJ15_bitCount_2 : List UInt8 := [26, 16, 63, 126, 172]
abbrev dktJ15_bitCount_2 : List UInt8 := dkwJ15_bitCount_2 ++ []
def dkwJ15_bitCount_1 : List UInt8 := [26, 26, 7, 124, 96, 19, 1, 11, 126, 59, 26, 26, 16, 8, 124, 96, 59, 26, 26, 16, 16, 124, 96, 59]
abbrev dktJ15_bitCount_1 : List UInt8 := dkwJ15_bitCount_1 ++ dktJ15_bitCount_2
def dkwJ15_bitCount_0 : List UInt8 := [26, 26, 4, 124, 19, 1, 9, 126, 100, 59, 26, 19, 1, 10, 126, 26, 5, 124, 19, 1, 10, 126, 96, 59]
abbrev dktJ15_bitCount_0 : List UInt8 := dkwJ15_bitCount_0 ++ dktJ15_bitCount_1
theorem dksJ15_bitCount_0 : cJ15_bitCount.data.toList.drop 0 = dktJ15_bitCount_0 := by decide +kernel
theorem dksJ15_bitCount_1 : cJ15_bitCount.data.toList.drop 24 = dktJ15_bitCount_1 := dk_seg dksJ15_bitCount_0 24 rfl rfl
theorem dksJ15_bitCount_2 : cJ15_bitCount.data.toList.drop 48 = dktJ15_bitCount_2 := dk_seg dksJ15_bitCount_1 24 rfl rfl
theorem dJ15_bitCount_0 : decode cJ15_bitCount 0 = .ok (.iload_n 0, 1) := dk_26 (dk_at dksJ15_bitCount_0 0 rfl rfl)
theorem dJ15_bitCount_1 : decode cJ15_bitCount 1 = .ok (.iload_n 0, 1) := dk_26 (dk_at dksJ15_bitCount_0 1 rfl rfl)
theorem dJ15_bitCount_2 : decode cJ15_bitCount 2 = .ok (.iconst 1, 1) := dk_4 (dk_at dksJ15_bitCount_0 2 rfl rfl)
theorem dJ15_bitCount_3 : decode cJ15_bitCount 3 = .ok (.iushr, 1) := dk_124 (dk_at dksJ15_bitCount_0 3 rfl rfl)
theorem dJ15_bitCount_4 : decode cJ15_bitCount 4 = .ok (.ldc_w 265, 3) := dk_19 1 9 (dk_at dksJ15_bitCount_0 4 rfl rfl)
theorem dJ15_bitCount_7 : decode cJ15_bitCount 7 = .ok (.iand, 1) := dk_126 (dk_at dksJ15_bitCount_0 7 rfl rfl)
theorem dJ15_bitCount_8 : decode cJ15_bitCount 8 = .ok (.isub, 1) := dk_100 (dk_at dksJ15_bitCount_0 8 rfl rfl)
theorem dJ15_bitCount_9 : decode cJ15_bitCount 9 = .ok (.istore_n 0, 1) := dk_59 (dk_at dksJ15_bitCount_0 9 rfl rfl)
theorem dJ15_bitCount_10 : decode cJ15_bitCount 10 = .ok (.iload_n 0, 1) := dk_26 (dk_at dksJ15_bitCount_0 10 rfl rfl)
theorem dJ15_bitCount_11 : decode cJ15_bitCount 11 = .ok (.ldc_w 266, 3) := dk_19 1 10 (dk_at dksJ15_bitCount_0 11 rfl rfl)
theorem dJ15_bitCount_14 : decode cJ15_bitCount 14 = .ok (.iand, 1) := dk_126 (dk_at dksJ15_bitCount_0 14 rfl rfl)
theorem dJ15_bitCount_15 : decode cJ15_bitCount 15 = .ok (.iload_n 0, 1) := dk_26 (dk_at dksJ15_bitCount_0 15 rfl rfl)
theorem dJ15_bitCount_16 : decode cJ15_bitCount 16 = .ok (.iconst 2, 1) := dk_5 (dk_at dksJ15_bitCount_0 16 rfl rfl)
theorem dJ15_bitCount_17 : decode cJ15_bitCount 17 = .ok (.iushr, 1) := dk_124 (dk_at dksJ15_bitCount_0 17 rfl rfl)
theorem dJ15_bitCount_18 : decode cJ15_bitCount 18 = .ok (.ldc_w 266, 3) := dk_19 1 10 (dk_at dksJ15_bitCount_0 18 rfl rfl)
theorem dJ15_bitCount_21 : decode cJ15_bitCount 21 = .ok (.iand, 1) := dk_126 (dk_at dksJ15_bitCount_0 21 rfl rfl)
theorem dJ15_bitCount_22 : decode cJ15_bitCount 22 = .ok (.iadd, 1) := dk_96 (dk_at dksJ15_bitCount_0 22 rfl rfl)
theorem dJ15_bitCount_23 : decode cJ15_bitCount 23 = .ok (.istore_n 0, 1) := dk_59 (dk_at dksJ15_bitCount_0 23 rfl rfl)
theorem dJ15_bitCount_24 : decode cJ15_bitCount 24 = .ok (.iload_n 0, 1) := dk_26 (dk_at dksJ15_bitCount_1 0 rfl rfl)
theorem dJ15_bitCount_25 : decode cJ15_bitCount 25 = .ok (.iload_n 0, 1) := dk_26 (dk_at dksJ15_bitCount_1 1 rfl rfl)
theorem dJ15_bitCount_26 : decode cJ15_bitCount 26 = .ok (.iconst 4, 1) := dk_7 (dk_at dksJ15_bitCount_1 2 rfl rfl)
theorem dJ15_bitCount_27 : decode cJ15_bitCount 27 = .ok (.iushr, 1) := dk_124 (dk_at dksJ15_bitCount_1 3 rfl rfl)
theorem dJ15_bitCount_28 : decode cJ15_bitCount 28 = .ok (.iadd, 1) := dk_96 (dk_at dksJ15_bitCount_1 4 rfl rfl)
theorem dJ15_bitCount_29 : decode cJ15_bitCount 29 = .ok (.ldc_w 267, 3) := dk_19 1 11 (dk_at dksJ15_bitCount_1 5 rfl rfl)
theorem dJ15_bitCount_32 : decode cJ15_bitCount 32 = .ok (.iand, 1) := dk_126 (dk_at dksJ15_bitCount_1 8 rfl rfl)
theorem dJ15_bitCount_33 : decode cJ15_bitCount 33 = .ok (.istore_n 0, 1) := dk_59 (dk_at dksJ15_bitCount_1 9 rfl rfl)
theorem dJ15_bitCount_34 : decode cJ15_bitCount 34 = .ok (.iload_n 0, 1) := dk_26 (dk_at dksJ15_bitCount_1 10 rfl rfl)
theorem dJ15_bitCount_35 : decode cJ15_bitCount 35 = .ok (.iload_n 0, 1) := dk_26 (dk_at dksJ15_bitCount_1 11 rfl rfl)
theorem dJ15_bitCount_36 : decode cJ15_bitCount 36 = .ok (.bipush 8, 2) := dk_16 8 (dk_at dksJ15_bitCount_1 12 rfl rfl)
theorem dJ15_bitCount_38 : decode cJ15_bitCount 38 = .ok (.iushr, 1) := dk_124 (dk_at dksJ15_bitCount_1 14 rfl rfl)
theorem dJ15_bitCount_39 : decode cJ15_bitCount 39 = .ok (.iadd, 1) := dk_96 (dk_at dksJ15_bitCount_1 15 rfl rfl)
theorem dJ15_bitCount_40 : decode cJ15_bitCount 40 = .ok (.istore_n 0, 1) := dk_59 (dk_at dksJ15_bitCount_1 16 rfl rfl)
theorem dJ15_bitCount_41 : decode cJ15_bitCount 41 = .ok (.iload_n 0, 1) := dk_26 (dk_at dksJ15_bitCount_1 17 rfl rfl)
theorem dJ15_bitCount_42 : decode cJ15_bitCount 42 = .ok (.iload_n 0, 1) := dk_26 (dk_at dksJ15_bitCount_1 18 rfl rfl)
theorem dJ15_bitCount_43 : decode cJ15_bitCount 43 = .ok (.bipush 16, 2) := dk_16 16 (dk_at dksJ15_bitCount_1 19 rfl rfl)
theorem dJ15_bitCount_45 : decode cJ15_bitCount 45 = .ok (.iushr, 1) := dk_124 (dk_at dksJ15_bitCount_1 21 rfl rfl)
theorem dJ15_bitCount_46 : decode cJ15_bitCount 46 = .ok (.iadd, 1) := dk_96 (dk_at dksJ15_bitCount_1 22 rfl rfl)
theorem dJ15_bitCount_47 : decode cJ15_bitCount 47 = .ok (.istore_n 0, 1) := dk_59 (dk_at dksJ15_bitCount_1 23 rfl rfl)
theorem dJ15_bitCount_48 : decode cJ15_bitCount 48 = .ok (.iload_n 0, 1) := dk_26 (dk_at dksJ15_bitCount_2 0 rfl rfl)
theorem dJ15_bitCount_49 : decode cJ15_bitCount 49 = .ok (.bipush 63, 2) := dk_16 63 (dk_at dksJ15_bitCount_2 1 rfl rfl)
theorem dJ15_bitCount_51 : decode cJ15_bitCount 51 = .ok (.iand, 1) := dk_126 (dk_at dksJ15_bitCount_2 3 rfl rfl)
theorem dJ15_bitCount_52 : decode cJ15_bitCount 52 = .ok (.ireturn, 1) := dk_172 (dk_at dksJ15_bitCount_2 4 rfl rfl)
theorem q112 : (Jvm.Cond.initialized "java/lang/Integer") ∈ lw_all := lw_g (lw_at lw_m1 31 rfl) rfl
theorem q792 : (Jvm.Cond.static ({ cls := "java/lang/Integer", name := "bitCount", desc := "(I)I" } : Jvm.MethodName)) ∈ lw_all := lw_g (lw_at lw_m3 231 rfl) rfl
theorem q793 : (Jvm.Cond.code ({ cls := "java/lang/Integer", name := "bitCount", desc := "(I)I" } : Jvm.MethodName) prog_25_method_49_code (1 : Nat) (Option.some Jvm.ClassFile.FieldType.int)) ∈ lw_all := lw_g (lw_at lw_m3 232 rfl) rfl
theorem q794 : (Jvm.Cond.constant "java/lang/Integer" (265 : Nat) (1431655765 : Int32)) ∈ lw_all := lw_g (lw_at lw_m3 233 rfl) rfl
theorem q795 : (Jvm.Cond.constant "java/lang/Integer" (266 : Nat) (858993459 : Int32)) ∈ lw_all := lw_g (lw_at lw_m3 234 rfl) rfl
theorem q796 : (Jvm.Cond.constant "java/lang/Integer" (267 : Nat) (252645135 : Int32)) ∈ lw_all := lw_g (lw_at lw_m3 235 rfl) rfl

/-! java/util/Objects -/
set_option maxRecDepth 100000
def RJ16 : String := "java/util/Objects"
abbrev cJ16_checkIndex : ByteArray := prog_42_method_17_code
def yJ16_checkIndex : MethodName := ⟨RJ16, "checkIndex", "(II)I"⟩
def dkwJ16_checkIndex_0 : List UInt8 := [26, 27, 1, 184, 0, 105, 172]
abbrev dktJ16_checkIndex_0 : List UInt8 := dkwJ16_checkIndex_0 ++ []
theorem dksJ16_checkIndex_0 : cJ16_checkIndex.data.toList.drop 0 = dktJ16_checkIndex_0 := by decide +kernel
theorem dJ16_checkIndex_0 : decode cJ16_checkIndex 0 = .ok (.iload_n 0, 1) := dk_26 (dk_at dksJ16_checkIndex_0 0 rfl rfl)
theorem dJ16_checkIndex_1 : decode cJ16_checkIndex 1 = .ok (.iload_n 1, 1) := dk_27 (dk_at dksJ16_checkIndex_0 1 rfl rfl)
theorem dJ16_checkIndex_2 : decode cJ16_checkIndex 2 = .ok (.aconst_null, 1) := dk_1 (dk_at dksJ16_checkIndex_0 2 rfl rfl)
theorem dJ16_checkIndex_3 : decode cJ16_checkIndex 3 = .ok (.invokestatic 105, 3) := dk_184 0 105 (dk_at dksJ16_checkIndex_0 3 rfl rfl)
theorem dJ16_checkIndex_6 : decode cJ16_checkIndex 6 = .ok (.ireturn, 1) := dk_172 (dk_at dksJ16_checkIndex_0 6 rfl rfl)
theorem q113 : (Jvm.Cond.initialized "java/util/Objects") ∈ lw_all := lw_g (lw_at lw_m1 32 rfl) rfl
theorem q827 : (Jvm.Cond.static ({ cls := "java/util/Objects", name := "checkIndex", desc := "(II)I" } : Jvm.MethodName)) ∈ lw_all := lw_g (lw_at lw_m4 26 rfl) rfl
theorem q828 : (Jvm.Cond.code ({ cls := "java/util/Objects", name := "checkIndex", desc := "(II)I" } : Jvm.MethodName) prog_42_method_17_code (2 : Nat) (Option.some Jvm.ClassFile.FieldType.int)) ∈ lw_all := lw_g (lw_at lw_m4 27 rfl) rfl
theorem q829 : (Jvm.Cond.methodLink "java/util/Objects" (105 : Nat) ({ cls := "jdk/internal/util/Preconditions", name := "checkIndex", desc := "(IILjava/util/function/BiFunction;)I" } : Jvm.MethodName)) ∈ lw_all := lw_g (lw_at lw_m4 28 rfl) rfl

/-! java/lang/ClassCastException -/
set_option maxRecDepth 100000
def RJ17 : String := "java/lang/ClassCastException"
def TJ17 : u_T := fun k => match k with
  | 0 => ("java/lang/Throwable", "backtrace", "Ljava/lang/Object;", false)
  | 1 => ("java/lang/Throwable", "detailMessage", "Ljava/lang/String;", false)
  | 2 => ("java/lang/Throwable", "cause", "Ljava/lang/Throwable;", false)
  | 3 => ("java/lang/Throwable", "stackTrace", "[Ljava/lang/StackTraceElement;", false)
  | 4 => ("java/lang/Throwable", "depth", "I", false)
  | _ => ("java/lang/Throwable", "suppressedExceptions", "Ljava/util/List;", false)
def tyJ17 : Nat → FieldType := fun k => match k with
  | 0 => .object "java/lang/Object"
  | 1 => .object "java/lang/String"
  | 2 => .object "java/lang/Throwable"
  | 3 => .array (.object "java/lang/StackTraceElement")
  | 4 => .int
  | _ => .object "java/util/List"
abbrev wsJ170 : List Cond := u_ws RJ17 TJ17 6
theorem nmJ17 : ∀ a, a < 6 → ∀ b, b < 6 → a ≠ b → (TJ17 a).2.1 ≠ (TJ17 b).2.1 := by decide +kernel
theorem tyJ17_ok : ∀ k, k < 6 → parseFieldDescriptor (TJ17 k).2.2.1 = some (tyJ17 k) := by decide +kernel
abbrev cJ17_init : ByteArray := prog_20_method_2_code
def yJ17_init : MethodName := ⟨RJ17, "<init>", "(Ljava/lang/String;)V"⟩
def dkwJ17_init_0 : List UInt8 := [42, 43, 183, 0, 7, 177]
abbrev dktJ17_init_0 : List UInt8 := dkwJ17_init_0 ++ []
theorem dksJ17_init_0 : cJ17_init.data.toList.drop 0 = dktJ17_init_0 := by decide +kernel
theorem dJ17_init_0 : decode cJ17_init 0 = .ok (.aload_n 0, 1) := dk_42 (dk_at dksJ17_init_0 0 rfl rfl)
theorem dJ17_init_1 : decode cJ17_init 1 = .ok (.aload_n 1, 1) := dk_43 (dk_at dksJ17_init_0 1 rfl rfl)
theorem dJ17_init_2 : decode cJ17_init 2 = .ok (.invokespecial 7, 3) := dk_183 0 7 (dk_at dksJ17_init_0 2 rfl rfl)
theorem dJ17_init_5 : decode cJ17_init 5 = .ok (.return_, 1) := dk_177 (dk_at dksJ17_init_0 5 rfl rfl)
theorem q114 : (Jvm.Cond.initialized "java/lang/ClassCastException") ∈ lw_all := lw_g (lw_at lw_m1 33 rfl) rfl
theorem q386 : (Jvm.Cond.selects "java/lang/ClassCastException" ({ cls := "java/lang/Throwable", name := "fillInStackTrace", desc := "()Ljava/lang/Throwable;" } : Jvm.MethodName) ({ cls := "java/lang/Throwable", name := "fillInStackTrace", desc := "()Ljava/lang/Throwable;" } : Jvm.MethodName)) ∈ lw_all := lw_g (lw_at lw_m2 65 rfl) rfl
theorem q734 : (Jvm.Cond.selects "java/lang/ClassCastException" ({ cls := "java/lang/Object", name := "getClass", desc := "()Ljava/lang/Class;" } : Jvm.MethodName) ({ cls := "java/lang/Object", name := "getClass", desc := "()Ljava/lang/Class;" } : Jvm.MethodName)) ∈ lw_all := lw_g (lw_at lw_m3 173 rfl) rfl
theorem q1122 : (Jvm.Cond.instantiable "java/lang/ClassCastException" (6 : Nat)) ∈ lw_all := lw_g (lw_at lw_m5 81 rfl) rfl
theorem q1123 : (Jvm.Cond.instanceMethod ({ cls := "java/lang/ClassCastException", name := "<init>", desc := "(Ljava/lang/String;)V" } : Jvm.MethodName)) ∈ lw_all := lw_g (lw_at lw_m5 82 rfl) rfl
theorem q1124 : (Jvm.Cond.code ({ cls := "java/lang/ClassCastException", name := "<init>", desc := "(Ljava/lang/String;)V" } : Jvm.MethodName) prog_20_method_2_code (2 : Nat) (Option.none : Option Jvm.ClassFile.FieldType)) ∈ lw_all := lw_g (lw_at lw_m5 83 rfl) rfl
theorem q1125 : (Jvm.Cond.methodLink "java/lang/ClassCastException" (7 : Nat) ({ cls := "java/lang/RuntimeException", name := "<init>", desc := "(Ljava/lang/String;)V" } : Jvm.MethodName)) ∈ lw_all := lw_g (lw_at lw_m5 84 rfl) rfl
theorem q1126 : (Jvm.Cond.lays "java/lang/ClassCastException" "java/lang/Throwable" "backtrace" "Ljava/lang/Object;") ∈ lw_all := lw_g (lw_at lw_m5 85 rfl) rfl
theorem q1127 : (Jvm.Cond.lays "java/lang/ClassCastException" "java/lang/Throwable" "detailMessage" "Ljava/lang/String;") ∈ lw_all := lw_g (lw_at lw_m5 86 rfl) rfl
theorem q1128 : (Jvm.Cond.lays "java/lang/ClassCastException" "java/lang/Throwable" "cause" "Ljava/lang/Throwable;") ∈ lw_all := lw_g (lw_at lw_m5 87 rfl) rfl
theorem q1129 : (Jvm.Cond.lays "java/lang/ClassCastException" "java/lang/Throwable" "stackTrace" "[Ljava/lang/StackTraceElement;") ∈ lw_all := lw_g (lw_at lw_m5 88 rfl) rfl
theorem q1130 : (Jvm.Cond.lays "java/lang/ClassCastException" "java/lang/Throwable" "depth" "I") ∈ lw_all := lw_g (lw_at lw_m5 89 rfl) rfl
theorem q1131 : (Jvm.Cond.lays "java/lang/ClassCastException" "java/lang/Throwable" "suppressedExceptions" "Ljava/util/List;") ∈ lw_all := lw_g (lw_at lw_m5 90 rfl) rfl
theorem q1132 : (Jvm.Cond.superclass "java/lang/ClassCastException" "java/lang/RuntimeException") ∈ lw_all := lw_g (lw_at lw_m5 91 rfl) rfl
theorem q1133 : (Jvm.Cond.castable "java/lang/ClassCastException" "java/lang/ClassCastException") ∈ lw_tbl := lw_at lw_m5 92 rfl
theorem q1134 : (Jvm.Cond.selects "java/lang/ClassCastException" ({ cls := "java/lang/Throwable", name := "fillInStackTrace", desc := "(I)Ljava/lang/Throwable;" } : Jvm.MethodName) ({ cls := "java/lang/Throwable", name := "fillInStackTrace", desc := "(I)Ljava/lang/Throwable;" } : Jvm.MethodName)) ∈ lw_all := lw_g (lw_at lw_m5 93 rfl) rfl
theorem q1716 : (Jvm.Cond.castable "java/lang/ClassCastException" "java/lang/Object") ∈ lw_tbl := lw_at lw_m7 195 rfl
theorem in_J17 : ∀ w ∈ wsJ170, w ∈ lw_all := lw_in wsJ170 [1126, 1127, 1128, 1129, 1130, 1131] (by decide +kernel) (by decide +kernel)

/-! java/lang/Object -/
set_option maxRecDepth 100000
def RJ18 : String := "java/lang/Object"
abbrev cJ18_init : ByteArray := object_method_1_code
def yJ18_init : MethodName := ⟨RJ18, "<init>", "()V"⟩
theorem dJ18_init_0 : decode cJ18_init 0 = .ok (.return_, 1) := by decide +kernel
theorem q121 : (Jvm.Cond.instanceMethod ({ cls := "java/lang/Object", name := "<init>", desc := "()V" } : Jvm.MethodName)) ∈ lw_all := lw_g (lw_at lw_m1 40 rfl) rfl
theorem q122 : (Jvm.Cond.code ({ cls := "java/lang/Object", name := "<init>", desc := "()V" } : Jvm.MethodName) object_method_1_code (1 : Nat) (Option.none : Option Jvm.ClassFile.FieldType)) ∈ lw_all := lw_g (lw_at lw_m1 41 rfl) rfl
theorem q718 : (Jvm.Cond.instanceMethod ({ cls := "java/lang/Object", name := "getClass", desc := "()Ljava/lang/Class;" } : Jvm.MethodName)) ∈ lw_all := lw_g (lw_at lw_m3 157 rfl) rfl
theorem q719 : (Jvm.Cond.sameMethod "java/lang/Object" "java/lang/Object" "getClass" "()Ljava/lang/Class;") ∈ lw_all := lw_g (lw_at lw_m3 158 rfl) rfl
theorem q736 : (Jvm.Cond.native ({ cls := "java/lang/Object", name := "getClass", desc := "()Ljava/lang/Class;" } : Jvm.MethodName)) ∈ lw_all := lw_g (lw_at lw_m3 175 rfl) rfl
theorem q1689 : (Jvm.Cond.initialized "java/lang/Object") ∈ lw_all := lw_g (lw_at lw_m7 168 rfl) rfl
theorem q1721 : (Jvm.Cond.declares ({ cls := "java/lang/Object", name := "getClass", desc := "()Ljava/lang/Class;" } : Jvm.MethodName)) ∈ lw_tbl := lw_at lw_m7 200 rfl

/-! java/util/ArrayList -/
set_option maxRecDepth 100000
def RJ2 : String := "java/util/ArrayList"
def TJ2 : u_T := fun k => match k with
  | 0 => ("java/util/AbstractList", "modCount", "I", false)
  | 1 => ("java/util/ArrayList", "elementData", "[Ljava/lang/Object;", false)
  | _ => ("java/util/ArrayList", "size", "I", false)
def tyJ2 : Nat → FieldType := fun k => match k with
  | 0 => .int
  | 1 => .array (.object "java/lang/Object")
  | _ => .int
abbrev wsJ20 : List Cond := u_ws RJ2 TJ2 3
theorem nmJ2 : ∀ a, a < 3 → ∀ b, b < 3 → a ≠ b → (TJ2 a).2.1 ≠ (TJ2 b).2.1 := by decide +kernel
theorem tyJ2_ok : ∀ k, k < 3 → parseFieldDescriptor (TJ2 k).2.2.1 = some (tyJ2 k) := by decide +kernel
abbrev cJ2_init : ByteArray := prog_38_method_2_code
def yJ2_init : MethodName := ⟨RJ2, "<init>", "()V"⟩
def dkwJ2_init_0 : List UInt8 := [42, 183, 0, 1, 42, 178, 0, 39, 181, 0, 9, 177]
abbrev dktJ2_init_0 : List UInt8 := dkwJ2_init_0 ++ []
theorem dksJ2_init_0 : cJ2_init.data.toList.drop 0 = dktJ2_init_0 := by decide +kernel
theorem dJ2_init_0 : decode cJ2_init 0 = .ok (.aload_n 0, 1) := dk_42 (dk_at dksJ2_init_0 0 rfl rfl)
theorem dJ2_init_1 : decode cJ2_init 1 = .ok (.invokespecial 1, 3) := dk_183 0 1 (dk_at dksJ2_init_0 1 rfl rfl)
theorem dJ2_init_4 : decode cJ2_init 4 = .ok (.aload_n 0, 1) := dk_42 (dk_at dksJ2_init_0 4 rfl rfl)
theorem dJ2_init_5 : decode cJ2_init 5 = .ok (.getstatic 39, 3) := dk_178 0 39 (dk_at dksJ2_init_0 5 rfl rfl)
theorem dJ2_init_8 : decode cJ2_init 8 = .ok (.putfield 9, 3) := dk_181 0 9 (dk_at dksJ2_init_0 8 rfl rfl)
theorem dJ2_init_11 : decode cJ2_init 11 = .ok (.return_, 1) := dk_177 (dk_at dksJ2_init_0 11 rfl rfl)
abbrev cJ2_size : ByteArray := prog_38_method_8_code
def yJ2_size : MethodName := ⟨RJ2, "size", "()I"⟩
theorem dJ2_size_0 : decode cJ2_size 0 = .ok (.aload_n 0, 1) := by decide +kernel
theorem dJ2_size_1 : decode cJ2_size 1 = .ok (.getfield 48, 3) := by decide +kernel
theorem dJ2_size_4 : decode cJ2_size 4 = .ok (.ireturn, 1) := by decide +kernel
abbrev cJ2_add : ByteArray := prog_38_method_25_code
def yJ2_add : MethodName := ⟨RJ2, "add", "(Ljava/lang/Object;)Z"⟩
def dkwJ2_add_1 : List UInt8 := [172]
abbrev dktJ2_add_1 : List UInt8 := dkwJ2_add_1 ++ []
def dkwJ2_add_0 : List UInt8 := [42, 89, 180, 0, 63, 4, 96, 181, 0, 63, 42, 43, 42, 180, 0, 9, 42, 180, 0, 48, 182, 0, 131, 4]
abbrev dktJ2_add_0 : List UInt8 := dkwJ2_add_0 ++ dktJ2_add_1
theorem dksJ2_add_0 : cJ2_add.data.toList.drop 0 = dktJ2_add_0 := by decide +kernel
theorem dksJ2_add_1 : cJ2_add.data.toList.drop 24 = dktJ2_add_1 := dk_seg dksJ2_add_0 24 rfl rfl
theorem dJ2_add_0 : decode cJ2_add 0 = .ok (.aload_n 0, 1) := dk_42 (dk_at dksJ2_add_0 0 rfl rfl)
theorem dJ2_add_1 : decode cJ2_add 1 = .ok (.dup, 1) := dk_89 (dk_at dksJ2_add_0 1 rfl rfl)
theorem dJ2_add_2 : decode cJ2_add 2 = .ok (.getfield 63, 3) := dk_180 0 63 (dk_at dksJ2_add_0 2 rfl rfl)
theorem dJ2_add_5 : decode cJ2_add 5 = .ok (.iconst 1, 1) := dk_4 (dk_at dksJ2_add_0 5 rfl rfl)
theorem dJ2_add_6 : decode cJ2_add 6 = .ok (.iadd, 1) := dk_96 (dk_at dksJ2_add_0 6 rfl rfl)
theorem dJ2_add_7 : decode cJ2_add 7 = .ok (.putfield 63, 3) := dk_181 0 63 (dk_at dksJ2_add_0 7 rfl rfl)
theorem dJ2_add_10 : decode cJ2_add 10 = .ok (.aload_n 0, 1) := dk_42 (dk_at dksJ2_add_0 10 rfl rfl)
theorem dJ2_add_11 : decode cJ2_add 11 = .ok (.aload_n 1, 1) := dk_43 (dk_at dksJ2_add_0 11 rfl rfl)
theorem dJ2_add_12 : decode cJ2_add 12 = .ok (.aload_n 0, 1) := dk_42 (dk_at dksJ2_add_0 12 rfl rfl)
theorem dJ2_add_13 : decode cJ2_add 13 = .ok (.getfield 9, 3) := dk_180 0 9 (dk_at dksJ2_add_0 13 rfl rfl)
theorem dJ2_add_16 : decode cJ2_add 16 = .ok (.aload_n 0, 1) := dk_42 (dk_at dksJ2_add_0 16 rfl rfl)
theorem dJ2_add_17 : decode cJ2_add 17 = .ok (.getfield 48, 3) := dk_180 0 48 (dk_at dksJ2_add_0 17 rfl rfl)
theorem dJ2_add_20 : decode cJ2_add 20 = .ok (.invokevirtual 131, 3) := dk_182 0 131 (dk_at dksJ2_add_0 20 rfl rfl)
theorem dJ2_add_23 : decode cJ2_add 23 = .ok (.iconst 1, 1) := dk_4 (dk_at dksJ2_add_0 23 rfl rfl)
theorem dJ2_add_24 : decode cJ2_add 24 = .ok (.ireturn, 1) := dk_172 (dk_at dksJ2_add_1 0 rfl rfl)
abbrev cJ2_add_2 : ByteArray := prog_38_method_24_code
def yJ2_add_2 : MethodName := ⟨RJ2, "add", "(Ljava/lang/Object;[Ljava/lang/Object;I)V"⟩
def dkwJ2_add_2_0 : List UInt8 := [29, 44, 190, 160, 0, 8, 42, 182, 0, 129, 77, 44, 29, 43, 83, 42, 29, 4, 96, 181, 0, 48, 177]
abbrev dktJ2_add_2_0 : List UInt8 := dkwJ2_add_2_0 ++ []
theorem dksJ2_add_2_0 : cJ2_add_2.data.toList.drop 0 = dktJ2_add_2_0 := by decide +kernel
theorem dJ2_add_2_0 : decode cJ2_add_2 0 = .ok (.iload_n 3, 1) := dk_29 (dk_at dksJ2_add_2_0 0 rfl rfl)
theorem dJ2_add_2_1 : decode cJ2_add_2 1 = .ok (.aload_n 2, 1) := dk_44 (dk_at dksJ2_add_2_0 1 rfl rfl)
theorem dJ2_add_2_2 : decode cJ2_add_2 2 = .ok (.arraylength, 1) := dk_190 (dk_at dksJ2_add_2_0 2 rfl rfl)
theorem dJ2_add_2_3 : decode cJ2_add_2 3 = .ok (.if_icmp .ne 8, 3) := dk_160 0 8 (dk_at dksJ2_add_2_0 3 rfl rfl)
theorem dJ2_add_2_6 : decode cJ2_add_2 6 = .ok (.aload_n 0, 1) := dk_42 (dk_at dksJ2_add_2_0 6 rfl rfl)
theorem dJ2_add_2_7 : decode cJ2_add_2 7 = .ok (.invokevirtual 129, 3) := dk_182 0 129 (dk_at dksJ2_add_2_0 7 rfl rfl)
theorem dJ2_add_2_10 : decode cJ2_add_2 10 = .ok (.astore_n 2, 1) := dk_77 (dk_at dksJ2_add_2_0 10 rfl rfl)
theorem dJ2_add_2_11 : decode cJ2_add_2 11 = .ok (.aload_n 2, 1) := dk_44 (dk_at dksJ2_add_2_0 11 rfl rfl)
theorem dJ2_add_2_12 : decode cJ2_add_2 12 = .ok (.iload_n 3, 1) := dk_29 (dk_at dksJ2_add_2_0 12 rfl rfl)
theorem dJ2_add_2_13 : decode cJ2_add_2 13 = .ok (.aload_n 1, 1) := dk_43 (dk_at dksJ2_add_2_0 13 rfl rfl)
theorem dJ2_add_2_14 : decode cJ2_add_2 14 = .ok (.aastore, 1) := dk_83 (dk_at dksJ2_add_2_0 14 rfl rfl)
theorem dJ2_add_2_15 : decode cJ2_add_2 15 = .ok (.aload_n 0, 1) := dk_42 (dk_at dksJ2_add_2_0 15 rfl rfl)
theorem dJ2_add_2_16 : decode cJ2_add_2 16 = .ok (.iload_n 3, 1) := dk_29 (dk_at dksJ2_add_2_0 16 rfl rfl)
theorem dJ2_add_2_17 : decode cJ2_add_2 17 = .ok (.iconst 1, 1) := dk_4 (dk_at dksJ2_add_2_0 17 rfl rfl)
theorem dJ2_add_2_18 : decode cJ2_add_2 18 = .ok (.iadd, 1) := dk_96 (dk_at dksJ2_add_2_0 18 rfl rfl)
theorem dJ2_add_2_19 : decode cJ2_add_2 19 = .ok (.putfield 48, 3) := dk_181 0 48 (dk_at dksJ2_add_2_0 19 rfl rfl)
theorem dJ2_add_2_22 : decode cJ2_add_2 22 = .ok (.return_, 1) := dk_177 (dk_at dksJ2_add_2_0 22 rfl rfl)
abbrev cJ2_grow : ByteArray := prog_38_method_7_code
def yJ2_grow : MethodName := ⟨RJ2, "grow", "()[Ljava/lang/Object;"⟩
def dkwJ2_grow_0 : List UInt8 := [42, 42, 180, 0, 48, 4, 96, 182, 0, 69, 176]
abbrev dktJ2_grow_0 : List UInt8 := dkwJ2_grow_0 ++ []
theorem dksJ2_grow_0 : cJ2_grow.data.toList.drop 0 = dktJ2_grow_0 := by decide +kernel
theorem dJ2_grow_0 : decode cJ2_grow 0 = .ok (.aload_n 0, 1) := dk_42 (dk_at dksJ2_grow_0 0 rfl rfl)
theorem dJ2_grow_1 : decode cJ2_grow 1 = .ok (.aload_n 0, 1) := dk_42 (dk_at dksJ2_grow_0 1 rfl rfl)
theorem dJ2_grow_2 : decode cJ2_grow 2 = .ok (.getfield 48, 3) := dk_180 0 48 (dk_at dksJ2_grow_0 2 rfl rfl)
theorem dJ2_grow_5 : decode cJ2_grow 5 = .ok (.iconst 1, 1) := dk_4 (dk_at dksJ2_grow_0 5 rfl rfl)
theorem dJ2_grow_6 : decode cJ2_grow 6 = .ok (.iadd, 1) := dk_96 (dk_at dksJ2_grow_0 6 rfl rfl)
theorem dJ2_grow_7 : decode cJ2_grow 7 = .ok (.invokevirtual 69, 3) := dk_182 0 69 (dk_at dksJ2_grow_0 7 rfl rfl)
theorem dJ2_grow_10 : decode cJ2_grow 10 = .ok (.areturn, 1) := dk_176 (dk_at dksJ2_grow_0 10 rfl rfl)
abbrev cJ2_grow_2 : ByteArray := prog_38_method_6_code
def yJ2_grow_2 : MethodName := ⟨RJ2, "grow", "(I)[Ljava/lang/Object;"⟩
def dkwJ2_grow_2_2 : List UInt8 := [27, 184, 0, 79, 189, 0, 7, 90, 181, 0, 9, 176]
abbrev dktJ2_grow_2_2 : List UInt8 := dkwJ2_grow_2_2 ++ []
def dkwJ2_grow_2_1 : List UInt8 := [28, 4, 122, 184, 0, 73, 62, 42, 42, 180, 0, 9, 29, 184, 0, 66, 90, 181, 0, 9, 176, 42, 16, 10]
abbrev dktJ2_grow_2_1 : List UInt8 := dkwJ2_grow_2_1 ++ dktJ2_grow_2_2
def dkwJ2_grow_2_0 : List UInt8 := [42, 180, 0, 9, 190, 61, 28, 157, 0, 13, 42, 180, 0, 9, 178, 0, 39, 165, 0, 28, 28, 27, 28, 100]
abbrev dktJ2_grow_2_0 : List UInt8 := dkwJ2_grow_2_0 ++ dktJ2_grow_2_1
theorem dksJ2_grow_2_0 : cJ2_grow_2.data.toList.drop 0 = dktJ2_grow_2_0 := by decide +kernel
theorem dksJ2_grow_2_1 : cJ2_grow_2.data.toList.drop 24 = dktJ2_grow_2_1 := dk_seg dksJ2_grow_2_0 24 rfl rfl
theorem dksJ2_grow_2_2 : cJ2_grow_2.data.toList.drop 48 = dktJ2_grow_2_2 := dk_seg dksJ2_grow_2_1 24 rfl rfl
theorem dJ2_grow_2_0 : decode cJ2_grow_2 0 = .ok (.aload_n 0, 1) := dk_42 (dk_at dksJ2_grow_2_0 0 rfl rfl)
theorem dJ2_grow_2_1 : decode cJ2_grow_2 1 = .ok (.getfield 9, 3) := dk_180 0 9 (dk_at dksJ2_grow_2_0 1 rfl rfl)
theorem dJ2_grow_2_4 : decode cJ2_grow_2 4 = .ok (.arraylength, 1) := dk_190 (dk_at dksJ2_grow_2_0 4 rfl rfl)
theorem dJ2_grow_2_5 : decode cJ2_grow_2 5 = .ok (.istore_n 2, 1) := dk_61 (dk_at dksJ2_grow_2_0 5 rfl rfl)
theorem dJ2_grow_2_6 : decode cJ2_grow_2 6 = .ok (.iload_n 2, 1) := dk_28 (dk_at dksJ2_grow_2_0 6 rfl rfl)
theorem dJ2_grow_2_7 : decode cJ2_grow_2 7 = .ok (.ifCond .gt 13, 3) := dk_157 0 13 (dk_at dksJ2_grow_2_0 7 rfl rfl)
theorem dJ2_grow_2_10 : decode cJ2_grow_2 10 = .ok (.aload_n 0, 1) := dk_42 (dk_at dksJ2_grow_2_0 10 rfl rfl)
theorem dJ2_grow_2_11 : decode cJ2_grow_2 11 = .ok (.getfield 9, 3) := dk_180 0 9 (dk_at dksJ2_grow_2_0 11 rfl rfl)
theorem dJ2_grow_2_14 : decode cJ2_grow_2 14 = .ok (.getstatic 39, 3) := dk_178 0 39 (dk_at dksJ2_grow_2_0 14 rfl rfl)
theorem dJ2_grow_2_17 : decode cJ2_grow_2 17 = .ok (.if_acmp .eq 28, 3) := dk_165 0 28 (dk_at dksJ2_grow_2_0 17 rfl rfl)
theorem dJ2_grow_2_20 : decode cJ2_grow_2 20 = .ok (.iload_n 2, 1) := dk_28 (dk_at dksJ2_grow_2_0 20 rfl rfl)
theorem dJ2_grow_2_21 : decode cJ2_grow_2 21 = .ok (.iload_n 1, 1) := dk_27 (dk_at dksJ2_grow_2_0 21 rfl rfl)
theorem dJ2_grow_2_22 : decode cJ2_grow_2 22 = .ok (.iload_n 2, 1) := dk_28 (dk_at dksJ2_grow_2_0 22 rfl rfl)
theorem dJ2_grow_2_23 : decode cJ2_grow_2 23 = .ok (.isub, 1) := dk_100 (dk_at dksJ2_grow_2_0 23 rfl rfl)
theorem dJ2_grow_2_24 : decode cJ2_grow_2 24 = .ok (.iload_n 2, 1) := dk_28 (dk_at dksJ2_grow_2_1 0 rfl rfl)
theorem dJ2_grow_2_25 : decode cJ2_grow_2 25 = .ok (.iconst 1, 1) := dk_4 (dk_at dksJ2_grow_2_1 1 rfl rfl)
theorem dJ2_grow_2_26 : decode cJ2_grow_2 26 = .ok (.ishr, 1) := dk_122 (dk_at dksJ2_grow_2_1 2 rfl rfl)
theorem dJ2_grow_2_27 : decode cJ2_grow_2 27 = .ok (.invokestatic 73, 3) := dk_184 0 73 (dk_at dksJ2_grow_2_1 3 rfl rfl)
theorem dJ2_grow_2_30 : decode cJ2_grow_2 30 = .ok (.istore_n 3, 1) := dk_62 (dk_at dksJ2_grow_2_1 6 rfl rfl)
theorem dJ2_grow_2_31 : decode cJ2_grow_2 31 = .ok (.aload_n 0, 1) := dk_42 (dk_at dksJ2_grow_2_1 7 rfl rfl)
theorem dJ2_grow_2_32 : decode cJ2_grow_2 32 = .ok (.aload_n 0, 1) := dk_42 (dk_at dksJ2_grow_2_1 8 rfl rfl)
theorem dJ2_grow_2_33 : decode cJ2_grow_2 33 = .ok (.getfield 9, 3) := dk_180 0 9 (dk_at dksJ2_grow_2_1 9 rfl rfl)
theorem dJ2_grow_2_36 : decode cJ2_grow_2 36 = .ok (.iload_n 3, 1) := dk_29 (dk_at dksJ2_grow_2_1 12 rfl rfl)
theorem dJ2_grow_2_37 : decode cJ2_grow_2 37 = .ok (.invokestatic 66, 3) := dk_184 0 66 (dk_at dksJ2_grow_2_1 13 rfl rfl)
theorem dJ2_grow_2_40 : decode cJ2_grow_2 40 = .ok (.dup_x1, 1) := dk_90 (dk_at dksJ2_grow_2_1 16 rfl rfl)
theorem dJ2_grow_2_41 : decode cJ2_grow_2 41 = .ok (.putfield 9, 3) := dk_181 0 9 (dk_at dksJ2_grow_2_1 17 rfl rfl)
theorem dJ2_grow_2_44 : decode cJ2_grow_2 44 = .ok (.areturn, 1) := dk_176 (dk_at dksJ2_grow_2_1 20 rfl rfl)
theorem dJ2_grow_2_45 : decode cJ2_grow_2 45 = .ok (.aload_n 0, 1) := dk_42 (dk_at dksJ2_grow_2_1 21 rfl rfl)
theorem dJ2_grow_2_46 : decode cJ2_grow_2 46 = .ok (.bipush 10, 2) := dk_16 10 (dk_at dksJ2_grow_2_1 22 rfl rfl)
theorem dJ2_grow_2_48 : decode cJ2_grow_2 48 = .ok (.iload_n 1, 1) := dk_27 (dk_at dksJ2_grow_2_2 0 rfl rfl)
theorem dJ2_grow_2_49 : decode cJ2_grow_2 49 = .ok (.invokestatic 79, 3) := dk_184 0 79 (dk_at dksJ2_grow_2_2 1 rfl rfl)
theorem dJ2_grow_2_52 : decode cJ2_grow_2 52 = .ok (.anewarray 7, 3) := dk_189 0 7 (dk_at dksJ2_grow_2_2 4 rfl rfl)
theorem dJ2_grow_2_55 : decode cJ2_grow_2 55 = .ok (.dup_x1, 1) := dk_90 (dk_at dksJ2_grow_2_2 7 rfl rfl)
theorem dJ2_grow_2_56 : decode cJ2_grow_2 56 = .ok (.putfield 9, 3) := dk_181 0 9 (dk_at dksJ2_grow_2_2 8 rfl rfl)
theorem dJ2_grow_2_59 : decode cJ2_grow_2 59 = .ok (.areturn, 1) := dk_176 (dk_at dksJ2_grow_2_2 11 rfl rfl)
abbrev cJ2_get : ByteArray := prog_38_method_20_code
def yJ2_get : MethodName := ⟨RJ2, "get", "(I)Ljava/lang/Object;"⟩
def dkwJ2_get_0 : List UInt8 := [27, 42, 180, 0, 48, 184, 0, 118, 87, 42, 27, 182, 0, 123, 176]
abbrev dktJ2_get_0 : List UInt8 := dkwJ2_get_0 ++ []
theorem dksJ2_get_0 : cJ2_get.data.toList.drop 0 = dktJ2_get_0 := by decide +kernel
theorem dJ2_get_0 : decode cJ2_get 0 = .ok (.iload_n 1, 1) := dk_27 (dk_at dksJ2_get_0 0 rfl rfl)
theorem dJ2_get_1 : decode cJ2_get 1 = .ok (.aload_n 0, 1) := dk_42 (dk_at dksJ2_get_0 1 rfl rfl)
theorem dJ2_get_2 : decode cJ2_get 2 = .ok (.getfield 48, 3) := dk_180 0 48 (dk_at dksJ2_get_0 2 rfl rfl)
theorem dJ2_get_5 : decode cJ2_get 5 = .ok (.invokestatic 118, 3) := dk_184 0 118 (dk_at dksJ2_get_0 5 rfl rfl)
theorem dJ2_get_8 : decode cJ2_get 8 = .ok (.pop, 1) := dk_87 (dk_at dksJ2_get_0 8 rfl rfl)
theorem dJ2_get_9 : decode cJ2_get 9 = .ok (.aload_n 0, 1) := dk_42 (dk_at dksJ2_get_0 9 rfl rfl)
theorem dJ2_get_10 : decode cJ2_get 10 = .ok (.iload_n 1, 1) := dk_27 (dk_at dksJ2_get_0 10 rfl rfl)
theorem dJ2_get_11 : decode cJ2_get 11 = .ok (.invokevirtual 123, 3) := dk_182 0 123 (dk_at dksJ2_get_0 11 rfl rfl)
theorem dJ2_get_14 : decode cJ2_get 14 = .ok (.areturn, 1) := dk_176 (dk_at dksJ2_get_0 14 rfl rfl)
abbrev cJ2_elementData : ByteArray := prog_38_method_18_code
def yJ2_elementData : MethodName := ⟨RJ2, "elementData", "(I)Ljava/lang/Object;"⟩
def dkwJ2_elementData_0 : List UInt8 := [42, 180, 0, 9, 27, 50, 176]
abbrev dktJ2_elementData_0 : List UInt8 := dkwJ2_elementData_0 ++ []
theorem dksJ2_elementData_0 : cJ2_elementData.data.toList.drop 0 = dktJ2_elementData_0 := by decide +kernel
theorem dJ2_elementData_0 : decode cJ2_elementData 0 = .ok (.aload_n 0, 1) := dk_42 (dk_at dksJ2_elementData_0 0 rfl rfl)
theorem dJ2_elementData_1 : decode cJ2_elementData 1 = .ok (.getfield 9, 3) := dk_180 0 9 (dk_at dksJ2_elementData_0 1 rfl rfl)
theorem dJ2_elementData_4 : decode cJ2_elementData 4 = .ok (.iload_n 1, 1) := dk_27 (dk_at dksJ2_elementData_0 4 rfl rfl)
theorem dJ2_elementData_5 : decode cJ2_elementData 5 = .ok (.aaload, 1) := dk_50 (dk_at dksJ2_elementData_0 5 rfl rfl)
theorem dJ2_elementData_6 : decode cJ2_elementData 6 = .ok (.areturn, 1) := dk_176 (dk_at dksJ2_elementData_0 6 rfl rfl)
theorem q86 : (Jvm.Cond.initialized "java/util/ArrayList") ∈ lw_all := lw_g (lw_at lw_m1 5 rfl) rfl
theorem q132 : (Jvm.Cond.instantiable "java/util/ArrayList" (3 : Nat)) ∈ lw_all := lw_g (lw_at lw_m1 51 rfl) rfl
theorem q134 : (Jvm.Cond.instanceMethod ({ cls := "java/util/ArrayList", name := "<init>", desc := "()V" } : Jvm.MethodName)) ∈ lw_all := lw_g (lw_at lw_m1 53 rfl) rfl
theorem q135 : (Jvm.Cond.code ({ cls := "java/util/ArrayList", name := "<init>", desc := "()V" } : Jvm.MethodName) prog_38_method_2_code (1 : Nat) (Option.none : Option Jvm.ClassFile.FieldType)) ∈ lw_all := lw_g (lw_at lw_m1 54 rfl) rfl
theorem q136 : (Jvm.Cond.methodLink "java/util/ArrayList" (1 : Nat) ({ cls := "java/util/AbstractList", name := "<init>", desc := "()V" } : Jvm.MethodName)) ∈ lw_all := lw_g (lw_at lw_m1 55 rfl) rfl
theorem q143 : (Jvm.Cond.fieldLink "java/util/ArrayList" (39 : Nat) "java/util/ArrayList" "DEFAULTCAPACITY_EMPTY_ELEMENTDATA" "[Ljava/lang/Object;") ∈ lw_all := lw_g (lw_at lw_m1 62 rfl) rfl
theorem q144 : (Jvm.Cond.laysStatic "java/util/ArrayList" "DEFAULTCAPACITY_EMPTY_ELEMENTDATA" "[Ljava/lang/Object;") ∈ lw_tbl := lw_at lw_m1 63 rfl
theorem q145 : (Jvm.Cond.fieldLink "java/util/ArrayList" (9 : Nat) "java/util/ArrayList" "elementData" "[Ljava/lang/Object;") ∈ lw_all := lw_g (lw_at lw_m1 64 rfl) rfl
theorem q146 : (Jvm.Cond.fieldLink "java/util/ArrayList" (48 : Nat) "java/util/ArrayList" "size" "I") ∈ lw_all := lw_g (lw_at lw_m1 65 rfl) rfl
theorem q148 : (Jvm.Cond.fieldLink "java/util/ArrayList" (63 : Nat) "java/util/ArrayList" "modCount" "I") ∈ lw_all := lw_g (lw_at lw_m1 67 rfl) rfl
theorem q149 : (Jvm.Cond.sameField "java/util/ArrayList" "java/util/AbstractList" "modCount" "I") ∈ lw_all := lw_g (lw_at lw_m1 68 rfl) rfl
theorem q150 : (Jvm.Cond.lays "java/util/ArrayList" "java/util/ArrayList" "elementData" "[Ljava/lang/Object;") ∈ lw_all := lw_g (lw_at lw_m1 69 rfl) rfl
theorem q151 : (Jvm.Cond.soleField "java/util/ArrayList" "elementData") ∈ lw_all := lw_g (lw_at lw_m1 70 rfl) rfl
theorem q152 : (Jvm.Cond.lays "java/util/ArrayList" "java/util/ArrayList" "size" "I") ∈ lw_all := lw_g (lw_at lw_m1 71 rfl) rfl
theorem q153 : (Jvm.Cond.soleField "java/util/ArrayList" "size") ∈ lw_all := lw_g (lw_at lw_m1 72 rfl) rfl
theorem q154 : (Jvm.Cond.lays "java/util/ArrayList" "java/util/AbstractList" "modCount" "I") ∈ lw_all := lw_g (lw_at lw_m1 73 rfl) rfl
theorem q156 : (Jvm.Cond.superclass "java/util/ArrayList" "java/util/AbstractList") ∈ lw_all := lw_g (lw_at lw_m1 75 rfl) rfl
theorem q670 : (Jvm.Cond.castable "java/util/ArrayList" "java/util/List") ∈ lw_tbl := lw_at lw_m3 109 rfl
theorem q671 : (Jvm.Cond.selects "java/util/ArrayList" ({ cls := "java/util/List", name := "size", desc := "()I" } : Jvm.MethodName) ({ cls := "java/util/ArrayList", name := "size", desc := "()I" } : Jvm.MethodName)) ∈ lw_all := lw_g (lw_at lw_m3 110 rfl) rfl
theorem q672 : (Jvm.Cond.unhidden "java/util/ArrayList" "size" "()I") ∈ lw_tbl := lw_at lw_m3 111 rfl
theorem q673 : (Jvm.Cond.instanceMethod ({ cls := "java/util/ArrayList", name := "size", desc := "()I" } : Jvm.MethodName)) ∈ lw_all := lw_g (lw_at lw_m3 112 rfl) rfl
theorem q674 : (Jvm.Cond.publicMethod ({ cls := "java/util/ArrayList", name := "size", desc := "()I" } : Jvm.MethodName)) ∈ lw_tbl := lw_at lw_m3 113 rfl
theorem q675 : (Jvm.Cond.code ({ cls := "java/util/ArrayList", name := "size", desc := "()I" } : Jvm.MethodName) prog_38_method_8_code (1 : Nat) (Option.some Jvm.ClassFile.FieldType.int)) ∈ lw_all := lw_g (lw_at lw_m3 114 rfl) rfl
theorem q687 : (Jvm.Cond.selects "java/util/ArrayList" ({ cls := "java/util/List", name := "add", desc := "(Ljava/lang/Object;)Z" } : Jvm.MethodName) ({ cls := "java/util/ArrayList", name := "add", desc := "(Ljava/lang/Object;)Z" } : Jvm.MethodName)) ∈ lw_all := lw_g (lw_at lw_m3 126 rfl) rfl
theorem q688 : (Jvm.Cond.unhidden "java/util/ArrayList" "add" "(Ljava/lang/Object;)Z") ∈ lw_tbl := lw_at lw_m3 127 rfl
theorem q689 : (Jvm.Cond.instanceMethod ({ cls := "java/util/ArrayList", name := "add", desc := "(Ljava/lang/Object;)Z" } : Jvm.MethodName)) ∈ lw_all := lw_g (lw_at lw_m3 128 rfl) rfl
theorem q690 : (Jvm.Cond.publicMethod ({ cls := "java/util/ArrayList", name := "add", desc := "(Ljava/lang/Object;)Z" } : Jvm.MethodName)) ∈ lw_tbl := lw_at lw_m3 129 rfl
theorem q691 : (Jvm.Cond.code ({ cls := "java/util/ArrayList", name := "add", desc := "(Ljava/lang/Object;)Z" } : Jvm.MethodName) prog_38_method_25_code (2 : Nat) (Option.some Jvm.ClassFile.FieldType.boolean)) ∈ lw_all := lw_g (lw_at lw_m3 130 rfl) rfl
theorem q692 : (Jvm.Cond.methodLink "java/util/ArrayList" (131 : Nat) ({ cls := "java/util/ArrayList", name := "add", desc := "(Ljava/lang/Object;[Ljava/lang/Object;I)V" } : Jvm.MethodName)) ∈ lw_all := lw_g (lw_at lw_m3 131 rfl) rfl
theorem q693 : (Jvm.Cond.privateMethod ({ cls := "java/util/ArrayList", name := "add", desc := "(Ljava/lang/Object;[Ljava/lang/Object;I)V" } : Jvm.MethodName)) ∈ lw_tbl := lw_at lw_m3 132 rfl
theorem q694 : (Jvm.Cond.instanceMethod ({ cls := "java/util/ArrayList", name := "add", desc := "(Ljava/lang/Object;[Ljava/lang/Object;I)V" } : Jvm.MethodName)) ∈ lw_all := lw_g (lw_at lw_m3 133 rfl) rfl
theorem q695 : (Jvm.Cond.code ({ cls := "java/util/ArrayList", name := "add", desc := "(Ljava/lang/Object;[Ljava/lang/Object;I)V" } : Jvm.MethodName) prog_38_method_24_code (4 : Nat) (Option.none : Option Jvm.ClassFile.FieldType)) ∈ lw_all := lw_g (lw_at lw_m3 134 rfl) rfl
theorem q696 : (Jvm.Cond.methodLink "java/util/ArrayList" (129 : Nat) ({ cls := "java/util/ArrayList", name := "grow", desc := "()[Ljava/lang/Object;" } : Jvm.MethodName)) ∈ lw_all := lw_g (lw_at lw_m3 135 rfl) rfl
theorem q697 : (Jvm.Cond.privateMethod ({ cls := "java/util/ArrayList", name := "grow", desc := "()[Ljava/lang/Object;" } : Jvm.MethodName)) ∈ lw_tbl := lw_at lw_m3 136 rfl
theorem q698 : (Jvm.Cond.instanceMethod ({ cls := "java/util/ArrayList", name := "grow", desc := "()[Ljava/lang/Object;" } : Jvm.MethodName)) ∈ lw_all := lw_g (lw_at lw_m3 137 rfl) rfl
theorem q699 : (Jvm.Cond.code ({ cls := "java/util/ArrayList", name := "grow", desc := "()[Ljava/lang/Object;" } : Jvm.MethodName) prog_38_method_7_code (1 : Nat) (Option.some (Jvm.ClassFile.FieldType.array (Jvm.ClassFile.FieldType.object "java/lang/Object")))) ∈ lw_all := lw_g (lw_at lw_m3 138 rfl) rfl
theorem q700 : (Jvm.Cond.methodLink "java/util/ArrayList" (69 : Nat) ({ cls := "java/util/ArrayList", name := "grow", desc := "(I)[Ljava/lang/Object;" } : Jvm.MethodName)) ∈ lw_all := lw_g (lw_at lw_m3 139 rfl) rfl
theorem q701 : (Jvm.Cond.privateMethod ({ cls := "java/util/ArrayList", name := "grow", desc := "(I)[Ljava/lang/Object;" } : Jvm.MethodName)) ∈ lw_tbl := lw_at lw_m3 140 rfl
theorem q702 : (Jvm.Cond.instanceMethod ({ cls := "java/util/ArrayList", name := "grow", desc := "(I)[Ljava/lang/Object;" } : Jvm.MethodName)) ∈ lw_all := lw_g (lw_at lw_m3 141 rfl) rfl
theorem q703 : (Jvm.Cond.code ({ cls := "java/util/ArrayList", name := "grow", desc := "(I)[Ljava/lang/Object;" } : Jvm.MethodName) prog_38_method_6_code (4 : Nat) (Option.some (Jvm.ClassFile.FieldType.array (Jvm.ClassFile.FieldType.object "java/lang/Object")))) ∈ lw_all := lw_g (lw_at lw_m3 142 rfl) rfl
theorem q704 : (Jvm.Cond.methodLink "java/util/ArrayList" (73 : Nat) ({ cls := "jdk/internal/util/ArraysSupport", name := "newLength", desc := "(III)I" } : Jvm.MethodName)) ∈ lw_all := lw_g (lw_at lw_m3 143 rfl) rfl
theorem q714 : (Jvm.Cond.methodLink "java/util/ArrayList" (66 : Nat) ({ cls := "java/util/Arrays", name := "copyOf", desc := "([Ljava/lang/Object;I)[Ljava/lang/Object;" } : Jvm.MethodName)) ∈ lw_all := lw_g (lw_at lw_m3 153 rfl) rfl
theorem q735 : (Jvm.Cond.selects "java/util/ArrayList" ({ cls := "java/lang/Object", name := "getClass", desc := "()Ljava/lang/Class;" } : Jvm.MethodName) ({ cls := "java/lang/Object", name := "getClass", desc := "()Ljava/lang/Class;" } : Jvm.MethodName)) ∈ lw_all := lw_g (lw_at lw_m3 174 rfl) rfl
theorem q747 : (Jvm.Cond.methodLink "java/util/ArrayList" (79 : Nat) ({ cls := "java/lang/Math", name := "max", desc := "(II)I" } : Jvm.MethodName)) ∈ lw_all := lw_g (lw_at lw_m3 186 rfl) rfl
theorem q748 : (Jvm.Cond.classLink "java/util/ArrayList" (7 : Nat) "java/lang/Object") ∈ lw_all := lw_g (lw_at lw_m3 187 rfl) rfl
theorem q821 : (Jvm.Cond.selects "java/util/ArrayList" ({ cls := "java/util/List", name := "get", desc := "(I)Ljava/lang/Object;" } : Jvm.MethodName) ({ cls := "java/util/ArrayList", name := "get", desc := "(I)Ljava/lang/Object;" } : Jvm.MethodName)) ∈ lw_all := lw_g (lw_at lw_m4 20 rfl) rfl
theorem q822 : (Jvm.Cond.unhidden "java/util/ArrayList" "get" "(I)Ljava/lang/Object;") ∈ lw_tbl := lw_at lw_m4 21 rfl
theorem q823 : (Jvm.Cond.instanceMethod ({ cls := "java/util/ArrayList", name := "get", desc := "(I)Ljava/lang/Object;" } : Jvm.MethodName)) ∈ lw_all := lw_g (lw_at lw_m4 22 rfl) rfl
theorem q824 : (Jvm.Cond.publicMethod ({ cls := "java/util/ArrayList", name := "get", desc := "(I)Ljava/lang/Object;" } : Jvm.MethodName)) ∈ lw_tbl := lw_at lw_m4 23 rfl
theorem q825 : (Jvm.Cond.code ({ cls := "java/util/ArrayList", name := "get", desc := "(I)Ljava/lang/Object;" } : Jvm.MethodName) prog_38_method_20_code (2 : Nat) (Option.some (Jvm.ClassFile.FieldType.object "java/lang/Object"))) ∈ lw_all := lw_g (lw_at lw_m4 24 rfl) rfl
theorem q826 : (Jvm.Cond.methodLink "java/util/ArrayList" (118 : Nat) ({ cls := "java/util/Objects", name := "checkIndex", desc := "(II)I" } : Jvm.MethodName)) ∈ lw_all := lw_g (lw_at lw_m4 25 rfl) rfl
theorem q830 : (Jvm.Cond.methodLink "java/util/ArrayList" (123 : Nat) ({ cls := "java/util/ArrayList", name := "elementData", desc := "(I)Ljava/lang/Object;" } : Jvm.MethodName)) ∈ lw_all := lw_g (lw_at lw_m4 29 rfl) rfl
theorem q831 : (Jvm.Cond.instanceMethod ({ cls := "java/util/ArrayList", name := "elementData", desc := "(I)Ljava/lang/Object;" } : Jvm.MethodName)) ∈ lw_all := lw_g (lw_at lw_m4 30 rfl) rfl
theorem q832 : (Jvm.Cond.selects "java/util/ArrayList" ({ cls := "java/util/ArrayList", name := "elementData", desc := "(I)Ljava/lang/Object;" } : Jvm.MethodName) ({ cls := "java/util/ArrayList", name := "elementData", desc := "(I)Ljava/lang/Object;" } : Jvm.MethodName)) ∈ lw_all := lw_g (lw_at lw_m4 31 rfl) rfl
theorem q833 : (Jvm.Cond.code ({ cls := "java/util/ArrayList", name := "elementData", desc := "(I)Ljava/lang/Object;" } : Jvm.MethodName) prog_38_method_18_code (2 : Nat) (Option.some (Jvm.ClassFile.FieldType.object "java/lang/Object"))) ∈ lw_all := lw_g (lw_at lw_m4 32 rfl) rfl
theorem q1704 : (Jvm.Cond.castable "java/util/ArrayList" "java/lang/Object") ∈ lw_tbl := lw_at lw_m7 183 rfl
theorem in_J2 : ∀ w ∈ wsJ20, w ∈ lw_all := lw_in wsJ20 [154, 150, 152] (by decide +kernel) (by decide +kernel)

/-! java/lang/Throwable -/
set_option maxRecDepth 100000
def RJ3 : String := "java/lang/Throwable"
def TJ3 : u_T := fun k => match k with
  | 0 => ("java/lang/Throwable", "cause", "Ljava/lang/Throwable;", false)
  | 1 => ("java/lang/Throwable", "stackTrace", "[Ljava/lang/StackTraceElement;", false)
  | 2 => ("java/lang/Throwable", "suppressedExceptions", "Ljava/util/List;", false)
  | 3 => ("java/lang/Throwable", "detailMessage", "Ljava/lang/String;", false)
  | _ => ("java/lang/Throwable", "backtrace", "Ljava/lang/Object;", false)
def tyJ3 : Nat → FieldType := fun k => match k with
  | 0 => .object "java/lang/Throwable"
  | 1 => .array (.object "java/lang/StackTraceElement")
  | 2 => .object "java/util/List"
  | 3 => .object "java/lang/String"
  | _ => .object "java/lang/Object"
abbrev wsJ30 : List Cond := u_ws RJ3 TJ3 5
theorem nmJ3 : ∀ a, a < 5 → ∀ b, b < 5 → a ≠ b → (TJ3 a).2.1 ≠ (TJ3 b).2.1 := by decide +kernel
theorem tyJ3_ok : ∀ k, k < 5 → parseFieldDescriptor (TJ3 k).2.2.1 = some (tyJ3 k) := by decide +kernel
abbrev cJ3_init : ByteArray := prog_33_method_1_code
def yJ3_init : MethodName := ⟨RJ3, "<init>", "()V"⟩
def dkwJ3_init_1 : List UInt8 := [182, 0, 27, 87, 177]
abbrev dktJ3_init_1 : List UInt8 := dkwJ3_init_1 ++ []
def dkwJ3_init_0 : List UInt8 := [42, 183, 0, 1, 42, 42, 181, 0, 7, 42, 178, 0, 13, 181, 0, 17, 42, 178, 0, 20, 181, 0, 24, 42]
abbrev dktJ3_init_0 : List UInt8 := dkwJ3_init_0 ++ dktJ3_init_1
theorem dksJ3_init_0 : cJ3_init.data.toList.drop 0 = dktJ3_init_0 := by decide +kernel
theorem dksJ3_init_1 : cJ3_init.data.toList.drop 24 = dktJ3_init_1 := dk_seg dksJ3_init_0 24 rfl rfl
theorem dJ3_init_0 : decode cJ3_init 0 = .ok (.aload_n 0, 1) := dk_42 (dk_at dksJ3_init_0 0 rfl rfl)
theorem dJ3_init_1 : decode cJ3_init 1 = .ok (.invokespecial 1, 3) := dk_183 0 1 (dk_at dksJ3_init_0 1 rfl rfl)
theorem dJ3_init_4 : decode cJ3_init 4 = .ok (.aload_n 0, 1) := dk_42 (dk_at dksJ3_init_0 4 rfl rfl)
theorem dJ3_init_5 : decode cJ3_init 5 = .ok (.aload_n 0, 1) := dk_42 (dk_at dksJ3_init_0 5 rfl rfl)
theorem dJ3_init_6 : decode cJ3_init 6 = .ok (.putfield 7, 3) := dk_181 0 7 (dk_at dksJ3_init_0 6 rfl rfl)
theorem dJ3_init_9 : decode cJ3_init 9 = .ok (.aload_n 0, 1) := dk_42 (dk_at dksJ3_init_0 9 rfl rfl)
theorem dJ3_init_10 : decode cJ3_init 10 = .ok (.getstatic 13, 3) := dk_178 0 13 (dk_at dksJ3_init_0 10 rfl rfl)
theorem dJ3_init_13 : decode cJ3_init 13 = .ok (.putfield 17, 3) := dk_181 0 17 (dk_at dksJ3_init_0 13 rfl rfl)
theorem dJ3_init_16 : decode cJ3_init 16 = .ok (.aload_n 0, 1) := dk_42 (dk_at dksJ3_init_0 16 rfl rfl)
theorem dJ3_init_17 : decode cJ3_init 17 = .ok (.getstatic 20, 3) := dk_178 0 20 (dk_at dksJ3_init_0 17 rfl rfl)
theorem dJ3_init_20 : decode cJ3_init 20 = .ok (.putfield 24, 3) := dk_181 0 24 (dk_at dksJ3_init_0 20 rfl rfl)
theorem dJ3_init_23 : decode cJ3_init 23 = .ok (.aload_n 0, 1) := dk_42 (dk_at dksJ3_init_0 23 rfl rfl)
theorem dJ3_init_24 : decode cJ3_init 24 = .ok (.invokevirtual 27, 3) := dk_182 0 27 (dk_at dksJ3_init_1 0 rfl rfl)
theorem dJ3_init_27 : decode cJ3_init 27 = .ok (.pop, 1) := dk_87 (dk_at dksJ3_init_1 3 rfl rfl)
theorem dJ3_init_28 : decode cJ3_init 28 = .ok (.return_, 1) := dk_177 (dk_at dksJ3_init_1 4 rfl rfl)
abbrev cJ3_init_2 : ByteArray := prog_33_method_5_code
def yJ3_init_2 : MethodName := ⟨RJ3, "<init>", "(Ljava/lang/String;Ljava/lang/Throwable;ZZ)V"⟩
def dkwJ3_init_2_2 : List UInt8 := [44, 181, 0, 7, 29, 154, 0, 8, 42, 1, 181, 0, 24, 177]
abbrev dktJ3_init_2_2 : List UInt8 := dkwJ3_init_2_2 ++ []
def dkwJ3_init_2_1 : List UInt8 := [21, 4, 153, 0, 11, 42, 182, 0, 27, 87, 167, 0, 8, 42, 1, 181, 0, 17, 42, 43, 181, 0, 31, 42]
abbrev dktJ3_init_2_1 : List UInt8 := dkwJ3_init_2_1 ++ dktJ3_init_2_2
def dkwJ3_init_2_0 : List UInt8 := [42, 183, 0, 1, 42, 42, 181, 0, 7, 42, 178, 0, 13, 181, 0, 17, 42, 178, 0, 20, 181, 0, 24]
abbrev dktJ3_init_2_0 : List UInt8 := dkwJ3_init_2_0 ++ dktJ3_init_2_1
theorem dksJ3_init_2_0 : cJ3_init_2.data.toList.drop 0 = dktJ3_init_2_0 := by decide +kernel
theorem dksJ3_init_2_1 : cJ3_init_2.data.toList.drop 23 = dktJ3_init_2_1 := dk_seg dksJ3_init_2_0 23 rfl rfl
theorem dksJ3_init_2_2 : cJ3_init_2.data.toList.drop 47 = dktJ3_init_2_2 := dk_seg dksJ3_init_2_1 24 rfl rfl
theorem dJ3_init_2_0 : decode cJ3_init_2 0 = .ok (.aload_n 0, 1) := dk_42 (dk_at dksJ3_init_2_0 0 rfl rfl)
theorem dJ3_init_2_1 : decode cJ3_init_2 1 = .ok (.invokespecial 1, 3) := dk_183 0 1 (dk_at dksJ3_init_2_0 1 rfl rfl)
theorem dJ3_init_2_4 : decode cJ3_init_2 4 = .ok (.aload_n 0, 1) := dk_42 (dk_at dksJ3_init_2_0 4 rfl rfl)
theorem dJ3_init_2_5 : decode cJ3_init_2 5 = .ok (.aload_n 0, 1) := dk_42 (dk_at dksJ3_init_2_0 5 rfl rfl)
theorem dJ3_init_2_6 : decode cJ3_init_2 6 = .ok (.putfield 7, 3) := dk_181 0 7 (dk_at dksJ3_init_2_0 6 rfl rfl)
theorem dJ3_init_2_9 : decode cJ3_init_2 9 = .ok (.aload_n 0, 1) := dk_42 (dk_at dksJ3_init_2_0 9 rfl rfl)
theorem dJ3_init_2_10 : decode cJ3_init_2 10 = .ok (.getstatic 13, 3) := dk_178 0 13 (dk_at dksJ3_init_2_0 10 rfl rfl)
theorem dJ3_init_2_13 : decode cJ3_init_2 13 = .ok (.putfield 17, 3) := dk_181 0 17 (dk_at dksJ3_init_2_0 13 rfl rfl)
theorem dJ3_init_2_16 : decode cJ3_init_2 16 = .ok (.aload_n 0, 1) := dk_42 (dk_at dksJ3_init_2_0 16 rfl rfl)
theorem dJ3_init_2_17 : decode cJ3_init_2 17 = .ok (.getstatic 20, 3) := dk_178 0 20 (dk_at dksJ3_init_2_0 17 rfl rfl)
theorem dJ3_init_2_20 : decode cJ3_init_2 20 = .ok (.putfield 24, 3) := dk_181 0 24 (dk_at dksJ3_init_2_0 20 rfl rfl)
theorem dJ3_init_2_23 : decode cJ3_init_2 23 = .ok (.iload 4, 2) := dk_21 4 (dk_at dksJ3_init_2_1 0 rfl rfl)
theorem dJ3_init_2_25 : decode cJ3_init_2 25 = .ok (.ifCond .eq 11, 3) := dk_153 0 11 (dk_at dksJ3_init_2_1 2 rfl rfl)
theorem dJ3_init_2_28 : decode cJ3_init_2 28 = .ok (.aload_n 0, 1) := dk_42 (dk_at dksJ3_init_2_1 5 rfl rfl)
theorem dJ3_init_2_29 : decode cJ3_init_2 29 = .ok (.invokevirtual 27, 3) := dk_182 0 27 (dk_at dksJ3_init_2_1 6 rfl rfl)
theorem dJ3_init_2_32 : decode cJ3_init_2 32 = .ok (.pop, 1) := dk_87 (dk_at dksJ3_init_2_1 9 rfl rfl)
theorem dJ3_init_2_33 : decode cJ3_init_2 33 = .ok (.goto 8, 3) := dk_167 0 8 (dk_at dksJ3_init_2_1 10 rfl rfl)
theorem dJ3_init_2_36 : decode cJ3_init_2 36 = .ok (.aload_n 0, 1) := dk_42 (dk_at dksJ3_init_2_1 13 rfl rfl)
theorem dJ3_init_2_37 : decode cJ3_init_2 37 = .ok (.aconst_null, 1) := dk_1 (dk_at dksJ3_init_2_1 14 rfl rfl)
theorem dJ3_init_2_38 : decode cJ3_init_2 38 = .ok (.putfield 17, 3) := dk_181 0 17 (dk_at dksJ3_init_2_1 15 rfl rfl)
theorem dJ3_init_2_41 : decode cJ3_init_2 41 = .ok (.aload_n 0, 1) := dk_42 (dk_at dksJ3_init_2_1 18 rfl rfl)
theorem dJ3_init_2_42 : decode cJ3_init_2 42 = .ok (.aload_n 1, 1) := dk_43 (dk_at dksJ3_init_2_1 19 rfl rfl)
theorem dJ3_init_2_43 : decode cJ3_init_2 43 = .ok (.putfield 31, 3) := dk_181 0 31 (dk_at dksJ3_init_2_1 20 rfl rfl)
theorem dJ3_init_2_46 : decode cJ3_init_2 46 = .ok (.aload_n 0, 1) := dk_42 (dk_at dksJ3_init_2_1 23 rfl rfl)
theorem dJ3_init_2_47 : decode cJ3_init_2 47 = .ok (.aload_n 2, 1) := dk_44 (dk_at dksJ3_init_2_2 0 rfl rfl)
theorem dJ3_init_2_48 : decode cJ3_init_2 48 = .ok (.putfield 7, 3) := dk_181 0 7 (dk_at dksJ3_init_2_2 1 rfl rfl)
theorem dJ3_init_2_51 : decode cJ3_init_2 51 = .ok (.iload_n 3, 1) := dk_29 (dk_at dksJ3_init_2_2 4 rfl rfl)
theorem dJ3_init_2_52 : decode cJ3_init_2 52 = .ok (.ifCond .ne 8, 3) := dk_154 0 8 (dk_at dksJ3_init_2_2 5 rfl rfl)
theorem dJ3_init_2_55 : decode cJ3_init_2 55 = .ok (.aload_n 0, 1) := dk_42 (dk_at dksJ3_init_2_2 8 rfl rfl)
theorem dJ3_init_2_56 : decode cJ3_init_2 56 = .ok (.aconst_null, 1) := dk_1 (dk_at dksJ3_init_2_2 9 rfl rfl)
theorem dJ3_init_2_57 : decode cJ3_init_2 57 = .ok (.putfield 24, 3) := dk_181 0 24 (dk_at dksJ3_init_2_2 10 rfl rfl)
theorem dJ3_init_2_60 : decode cJ3_init_2 60 = .ok (.return_, 1) := dk_177 (dk_at dksJ3_init_2_2 13 rfl rfl)
abbrev cJ3_init_3 : ByteArray := prog_33_method_2_code
def yJ3_init_3 : MethodName := ⟨RJ3, "<init>", "(Ljava/lang/String;)V"⟩
def dkwJ3_init_3_1 : List UInt8 := [182, 0, 27, 87, 42, 43, 181, 0, 31, 177]
abbrev dktJ3_init_3_1 : List UInt8 := dkwJ3_init_3_1 ++ []
def dkwJ3_init_3_0 : List UInt8 := [42, 183, 0, 1, 42, 42, 181, 0, 7, 42, 178, 0, 13, 181, 0, 17, 42, 178, 0, 20, 181, 0, 24, 42]
abbrev dktJ3_init_3_0 : List UInt8 := dkwJ3_init_3_0 ++ dktJ3_init_3_1
theorem dksJ3_init_3_0 : cJ3_init_3.data.toList.drop 0 = dktJ3_init_3_0 := by decide +kernel
theorem dksJ3_init_3_1 : cJ3_init_3.data.toList.drop 24 = dktJ3_init_3_1 := dk_seg dksJ3_init_3_0 24 rfl rfl
theorem dJ3_init_3_0 : decode cJ3_init_3 0 = .ok (.aload_n 0, 1) := dk_42 (dk_at dksJ3_init_3_0 0 rfl rfl)
theorem dJ3_init_3_1 : decode cJ3_init_3 1 = .ok (.invokespecial 1, 3) := dk_183 0 1 (dk_at dksJ3_init_3_0 1 rfl rfl)
theorem dJ3_init_3_4 : decode cJ3_init_3 4 = .ok (.aload_n 0, 1) := dk_42 (dk_at dksJ3_init_3_0 4 rfl rfl)
theorem dJ3_init_3_5 : decode cJ3_init_3 5 = .ok (.aload_n 0, 1) := dk_42 (dk_at dksJ3_init_3_0 5 rfl rfl)
theorem dJ3_init_3_6 : decode cJ3_init_3 6 = .ok (.putfield 7, 3) := dk_181 0 7 (dk_at dksJ3_init_3_0 6 rfl rfl)
theorem dJ3_init_3_9 : decode cJ3_init_3 9 = .ok (.aload_n 0, 1) := dk_42 (dk_at dksJ3_init_3_0 9 rfl rfl)
theorem dJ3_init_3_10 : decode cJ3_init_3 10 = .ok (.getstatic 13, 3) := dk_178 0 13 (dk_at dksJ3_init_3_0 10 rfl rfl)
theorem dJ3_init_3_13 : decode cJ3_init_3 13 = .ok (.putfield 17, 3) := dk_181 0 17 (dk_at dksJ3_init_3_0 13 rfl rfl)
theorem dJ3_init_3_16 : decode cJ3_init_3 16 = .ok (.aload_n 0, 1) := dk_42 (dk_at dksJ3_init_3_0 16 rfl rfl)
theorem dJ3_init_3_17 : decode cJ3_init_3 17 = .ok (.getstatic 20, 3) := dk_178 0 20 (dk_at dksJ3_init_3_0 17 rfl rfl)
theorem dJ3_init_3_20 : decode cJ3_init_3 20 = .ok (.putfield 24, 3) := dk_181 0 24 (dk_at dksJ3_init_3_0 20 rfl rfl)
theorem dJ3_init_3_23 : decode cJ3_init_3 23 = .ok (.aload_n 0, 1) := dk_42 (dk_at dksJ3_init_3_0 23 rfl rfl)
theorem dJ3_init_3_24 : decode cJ3_init_3 24 = .ok (.invokevirtual 27, 3) := dk_182 0 27 (dk_at dksJ3_init_3_1 0 rfl rfl)
theorem dJ3_init_3_27 : decode cJ3_init_3 27 = .ok (.pop, 1) := dk_87 (dk_at dksJ3_init_3_1 3 rfl rfl)
theorem dJ3_init_3_28 : decode cJ3_init_3 28 = .ok (.aload_n 0, 1) := dk_42 (dk_at dksJ3_init_3_1 4 rfl rfl)
theorem dJ3_init_3_29 : decode cJ3_init_3 29 = .ok (.aload_n 1, 1) := dk_43 (dk_at dksJ3_init_3_1 5 rfl rfl)
theorem dJ3_init_3_30 : decode cJ3_init_3 30 = .ok (.putfield 31, 3) := dk_181 0 31 (dk_at dksJ3_init_3_1 6 rfl rfl)
theorem dJ3_init_3_33 : decode cJ3_init_3 33 = .ok (.return_, 1) := dk_177 (dk_at dksJ3_init_3_1 9 rfl rfl)
theorem q95 : (Jvm.Cond.initialized "java/lang/Throwable") ∈ lw_all := lw_g (lw_at lw_m1 14 rfl) rfl
theorem q358 : (Jvm.Cond.declares ({ cls := "java/lang/Throwable", name := "<init>", desc := "()V" } : Jvm.MethodName)) ∈ lw_tbl := lw_at lw_m2 37 rfl
theorem q359 : (Jvm.Cond.declares ({ cls := "java/lang/Throwable", name := "<init>", desc := "(Ljava/lang/String;)V" } : Jvm.MethodName)) ∈ lw_tbl := lw_at lw_m2 38 rfl
theorem q363 : (Jvm.Cond.lays "java/lang/Throwable" "java/lang/Throwable" "cause" "Ljava/lang/Throwable;") ∈ lw_all := lw_g (lw_at lw_m2 42 rfl) rfl
theorem q365 : (Jvm.Cond.lays "java/lang/Throwable" "java/lang/Throwable" "stackTrace" "[Ljava/lang/StackTraceElement;") ∈ lw_all := lw_g (lw_at lw_m2 44 rfl) rfl
theorem q367 : (Jvm.Cond.lays "java/lang/Throwable" "java/lang/Throwable" "suppressedExceptions" "Ljava/util/List;") ∈ lw_all := lw_g (lw_at lw_m2 46 rfl) rfl
theorem q369 : (Jvm.Cond.lays "java/lang/Throwable" "java/lang/Throwable" "detailMessage" "Ljava/lang/String;") ∈ lw_all := lw_g (lw_at lw_m2 48 rfl) rfl
theorem q371 : (Jvm.Cond.lays "java/lang/Throwable" "java/lang/Throwable" "backtrace" "Ljava/lang/Object;") ∈ lw_all := lw_g (lw_at lw_m2 50 rfl) rfl
theorem q372 : (Jvm.Cond.fieldLink "java/lang/Throwable" (198 : Nat) "java/lang/Throwable" "backtrace" "Ljava/lang/Object;") ∈ lw_all := lw_g (lw_at lw_m2 51 rfl) rfl
theorem q373 : (Jvm.Cond.superclass "java/lang/Throwable" "java/lang/Object") ∈ lw_all := lw_g (lw_at lw_m2 52 rfl) rfl
theorem q374 : (Jvm.Cond.instanceMethod ({ cls := "java/lang/Throwable", name := "<init>", desc := "()V" } : Jvm.MethodName)) ∈ lw_all := lw_g (lw_at lw_m2 53 rfl) rfl
theorem q375 : (Jvm.Cond.code ({ cls := "java/lang/Throwable", name := "<init>", desc := "()V" } : Jvm.MethodName) prog_33_method_1_code (1 : Nat) (Option.none : Option Jvm.ClassFile.FieldType)) ∈ lw_all := lw_g (lw_at lw_m2 54 rfl) rfl
theorem q376 : (Jvm.Cond.methodLink "java/lang/Throwable" (1 : Nat) ({ cls := "java/lang/Object", name := "<init>", desc := "()V" } : Jvm.MethodName)) ∈ lw_all := lw_g (lw_at lw_m2 55 rfl) rfl
theorem q377 : (Jvm.Cond.fieldLink "java/lang/Throwable" (13 : Nat) "java/lang/Throwable" "UNASSIGNED_STACK" "[Ljava/lang/StackTraceElement;") ∈ lw_all := lw_g (lw_at lw_m2 56 rfl) rfl
theorem q378 : (Jvm.Cond.laysStatic "java/lang/Throwable" "UNASSIGNED_STACK" "[Ljava/lang/StackTraceElement;") ∈ lw_tbl := lw_at lw_m2 57 rfl
theorem q379 : (Jvm.Cond.fieldLink "java/lang/Throwable" (20 : Nat) "java/lang/Throwable" "SUPPRESSED_SENTINEL" "Ljava/util/List;") ∈ lw_all := lw_g (lw_at lw_m2 58 rfl) rfl
theorem q380 : (Jvm.Cond.laysStatic "java/lang/Throwable" "SUPPRESSED_SENTINEL" "Ljava/util/List;") ∈ lw_tbl := lw_at lw_m2 59 rfl
theorem q381 : (Jvm.Cond.methodLink "java/lang/Throwable" (27 : Nat) ({ cls := "java/lang/Throwable", name := "fillInStackTrace", desc := "()Ljava/lang/Throwable;" } : Jvm.MethodName)) ∈ lw_all := lw_g (lw_at lw_m2 60 rfl) rfl
theorem q382 : (Jvm.Cond.instanceMethod ({ cls := "java/lang/Throwable", name := "fillInStackTrace", desc := "()Ljava/lang/Throwable;" } : Jvm.MethodName)) ∈ lw_all := lw_g (lw_at lw_m2 61 rfl) rfl
theorem q383 : (Jvm.Cond.sameMethod "java/lang/Throwable" "java/lang/Throwable" "fillInStackTrace" "()Ljava/lang/Throwable;") ∈ lw_all := lw_g (lw_at lw_m2 62 rfl) rfl
theorem q387 : (Jvm.Cond.codeSync ({ cls := "java/lang/Throwable", name := "fillInStackTrace", desc := "()Ljava/lang/Throwable;" } : Jvm.MethodName) prog_33_method_18_code (1 : Nat) (Option.some (Jvm.ClassFile.FieldType.object "java/lang/Throwable"))) ∈ lw_all := lw_g (lw_at lw_m2 66 rfl) rfl
theorem q388 : (Jvm.Cond.methodLink "java/lang/Throwable" (202 : Nat) ({ cls := "java/lang/Throwable", name := "fillInStackTrace", desc := "(I)Ljava/lang/Throwable;" } : Jvm.MethodName)) ∈ lw_all := lw_g (lw_at lw_m2 67 rfl) rfl
theorem q389 : (Jvm.Cond.privateMethod ({ cls := "java/lang/Throwable", name := "fillInStackTrace", desc := "(I)Ljava/lang/Throwable;" } : Jvm.MethodName)) ∈ lw_tbl := lw_at lw_m2 68 rfl
theorem q390 : (Jvm.Cond.instanceMethod ({ cls := "java/lang/Throwable", name := "fillInStackTrace", desc := "(I)Ljava/lang/Throwable;" } : Jvm.MethodName)) ∈ lw_all := lw_g (lw_at lw_m2 69 rfl) rfl
theorem q391 : (Jvm.Cond.instantiable "java/lang/Throwable" (6 : Nat)) ∈ lw_all := lw_g (lw_at lw_m2 70 rfl) rfl
theorem q392 : (Jvm.Cond.native ({ cls := "java/lang/Throwable", name := "fillInStackTrace", desc := "(I)Ljava/lang/Throwable;" } : Jvm.MethodName)) ∈ lw_all := lw_g (lw_at lw_m2 71 rfl) rfl
theorem q400 : (Jvm.Cond.instanceMethod ({ cls := "java/lang/Throwable", name := "<init>", desc := "(Ljava/lang/String;Ljava/lang/Throwable;ZZ)V" } : Jvm.MethodName)) ∈ lw_all := lw_g (lw_at lw_m2 79 rfl) rfl
theorem q401 : (Jvm.Cond.code ({ cls := "java/lang/Throwable", name := "<init>", desc := "(Ljava/lang/String;Ljava/lang/Throwable;ZZ)V" } : Jvm.MethodName) prog_33_method_5_code (5 : Nat) (Option.none : Option Jvm.ClassFile.FieldType)) ∈ lw_all := lw_g (lw_at lw_m2 80 rfl) rfl
theorem q404 : (Jvm.Cond.fieldLink "java/lang/Throwable" (198 : Nat) "java/lang/Throwable" "backtrace" "Ljava/lang/Object;") ∈ lw_all := lw_g (lw_at lw_m2 83 rfl) rfl
theorem q405 : (Jvm.Cond.fieldLink "java/lang/Throwable" (31 : Nat) "java/lang/Throwable" "detailMessage" "Ljava/lang/String;") ∈ lw_all := lw_g (lw_at lw_m2 84 rfl) rfl
theorem q406 : (Jvm.Cond.fieldLink "java/lang/Throwable" (7 : Nat) "java/lang/Throwable" "cause" "Ljava/lang/Throwable;") ∈ lw_all := lw_g (lw_at lw_m2 85 rfl) rfl
theorem q407 : (Jvm.Cond.fieldLink "java/lang/Throwable" (17 : Nat) "java/lang/Throwable" "stackTrace" "[Ljava/lang/StackTraceElement;") ∈ lw_all := lw_g (lw_at lw_m2 86 rfl) rfl
theorem q408 : (Jvm.Cond.fieldLink "java/lang/Throwable" (24 : Nat) "java/lang/Throwable" "suppressedExceptions" "Ljava/util/List;") ∈ lw_all := lw_g (lw_at lw_m2 87 rfl) rfl
theorem q411 : (Jvm.Cond.soleField "java/lang/Throwable" "backtrace") ∈ lw_all := lw_g (lw_at lw_m2 90 rfl) rfl
theorem q412 : (Jvm.Cond.soleField "java/lang/Throwable" "detailMessage") ∈ lw_all := lw_g (lw_at lw_m2 91 rfl) rfl
theorem q413 : (Jvm.Cond.soleField "java/lang/Throwable" "cause") ∈ lw_all := lw_g (lw_at lw_m2 92 rfl) rfl
theorem q414 : (Jvm.Cond.soleField "java/lang/Throwable" "stackTrace") ∈ lw_all := lw_g (lw_at lw_m2 93 rfl) rfl
theorem q416 : (Jvm.Cond.soleField "java/lang/Throwable" "depth") ∈ lw_all := lw_g (lw_at lw_m2 95 rfl) rfl
theorem q417 : (Jvm.Cond.soleField "java/lang/Throwable" "suppressedExceptions") ∈ lw_all := lw_g (lw_at lw_m2 96 rfl) rfl
theorem q472 : (Jvm.Cond.instanceMethod ({ cls := "java/lang/Throwable", name := "<init>", desc := "(Ljava/lang/String;)V" } : Jvm.MethodName)) ∈ lw_all := lw_g (lw_at lw_m2 151 rfl) rfl
theorem q473 : (Jvm.Cond.code ({ cls := "java/lang/Throwable", name := "<init>", desc := "(Ljava/lang/String;)V" } : Jvm.MethodName) prog_33_method_2_code (2 : Nat) (Option.none : Option Jvm.ClassFile.FieldType)) ∈ lw_all := lw_g (lw_at lw_m2 152 rfl) rfl
theorem q1683 : (Jvm.Cond.sameMethod "java/lang/Throwable" "java/lang/Throwable" "fillInStackTrace" "(I)Ljava/lang/Throwable;") ∈ lw_all := lw_g (lw_at lw_m7 162 rfl) rfl
theorem q1717 : (Jvm.Cond.castable "java/lang/Throwable" "java/lang/Object") ∈ lw_tbl := lw_at lw_m7 196 rfl
theorem in_J3 : ∀ w ∈ wsJ30, w ∈ lw_all := lw_in wsJ30 [363, 365, 367, 369, 371] (by decide +kernel) (by decide +kernel)

/-! java/lang/Exception -/
set_option maxRecDepth 100000
def RJ4 : String := "java/lang/Exception"
abbrev cJ4_init : ByteArray := prog_23_method_5_code
def yJ4_init : MethodName := ⟨RJ4, "<init>", "(Ljava/lang/String;Ljava/lang/Throwable;ZZ)V"⟩
def dkwJ4_init_0 : List UInt8 := [42, 43, 44, 29, 21, 4, 183, 0, 16, 177]
abbrev dktJ4_init_0 : List UInt8 := dkwJ4_init_0 ++ []
theorem dksJ4_init_0 : cJ4_init.data.toList.drop 0 = dktJ4_init_0 := by decide +kernel
theorem dJ4_init_0 : decode cJ4_init 0 = .ok (.aload_n 0, 1) := dk_42 (dk_at dksJ4_init_0 0 rfl rfl)
theorem dJ4_init_1 : decode cJ4_init 1 = .ok (.aload_n 1, 1) := dk_43 (dk_at dksJ4_init_0 1 rfl rfl)
theorem dJ4_init_2 : decode cJ4_init 2 = .ok (.aload_n 2, 1) := dk_44 (dk_at dksJ4_init_0 2 rfl rfl)
theorem dJ4_init_3 : decode cJ4_init 3 = .ok (.iload_n 3, 1) := dk_29 (dk_at dksJ4_init_0 3 rfl rfl)
theorem dJ4_init_4 : decode cJ4_init 4 = .ok (.iload 4, 2) := dk_21 4 (dk_at dksJ4_init_0 4 rfl rfl)
theorem dJ4_init_6 : decode cJ4_init 6 = .ok (.invokespecial 16, 3) := dk_183 0 16 (dk_at dksJ4_init_0 6 rfl rfl)
theorem dJ4_init_9 : decode cJ4_init 9 = .ok (.return_, 1) := dk_177 (dk_at dksJ4_init_0 9 rfl rfl)
abbrev cJ4_init_2 : ByteArray := prog_23_method_2_code
def yJ4_init_2 : MethodName := ⟨RJ4, "<init>", "(Ljava/lang/String;)V"⟩
def dkwJ4_init_2_0 : List UInt8 := [42, 43, 183, 0, 7, 177]
abbrev dktJ4_init_2_0 : List UInt8 := dkwJ4_init_2_0 ++ []
theorem dksJ4_init_2_0 : cJ4_init_2.data.toList.drop 0 = dktJ4_init_2_0 := by decide +kernel
theorem dJ4_init_2_0 : decode cJ4_init_2 0 = .ok (.aload_n 0, 1) := dk_42 (dk_at dksJ4_init_2_0 0 rfl rfl)
theorem dJ4_init_2_1 : decode cJ4_init_2 1 = .ok (.aload_n 1, 1) := dk_43 (dk_at dksJ4_init_2_0 1 rfl rfl)
theorem dJ4_init_2_2 : decode cJ4_init_2 2 = .ok (.invokespecial 7, 3) := dk_183 0 7 (dk_at dksJ4_init_2_0 2 rfl rfl)
theorem dJ4_init_2_5 : decode cJ4_init_2 5 = .ok (.return_, 1) := dk_177 (dk_at dksJ4_init_2_0 5 rfl rfl)
theorem q96 : (Jvm.Cond.initialized "java/lang/Exception") ∈ lw_all := lw_g (lw_at lw_m1 15 rfl) rfl
theorem q356 : (Jvm.Cond.declares ({ cls := "java/lang/Exception", name := "<init>", desc := "()V" } : Jvm.MethodName)) ∈ lw_tbl := lw_at lw_m2 35 rfl
theorem q357 : (Jvm.Cond.declares ({ cls := "java/lang/Exception", name := "<init>", desc := "(Ljava/lang/String;)V" } : Jvm.MethodName)) ∈ lw_tbl := lw_at lw_m2 36 rfl
theorem q397 : (Jvm.Cond.instanceMethod ({ cls := "java/lang/Exception", name := "<init>", desc := "(Ljava/lang/String;Ljava/lang/Throwable;ZZ)V" } : Jvm.MethodName)) ∈ lw_all := lw_g (lw_at lw_m2 76 rfl) rfl
theorem q398 : (Jvm.Cond.code ({ cls := "java/lang/Exception", name := "<init>", desc := "(Ljava/lang/String;Ljava/lang/Throwable;ZZ)V" } : Jvm.MethodName) prog_23_method_5_code (5 : Nat) (Option.none : Option Jvm.ClassFile.FieldType)) ∈ lw_all := lw_g (lw_at lw_m2 77 rfl) rfl
theorem q399 : (Jvm.Cond.methodLink "java/lang/Exception" (16 : Nat) ({ cls := "java/lang/Throwable", name := "<init>", desc := "(Ljava/lang/String;Ljava/lang/Throwable;ZZ)V" } : Jvm.MethodName)) ∈ lw_all := lw_g (lw_at lw_m2 78 rfl) rfl
theorem q469 : (Jvm.Cond.instanceMethod ({ cls := "java/lang/Exception", name := "<init>", desc := "(Ljava/lang/String;)V" } : Jvm.MethodName)) ∈ lw_all := lw_g (lw_at lw_m2 148 rfl) rfl
theorem q470 : (Jvm.Cond.code ({ cls := "java/lang/Exception", name := "<init>", desc := "(Ljava/lang/String;)V" } : Jvm.MethodName) prog_23_method_2_code (2 : Nat) (Option.none : Option Jvm.ClassFile.FieldType)) ∈ lw_all := lw_g (lw_at lw_m2 149 rfl) rfl
theorem q471 : (Jvm.Cond.methodLink "java/lang/Exception" (7 : Nat) ({ cls := "java/lang/Throwable", name := "<init>", desc := "(Ljava/lang/String;)V" } : Jvm.MethodName)) ∈ lw_all := lw_g (lw_at lw_m2 150 rfl) rfl

/-! java/lang/RuntimeException -/
set_option maxRecDepth 100000
def RJ5 : String := "java/lang/RuntimeException"
abbrev cJ5_init : ByteArray := prog_28_method_2_code
def yJ5_init : MethodName := ⟨RJ5, "<init>", "(Ljava/lang/String;)V"⟩
def dkwJ5_init_0 : List UInt8 := [42, 43, 183, 0, 7, 177]
abbrev dktJ5_init_0 : List UInt8 := dkwJ5_init_0 ++ []
theorem dksJ5_init_0 : cJ5_init.data.toList.drop 0 = dktJ5_init_0 := by decide +kernel
theorem dJ5_init_0 : decode cJ5_init 0 = .ok (.aload_n 0, 1) := dk_42 (dk_at dksJ5_init_0 0 rfl rfl)
theorem dJ5_init_1 : decode cJ5_init 1 = .ok (.aload_n 1, 1) := dk_43 (dk_at dksJ5_init_0 1 rfl rfl)
theorem dJ5_init_2 : decode cJ5_init 2 = .ok (.invokespecial 7, 3) := dk_183 0 7 (dk_at dksJ5_init_0 2 rfl rfl)
theorem dJ5_init_5 : decode cJ5_init 5 = .ok (.return_, 1) := dk_177 (dk_at dksJ5_init_0 5 rfl rfl)
theorem q99 : (Jvm.Cond.initialized "java/lang/RuntimeException") ∈ lw_all := lw_g (lw_at lw_m1 18 rfl) rfl
theorem q466 : (Jvm.Cond.instanceMethod ({ cls := "java/lang/RuntimeException", name := "<init>", desc := "(Ljava/lang/String;)V" } : Jvm.MethodName)) ∈ lw_all := lw_g (lw_at lw_m2 145 rfl) rfl
theorem q467 : (Jvm.Cond.code ({ cls := "java/lang/RuntimeException", name := "<init>", desc := "(Ljava/lang/String;)V" } : Jvm.MethodName) prog_28_method_2_code (2 : Nat) (Option.none : Option Jvm.ClassFile.FieldType)) ∈ lw_all := lw_g (lw_at lw_m2 146 rfl) rfl
theorem q468 : (Jvm.Cond.methodLink "java/lang/RuntimeException" (7 : Nat) ({ cls := "java/lang/Exception", name := "<init>", desc := "(Ljava/lang/String;)V" } : Jvm.MethodName)) ∈ lw_all := lw_g (lw_at lw_m2 147 rfl) rfl
theorem q484 : (Jvm.Cond.declares ({ cls := "java/lang/RuntimeException", name := "<init>", desc := "()V" } : Jvm.MethodName)) ∈ lw_tbl := lw_at lw_m2 163 rfl
theorem q485 : (Jvm.Cond.declares ({ cls := "java/lang/RuntimeException", name := "<init>", desc := "(Ljava/lang/String;)V" } : Jvm.MethodName)) ∈ lw_tbl := lw_at lw_m2 164 rfl

/-! java/lang/IndexOutOfBoundsException -/
set_option maxRecDepth 100000
def RJ6 : String := "java/lang/IndexOutOfBoundsException"
abbrev cJ6_init : ByteArray := prog_24_method_2_code
def yJ6_init : MethodName := ⟨RJ6, "<init>", "(Ljava/lang/String;)V"⟩
def dkwJ6_init_0 : List UInt8 := [42, 43, 183, 0, 7, 177]
abbrev dktJ6_init_0 : List UInt8 := dkwJ6_init_0 ++ []
theorem dksJ6_init_0 : cJ6_init.data.toList.drop 0 = dktJ6_init_0 := by decide +kernel
theorem dJ6_init_0 : decode cJ6_init 0 = .ok (.aload_n 0, 1) := dk_42 (dk_at dksJ6_init_0 0 rfl rfl)
theorem dJ6_init_1 : decode cJ6_init 1 = .ok (.aload_n 1, 1) := dk_43 (dk_at dksJ6_init_0 1 rfl rfl)
theorem dJ6_init_2 : decode cJ6_init 2 = .ok (.invokespecial 7, 3) := dk_183 0 7 (dk_at dksJ6_init_0 2 rfl rfl)
theorem dJ6_init_5 : decode cJ6_init 5 = .ok (.return_, 1) := dk_177 (dk_at dksJ6_init_0 5 rfl rfl)
theorem q100 : (Jvm.Cond.initialized "java/lang/IndexOutOfBoundsException") ∈ lw_all := lw_g (lw_at lw_m1 19 rfl) rfl
theorem q463 : (Jvm.Cond.instanceMethod ({ cls := "java/lang/IndexOutOfBoundsException", name := "<init>", desc := "(Ljava/lang/String;)V" } : Jvm.MethodName)) ∈ lw_all := lw_g (lw_at lw_m2 142 rfl) rfl
theorem q464 : (Jvm.Cond.code ({ cls := "java/lang/IndexOutOfBoundsException", name := "<init>", desc := "(Ljava/lang/String;)V" } : Jvm.MethodName) prog_24_method_2_code (2 : Nat) (Option.none : Option Jvm.ClassFile.FieldType)) ∈ lw_all := lw_g (lw_at lw_m2 143 rfl) rfl
theorem q465 : (Jvm.Cond.methodLink "java/lang/IndexOutOfBoundsException" (7 : Nat) ({ cls := "java/lang/RuntimeException", name := "<init>", desc := "(Ljava/lang/String;)V" } : Jvm.MethodName)) ∈ lw_all := lw_g (lw_at lw_m2 144 rfl) rfl
theorem q482 : (Jvm.Cond.declares ({ cls := "java/lang/IndexOutOfBoundsException", name := "<init>", desc := "()V" } : Jvm.MethodName)) ∈ lw_tbl := lw_at lw_m2 161 rfl
theorem q483 : (Jvm.Cond.declares ({ cls := "java/lang/IndexOutOfBoundsException", name := "<init>", desc := "(Ljava/lang/String;)V" } : Jvm.MethodName)) ∈ lw_tbl := lw_at lw_m2 162 rfl

/-! java/lang/ArrayIndexOutOfBoundsException -/
set_option maxRecDepth 100000
def RJ7 : String := "java/lang/ArrayIndexOutOfBoundsException"
def TJ7 : u_T := fun k => match k with
  | 0 => ("java/lang/Throwable", "backtrace", "Ljava/lang/Object;", false)
  | 1 => ("java/lang/Throwable", "detailMessage", "Ljava/lang/String;", false)
  | 2 => ("java/lang/Throwable", "cause", "Ljava/lang/Throwable;", false)
  | 3 => ("java/lang/Throwable", "stackTrace", "[Ljava/lang/StackTraceElement;", false)
  | 4 => ("java/lang/Throwable", "depth", "I", false)
  | _ => ("java/lang/Throwable", "suppressedExceptions", "Ljava/util/List;", false)
def tyJ7 : Nat → FieldType := fun k => match k with
  | 0 => .object "java/lang/Object"
  | 1 => .object "java/lang/String"
  | 2 => .object "java/lang/Throwable"
  | 3 => .array (.object "java/lang/StackTraceElement")
  | 4 => .int
  | _ => .object "java/util/List"
abbrev wsJ70 : List Cond := u_ws RJ7 TJ7 6
theorem nmJ7 : ∀ a, a < 6 → ∀ b, b < 6 → a ≠ b → (TJ7 a).2.1 ≠ (TJ7 b).2.1 := by decide +kernel
theorem tyJ7_ok : ∀ k, k < 6 → parseFieldDescriptor (TJ7 k).2.2.1 = some (tyJ7 k) := by decide +kernel
abbrev cJ7_init : ByteArray := prog_18_method_2_code
def yJ7_init : MethodName := ⟨RJ7, "<init>", "(Ljava/lang/String;)V"⟩
def dkwJ7_init_0 : List UInt8 := [42, 43, 183, 0, 7, 177]
abbrev dktJ7_init_0 : List UInt8 := dkwJ7_init_0 ++ []
theorem dksJ7_init_0 : cJ7_init.data.toList.drop 0 = dktJ7_init_0 := by decide +kernel
theorem dJ7_init_0 : decode cJ7_init 0 = .ok (.aload_n 0, 1) := dk_42 (dk_at dksJ7_init_0 0 rfl rfl)
theorem dJ7_init_1 : decode cJ7_init 1 = .ok (.aload_n 1, 1) := dk_43 (dk_at dksJ7_init_0 1 rfl rfl)
theorem dJ7_init_2 : decode cJ7_init 2 = .ok (.invokespecial 7, 3) := dk_183 0 7 (dk_at dksJ7_init_0 2 rfl rfl)
theorem dJ7_init_5 : decode cJ7_init 5 = .ok (.return_, 1) := dk_177 (dk_at dksJ7_init_0 5 rfl rfl)
theorem q101 : (Jvm.Cond.initialized "java/lang/ArrayIndexOutOfBoundsException") ∈ lw_all := lw_g (lw_at lw_m1 20 rfl) rfl
theorem q385 : (Jvm.Cond.selects "java/lang/ArrayIndexOutOfBoundsException" ({ cls := "java/lang/Throwable", name := "fillInStackTrace", desc := "()Ljava/lang/Throwable;" } : Jvm.MethodName) ({ cls := "java/lang/Throwable", name := "fillInStackTrace", desc := "()Ljava/lang/Throwable;" } : Jvm.MethodName)) ∈ lw_all := lw_g (lw_at lw_m2 64 rfl) rfl
theorem q459 : (Jvm.Cond.instantiable "java/lang/ArrayIndexOutOfBoundsException" (6 : Nat)) ∈ lw_all := lw_g (lw_at lw_m2 138 rfl) rfl
theorem q460 : (Jvm.Cond.instanceMethod ({ cls := "java/lang/ArrayIndexOutOfBoundsException", name := "<init>", desc := "(Ljava/lang/String;)V" } : Jvm.MethodName)) ∈ lw_all := lw_g (lw_at lw_m2 139 rfl) rfl
theorem q461 : (Jvm.Cond.code ({ cls := "java/lang/ArrayIndexOutOfBoundsException", name := "<init>", desc := "(Ljava/lang/String;)V" } : Jvm.MethodName) prog_18_method_2_code (2 : Nat) (Option.none : Option Jvm.ClassFile.FieldType)) ∈ lw_all := lw_g (lw_at lw_m2 140 rfl) rfl
theorem q462 : (Jvm.Cond.methodLink "java/lang/ArrayIndexOutOfBoundsException" (7 : Nat) ({ cls := "java/lang/IndexOutOfBoundsException", name := "<init>", desc := "(Ljava/lang/String;)V" } : Jvm.MethodName)) ∈ lw_all := lw_g (lw_at lw_m2 141 rfl) rfl
theorem q474 : (Jvm.Cond.lays "java/lang/ArrayIndexOutOfBoundsException" "java/lang/Throwable" "backtrace" "Ljava/lang/Object;") ∈ lw_all := lw_g (lw_at lw_m2 153 rfl) rfl
theorem q475 : (Jvm.Cond.lays "java/lang/ArrayIndexOutOfBoundsException" "java/lang/Throwable" "detailMessage" "Ljava/lang/String;") ∈ lw_all := lw_g (lw_at lw_m2 154 rfl) rfl
theorem q476 : (Jvm.Cond.lays "java/lang/ArrayIndexOutOfBoundsException" "java/lang/Throwable" "cause" "Ljava/lang/Throwable;") ∈ lw_all := lw_g (lw_at lw_m2 155 rfl) rfl
theorem q477 : (Jvm.Cond.lays "java/lang/ArrayIndexOutOfBoundsException" "java/lang/Throwable" "stackTrace" "[Ljava/lang/StackTraceElement;") ∈ lw_all := lw_g (lw_at lw_m2 156 rfl) rfl
theorem q478 : (Jvm.Cond.lays "java/lang/ArrayIndexOutOfBoundsException" "java/lang/Throwable" "depth" "I") ∈ lw_all := lw_g (lw_at lw_m2 157 rfl) rfl
theorem q479 : (Jvm.Cond.lays "java/lang/ArrayIndexOutOfBoundsException" "java/lang/Throwable" "suppressedExceptions" "Ljava/util/List;") ∈ lw_all := lw_g (lw_at lw_m2 158 rfl) rfl
theorem q480 : (Jvm.Cond.superclass "java/lang/ArrayIndexOutOfBoundsException" "java/lang/IndexOutOfBoundsException") ∈ lw_all := lw_g (lw_at lw_m2 159 rfl) rfl
theorem q481 : (Jvm.Cond.castable "java/lang/ArrayIndexOutOfBoundsException" "java/lang/ArrayIndexOutOfBoundsException") ∈ lw_tbl := lw_at lw_m2 160 rfl
theorem q486 : (Jvm.Cond.selects "java/lang/ArrayIndexOutOfBoundsException" ({ cls := "java/lang/Throwable", name := "fillInStackTrace", desc := "(I)Ljava/lang/Throwable;" } : Jvm.MethodName) ({ cls := "java/lang/Throwable", name := "fillInStackTrace", desc := "(I)Ljava/lang/Throwable;" } : Jvm.MethodName)) ∈ lw_all := lw_g (lw_at lw_m2 165 rfl) rfl
theorem q733 : (Jvm.Cond.selects "java/lang/ArrayIndexOutOfBoundsException" ({ cls := "java/lang/Object", name := "getClass", desc := "()Ljava/lang/Class;" } : Jvm.MethodName) ({ cls := "java/lang/Object", name := "getClass", desc := "()Ljava/lang/Class;" } : Jvm.MethodName)) ∈ lw_all := lw_g (lw_at lw_m3 172 rfl) rfl
theorem q1691 : (Jvm.Cond.castable "java/lang/ArrayIndexOutOfBoundsException" "java/lang/IndexOutOfBoundsException") ∈ lw_tbl := lw_at lw_m7 170 rfl
theorem q1713 : (Jvm.Cond.castable "java/lang/ArrayIndexOutOfBoundsException" "java/lang/Object") ∈ lw_tbl := lw_at lw_m7 192 rfl
theorem in_J7 : ∀ w ∈ wsJ70, w ∈ lw_all := lw_in wsJ70 [474, 475, 476, 477, 478, 479] (by decide +kernel) (by decide +kernel)

/-! java/lang/String -/
set_option maxRecDepth 100000
def RJ8 : String := "java/lang/String"
def TJ8 : u_T := fun k => match k with
  | 0 => ("java/lang/String", "value", "[B", true)
  | _ => ("java/lang/String", "coder", "B", true)
def tyJ8 : Nat → FieldType := fun k => match k with
  | 0 => .array .byte
  | _ => .byte
abbrev wsJ80 : List Cond := u_ws RJ8 TJ8 2
theorem nmJ8 : ∀ a, a < 2 → ∀ b, b < 2 → a ≠ b → (TJ8 a).2.1 ≠ (TJ8 b).2.1 := by decide +kernel
theorem tyJ8_ok : ∀ k, k < 2 → parseFieldDescriptor (TJ8 k).2.2.1 = some (tyJ8 k) := by decide +kernel
abbrev cJ8_length : ByteArray := prog_29_method_54_code
def yJ8_length : MethodName := ⟨RJ8, "length", "()I"⟩
def dkwJ8_length_0 : List UInt8 := [42, 180, 0, 9, 190, 42, 182, 1, 79, 122, 172]
abbrev dktJ8_length_0 : List UInt8 := dkwJ8_length_0 ++ []
theorem dksJ8_length_0 : cJ8_length.data.toList.drop 0 = dktJ8_length_0 := by decide +kernel
theorem dJ8_length_0 : decode cJ8_length 0 = .ok (.aload_n 0, 1) := dk_42 (dk_at dksJ8_length_0 0 rfl rfl)
theorem dJ8_length_1 : decode cJ8_length 1 = .ok (.getfield 9, 3) := dk_180 0 9 (dk_at dksJ8_length_0 1 rfl rfl)
theorem dJ8_length_4 : decode cJ8_length 4 = .ok (.arraylength, 1) := dk_190 (dk_at dksJ8_length_0 4 rfl rfl)
theorem dJ8_length_5 : decode cJ8_length 5 = .ok (.aload_n 0, 1) := dk_42 (dk_at dksJ8_length_0 5 rfl rfl)
theorem dJ8_length_6 : decode cJ8_length 6 = .ok (.invokevirtual 335, 3) := dk_182 1 79 (dk_at dksJ8_length_0 6 rfl rfl)
theorem dJ8_length_9 : decode cJ8_length 9 = .ok (.ishr, 1) := dk_122 (dk_at dksJ8_length_0 9 rfl rfl)
theorem dJ8_length_10 : decode cJ8_length 10 = .ok (.ireturn, 1) := dk_172 (dk_at dksJ8_length_0 10 rfl rfl)
abbrev cJ8_coder : ByteArray := prog_29_method_152_code
def yJ8_coder : MethodName := ⟨RJ8, "coder", "()B"⟩
def dkwJ8_coder_0 : List UInt8 := [178, 0, 38, 153, 0, 10, 42, 180, 0, 15, 167, 0, 4, 4, 172]
abbrev dktJ8_coder_0 : List UInt8 := dkwJ8_coder_0 ++ []
theorem dksJ8_coder_0 : cJ8_coder.data.toList.drop 0 = dktJ8_coder_0 := by decide +kernel
theorem dJ8_coder_0 : decode cJ8_coder 0 = .ok (.getstatic 38, 3) := dk_178 0 38 (dk_at dksJ8_coder_0 0 rfl rfl)
theorem dJ8_coder_3 : decode cJ8_coder 3 = .ok (.ifCond .eq 10, 3) := dk_153 0 10 (dk_at dksJ8_coder_0 3 rfl rfl)
theorem dJ8_coder_6 : decode cJ8_coder 6 = .ok (.aload_n 0, 1) := dk_42 (dk_at dksJ8_coder_0 6 rfl rfl)
theorem dJ8_coder_7 : decode cJ8_coder 7 = .ok (.getfield 15, 3) := dk_180 0 15 (dk_at dksJ8_coder_0 7 rfl rfl)
theorem dJ8_coder_10 : decode cJ8_coder 10 = .ok (.goto 4, 3) := dk_167 0 4 (dk_at dksJ8_coder_0 10 rfl rfl)
theorem dJ8_coder_13 : decode cJ8_coder 13 = .ok (.iconst 1, 1) := dk_4 (dk_at dksJ8_coder_0 13 rfl rfl)
theorem dJ8_coder_14 : decode cJ8_coder 14 = .ok (.ireturn, 1) := dk_172 (dk_at dksJ8_coder_0 14 rfl rfl)
abbrev cJ8_charAt : ByteArray := prog_29_method_56_code
def yJ8_charAt : MethodName := ⟨RJ8, "charAt", "(I)C"⟩
def dkwJ8_charAt_1 : List UInt8 := [172]
abbrev dktJ8_charAt_1 : List UInt8 := dkwJ8_charAt_1 ++ []
def dkwJ8_charAt_0 : List UInt8 := [42, 182, 1, 236, 153, 0, 12, 42, 180, 0, 9, 27, 184, 1, 239, 172, 42, 180, 0, 9, 27, 184, 1, 242]
abbrev dktJ8_charAt_0 : List UInt8 := dkwJ8_charAt_0 ++ dktJ8_charAt_1
theorem dksJ8_charAt_0 : cJ8_charAt.data.toList.drop 0 = dktJ8_charAt_0 := by decide +kernel
theorem dksJ8_charAt_1 : cJ8_charAt.data.toList.drop 24 = dktJ8_charAt_1 := dk_seg dksJ8_charAt_0 24 rfl rfl
theorem dJ8_charAt_0 : decode cJ8_charAt 0 = .ok (.aload_n 0, 1) := dk_42 (dk_at dksJ8_charAt_0 0 rfl rfl)
theorem dJ8_charAt_1 : decode cJ8_charAt 1 = .ok (.invokevirtual 492, 3) := dk_182 1 236 (dk_at dksJ8_charAt_0 1 rfl rfl)
theorem dJ8_charAt_4 : decode cJ8_charAt 4 = .ok (.ifCond .eq 12, 3) := dk_153 0 12 (dk_at dksJ8_charAt_0 4 rfl rfl)
theorem dJ8_charAt_7 : decode cJ8_charAt 7 = .ok (.aload_n 0, 1) := dk_42 (dk_at dksJ8_charAt_0 7 rfl rfl)
theorem dJ8_charAt_8 : decode cJ8_charAt 8 = .ok (.getfield 9, 3) := dk_180 0 9 (dk_at dksJ8_charAt_0 8 rfl rfl)
theorem dJ8_charAt_11 : decode cJ8_charAt 11 = .ok (.iload_n 1, 1) := dk_27 (dk_at dksJ8_charAt_0 11 rfl rfl)
theorem dJ8_charAt_12 : decode cJ8_charAt 12 = .ok (.invokestatic 495, 3) := dk_184 1 239 (dk_at dksJ8_charAt_0 12 rfl rfl)
theorem dJ8_charAt_15 : decode cJ8_charAt 15 = .ok (.ireturn, 1) := dk_172 (dk_at dksJ8_charAt_0 15 rfl rfl)
theorem dJ8_charAt_16 : decode cJ8_charAt 16 = .ok (.aload_n 0, 1) := dk_42 (dk_at dksJ8_charAt_0 16 rfl rfl)
theorem dJ8_charAt_17 : decode cJ8_charAt 17 = .ok (.getfield 9, 3) := dk_180 0 9 (dk_at dksJ8_charAt_0 17 rfl rfl)
theorem dJ8_charAt_20 : decode cJ8_charAt 20 = .ok (.iload_n 1, 1) := dk_27 (dk_at dksJ8_charAt_0 20 rfl rfl)
theorem dJ8_charAt_21 : decode cJ8_charAt 21 = .ok (.invokestatic 498, 3) := dk_184 1 242 (dk_at dksJ8_charAt_0 21 rfl rfl)
theorem dJ8_charAt_24 : decode cJ8_charAt 24 = .ok (.ireturn, 1) := dk_172 (dk_at dksJ8_charAt_1 0 rfl rfl)
abbrev cJ8_isLatin1 : ByteArray := prog_29_method_154_code
def yJ8_isLatin1 : MethodName := ⟨RJ8, "isLatin1", "()Z"⟩
def dkwJ8_isLatin1_0 : List UInt8 := [178, 0, 38, 153, 0, 14, 42, 180, 0, 15, 154, 0, 7, 4, 167, 0, 4, 3, 172]
abbrev dktJ8_isLatin1_0 : List UInt8 := dkwJ8_isLatin1_0 ++ []
theorem dksJ8_isLatin1_0 : cJ8_isLatin1.data.toList.drop 0 = dktJ8_isLatin1_0 := by decide +kernel
theorem dJ8_isLatin1_0 : decode cJ8_isLatin1 0 = .ok (.getstatic 38, 3) := dk_178 0 38 (dk_at dksJ8_isLatin1_0 0 rfl rfl)
theorem dJ8_isLatin1_3 : decode cJ8_isLatin1 3 = .ok (.ifCond .eq 14, 3) := dk_153 0 14 (dk_at dksJ8_isLatin1_0 3 rfl rfl)
theorem dJ8_isLatin1_6 : decode cJ8_isLatin1 6 = .ok (.aload_n 0, 1) := dk_42 (dk_at dksJ8_isLatin1_0 6 rfl rfl)
theorem dJ8_isLatin1_7 : decode cJ8_isLatin1 7 = .ok (.getfield 15, 3) := dk_180 0 15 (dk_at dksJ8_isLatin1_0 7 rfl rfl)
theorem dJ8_isLatin1_10 : decode cJ8_isLatin1 10 = .ok (.ifCond .ne 7, 3) := dk_154 0 7 (dk_at dksJ8_isLatin1_0 10 rfl rfl)
theorem dJ8_isLatin1_13 : decode cJ8_isLatin1 13 = .ok (.iconst 1, 1) := dk_4 (dk_at dksJ8_isLatin1_0 13 rfl rfl)
theorem dJ8_isLatin1_14 : decode cJ8_isLatin1 14 = .ok (.goto 4, 3) := dk_167 0 4 (dk_at dksJ8_isLatin1_0 14 rfl rfl)
theorem dJ8_isLatin1_17 : decode cJ8_isLatin1 17 = .ok (.iconst 0, 1) := dk_3 (dk_at dksJ8_isLatin1_0 17 rfl rfl)
theorem dJ8_isLatin1_18 : decode cJ8_isLatin1 18 = .ok (.ireturn, 1) := dk_172 (dk_at dksJ8_isLatin1_0 18 rfl rfl)
abbrev cJ8_checkIndex : ByteArray := prog_29_method_155_code
def yJ8_checkIndex : MethodName := ⟨RJ8, "checkIndex", "(II)V"⟩
def dkwJ8_checkIndex_0 : List UInt8 := [26, 27, 178, 4, 29, 184, 4, 35, 87, 177]
abbrev dktJ8_checkIndex_0 : List UInt8 := dkwJ8_checkIndex_0 ++ []
theorem dksJ8_checkIndex_0 : cJ8_checkIndex.data.toList.drop 0 = dktJ8_checkIndex_0 := by decide +kernel
theorem dJ8_checkIndex_0 : decode cJ8_checkIndex 0 = .ok (.iload_n 0, 1) := dk_26 (dk_at dksJ8_checkIndex_0 0 rfl rfl)
theorem dJ8_checkIndex_1 : decode cJ8_checkIndex 1 = .ok (.iload_n 1, 1) := dk_27 (dk_at dksJ8_checkIndex_0 1 rfl rfl)
theorem dJ8_checkIndex_2 : decode cJ8_checkIndex 2 = .ok (.getstatic 1053, 3) := dk_178 4 29 (dk_at dksJ8_checkIndex_0 2 rfl rfl)
theorem dJ8_checkIndex_5 : decode cJ8_checkIndex 5 = .ok (.invokestatic 1059, 3) := dk_184 4 35 (dk_at dksJ8_checkIndex_0 5 rfl rfl)
theorem dJ8_checkIndex_8 : decode cJ8_checkIndex 8 = .ok (.pop, 1) := dk_87 (dk_at dksJ8_checkIndex_0 8 rfl rfl)
theorem dJ8_checkIndex_9 : decode cJ8_checkIndex 9 = .ok (.return_, 1) := dk_177 (dk_at dksJ8_checkIndex_0 9 rfl rfl)
theorem q102 : (Jvm.Cond.initialized "java/lang/String") ∈ lw_all := lw_g (lw_at lw_m1 21 rfl) rfl
theorem q487 : (Jvm.Cond.instantiable "java/lang/String" (4 : Nat)) ∈ lw_all := lw_g (lw_at lw_m2 166 rfl) rfl
theorem q488 : (Jvm.Cond.laysFinal "java/lang/String" "java/lang/String" "value" "[B") ∈ lw_all := lw_g (lw_at lw_m2 167 rfl) rfl
theorem q489 : (Jvm.Cond.soleField "java/lang/String" "value") ∈ lw_all := lw_g (lw_at lw_m2 168 rfl) rfl
theorem q490 : (Jvm.Cond.laysFinal "java/lang/String" "java/lang/String" "coder" "B") ∈ lw_all := lw_g (lw_at lw_m2 169 rfl) rfl
theorem q491 : (Jvm.Cond.soleField "java/lang/String" "coder") ∈ lw_all := lw_g (lw_at lw_m2 170 rfl) rfl
theorem q611 : (Jvm.Cond.instanceMethod ({ cls := "java/lang/String", name := "length", desc := "()I" } : Jvm.MethodName)) ∈ lw_all := lw_g (lw_at lw_m3 50 rfl) rfl
theorem q612 : (Jvm.Cond.selects "java/lang/String" ({ cls := "java/lang/String", name := "length", desc := "()I" } : Jvm.MethodName) ({ cls := "java/lang/String", name := "length", desc := "()I" } : Jvm.MethodName)) ∈ lw_all := lw_g (lw_at lw_m3 51 rfl) rfl
theorem q613 : (Jvm.Cond.code ({ cls := "java/lang/String", name := "length", desc := "()I" } : Jvm.MethodName) prog_29_method_54_code (1 : Nat) (Option.some Jvm.ClassFile.FieldType.int)) ∈ lw_all := lw_g (lw_at lw_m3 52 rfl) rfl
theorem q614 : (Jvm.Cond.methodLink "java/lang/String" (335 : Nat) ({ cls := "java/lang/String", name := "coder", desc := "()B" } : Jvm.MethodName)) ∈ lw_all := lw_g (lw_at lw_m3 53 rfl) rfl
theorem q615 : (Jvm.Cond.instanceMethod ({ cls := "java/lang/String", name := "coder", desc := "()B" } : Jvm.MethodName)) ∈ lw_all := lw_g (lw_at lw_m3 54 rfl) rfl
theorem q616 : (Jvm.Cond.selects "java/lang/String" ({ cls := "java/lang/String", name := "coder", desc := "()B" } : Jvm.MethodName) ({ cls := "java/lang/String", name := "coder", desc := "()B" } : Jvm.MethodName)) ∈ lw_all := lw_g (lw_at lw_m3 55 rfl) rfl
theorem q617 : (Jvm.Cond.code ({ cls := "java/lang/String", name := "coder", desc := "()B" } : Jvm.MethodName) prog_29_method_152_code (1 : Nat) (Option.some Jvm.ClassFile.FieldType.byte)) ∈ lw_all := lw_g (lw_at lw_m3 56 rfl) rfl
theorem q618 : (Jvm.Cond.fieldLink "java/lang/String" (38 : Nat) "java/lang/String" "COMPACT_STRINGS" "Z") ∈ lw_all := lw_g (lw_at lw_m3 57 rfl) rfl
theorem q619 : (Jvm.Cond.laysStatic "java/lang/String" "COMPACT_STRINGS" "Z") ∈ lw_tbl := lw_at lw_m3 58 rfl
theorem q621 : (Jvm.Cond.instanceMethod ({ cls := "java/lang/String", name := "charAt", desc := "(I)C" } : Jvm.MethodName)) ∈ lw_all := lw_g (lw_at lw_m3 60 rfl) rfl
theorem q622 : (Jvm.Cond.selects "java/lang/String" ({ cls := "java/lang/String", name := "charAt", desc := "(I)C" } : Jvm.MethodName) ({ cls := "java/lang/String", name := "charAt", desc := "(I)C" } : Jvm.MethodName)) ∈ lw_all := lw_g (lw_at lw_m3 61 rfl) rfl
theorem q623 : (Jvm.Cond.code ({ cls := "java/lang/String", name := "charAt", desc := "(I)C" } : Jvm.MethodName) prog_29_method_56_code (2 : Nat) (Option.some Jvm.ClassFile.FieldType.char)) ∈ lw_all := lw_g (lw_at lw_m3 62 rfl) rfl
theorem q624 : (Jvm.Cond.methodLink "java/lang/String" (492 : Nat) ({ cls := "java/lang/String", name := "isLatin1", desc := "()Z" } : Jvm.MethodName)) ∈ lw_all := lw_g (lw_at lw_m3 63 rfl) rfl
theorem q625 : (Jvm.Cond.instanceMethod ({ cls := "java/lang/String", name := "isLatin1", desc := "()Z" } : Jvm.MethodName)) ∈ lw_all := lw_g (lw_at lw_m3 64 rfl) rfl
theorem q626 : (Jvm.Cond.selects "java/lang/String" ({ cls := "java/lang/String", name := "isLatin1", desc := "()Z" } : Jvm.MethodName) ({ cls := "java/lang/String", name := "isLatin1", desc := "()Z" } : Jvm.MethodName)) ∈ lw_all := lw_g (lw_at lw_m3 65 rfl) rfl
theorem q627 : (Jvm.Cond.code ({ cls := "java/lang/String", name := "isLatin1", desc := "()Z" } : Jvm.MethodName) prog_29_method_154_code (1 : Nat) (Option.some Jvm.ClassFile.FieldType.boolean)) ∈ lw_all := lw_g (lw_at lw_m3 66 rfl) rfl
theorem q628 : (Jvm.Cond.methodLink "java/lang/String" (495 : Nat) ({ cls := "java/lang/StringLatin1", name := "charAt", desc := "([BI)C" } : Jvm.MethodName)) ∈ lw_all := lw_g (lw_at lw_m3 67 rfl) rfl
theorem q632 : (Jvm.Cond.static ({ cls := "java/lang/String", name := "checkIndex", desc := "(II)V" } : Jvm.MethodName)) ∈ lw_all := lw_g (lw_at lw_m3 71 rfl) rfl
theorem q633 : (Jvm.Cond.code ({ cls := "java/lang/String", name := "checkIndex", desc := "(II)V" } : Jvm.MethodName) prog_29_method_155_code (2 : Nat) (Option.none : Option Jvm.ClassFile.FieldType)) ∈ lw_all := lw_g (lw_at lw_m3 72 rfl) rfl
theorem q634 : (Jvm.Cond.fieldLink "java/lang/String" (1053 : Nat) "jdk/internal/util/Preconditions" "SIOOBE_FORMATTER" "Ljava/util/function/BiFunction;") ∈ lw_all := lw_g (lw_at lw_m3 73 rfl) rfl
theorem q636 : (Jvm.Cond.methodLink "java/lang/String" (1059 : Nat) ({ cls := "jdk/internal/util/Preconditions", name := "checkIndex", desc := "(IILjava/util/function/BiFunction;)I" } : Jvm.MethodName)) ∈ lw_all := lw_g (lw_at lw_m3 75 rfl) rfl
theorem q639 : (Jvm.Cond.methodLink "java/lang/String" (498 : Nat) ({ cls := "java/lang/StringUTF16", name := "charAt", desc := "([BI)C" } : Jvm.MethodName)) ∈ lw_all := lw_g (lw_at lw_m3 78 rfl) rfl
theorem q1718 : (Jvm.Cond.castable "java/lang/String" "java/lang/Object") ∈ lw_tbl := lw_at lw_m7 197 rfl
theorem q1729 : (Jvm.Cond.fieldLink "java/lang/String" (9 : Nat) "java/lang/String" "value" "[B") ∈ lw_all := lw_g (lw_at lw_m7 208 rfl) rfl
theorem q1730 : (Jvm.Cond.fieldLink "java/lang/String" (15 : Nat) "java/lang/String" "coder" "B") ∈ lw_all := lw_g (lw_at lw_m7 209 rfl) rfl
theorem in_J8 : ∀ w ∈ wsJ80, w ∈ lw_all := lw_in wsJ80 [488, 490] (by decide +kernel) (by decide +kernel)

/-! java/lang/StringLatin1 -/
set_option maxRecDepth 100000
def RJ9 : String := "java/lang/StringLatin1"
abbrev cJ9_charAt : ByteArray := prog_30_method_2_code
def yJ9_charAt : MethodName := ⟨RJ9, "charAt", "([BI)C"⟩
def dkwJ9_charAt_0 : List UInt8 := [27, 42, 190, 184, 0, 9, 42, 27, 51, 17, 0, 255, 126, 146, 172]
abbrev dktJ9_charAt_0 : List UInt8 := dkwJ9_charAt_0 ++ []
theorem dksJ9_charAt_0 : cJ9_charAt.data.toList.drop 0 = dktJ9_charAt_0 := by decide +kernel
theorem dJ9_charAt_0 : decode cJ9_charAt 0 = .ok (.iload_n 1, 1) := dk_27 (dk_at dksJ9_charAt_0 0 rfl rfl)
theorem dJ9_charAt_1 : decode cJ9_charAt 1 = .ok (.aload_n 0, 1) := dk_42 (dk_at dksJ9_charAt_0 1 rfl rfl)
theorem dJ9_charAt_2 : decode cJ9_charAt 2 = .ok (.arraylength, 1) := dk_190 (dk_at dksJ9_charAt_0 2 rfl rfl)
theorem dJ9_charAt_3 : decode cJ9_charAt 3 = .ok (.invokestatic 9, 3) := dk_184 0 9 (dk_at dksJ9_charAt_0 3 rfl rfl)
theorem dJ9_charAt_6 : decode cJ9_charAt 6 = .ok (.aload_n 0, 1) := dk_42 (dk_at dksJ9_charAt_0 6 rfl rfl)
theorem dJ9_charAt_7 : decode cJ9_charAt 7 = .ok (.iload_n 1, 1) := dk_27 (dk_at dksJ9_charAt_0 7 rfl rfl)
theorem dJ9_charAt_8 : decode cJ9_charAt 8 = .ok (.baload, 1) := dk_51 (dk_at dksJ9_charAt_0 8 rfl rfl)
theorem dJ9_charAt_9 : decode cJ9_charAt 9 = .ok (.sipush 255, 3) := dk_17 0 255 (dk_at dksJ9_charAt_0 9 rfl rfl)
theorem dJ9_charAt_12 : decode cJ9_charAt 12 = .ok (.iand, 1) := dk_126 (dk_at dksJ9_charAt_0 12 rfl rfl)
theorem dJ9_charAt_13 : decode cJ9_charAt 13 = .ok (.i2c, 1) := dk_146 (dk_at dksJ9_charAt_0 13 rfl rfl)
theorem dJ9_charAt_14 : decode cJ9_charAt 14 = .ok (.ireturn, 1) := dk_172 (dk_at dksJ9_charAt_0 14 rfl rfl)
theorem q106 : (Jvm.Cond.initialized "java/lang/StringLatin1") ∈ lw_all := lw_g (lw_at lw_m1 25 rfl) rfl
theorem q629 : (Jvm.Cond.static ({ cls := "java/lang/StringLatin1", name := "charAt", desc := "([BI)C" } : Jvm.MethodName)) ∈ lw_all := lw_g (lw_at lw_m3 68 rfl) rfl
theorem q630 : (Jvm.Cond.code ({ cls := "java/lang/StringLatin1", name := "charAt", desc := "([BI)C" } : Jvm.MethodName) prog_30_method_2_code (2 : Nat) (Option.some Jvm.ClassFile.FieldType.char)) ∈ lw_all := lw_g (lw_at lw_m3 69 rfl) rfl
theorem q631 : (Jvm.Cond.methodLink "java/lang/StringLatin1" (9 : Nat) ({ cls := "java/lang/String", name := "checkIndex", desc := "(II)V" } : Jvm.MethodName)) ∈ lw_all := lw_g (lw_at lw_m3 70 rfl) rfl

/-! the law's own entry -/
set_option maxRecDepth 100000
abbrev cL_law : ByteArray := code
def dkwL_law_49 : List UInt8 := [172, 132, 3, 6, 167, 251, 7, 4, 172]
abbrev dktL_law_49 : List UInt8 := dkwL_law_49 ++ []
def dkwL_law_48 : List UInt8 := [29, 4, 96, 46, 182, 0, 162, 159, 0, 18, 3, 172, 43, 182, 0, 163, 44, 182, 0, 166, 159, 0, 5, 3]
abbrev dktL_law_48 : List UInt8 := dkwL_law_48 ++ dktL_law_49
def dkwL_law_47 : List UInt8 := [42, 29, 4, 96, 46, 182, 0, 158, 159, 0, 41, 3, 172, 43, 42, 29, 4, 96, 46, 182, 0, 159, 44, 42]
abbrev dktL_law_47 : List UInt8 := dkwL_law_47 ++ dktL_law_48
def dkwL_law_46 : List UInt8 := [46, 42, 29, 5, 96, 46, 182, 0, 154, 159, 0, 64, 3, 172, 43, 42, 29, 4, 96, 46, 182, 0, 155, 44]
abbrev dktL_law_46 : List UInt8 := dkwL_law_46 ++ dktL_law_47
def dkwL_law_45 : List UInt8 := [159, 0, 97, 3, 172, 43, 42, 29, 4, 96, 46, 42, 29, 5, 96, 46, 182, 0, 151, 44, 42, 29, 4, 96]
abbrev dktL_law_45 : List UInt8 := dkwL_law_45 ++ dktL_law_46
def dkwL_law_44 : List UInt8 := [42, 29, 5, 96, 46, 182, 0, 147, 44, 42, 29, 4, 96, 46, 42, 29, 5, 96, 46, 182, 0, 150]
abbrev dktL_law_44 : List UInt8 := dkwL_law_44 ++ dktL_law_45
def dkwL_law_43 : List UInt8 := [46, 182, 0, 143, 44, 42, 29, 4, 96, 46, 182, 0, 146, 159, 0, 130, 3, 172, 43, 42, 29, 4, 96, 46]
abbrev dktL_law_43 : List UInt8 := dkwL_law_43 ++ dktL_law_44
def dkwL_law_42 : List UInt8 := [96, 46, 182, 0, 139, 44, 42, 29, 4, 96, 46, 182, 0, 142, 159, 0, 153, 3, 172, 43, 42, 29, 4, 96]
abbrev dktL_law_42 : List UInt8 := dkwL_law_42 ++ dktL_law_43
def dkwL_law_41 : List UInt8 := [4, 96, 46, 182, 0, 135, 44, 42, 29, 4, 96, 46, 182, 0, 138, 159, 0, 176, 3, 172, 43, 42, 29, 4]
abbrev dktL_law_41 : List UInt8 := dkwL_law_41 ++ dktL_law_42
def dkwL_law_40 : List UInt8 := [4, 96, 46, 42, 29, 5, 96, 46, 42, 29, 6, 96, 46, 182, 0, 134, 159, 0, 199, 3, 172, 43, 42, 29]
abbrev dktL_law_40 : List UInt8 := dkwL_law_40 ++ dktL_law_41
def dkwL_law_39 : List UInt8 := [3, 172, 43, 42, 29, 4, 96, 46, 42, 29, 5, 96, 46, 42, 29, 6, 96, 46, 182, 0, 131, 44, 42, 29]
abbrev dktL_law_39 : List UInt8 := dkwL_law_39 ++ dktL_law_40
def dkwL_law_38 : List UInt8 := [96, 46, 42, 29, 5, 96, 46, 42, 29, 6, 96, 46, 42, 29, 7, 96, 46, 182, 0, 130, 148, 153, 0, 242]
abbrev dktL_law_38 : List UInt8 := dkwL_law_38 ++ dktL_law_39
def dkwL_law_37 : List UInt8 := [96, 46, 42, 29, 5, 96, 46, 42, 29, 6, 96, 46, 42, 29, 7, 96, 46, 182, 0, 126, 44, 42, 29, 4]
abbrev dktL_law_37 : List UInt8 := dkwL_law_37 ++ dktL_law_38
def dkwL_law_36 : List UInt8 := [96, 46, 42, 29, 7, 96, 46, 42, 29, 8, 96, 46, 182, 0, 125, 159, 1, 40, 3, 172, 43, 42, 29, 4]
abbrev dktL_law_36 : List UInt8 := dkwL_law_36 ++ dktL_law_37
def dkwL_law_35 : List UInt8 := [96, 46, 42, 29, 8, 96, 46, 182, 0, 122, 44, 42, 29, 4, 96, 46, 42, 29, 5, 96, 46, 42, 29, 6]
abbrev dktL_law_35 : List UInt8 := dkwL_law_35 ++ dktL_law_36
def dkwL_law_34 : List UInt8 := [159, 1, 103, 3, 172, 43, 42, 29, 4, 96, 46, 42, 29, 5, 96, 46, 42, 29, 6, 96, 46, 42, 29, 7]
abbrev dktL_law_34 : List UInt8 := dkwL_law_34 ++ dktL_law_35
def dkwL_law_33 : List UInt8 := [46, 42, 29, 5, 96, 46, 182, 0, 118, 44, 42, 29, 4, 96, 46, 42, 29, 5, 96, 46, 182, 0, 121]
abbrev dktL_law_33 : List UInt8 := dkwL_law_33 ++ dktL_law_34
def dkwL_law_32 : List UInt8 := [44, 42, 29, 4, 96, 46, 42, 29, 5, 96, 46, 182, 0, 117, 159, 1, 136, 3, 172, 43, 42, 29, 4, 96]
abbrev dktL_law_32 : List UInt8 := dkwL_law_32 ++ dktL_law_33
def dkwL_law_31 : List UInt8 := [96, 46, 182, 0, 113, 159, 1, 169, 3, 172, 43, 42, 29, 4, 96, 46, 42, 29, 5, 96, 46, 182, 0, 114]
abbrev dktL_law_31 : List UInt8 := dkwL_law_31 ++ dktL_law_32
def dkwL_law_30 : List UInt8 := [5, 96, 46, 182, 0, 109, 159, 1, 192, 3, 172, 43, 42, 29, 4, 96, 46, 182, 0, 110, 44, 42, 29, 4]
abbrev dktL_law_30 : List UInt8 := dkwL_law_30 ++ dktL_law_31
def dkwL_law_29 : List UInt8 := [3, 172, 43, 42, 29, 4, 96, 46, 42, 29, 5, 96, 46, 182, 0, 106, 44, 42, 29, 4, 96, 46, 42, 29]
abbrev dktL_law_29 : List UInt8 := dkwL_law_29 ++ dktL_law_30
def dkwL_law_28 : List UInt8 := [29, 5, 96, 46, 182, 0, 102, 44, 42, 29, 4, 96, 46, 42, 29, 5, 96, 46, 182, 0, 105, 159, 1, 225]
abbrev dktL_law_28 : List UInt8 := dkwL_law_28 ++ dktL_law_29
def dkwL_law_27 : List UInt8 := [29, 4, 96, 46, 42, 29, 5, 96, 46, 182, 0, 101, 159, 2, 2, 3, 172, 43, 42, 29, 4, 96, 46, 42]
abbrev dktL_law_27 : List UInt8 := dkwL_law_27 ++ dktL_law_28
def dkwL_law_26 : List UInt8 := [182, 0, 97, 159, 2, 35, 3, 172, 43, 42, 29, 4, 96, 46, 42, 29, 5, 96, 46, 182, 0, 98, 44, 42]
abbrev dktL_law_26 : List UInt8 := dkwL_law_26 ++ dktL_law_27
def dkwL_law_25 : List UInt8 := [182, 0, 93, 159, 2, 58, 3, 172, 43, 42, 29, 4, 96, 46, 182, 0, 94, 44, 42, 29, 4, 96, 46]
abbrev dktL_law_25 : List UInt8 := dkwL_law_25 ++ dktL_law_26
def dkwL_law_24 : List UInt8 := [182, 0, 86, 44, 42, 29, 4, 96, 46, 182, 0, 89, 159, 2, 71, 3, 172, 43, 182, 0, 90, 44]
abbrev dktL_law_24 : List UInt8 := dkwL_law_24 ++ dktL_law_25
def dkwL_law_23 : List UInt8 := [182, 0, 82, 44, 42, 29, 4, 96, 46, 182, 0, 85, 159, 2, 94, 3, 172, 43, 42, 29, 4, 96, 46]
abbrev dktL_law_23 : List UInt8 := dkwL_law_23 ++ dktL_law_24
def dkwL_law_22 : List UInt8 := [5, 96, 46, 42, 29, 6, 96, 46, 182, 0, 81, 159, 2, 117, 3, 172, 43, 42, 29, 4, 96, 46]
abbrev dktL_law_22 : List UInt8 := dkwL_law_22 ++ dktL_law_23
def dkwL_law_21 : List UInt8 := [4, 96, 46, 42, 29, 5, 96, 46, 42, 29, 6, 96, 46, 182, 0, 78, 44, 42, 29, 4, 96, 46, 42, 29]
abbrev dktL_law_21 : List UInt8 := dkwL_law_21 ++ dktL_law_22
def dkwL_law_20 : List UInt8 := [29, 4, 96, 46, 182, 0, 74, 44, 42, 29, 4, 96, 46, 182, 0, 77, 159, 2, 160, 3, 172, 43, 42, 29]
abbrev dktL_law_20 : List UInt8 := dkwL_law_20 ++ dktL_law_21
def dkwL_law_19 : List UInt8 := [182, 0, 69, 44, 42, 29, 4, 96, 46, 42, 29, 5, 96, 46, 182, 0, 73, 159, 2, 183, 3, 172, 43, 42]
abbrev dktL_law_19 : List UInt8 := dkwL_law_19 ++ dktL_law_20
def dkwL_law_18 : List UInt8 := [29, 6, 96, 46, 182, 0, 68, 159, 2, 216, 3, 172, 43, 42, 29, 4, 96, 46, 42, 29, 5, 96, 46]
abbrev dktL_law_18 : List UInt8 := dkwL_law_18 ++ dktL_law_19
def dkwL_law_17 : List UInt8 := [29, 5, 96, 46, 42, 29, 6, 96, 46, 182, 0, 65, 44, 42, 29, 4, 96, 46, 42, 29, 5, 96, 46, 42]
abbrev dktL_law_17 : List UInt8 := dkwL_law_17 ++ dktL_law_18
def dkwL_law_16 : List UInt8 := [182, 0, 61, 44, 42, 29, 4, 96, 46, 182, 0, 64, 159, 3, 3, 3, 172, 43, 42, 29, 4, 96, 46, 42]
abbrev dktL_law_16 : List UInt8 := dkwL_law_16 ++ dktL_law_17
def dkwL_law_15 : List UInt8 := [46, 182, 0, 57, 44, 42, 29, 4, 96, 46, 182, 0, 60, 159, 3, 26, 3, 172, 43, 42, 29, 4, 96, 46]
abbrev dktL_law_15 : List UInt8 := dkwL_law_15 ++ dktL_law_16
def dkwL_law_14 : List UInt8 := [96, 46, 182, 0, 53, 44, 42, 29, 4, 96, 46, 182, 0, 56, 159, 3, 49, 3, 172, 43, 42, 29, 4, 96]
abbrev dktL_law_14 : List UInt8 := dkwL_law_14 ++ dktL_law_15
def dkwL_law_13 : List UInt8 := [4, 96, 46, 182, 0, 49, 44, 42, 29, 4, 96, 46, 182, 0, 52, 159, 3, 72, 3, 172, 43, 42, 29, 4]
abbrev dktL_law_13 : List UInt8 := dkwL_law_13 ++ dktL_law_14
def dkwL_law_12 : List UInt8 := [182, 0, 44, 159, 3, 108, 3, 172, 43, 182, 0, 45, 44, 182, 0, 48, 159, 3, 95, 3, 172, 43, 42, 29]
abbrev dktL_law_12 : List UInt8 := dkwL_law_12 ++ dktL_law_13
def dkwL_law_11 : List UInt8 := [159, 3, 134, 3, 172, 43, 182, 0, 36, 44, 182, 0, 40, 159, 3, 121, 3, 172, 43, 182, 0, 41, 44]
abbrev dktL_law_11 : List UInt8 := dkwL_law_11 ++ dktL_law_12
def dkwL_law_10 : List UInt8 := [159, 3, 157, 3, 172, 43, 42, 29, 4, 96, 46, 182, 0, 32, 44, 42, 29, 4, 96, 46, 182, 0, 35]
abbrev dktL_law_10 : List UInt8 := dkwL_law_10 ++ dktL_law_11
def dkwL_law_9 : List UInt8 := [159, 3, 180, 3, 172, 43, 42, 29, 4, 96, 46, 182, 0, 27, 44, 42, 29, 4, 96, 46, 182, 0, 31]
abbrev dktL_law_9 : List UInt8 := dkwL_law_9 ++ dktL_law_10
def dkwL_law_8 : List UInt8 := [46, 42, 29, 5, 96, 46, 42, 29, 6, 96, 46, 42, 29, 7, 96, 46, 42, 29, 8, 96, 46, 182, 0, 26]
abbrev dktL_law_8 : List UInt8 := dkwL_law_8 ++ dktL_law_9
def dkwL_law_7 : List UInt8 := [46, 42, 29, 6, 96, 46, 42, 29, 7, 96, 46, 42, 29, 8, 96, 46, 182, 0, 22, 44, 42, 29, 4, 96]
abbrev dktL_law_7 : List UInt8 := dkwL_law_7 ++ dktL_law_8
def dkwL_law_6 : List UInt8 := [46, 42, 29, 6, 96, 46, 182, 0, 21, 159, 3, 243, 3, 172, 43, 42, 29, 4, 96, 46, 42, 29, 5, 96]
abbrev dktL_law_6 : List UInt8 := dkwL_law_6 ++ dktL_law_7
def dkwL_law_5 : List UInt8 := [46, 42, 29, 5, 96, 46, 42, 29, 6, 96, 46, 182, 0, 18, 44, 42, 29, 4, 96, 46, 42, 29, 5, 96]
abbrev dktL_law_5 : List UInt8 := dkwL_law_5 ++ dktL_law_6
def dkwL_law_4 : List UInt8 := [46, 42, 29, 5, 96, 46, 42, 29, 6, 96, 46, 182, 0, 17, 159, 4, 30, 3, 172, 43, 42, 29, 4, 96]
abbrev dktL_law_4 : List UInt8 := dkwL_law_4 ++ dktL_law_5
def dkwL_law_3 : List UInt8 := [43, 42, 29, 4, 96, 46, 42, 29, 5, 96, 46, 42, 29, 6, 96, 46, 182, 0, 13, 44, 42, 29, 4, 96]
abbrev dktL_law_3 : List UInt8 := dkwL_law_3 ++ dktL_law_4
def dkwL_law_2 : List UInt8 := [170, 0, 0, 0, 0, 4, 231, 0, 0, 0, 0, 0, 0, 0, 36, 0, 0, 0, 163, 0, 0, 0, 206, 0, 0, 0, 249, 0, 0, 1, 56, 0, 0, 1, 79, 0, 0, 1, 102, 0, 0, 1, 115, 0, 0, 1, 128, 0, 0, 1, 141, 0, 0, 1, 164, 0, 0, 1, 187, 0, 0, 1, 210, 0, 0, 1, 233, 0, 0, 2, 20, 0, 0, 2, 53, 0, 0, 2, 76, 0, 0, 2, 119, 0, 0, 2, 142, 0, 0, 2, 165, 0, 0, 2, 178, 0, 0, 2, 201, 0, 0, 2, 234, 0, 0, 3, 11, 0, 0, 3, 44, 0, 0, 3, 67, 0, 0, 3, 100, 0, 0, 3, 133, 0, 0, 3, 196, 0, 0, 3, 250, 0, 0, 4, 37, 0, 0, 4, 60, 0, 0, 4, 83, 0, 0, 4, 106, 0, 0, 4, 139, 0, 0, 4, 172, 0, 0, 4, 195, 0, 0, 4, 218]
abbrev dktL_law_2 : List UInt8 := dkwL_law_2 ++ dktL_law_3
def dkwL_law_1 : List UInt8 := [163, 4, 246, 42, 29, 46, 16, 63, 126]
abbrev dktL_law_1 : List UInt8 := dkwL_law_1 ++ dktL_law_2
def dkwL_law_0 : List UInt8 := [187, 0, 7, 89, 183, 0, 9, 76, 187, 0, 10, 89, 183, 0, 12, 77, 3, 62, 29, 42, 190, 16, 6, 100]
abbrev dktL_law_0 : List UInt8 := dkwL_law_0 ++ dktL_law_1
theorem dksL_law_0 : cL_law.data.toList.drop 0 = dktL_law_0 := by decide +kernel
theorem dksL_law_1 : cL_law.data.toList.drop 24 = dktL_law_1 := dk_seg dksL_law_0 24 rfl rfl
theorem dksL_law_2 : cL_law.data.toList.drop 33 = dktL_law_2 := dk_seg dksL_law_1 9 rfl rfl
theorem dksL_law_3 : cL_law.data.toList.drop 196 = dktL_law_3 := dk_seg dksL_law_2 163 rfl rfl
theorem dksL_law_4 : cL_law.data.toList.drop 220 = dktL_law_4 := dk_seg dksL_law_3 24 rfl rfl
theorem dksL_law_5 : cL_law.data.toList.drop 244 = dktL_law_5 := dk_seg dksL_law_4 24 rfl rfl
theorem dksL_law_6 : cL_law.data.toList.drop 268 = dktL_law_6 := dk_seg dksL_law_5 24 rfl rfl
theorem dksL_law_7 : cL_law.data.toList.drop 292 = dktL_law_7 := dk_seg dksL_law_6 24 rfl rfl
theorem dksL_law_8 : cL_law.data.toList.drop 316 = dktL_law_8 := dk_seg dksL_law_7 24 rfl rfl
theorem dksL_law_9 : cL_law.data.toList.drop 340 = dktL_law_9 := dk_seg dksL_law_8 24 rfl rfl
theorem dksL_law_10 : cL_law.data.toList.drop 363 = dktL_law_10 := dk_seg dksL_law_9 23 rfl rfl
theorem dksL_law_11 : cL_law.data.toList.drop 386 = dktL_law_11 := dk_seg dksL_law_10 23 rfl rfl
theorem dksL_law_12 : cL_law.data.toList.drop 409 = dktL_law_12 := dk_seg dksL_law_11 23 rfl rfl
theorem dksL_law_13 : cL_law.data.toList.drop 433 = dktL_law_13 := dk_seg dksL_law_12 24 rfl rfl
theorem dksL_law_14 : cL_law.data.toList.drop 457 = dktL_law_14 := dk_seg dksL_law_13 24 rfl rfl
theorem dksL_law_15 : cL_law.data.toList.drop 481 = dktL_law_15 := dk_seg dksL_law_14 24 rfl rfl
theorem dksL_law_16 : cL_law.data.toList.drop 505 = dktL_law_16 := dk_seg dksL_law_15 24 rfl rfl
theorem dksL_law_17 : cL_law.data.toList.drop 529 = dktL_law_17 := dk_seg dksL_law_16 24 rfl rfl
theorem dksL_law_18 : cL_law.data.toList.drop 553 = dktL_law_18 := dk_seg dksL_law_17 24 rfl rfl
theorem dksL_law_19 : cL_law.data.toList.drop 576 = dktL_law_19 := dk_seg dksL_law_18 23 rfl rfl
theorem dksL_law_20 : cL_law.data.toList.drop 600 = dktL_law_20 := dk_seg dksL_law_19 24 rfl rfl
theorem dksL_law_21 : cL_law.data.toList.drop 624 = dktL_law_21 := dk_seg dksL_law_20 24 rfl rfl
theorem dksL_law_22 : cL_law.data.toList.drop 648 = dktL_law_22 := dk_seg dksL_law_21 24 rfl rfl
theorem dksL_law_23 : cL_law.data.toList.drop 670 = dktL_law_23 := dk_seg dksL_law_22 22 rfl rfl
theorem dksL_law_24 : cL_law.data.toList.drop 693 = dktL_law_24 := dk_seg dksL_law_23 23 rfl rfl
theorem dksL_law_25 : cL_law.data.toList.drop 715 = dktL_law_25 := dk_seg dksL_law_24 22 rfl rfl
theorem dksL_law_26 : cL_law.data.toList.drop 738 = dktL_law_26 := dk_seg dksL_law_25 23 rfl rfl
theorem dksL_law_27 : cL_law.data.toList.drop 762 = dktL_law_27 := dk_seg dksL_law_26 24 rfl rfl
theorem dksL_law_28 : cL_law.data.toList.drop 786 = dktL_law_28 := dk_seg dksL_law_27 24 rfl rfl
theorem dksL_law_29 : cL_law.data.toList.drop 810 = dktL_law_29 := dk_seg dksL_law_28 24 rfl rfl
theorem dksL_law_30 : cL_law.data.toList.drop 834 = dktL_law_30 := dk_seg dksL_law_29 24 rfl rfl
theorem dksL_law_31 : cL_law.data.toList.drop 858 = dktL_law_31 := dk_seg dksL_law_30 24 rfl rfl
theorem dksL_law_32 : cL_law.data.toList.drop 882 = dktL_law_32 := dk_seg dksL_law_31 24 rfl rfl
theorem dksL_law_33 : cL_law.data.toList.drop 906 = dktL_law_33 := dk_seg dksL_law_32 24 rfl rfl
theorem dksL_law_34 : cL_law.data.toList.drop 929 = dktL_law_34 := dk_seg dksL_law_33 23 rfl rfl
theorem dksL_law_35 : cL_law.data.toList.drop 953 = dktL_law_35 := dk_seg dksL_law_34 24 rfl rfl
theorem dksL_law_36 : cL_law.data.toList.drop 977 = dktL_law_36 := dk_seg dksL_law_35 24 rfl rfl
theorem dksL_law_37 : cL_law.data.toList.drop 1001 = dktL_law_37 := dk_seg dksL_law_36 24 rfl rfl
theorem dksL_law_38 : cL_law.data.toList.drop 1025 = dktL_law_38 := dk_seg dksL_law_37 24 rfl rfl
theorem dksL_law_39 : cL_law.data.toList.drop 1049 = dktL_law_39 := dk_seg dksL_law_38 24 rfl rfl
theorem dksL_law_40 : cL_law.data.toList.drop 1073 = dktL_law_40 := dk_seg dksL_law_39 24 rfl rfl
theorem dksL_law_41 : cL_law.data.toList.drop 1097 = dktL_law_41 := dk_seg dksL_law_40 24 rfl rfl
theorem dksL_law_42 : cL_law.data.toList.drop 1121 = dktL_law_42 := dk_seg dksL_law_41 24 rfl rfl
theorem dksL_law_43 : cL_law.data.toList.drop 1145 = dktL_law_43 := dk_seg dksL_law_42 24 rfl rfl
theorem dksL_law_44 : cL_law.data.toList.drop 1169 = dktL_law_44 := dk_seg dksL_law_43 24 rfl rfl
theorem dksL_law_45 : cL_law.data.toList.drop 1191 = dktL_law_45 := dk_seg dksL_law_44 22 rfl rfl
theorem dksL_law_46 : cL_law.data.toList.drop 1215 = dktL_law_46 := dk_seg dksL_law_45 24 rfl rfl
theorem dksL_law_47 : cL_law.data.toList.drop 1239 = dktL_law_47 := dk_seg dksL_law_46 24 rfl rfl
theorem dksL_law_48 : cL_law.data.toList.drop 1263 = dktL_law_48 := dk_seg dksL_law_47 24 rfl rfl
theorem dksL_law_49 : cL_law.data.toList.drop 1287 = dktL_law_49 := dk_seg dksL_law_48 24 rfl rfl
theorem dL_law_0 : decode cL_law 0 = .ok (.new 7, 3) := dk_187 0 7 (dk_at dksL_law_0 0 rfl rfl)
theorem dL_law_3 : decode cL_law 3 = .ok (.dup, 1) := dk_89 (dk_at dksL_law_0 3 rfl rfl)
theorem dL_law_4 : decode cL_law 4 = .ok (.invokespecial 9, 3) := dk_183 0 9 (dk_at dksL_law_0 4 rfl rfl)
theorem dL_law_7 : decode cL_law 7 = .ok (.astore_n 1, 1) := dk_76 (dk_at dksL_law_0 7 rfl rfl)
theorem dL_law_8 : decode cL_law 8 = .ok (.new 10, 3) := dk_187 0 10 (dk_at dksL_law_0 8 rfl rfl)
theorem dL_law_11 : decode cL_law 11 = .ok (.dup, 1) := dk_89 (dk_at dksL_law_0 11 rfl rfl)
theorem dL_law_12 : decode cL_law 12 = .ok (.invokespecial 12, 3) := dk_183 0 12 (dk_at dksL_law_0 12 rfl rfl)
theorem dL_law_15 : decode cL_law 15 = .ok (.astore_n 2, 1) := dk_77 (dk_at dksL_law_0 15 rfl rfl)
theorem dL_law_16 : decode cL_law 16 = .ok (.iconst 0, 1) := dk_3 (dk_at dksL_law_0 16 rfl rfl)
theorem dL_law_17 : decode cL_law 17 = .ok (.istore_n 3, 1) := dk_62 (dk_at dksL_law_0 17 rfl rfl)
theorem dL_law_18 : decode cL_law 18 = .ok (.iload_n 3, 1) := dk_29 (dk_at dksL_law_0 18 rfl rfl)
theorem dL_law_19 : decode cL_law 19 = .ok (.aload_n 0, 1) := dk_42 (dk_at dksL_law_0 19 rfl rfl)
theorem dL_law_20 : decode cL_law 20 = .ok (.arraylength, 1) := dk_190 (dk_at dksL_law_0 20 rfl rfl)
theorem dL_law_21 : decode cL_law 21 = .ok (.bipush 6, 2) := dk_16 6 (dk_at dksL_law_0 21 rfl rfl)
theorem dL_law_23 : decode cL_law 23 = .ok (.isub, 1) := dk_100 (dk_at dksL_law_0 23 rfl rfl)
theorem dL_law_24 : decode cL_law 24 = .ok (.if_icmp .gt 1270, 3) := dk_163 4 246 (dk_at dksL_law_1 0 rfl rfl)
theorem dL_law_27 : decode cL_law 27 = .ok (.aload_n 0, 1) := dk_42 (dk_at dksL_law_1 3 rfl rfl)
theorem dL_law_28 : decode cL_law 28 = .ok (.iload_n 3, 1) := dk_29 (dk_at dksL_law_1 4 rfl rfl)
theorem dL_law_29 : decode cL_law 29 = .ok (.iaload, 1) := dk_46 (dk_at dksL_law_1 5 rfl rfl)
theorem dL_law_30 : decode cL_law 30 = .ok (.bipush 63, 2) := dk_16 63 (dk_at dksL_law_1 6 rfl rfl)
theorem dL_law_32 : decode cL_law 32 = .ok (.iand, 1) := dk_126 (dk_at dksL_law_1 8 rfl rfl)
theorem dL_law_33 : decode cL_law 33 = .ok (.tableswitch 1255 0 36 #[163, 206, 249, 312, 335, 358, 371, 384, 397, 420, 443, 466, 489, 532, 565, 588, 631, 654, 677, 690, 713, 746, 779, 812, 835, 868, 901, 964, 1018, 1061, 1084, 1107, 1130, 1163, 1196, 1219, 1242], 163) := by decide +kernel
theorem dL_law_196 : decode cL_law 196 = .ok (.aload_n 1, 1) := dk_43 (dk_at dksL_law_3 0 rfl rfl)
theorem dL_law_197 : decode cL_law 197 = .ok (.aload_n 0, 1) := dk_42 (dk_at dksL_law_3 1 rfl rfl)
theorem dL_law_198 : decode cL_law 198 = .ok (.iload_n 3, 1) := dk_29 (dk_at dksL_law_3 2 rfl rfl)
theorem dL_law_199 : decode cL_law 199 = .ok (.iconst 1, 1) := dk_4 (dk_at dksL_law_3 3 rfl rfl)
theorem dL_law_200 : decode cL_law 200 = .ok (.iadd, 1) := dk_96 (dk_at dksL_law_3 4 rfl rfl)
theorem dL_law_201 : decode cL_law 201 = .ok (.iaload, 1) := dk_46 (dk_at dksL_law_3 5 rfl rfl)
theorem dL_law_202 : decode cL_law 202 = .ok (.aload_n 0, 1) := dk_42 (dk_at dksL_law_3 6 rfl rfl)
theorem dL_law_203 : decode cL_law 203 = .ok (.iload_n 3, 1) := dk_29 (dk_at dksL_law_3 7 rfl rfl)
theorem dL_law_204 : decode cL_law 204 = .ok (.iconst 2, 1) := dk_5 (dk_at dksL_law_3 8 rfl rfl)
theorem dL_law_205 : decode cL_law 205 = .ok (.iadd, 1) := dk_96 (dk_at dksL_law_3 9 rfl rfl)
theorem dL_law_206 : decode cL_law 206 = .ok (.iaload, 1) := dk_46 (dk_at dksL_law_3 10 rfl rfl)
theorem dL_law_207 : decode cL_law 207 = .ok (.aload_n 0, 1) := dk_42 (dk_at dksL_law_3 11 rfl rfl)
theorem dL_law_208 : decode cL_law 208 = .ok (.iload_n 3, 1) := dk_29 (dk_at dksL_law_3 12 rfl rfl)
theorem dL_law_209 : decode cL_law 209 = .ok (.iconst 3, 1) := dk_6 (dk_at dksL_law_3 13 rfl rfl)
theorem dL_law_210 : decode cL_law 210 = .ok (.iadd, 1) := dk_96 (dk_at dksL_law_3 14 rfl rfl)
theorem dL_law_211 : decode cL_law 211 = .ok (.iaload, 1) := dk_46 (dk_at dksL_law_3 15 rfl rfl)
theorem dL_law_212 : decode cL_law 212 = .ok (.invokevirtual 13, 3) := dk_182 0 13 (dk_at dksL_law_3 16 rfl rfl)
theorem dL_law_215 : decode cL_law 215 = .ok (.aload_n 2, 1) := dk_44 (dk_at dksL_law_3 19 rfl rfl)
theorem dL_law_216 : decode cL_law 216 = .ok (.aload_n 0, 1) := dk_42 (dk_at dksL_law_3 20 rfl rfl)
theorem dL_law_217 : decode cL_law 217 = .ok (.iload_n 3, 1) := dk_29 (dk_at dksL_law_3 21 rfl rfl)
theorem dL_law_218 : decode cL_law 218 = .ok (.iconst 1, 1) := dk_4 (dk_at dksL_law_3 22 rfl rfl)
theorem dL_law_219 : decode cL_law 219 = .ok (.iadd, 1) := dk_96 (dk_at dksL_law_3 23 rfl rfl)
theorem dL_law_220 : decode cL_law 220 = .ok (.iaload, 1) := dk_46 (dk_at dksL_law_4 0 rfl rfl)
theorem dL_law_221 : decode cL_law 221 = .ok (.aload_n 0, 1) := dk_42 (dk_at dksL_law_4 1 rfl rfl)
theorem dL_law_222 : decode cL_law 222 = .ok (.iload_n 3, 1) := dk_29 (dk_at dksL_law_4 2 rfl rfl)
theorem dL_law_223 : decode cL_law 223 = .ok (.iconst 2, 1) := dk_5 (dk_at dksL_law_4 3 rfl rfl)
theorem dL_law_224 : decode cL_law 224 = .ok (.iadd, 1) := dk_96 (dk_at dksL_law_4 4 rfl rfl)
theorem dL_law_225 : decode cL_law 225 = .ok (.iaload, 1) := dk_46 (dk_at dksL_law_4 5 rfl rfl)
theorem dL_law_226 : decode cL_law 226 = .ok (.aload_n 0, 1) := dk_42 (dk_at dksL_law_4 6 rfl rfl)
theorem dL_law_227 : decode cL_law 227 = .ok (.iload_n 3, 1) := dk_29 (dk_at dksL_law_4 7 rfl rfl)
theorem dL_law_228 : decode cL_law 228 = .ok (.iconst 3, 1) := dk_6 (dk_at dksL_law_4 8 rfl rfl)
theorem dL_law_229 : decode cL_law 229 = .ok (.iadd, 1) := dk_96 (dk_at dksL_law_4 9 rfl rfl)
theorem dL_law_230 : decode cL_law 230 = .ok (.iaload, 1) := dk_46 (dk_at dksL_law_4 10 rfl rfl)
theorem dL_law_231 : decode cL_law 231 = .ok (.invokevirtual 17, 3) := dk_182 0 17 (dk_at dksL_law_4 11 rfl rfl)
theorem dL_law_234 : decode cL_law 234 = .ok (.if_icmp .eq 1054, 3) := dk_159 4 30 (dk_at dksL_law_4 14 rfl rfl)
theorem dL_law_237 : decode cL_law 237 = .ok (.iconst 0, 1) := dk_3 (dk_at dksL_law_4 17 rfl rfl)
theorem dL_law_238 : decode cL_law 238 = .ok (.ireturn, 1) := dk_172 (dk_at dksL_law_4 18 rfl rfl)
theorem dL_law_239 : decode cL_law 239 = .ok (.aload_n 1, 1) := dk_43 (dk_at dksL_law_4 19 rfl rfl)
theorem dL_law_240 : decode cL_law 240 = .ok (.aload_n 0, 1) := dk_42 (dk_at dksL_law_4 20 rfl rfl)
theorem dL_law_241 : decode cL_law 241 = .ok (.iload_n 3, 1) := dk_29 (dk_at dksL_law_4 21 rfl rfl)
theorem dL_law_242 : decode cL_law 242 = .ok (.iconst 1, 1) := dk_4 (dk_at dksL_law_4 22 rfl rfl)
theorem dL_law_243 : decode cL_law 243 = .ok (.iadd, 1) := dk_96 (dk_at dksL_law_4 23 rfl rfl)
theorem dL_law_244 : decode cL_law 244 = .ok (.iaload, 1) := dk_46 (dk_at dksL_law_5 0 rfl rfl)
theorem dL_law_245 : decode cL_law 245 = .ok (.aload_n 0, 1) := dk_42 (dk_at dksL_law_5 1 rfl rfl)
theorem dL_law_246 : decode cL_law 246 = .ok (.iload_n 3, 1) := dk_29 (dk_at dksL_law_5 2 rfl rfl)
theorem dL_law_247 : decode cL_law 247 = .ok (.iconst 2, 1) := dk_5 (dk_at dksL_law_5 3 rfl rfl)
theorem dL_law_248 : decode cL_law 248 = .ok (.iadd, 1) := dk_96 (dk_at dksL_law_5 4 rfl rfl)
theorem dL_law_249 : decode cL_law 249 = .ok (.iaload, 1) := dk_46 (dk_at dksL_law_5 5 rfl rfl)
theorem dL_law_250 : decode cL_law 250 = .ok (.aload_n 0, 1) := dk_42 (dk_at dksL_law_5 6 rfl rfl)
theorem dL_law_251 : decode cL_law 251 = .ok (.iload_n 3, 1) := dk_29 (dk_at dksL_law_5 7 rfl rfl)
theorem dL_law_252 : decode cL_law 252 = .ok (.iconst 3, 1) := dk_6 (dk_at dksL_law_5 8 rfl rfl)
theorem dL_law_253 : decode cL_law 253 = .ok (.iadd, 1) := dk_96 (dk_at dksL_law_5 9 rfl rfl)
theorem dL_law_254 : decode cL_law 254 = .ok (.iaload, 1) := dk_46 (dk_at dksL_law_5 10 rfl rfl)
theorem dL_law_255 : decode cL_law 255 = .ok (.invokevirtual 18, 3) := dk_182 0 18 (dk_at dksL_law_5 11 rfl rfl)
theorem dL_law_258 : decode cL_law 258 = .ok (.aload_n 2, 1) := dk_44 (dk_at dksL_law_5 14 rfl rfl)
theorem dL_law_259 : decode cL_law 259 = .ok (.aload_n 0, 1) := dk_42 (dk_at dksL_law_5 15 rfl rfl)
theorem dL_law_260 : decode cL_law 260 = .ok (.iload_n 3, 1) := dk_29 (dk_at dksL_law_5 16 rfl rfl)
theorem dL_law_261 : decode cL_law 261 = .ok (.iconst 1, 1) := dk_4 (dk_at dksL_law_5 17 rfl rfl)
theorem dL_law_262 : decode cL_law 262 = .ok (.iadd, 1) := dk_96 (dk_at dksL_law_5 18 rfl rfl)
theorem dL_law_263 : decode cL_law 263 = .ok (.iaload, 1) := dk_46 (dk_at dksL_law_5 19 rfl rfl)
theorem dL_law_264 : decode cL_law 264 = .ok (.aload_n 0, 1) := dk_42 (dk_at dksL_law_5 20 rfl rfl)
theorem dL_law_265 : decode cL_law 265 = .ok (.iload_n 3, 1) := dk_29 (dk_at dksL_law_5 21 rfl rfl)
theorem dL_law_266 : decode cL_law 266 = .ok (.iconst 2, 1) := dk_5 (dk_at dksL_law_5 22 rfl rfl)
theorem dL_law_267 : decode cL_law 267 = .ok (.iadd, 1) := dk_96 (dk_at dksL_law_5 23 rfl rfl)
theorem dL_law_268 : decode cL_law 268 = .ok (.iaload, 1) := dk_46 (dk_at dksL_law_6 0 rfl rfl)
theorem dL_law_269 : decode cL_law 269 = .ok (.aload_n 0, 1) := dk_42 (dk_at dksL_law_6 1 rfl rfl)
theorem dL_law_270 : decode cL_law 270 = .ok (.iload_n 3, 1) := dk_29 (dk_at dksL_law_6 2 rfl rfl)
theorem dL_law_271 : decode cL_law 271 = .ok (.iconst 3, 1) := dk_6 (dk_at dksL_law_6 3 rfl rfl)
theorem dL_law_272 : decode cL_law 272 = .ok (.iadd, 1) := dk_96 (dk_at dksL_law_6 4 rfl rfl)
theorem dL_law_273 : decode cL_law 273 = .ok (.iaload, 1) := dk_46 (dk_at dksL_law_6 5 rfl rfl)
theorem dL_law_274 : decode cL_law 274 = .ok (.invokevirtual 21, 3) := dk_182 0 21 (dk_at dksL_law_6 6 rfl rfl)
theorem dL_law_277 : decode cL_law 277 = .ok (.if_icmp .eq 1011, 3) := dk_159 3 243 (dk_at dksL_law_6 9 rfl rfl)
theorem dL_law_280 : decode cL_law 280 = .ok (.iconst 0, 1) := dk_3 (dk_at dksL_law_6 12 rfl rfl)
theorem dL_law_281 : decode cL_law 281 = .ok (.ireturn, 1) := dk_172 (dk_at dksL_law_6 13 rfl rfl)
theorem dL_law_282 : decode cL_law 282 = .ok (.aload_n 1, 1) := dk_43 (dk_at dksL_law_6 14 rfl rfl)
theorem dL_law_283 : decode cL_law 283 = .ok (.aload_n 0, 1) := dk_42 (dk_at dksL_law_6 15 rfl rfl)
theorem dL_law_284 : decode cL_law 284 = .ok (.iload_n 3, 1) := dk_29 (dk_at dksL_law_6 16 rfl rfl)
theorem dL_law_285 : decode cL_law 285 = .ok (.iconst 1, 1) := dk_4 (dk_at dksL_law_6 17 rfl rfl)
theorem dL_law_286 : decode cL_law 286 = .ok (.iadd, 1) := dk_96 (dk_at dksL_law_6 18 rfl rfl)
theorem dL_law_287 : decode cL_law 287 = .ok (.iaload, 1) := dk_46 (dk_at dksL_law_6 19 rfl rfl)
theorem dL_law_288 : decode cL_law 288 = .ok (.aload_n 0, 1) := dk_42 (dk_at dksL_law_6 20 rfl rfl)
theorem dL_law_289 : decode cL_law 289 = .ok (.iload_n 3, 1) := dk_29 (dk_at dksL_law_6 21 rfl rfl)
theorem dL_law_290 : decode cL_law 290 = .ok (.iconst 2, 1) := dk_5 (dk_at dksL_law_6 22 rfl rfl)
theorem dL_law_291 : decode cL_law 291 = .ok (.iadd, 1) := dk_96 (dk_at dksL_law_6 23 rfl rfl)
theorem dL_law_292 : decode cL_law 292 = .ok (.iaload, 1) := dk_46 (dk_at dksL_law_7 0 rfl rfl)
theorem dL_law_293 : decode cL_law 293 = .ok (.aload_n 0, 1) := dk_42 (dk_at dksL_law_7 1 rfl rfl)
theorem dL_law_294 : decode cL_law 294 = .ok (.iload_n 3, 1) := dk_29 (dk_at dksL_law_7 2 rfl rfl)
theorem dL_law_295 : decode cL_law 295 = .ok (.iconst 3, 1) := dk_6 (dk_at dksL_law_7 3 rfl rfl)
theorem dL_law_296 : decode cL_law 296 = .ok (.iadd, 1) := dk_96 (dk_at dksL_law_7 4 rfl rfl)
theorem dL_law_297 : decode cL_law 297 = .ok (.iaload, 1) := dk_46 (dk_at dksL_law_7 5 rfl rfl)
theorem dL_law_298 : decode cL_law 298 = .ok (.aload_n 0, 1) := dk_42 (dk_at dksL_law_7 6 rfl rfl)
theorem dL_law_299 : decode cL_law 299 = .ok (.iload_n 3, 1) := dk_29 (dk_at dksL_law_7 7 rfl rfl)
theorem dL_law_300 : decode cL_law 300 = .ok (.iconst 4, 1) := dk_7 (dk_at dksL_law_7 8 rfl rfl)
theorem dL_law_301 : decode cL_law 301 = .ok (.iadd, 1) := dk_96 (dk_at dksL_law_7 9 rfl rfl)
theorem dL_law_302 : decode cL_law 302 = .ok (.iaload, 1) := dk_46 (dk_at dksL_law_7 10 rfl rfl)
theorem dL_law_303 : decode cL_law 303 = .ok (.aload_n 0, 1) := dk_42 (dk_at dksL_law_7 11 rfl rfl)
theorem dL_law_304 : decode cL_law 304 = .ok (.iload_n 3, 1) := dk_29 (dk_at dksL_law_7 12 rfl rfl)
theorem dL_law_305 : decode cL_law 305 = .ok (.iconst 5, 1) := dk_8 (dk_at dksL_law_7 13 rfl rfl)
theorem dL_law_306 : decode cL_law 306 = .ok (.iadd, 1) := dk_96 (dk_at dksL_law_7 14 rfl rfl)
theorem dL_law_307 : decode cL_law 307 = .ok (.iaload, 1) := dk_46 (dk_at dksL_law_7 15 rfl rfl)
theorem dL_law_308 : decode cL_law 308 = .ok (.invokevirtual 22, 3) := dk_182 0 22 (dk_at dksL_law_7 16 rfl rfl)
theorem dL_law_311 : decode cL_law 311 = .ok (.aload_n 2, 1) := dk_44 (dk_at dksL_law_7 19 rfl rfl)
theorem dL_law_312 : decode cL_law 312 = .ok (.aload_n 0, 1) := dk_42 (dk_at dksL_law_7 20 rfl rfl)
theorem dL_law_313 : decode cL_law 313 = .ok (.iload_n 3, 1) := dk_29 (dk_at dksL_law_7 21 rfl rfl)
theorem dL_law_314 : decode cL_law 314 = .ok (.iconst 1, 1) := dk_4 (dk_at dksL_law_7 22 rfl rfl)
theorem dL_law_315 : decode cL_law 315 = .ok (.iadd, 1) := dk_96 (dk_at dksL_law_7 23 rfl rfl)
theorem dL_law_316 : decode cL_law 316 = .ok (.iaload, 1) := dk_46 (dk_at dksL_law_8 0 rfl rfl)
theorem dL_law_317 : decode cL_law 317 = .ok (.aload_n 0, 1) := dk_42 (dk_at dksL_law_8 1 rfl rfl)
theorem dL_law_318 : decode cL_law 318 = .ok (.iload_n 3, 1) := dk_29 (dk_at dksL_law_8 2 rfl rfl)
theorem dL_law_319 : decode cL_law 319 = .ok (.iconst 2, 1) := dk_5 (dk_at dksL_law_8 3 rfl rfl)
theorem dL_law_320 : decode cL_law 320 = .ok (.iadd, 1) := dk_96 (dk_at dksL_law_8 4 rfl rfl)
theorem dL_law_321 : decode cL_law 321 = .ok (.iaload, 1) := dk_46 (dk_at dksL_law_8 5 rfl rfl)
theorem dL_law_322 : decode cL_law 322 = .ok (.aload_n 0, 1) := dk_42 (dk_at dksL_law_8 6 rfl rfl)
theorem dL_law_323 : decode cL_law 323 = .ok (.iload_n 3, 1) := dk_29 (dk_at dksL_law_8 7 rfl rfl)
theorem dL_law_324 : decode cL_law 324 = .ok (.iconst 3, 1) := dk_6 (dk_at dksL_law_8 8 rfl rfl)
theorem dL_law_325 : decode cL_law 325 = .ok (.iadd, 1) := dk_96 (dk_at dksL_law_8 9 rfl rfl)
theorem dL_law_326 : decode cL_law 326 = .ok (.iaload, 1) := dk_46 (dk_at dksL_law_8 10 rfl rfl)
theorem dL_law_327 : decode cL_law 327 = .ok (.aload_n 0, 1) := dk_42 (dk_at dksL_law_8 11 rfl rfl)
theorem dL_law_328 : decode cL_law 328 = .ok (.iload_n 3, 1) := dk_29 (dk_at dksL_law_8 12 rfl rfl)
theorem dL_law_329 : decode cL_law 329 = .ok (.iconst 4, 1) := dk_7 (dk_at dksL_law_8 13 rfl rfl)
theorem dL_law_330 : decode cL_law 330 = .ok (.iadd, 1) := dk_96 (dk_at dksL_law_8 14 rfl rfl)
theorem dL_law_331 : decode cL_law 331 = .ok (.iaload, 1) := dk_46 (dk_at dksL_law_8 15 rfl rfl)
theorem dL_law_332 : decode cL_law 332 = .ok (.aload_n 0, 1) := dk_42 (dk_at dksL_law_8 16 rfl rfl)
theorem dL_law_333 : decode cL_law 333 = .ok (.iload_n 3, 1) := dk_29 (dk_at dksL_law_8 17 rfl rfl)
theorem dL_law_334 : decode cL_law 334 = .ok (.iconst 5, 1) := dk_8 (dk_at dksL_law_8 18 rfl rfl)
theorem dL_law_335 : decode cL_law 335 = .ok (.iadd, 1) := dk_96 (dk_at dksL_law_8 19 rfl rfl)
theorem dL_law_336 : decode cL_law 336 = .ok (.iaload, 1) := dk_46 (dk_at dksL_law_8 20 rfl rfl)
theorem dL_law_337 : decode cL_law 337 = .ok (.invokevirtual 26, 3) := dk_182 0 26 (dk_at dksL_law_8 21 rfl rfl)
theorem dL_law_340 : decode cL_law 340 = .ok (.if_icmp .eq 948, 3) := dk_159 3 180 (dk_at dksL_law_9 0 rfl rfl)
theorem dL_law_343 : decode cL_law 343 = .ok (.iconst 0, 1) := dk_3 (dk_at dksL_law_9 3 rfl rfl)
theorem dL_law_344 : decode cL_law 344 = .ok (.ireturn, 1) := dk_172 (dk_at dksL_law_9 4 rfl rfl)
theorem dL_law_345 : decode cL_law 345 = .ok (.aload_n 1, 1) := dk_43 (dk_at dksL_law_9 5 rfl rfl)
theorem dL_law_346 : decode cL_law 346 = .ok (.aload_n 0, 1) := dk_42 (dk_at dksL_law_9 6 rfl rfl)
theorem dL_law_347 : decode cL_law 347 = .ok (.iload_n 3, 1) := dk_29 (dk_at dksL_law_9 7 rfl rfl)
theorem dL_law_348 : decode cL_law 348 = .ok (.iconst 1, 1) := dk_4 (dk_at dksL_law_9 8 rfl rfl)
theorem dL_law_349 : decode cL_law 349 = .ok (.iadd, 1) := dk_96 (dk_at dksL_law_9 9 rfl rfl)
theorem dL_law_350 : decode cL_law 350 = .ok (.iaload, 1) := dk_46 (dk_at dksL_law_9 10 rfl rfl)
theorem dL_law_351 : decode cL_law 351 = .ok (.invokevirtual 27, 3) := dk_182 0 27 (dk_at dksL_law_9 11 rfl rfl)
theorem dL_law_354 : decode cL_law 354 = .ok (.aload_n 2, 1) := dk_44 (dk_at dksL_law_9 14 rfl rfl)
theorem dL_law_355 : decode cL_law 355 = .ok (.aload_n 0, 1) := dk_42 (dk_at dksL_law_9 15 rfl rfl)
theorem dL_law_356 : decode cL_law 356 = .ok (.iload_n 3, 1) := dk_29 (dk_at dksL_law_9 16 rfl rfl)
theorem dL_law_357 : decode cL_law 357 = .ok (.iconst 1, 1) := dk_4 (dk_at dksL_law_9 17 rfl rfl)
theorem dL_law_358 : decode cL_law 358 = .ok (.iadd, 1) := dk_96 (dk_at dksL_law_9 18 rfl rfl)
theorem dL_law_359 : decode cL_law 359 = .ok (.iaload, 1) := dk_46 (dk_at dksL_law_9 19 rfl rfl)
theorem dL_law_360 : decode cL_law 360 = .ok (.invokevirtual 31, 3) := dk_182 0 31 (dk_at dksL_law_9 20 rfl rfl)
theorem dL_law_363 : decode cL_law 363 = .ok (.if_icmp .eq 925, 3) := dk_159 3 157 (dk_at dksL_law_10 0 rfl rfl)
theorem dL_law_366 : decode cL_law 366 = .ok (.iconst 0, 1) := dk_3 (dk_at dksL_law_10 3 rfl rfl)
theorem dL_law_367 : decode cL_law 367 = .ok (.ireturn, 1) := dk_172 (dk_at dksL_law_10 4 rfl rfl)
theorem dL_law_368 : decode cL_law 368 = .ok (.aload_n 1, 1) := dk_43 (dk_at dksL_law_10 5 rfl rfl)
theorem dL_law_369 : decode cL_law 369 = .ok (.aload_n 0, 1) := dk_42 (dk_at dksL_law_10 6 rfl rfl)
theorem dL_law_370 : decode cL_law 370 = .ok (.iload_n 3, 1) := dk_29 (dk_at dksL_law_10 7 rfl rfl)
theorem dL_law_371 : decode cL_law 371 = .ok (.iconst 1, 1) := dk_4 (dk_at dksL_law_10 8 rfl rfl)
theorem dL_law_372 : decode cL_law 372 = .ok (.iadd, 1) := dk_96 (dk_at dksL_law_10 9 rfl rfl)
theorem dL_law_373 : decode cL_law 373 = .ok (.iaload, 1) := dk_46 (dk_at dksL_law_10 10 rfl rfl)
theorem dL_law_374 : decode cL_law 374 = .ok (.invokevirtual 32, 3) := dk_182 0 32 (dk_at dksL_law_10 11 rfl rfl)
theorem dL_law_377 : decode cL_law 377 = .ok (.aload_n 2, 1) := dk_44 (dk_at dksL_law_10 14 rfl rfl)
theorem dL_law_378 : decode cL_law 378 = .ok (.aload_n 0, 1) := dk_42 (dk_at dksL_law_10 15 rfl rfl)
theorem dL_law_379 : decode cL_law 379 = .ok (.iload_n 3, 1) := dk_29 (dk_at dksL_law_10 16 rfl rfl)
theorem dL_law_380 : decode cL_law 380 = .ok (.iconst 1, 1) := dk_4 (dk_at dksL_law_10 17 rfl rfl)
theorem dL_law_381 : decode cL_law 381 = .ok (.iadd, 1) := dk_96 (dk_at dksL_law_10 18 rfl rfl)
theorem dL_law_382 : decode cL_law 382 = .ok (.iaload, 1) := dk_46 (dk_at dksL_law_10 19 rfl rfl)
theorem dL_law_383 : decode cL_law 383 = .ok (.invokevirtual 35, 3) := dk_182 0 35 (dk_at dksL_law_10 20 rfl rfl)
theorem dL_law_386 : decode cL_law 386 = .ok (.if_icmp .eq 902, 3) := dk_159 3 134 (dk_at dksL_law_11 0 rfl rfl)
theorem dL_law_389 : decode cL_law 389 = .ok (.iconst 0, 1) := dk_3 (dk_at dksL_law_11 3 rfl rfl)
theorem dL_law_390 : decode cL_law 390 = .ok (.ireturn, 1) := dk_172 (dk_at dksL_law_11 4 rfl rfl)
theorem dL_law_391 : decode cL_law 391 = .ok (.aload_n 1, 1) := dk_43 (dk_at dksL_law_11 5 rfl rfl)
theorem dL_law_392 : decode cL_law 392 = .ok (.invokevirtual 36, 3) := dk_182 0 36 (dk_at dksL_law_11 6 rfl rfl)
theorem dL_law_395 : decode cL_law 395 = .ok (.aload_n 2, 1) := dk_44 (dk_at dksL_law_11 9 rfl rfl)
theorem dL_law_396 : decode cL_law 396 = .ok (.invokevirtual 40, 3) := dk_182 0 40 (dk_at dksL_law_11 10 rfl rfl)
theorem dL_law_399 : decode cL_law 399 = .ok (.if_icmp .eq 889, 3) := dk_159 3 121 (dk_at dksL_law_11 13 rfl rfl)
theorem dL_law_402 : decode cL_law 402 = .ok (.iconst 0, 1) := dk_3 (dk_at dksL_law_11 16 rfl rfl)
theorem dL_law_403 : decode cL_law 403 = .ok (.ireturn, 1) := dk_172 (dk_at dksL_law_11 17 rfl rfl)
theorem dL_law_404 : decode cL_law 404 = .ok (.aload_n 1, 1) := dk_43 (dk_at dksL_law_11 18 rfl rfl)
theorem dL_law_405 : decode cL_law 405 = .ok (.invokevirtual 41, 3) := dk_182 0 41 (dk_at dksL_law_11 19 rfl rfl)
theorem dL_law_408 : decode cL_law 408 = .ok (.aload_n 2, 1) := dk_44 (dk_at dksL_law_11 22 rfl rfl)
theorem dL_law_409 : decode cL_law 409 = .ok (.invokevirtual 44, 3) := dk_182 0 44 (dk_at dksL_law_12 0 rfl rfl)
theorem dL_law_412 : decode cL_law 412 = .ok (.if_icmp .eq 876, 3) := dk_159 3 108 (dk_at dksL_law_12 3 rfl rfl)
theorem dL_law_415 : decode cL_law 415 = .ok (.iconst 0, 1) := dk_3 (dk_at dksL_law_12 6 rfl rfl)
theorem dL_law_416 : decode cL_law 416 = .ok (.ireturn, 1) := dk_172 (dk_at dksL_law_12 7 rfl rfl)
theorem dL_law_417 : decode cL_law 417 = .ok (.aload_n 1, 1) := dk_43 (dk_at dksL_law_12 8 rfl rfl)
theorem dL_law_418 : decode cL_law 418 = .ok (.invokevirtual 45, 3) := dk_182 0 45 (dk_at dksL_law_12 9 rfl rfl)
theorem dL_law_421 : decode cL_law 421 = .ok (.aload_n 2, 1) := dk_44 (dk_at dksL_law_12 12 rfl rfl)
theorem dL_law_422 : decode cL_law 422 = .ok (.invokevirtual 48, 3) := dk_182 0 48 (dk_at dksL_law_12 13 rfl rfl)
theorem dL_law_425 : decode cL_law 425 = .ok (.if_icmp .eq 863, 3) := dk_159 3 95 (dk_at dksL_law_12 16 rfl rfl)
theorem dL_law_428 : decode cL_law 428 = .ok (.iconst 0, 1) := dk_3 (dk_at dksL_law_12 19 rfl rfl)
theorem dL_law_429 : decode cL_law 429 = .ok (.ireturn, 1) := dk_172 (dk_at dksL_law_12 20 rfl rfl)
theorem dL_law_430 : decode cL_law 430 = .ok (.aload_n 1, 1) := dk_43 (dk_at dksL_law_12 21 rfl rfl)
theorem dL_law_431 : decode cL_law 431 = .ok (.aload_n 0, 1) := dk_42 (dk_at dksL_law_12 22 rfl rfl)
theorem dL_law_432 : decode cL_law 432 = .ok (.iload_n 3, 1) := dk_29 (dk_at dksL_law_12 23 rfl rfl)
theorem dL_law_433 : decode cL_law 433 = .ok (.iconst 1, 1) := dk_4 (dk_at dksL_law_13 0 rfl rfl)
theorem dL_law_434 : decode cL_law 434 = .ok (.iadd, 1) := dk_96 (dk_at dksL_law_13 1 rfl rfl)
theorem dL_law_435 : decode cL_law 435 = .ok (.iaload, 1) := dk_46 (dk_at dksL_law_13 2 rfl rfl)
theorem dL_law_436 : decode cL_law 436 = .ok (.invokevirtual 49, 3) := dk_182 0 49 (dk_at dksL_law_13 3 rfl rfl)
theorem dL_law_439 : decode cL_law 439 = .ok (.aload_n 2, 1) := dk_44 (dk_at dksL_law_13 6 rfl rfl)
theorem dL_law_440 : decode cL_law 440 = .ok (.aload_n 0, 1) := dk_42 (dk_at dksL_law_13 7 rfl rfl)
theorem dL_law_441 : decode cL_law 441 = .ok (.iload_n 3, 1) := dk_29 (dk_at dksL_law_13 8 rfl rfl)
theorem dL_law_442 : decode cL_law 442 = .ok (.iconst 1, 1) := dk_4 (dk_at dksL_law_13 9 rfl rfl)
theorem dL_law_443 : decode cL_law 443 = .ok (.iadd, 1) := dk_96 (dk_at dksL_law_13 10 rfl rfl)
theorem dL_law_444 : decode cL_law 444 = .ok (.iaload, 1) := dk_46 (dk_at dksL_law_13 11 rfl rfl)
theorem dL_law_445 : decode cL_law 445 = .ok (.invokevirtual 52, 3) := dk_182 0 52 (dk_at dksL_law_13 12 rfl rfl)
theorem dL_law_448 : decode cL_law 448 = .ok (.if_icmp .eq 840, 3) := dk_159 3 72 (dk_at dksL_law_13 15 rfl rfl)
theorem dL_law_451 : decode cL_law 451 = .ok (.iconst 0, 1) := dk_3 (dk_at dksL_law_13 18 rfl rfl)
theorem dL_law_452 : decode cL_law 452 = .ok (.ireturn, 1) := dk_172 (dk_at dksL_law_13 19 rfl rfl)
theorem dL_law_453 : decode cL_law 453 = .ok (.aload_n 1, 1) := dk_43 (dk_at dksL_law_13 20 rfl rfl)
theorem dL_law_454 : decode cL_law 454 = .ok (.aload_n 0, 1) := dk_42 (dk_at dksL_law_13 21 rfl rfl)
theorem dL_law_455 : decode cL_law 455 = .ok (.iload_n 3, 1) := dk_29 (dk_at dksL_law_13 22 rfl rfl)
theorem dL_law_456 : decode cL_law 456 = .ok (.iconst 1, 1) := dk_4 (dk_at dksL_law_13 23 rfl rfl)
theorem dL_law_457 : decode cL_law 457 = .ok (.iadd, 1) := dk_96 (dk_at dksL_law_14 0 rfl rfl)
theorem dL_law_458 : decode cL_law 458 = .ok (.iaload, 1) := dk_46 (dk_at dksL_law_14 1 rfl rfl)
theorem dL_law_459 : decode cL_law 459 = .ok (.invokevirtual 53, 3) := dk_182 0 53 (dk_at dksL_law_14 2 rfl rfl)
theorem dL_law_462 : decode cL_law 462 = .ok (.aload_n 2, 1) := dk_44 (dk_at dksL_law_14 5 rfl rfl)
theorem dL_law_463 : decode cL_law 463 = .ok (.aload_n 0, 1) := dk_42 (dk_at dksL_law_14 6 rfl rfl)
theorem dL_law_464 : decode cL_law 464 = .ok (.iload_n 3, 1) := dk_29 (dk_at dksL_law_14 7 rfl rfl)
theorem dL_law_465 : decode cL_law 465 = .ok (.iconst 1, 1) := dk_4 (dk_at dksL_law_14 8 rfl rfl)
theorem dL_law_466 : decode cL_law 466 = .ok (.iadd, 1) := dk_96 (dk_at dksL_law_14 9 rfl rfl)
theorem dL_law_467 : decode cL_law 467 = .ok (.iaload, 1) := dk_46 (dk_at dksL_law_14 10 rfl rfl)
theorem dL_law_468 : decode cL_law 468 = .ok (.invokevirtual 56, 3) := dk_182 0 56 (dk_at dksL_law_14 11 rfl rfl)
theorem dL_law_471 : decode cL_law 471 = .ok (.if_icmp .eq 817, 3) := dk_159 3 49 (dk_at dksL_law_14 14 rfl rfl)
theorem dL_law_474 : decode cL_law 474 = .ok (.iconst 0, 1) := dk_3 (dk_at dksL_law_14 17 rfl rfl)
theorem dL_law_475 : decode cL_law 475 = .ok (.ireturn, 1) := dk_172 (dk_at dksL_law_14 18 rfl rfl)
theorem dL_law_476 : decode cL_law 476 = .ok (.aload_n 1, 1) := dk_43 (dk_at dksL_law_14 19 rfl rfl)
theorem dL_law_477 : decode cL_law 477 = .ok (.aload_n 0, 1) := dk_42 (dk_at dksL_law_14 20 rfl rfl)
theorem dL_law_478 : decode cL_law 478 = .ok (.iload_n 3, 1) := dk_29 (dk_at dksL_law_14 21 rfl rfl)
theorem dL_law_479 : decode cL_law 479 = .ok (.iconst 1, 1) := dk_4 (dk_at dksL_law_14 22 rfl rfl)
theorem dL_law_480 : decode cL_law 480 = .ok (.iadd, 1) := dk_96 (dk_at dksL_law_14 23 rfl rfl)
theorem dL_law_481 : decode cL_law 481 = .ok (.iaload, 1) := dk_46 (dk_at dksL_law_15 0 rfl rfl)
theorem dL_law_482 : decode cL_law 482 = .ok (.invokevirtual 57, 3) := dk_182 0 57 (dk_at dksL_law_15 1 rfl rfl)
theorem dL_law_485 : decode cL_law 485 = .ok (.aload_n 2, 1) := dk_44 (dk_at dksL_law_15 4 rfl rfl)
theorem dL_law_486 : decode cL_law 486 = .ok (.aload_n 0, 1) := dk_42 (dk_at dksL_law_15 5 rfl rfl)
theorem dL_law_487 : decode cL_law 487 = .ok (.iload_n 3, 1) := dk_29 (dk_at dksL_law_15 6 rfl rfl)
theorem dL_law_488 : decode cL_law 488 = .ok (.iconst 1, 1) := dk_4 (dk_at dksL_law_15 7 rfl rfl)
theorem dL_law_489 : decode cL_law 489 = .ok (.iadd, 1) := dk_96 (dk_at dksL_law_15 8 rfl rfl)
theorem dL_law_490 : decode cL_law 490 = .ok (.iaload, 1) := dk_46 (dk_at dksL_law_15 9 rfl rfl)
theorem dL_law_491 : decode cL_law 491 = .ok (.invokevirtual 60, 3) := dk_182 0 60 (dk_at dksL_law_15 10 rfl rfl)
theorem dL_law_494 : decode cL_law 494 = .ok (.if_icmp .eq 794, 3) := dk_159 3 26 (dk_at dksL_law_15 13 rfl rfl)
theorem dL_law_497 : decode cL_law 497 = .ok (.iconst 0, 1) := dk_3 (dk_at dksL_law_15 16 rfl rfl)
theorem dL_law_498 : decode cL_law 498 = .ok (.ireturn, 1) := dk_172 (dk_at dksL_law_15 17 rfl rfl)
theorem dL_law_499 : decode cL_law 499 = .ok (.aload_n 1, 1) := dk_43 (dk_at dksL_law_15 18 rfl rfl)
theorem dL_law_500 : decode cL_law 500 = .ok (.aload_n 0, 1) := dk_42 (dk_at dksL_law_15 19 rfl rfl)
theorem dL_law_501 : decode cL_law 501 = .ok (.iload_n 3, 1) := dk_29 (dk_at dksL_law_15 20 rfl rfl)
theorem dL_law_502 : decode cL_law 502 = .ok (.iconst 1, 1) := dk_4 (dk_at dksL_law_15 21 rfl rfl)
theorem dL_law_503 : decode cL_law 503 = .ok (.iadd, 1) := dk_96 (dk_at dksL_law_15 22 rfl rfl)
theorem dL_law_504 : decode cL_law 504 = .ok (.iaload, 1) := dk_46 (dk_at dksL_law_15 23 rfl rfl)
theorem dL_law_505 : decode cL_law 505 = .ok (.invokevirtual 61, 3) := dk_182 0 61 (dk_at dksL_law_16 0 rfl rfl)
theorem dL_law_508 : decode cL_law 508 = .ok (.aload_n 2, 1) := dk_44 (dk_at dksL_law_16 3 rfl rfl)
theorem dL_law_509 : decode cL_law 509 = .ok (.aload_n 0, 1) := dk_42 (dk_at dksL_law_16 4 rfl rfl)
theorem dL_law_510 : decode cL_law 510 = .ok (.iload_n 3, 1) := dk_29 (dk_at dksL_law_16 5 rfl rfl)
theorem dL_law_511 : decode cL_law 511 = .ok (.iconst 1, 1) := dk_4 (dk_at dksL_law_16 6 rfl rfl)
theorem dL_law_512 : decode cL_law 512 = .ok (.iadd, 1) := dk_96 (dk_at dksL_law_16 7 rfl rfl)
theorem dL_law_513 : decode cL_law 513 = .ok (.iaload, 1) := dk_46 (dk_at dksL_law_16 8 rfl rfl)
theorem dL_law_514 : decode cL_law 514 = .ok (.invokevirtual 64, 3) := dk_182 0 64 (dk_at dksL_law_16 9 rfl rfl)
theorem dL_law_517 : decode cL_law 517 = .ok (.if_icmp .eq 771, 3) := dk_159 3 3 (dk_at dksL_law_16 12 rfl rfl)
theorem dL_law_520 : decode cL_law 520 = .ok (.iconst 0, 1) := dk_3 (dk_at dksL_law_16 15 rfl rfl)
theorem dL_law_521 : decode cL_law 521 = .ok (.ireturn, 1) := dk_172 (dk_at dksL_law_16 16 rfl rfl)
theorem dL_law_522 : decode cL_law 522 = .ok (.aload_n 1, 1) := dk_43 (dk_at dksL_law_16 17 rfl rfl)
theorem dL_law_523 : decode cL_law 523 = .ok (.aload_n 0, 1) := dk_42 (dk_at dksL_law_16 18 rfl rfl)
theorem dL_law_524 : decode cL_law 524 = .ok (.iload_n 3, 1) := dk_29 (dk_at dksL_law_16 19 rfl rfl)
theorem dL_law_525 : decode cL_law 525 = .ok (.iconst 1, 1) := dk_4 (dk_at dksL_law_16 20 rfl rfl)
theorem dL_law_526 : decode cL_law 526 = .ok (.iadd, 1) := dk_96 (dk_at dksL_law_16 21 rfl rfl)
theorem dL_law_527 : decode cL_law 527 = .ok (.iaload, 1) := dk_46 (dk_at dksL_law_16 22 rfl rfl)
theorem dL_law_528 : decode cL_law 528 = .ok (.aload_n 0, 1) := dk_42 (dk_at dksL_law_16 23 rfl rfl)
theorem dL_law_529 : decode cL_law 529 = .ok (.iload_n 3, 1) := dk_29 (dk_at dksL_law_17 0 rfl rfl)
theorem dL_law_530 : decode cL_law 530 = .ok (.iconst 2, 1) := dk_5 (dk_at dksL_law_17 1 rfl rfl)
theorem dL_law_531 : decode cL_law 531 = .ok (.iadd, 1) := dk_96 (dk_at dksL_law_17 2 rfl rfl)
theorem dL_law_532 : decode cL_law 532 = .ok (.iaload, 1) := dk_46 (dk_at dksL_law_17 3 rfl rfl)
theorem dL_law_533 : decode cL_law 533 = .ok (.aload_n 0, 1) := dk_42 (dk_at dksL_law_17 4 rfl rfl)
theorem dL_law_534 : decode cL_law 534 = .ok (.iload_n 3, 1) := dk_29 (dk_at dksL_law_17 5 rfl rfl)
theorem dL_law_535 : decode cL_law 535 = .ok (.iconst 3, 1) := dk_6 (dk_at dksL_law_17 6 rfl rfl)
theorem dL_law_536 : decode cL_law 536 = .ok (.iadd, 1) := dk_96 (dk_at dksL_law_17 7 rfl rfl)
theorem dL_law_537 : decode cL_law 537 = .ok (.iaload, 1) := dk_46 (dk_at dksL_law_17 8 rfl rfl)
theorem dL_law_538 : decode cL_law 538 = .ok (.invokevirtual 65, 3) := dk_182 0 65 (dk_at dksL_law_17 9 rfl rfl)
theorem dL_law_541 : decode cL_law 541 = .ok (.aload_n 2, 1) := dk_44 (dk_at dksL_law_17 12 rfl rfl)
theorem dL_law_542 : decode cL_law 542 = .ok (.aload_n 0, 1) := dk_42 (dk_at dksL_law_17 13 rfl rfl)
theorem dL_law_543 : decode cL_law 543 = .ok (.iload_n 3, 1) := dk_29 (dk_at dksL_law_17 14 rfl rfl)
theorem dL_law_544 : decode cL_law 544 = .ok (.iconst 1, 1) := dk_4 (dk_at dksL_law_17 15 rfl rfl)
theorem dL_law_545 : decode cL_law 545 = .ok (.iadd, 1) := dk_96 (dk_at dksL_law_17 16 rfl rfl)
theorem dL_law_546 : decode cL_law 546 = .ok (.iaload, 1) := dk_46 (dk_at dksL_law_17 17 rfl rfl)
theorem dL_law_547 : decode cL_law 547 = .ok (.aload_n 0, 1) := dk_42 (dk_at dksL_law_17 18 rfl rfl)
theorem dL_law_548 : decode cL_law 548 = .ok (.iload_n 3, 1) := dk_29 (dk_at dksL_law_17 19 rfl rfl)
theorem dL_law_549 : decode cL_law 549 = .ok (.iconst 2, 1) := dk_5 (dk_at dksL_law_17 20 rfl rfl)
theorem dL_law_550 : decode cL_law 550 = .ok (.iadd, 1) := dk_96 (dk_at dksL_law_17 21 rfl rfl)
theorem dL_law_551 : decode cL_law 551 = .ok (.iaload, 1) := dk_46 (dk_at dksL_law_17 22 rfl rfl)
theorem dL_law_552 : decode cL_law 552 = .ok (.aload_n 0, 1) := dk_42 (dk_at dksL_law_17 23 rfl rfl)
theorem dL_law_553 : decode cL_law 553 = .ok (.iload_n 3, 1) := dk_29 (dk_at dksL_law_18 0 rfl rfl)
theorem dL_law_554 : decode cL_law 554 = .ok (.iconst 3, 1) := dk_6 (dk_at dksL_law_18 1 rfl rfl)
theorem dL_law_555 : decode cL_law 555 = .ok (.iadd, 1) := dk_96 (dk_at dksL_law_18 2 rfl rfl)
theorem dL_law_556 : decode cL_law 556 = .ok (.iaload, 1) := dk_46 (dk_at dksL_law_18 3 rfl rfl)
theorem dL_law_557 : decode cL_law 557 = .ok (.invokevirtual 68, 3) := dk_182 0 68 (dk_at dksL_law_18 4 rfl rfl)
theorem dL_law_560 : decode cL_law 560 = .ok (.if_icmp .eq 728, 3) := dk_159 2 216 (dk_at dksL_law_18 7 rfl rfl)
theorem dL_law_563 : decode cL_law 563 = .ok (.iconst 0, 1) := dk_3 (dk_at dksL_law_18 10 rfl rfl)
theorem dL_law_564 : decode cL_law 564 = .ok (.ireturn, 1) := dk_172 (dk_at dksL_law_18 11 rfl rfl)
theorem dL_law_565 : decode cL_law 565 = .ok (.aload_n 1, 1) := dk_43 (dk_at dksL_law_18 12 rfl rfl)
theorem dL_law_566 : decode cL_law 566 = .ok (.aload_n 0, 1) := dk_42 (dk_at dksL_law_18 13 rfl rfl)
theorem dL_law_567 : decode cL_law 567 = .ok (.iload_n 3, 1) := dk_29 (dk_at dksL_law_18 14 rfl rfl)
theorem dL_law_568 : decode cL_law 568 = .ok (.iconst 1, 1) := dk_4 (dk_at dksL_law_18 15 rfl rfl)
theorem dL_law_569 : decode cL_law 569 = .ok (.iadd, 1) := dk_96 (dk_at dksL_law_18 16 rfl rfl)
theorem dL_law_570 : decode cL_law 570 = .ok (.iaload, 1) := dk_46 (dk_at dksL_law_18 17 rfl rfl)
theorem dL_law_571 : decode cL_law 571 = .ok (.aload_n 0, 1) := dk_42 (dk_at dksL_law_18 18 rfl rfl)
theorem dL_law_572 : decode cL_law 572 = .ok (.iload_n 3, 1) := dk_29 (dk_at dksL_law_18 19 rfl rfl)
theorem dL_law_573 : decode cL_law 573 = .ok (.iconst 2, 1) := dk_5 (dk_at dksL_law_18 20 rfl rfl)
theorem dL_law_574 : decode cL_law 574 = .ok (.iadd, 1) := dk_96 (dk_at dksL_law_18 21 rfl rfl)
theorem dL_law_575 : decode cL_law 575 = .ok (.iaload, 1) := dk_46 (dk_at dksL_law_18 22 rfl rfl)
theorem dL_law_576 : decode cL_law 576 = .ok (.invokevirtual 69, 3) := dk_182 0 69 (dk_at dksL_law_19 0 rfl rfl)
theorem dL_law_579 : decode cL_law 579 = .ok (.aload_n 2, 1) := dk_44 (dk_at dksL_law_19 3 rfl rfl)
theorem dL_law_580 : decode cL_law 580 = .ok (.aload_n 0, 1) := dk_42 (dk_at dksL_law_19 4 rfl rfl)
theorem dL_law_581 : decode cL_law 581 = .ok (.iload_n 3, 1) := dk_29 (dk_at dksL_law_19 5 rfl rfl)
theorem dL_law_582 : decode cL_law 582 = .ok (.iconst 1, 1) := dk_4 (dk_at dksL_law_19 6 rfl rfl)
theorem dL_law_583 : decode cL_law 583 = .ok (.iadd, 1) := dk_96 (dk_at dksL_law_19 7 rfl rfl)
theorem dL_law_584 : decode cL_law 584 = .ok (.iaload, 1) := dk_46 (dk_at dksL_law_19 8 rfl rfl)
theorem dL_law_585 : decode cL_law 585 = .ok (.aload_n 0, 1) := dk_42 (dk_at dksL_law_19 9 rfl rfl)
theorem dL_law_586 : decode cL_law 586 = .ok (.iload_n 3, 1) := dk_29 (dk_at dksL_law_19 10 rfl rfl)
theorem dL_law_587 : decode cL_law 587 = .ok (.iconst 2, 1) := dk_5 (dk_at dksL_law_19 11 rfl rfl)
theorem dL_law_588 : decode cL_law 588 = .ok (.iadd, 1) := dk_96 (dk_at dksL_law_19 12 rfl rfl)
theorem dL_law_589 : decode cL_law 589 = .ok (.iaload, 1) := dk_46 (dk_at dksL_law_19 13 rfl rfl)
theorem dL_law_590 : decode cL_law 590 = .ok (.invokevirtual 73, 3) := dk_182 0 73 (dk_at dksL_law_19 14 rfl rfl)
theorem dL_law_593 : decode cL_law 593 = .ok (.if_icmp .eq 695, 3) := dk_159 2 183 (dk_at dksL_law_19 17 rfl rfl)
theorem dL_law_596 : decode cL_law 596 = .ok (.iconst 0, 1) := dk_3 (dk_at dksL_law_19 20 rfl rfl)
theorem dL_law_597 : decode cL_law 597 = .ok (.ireturn, 1) := dk_172 (dk_at dksL_law_19 21 rfl rfl)
theorem dL_law_598 : decode cL_law 598 = .ok (.aload_n 1, 1) := dk_43 (dk_at dksL_law_19 22 rfl rfl)
theorem dL_law_599 : decode cL_law 599 = .ok (.aload_n 0, 1) := dk_42 (dk_at dksL_law_19 23 rfl rfl)
theorem dL_law_600 : decode cL_law 600 = .ok (.iload_n 3, 1) := dk_29 (dk_at dksL_law_20 0 rfl rfl)
theorem dL_law_601 : decode cL_law 601 = .ok (.iconst 1, 1) := dk_4 (dk_at dksL_law_20 1 rfl rfl)
theorem dL_law_602 : decode cL_law 602 = .ok (.iadd, 1) := dk_96 (dk_at dksL_law_20 2 rfl rfl)
theorem dL_law_603 : decode cL_law 603 = .ok (.iaload, 1) := dk_46 (dk_at dksL_law_20 3 rfl rfl)
theorem dL_law_604 : decode cL_law 604 = .ok (.invokevirtual 74, 3) := dk_182 0 74 (dk_at dksL_law_20 4 rfl rfl)
theorem dL_law_607 : decode cL_law 607 = .ok (.aload_n 2, 1) := dk_44 (dk_at dksL_law_20 7 rfl rfl)
theorem dL_law_608 : decode cL_law 608 = .ok (.aload_n 0, 1) := dk_42 (dk_at dksL_law_20 8 rfl rfl)
theorem dL_law_609 : decode cL_law 609 = .ok (.iload_n 3, 1) := dk_29 (dk_at dksL_law_20 9 rfl rfl)
theorem dL_law_610 : decode cL_law 610 = .ok (.iconst 1, 1) := dk_4 (dk_at dksL_law_20 10 rfl rfl)
theorem dL_law_611 : decode cL_law 611 = .ok (.iadd, 1) := dk_96 (dk_at dksL_law_20 11 rfl rfl)
theorem dL_law_612 : decode cL_law 612 = .ok (.iaload, 1) := dk_46 (dk_at dksL_law_20 12 rfl rfl)
theorem dL_law_613 : decode cL_law 613 = .ok (.invokevirtual 77, 3) := dk_182 0 77 (dk_at dksL_law_20 13 rfl rfl)
theorem dL_law_616 : decode cL_law 616 = .ok (.if_icmp .eq 672, 3) := dk_159 2 160 (dk_at dksL_law_20 16 rfl rfl)
theorem dL_law_619 : decode cL_law 619 = .ok (.iconst 0, 1) := dk_3 (dk_at dksL_law_20 19 rfl rfl)
theorem dL_law_620 : decode cL_law 620 = .ok (.ireturn, 1) := dk_172 (dk_at dksL_law_20 20 rfl rfl)
theorem dL_law_621 : decode cL_law 621 = .ok (.aload_n 1, 1) := dk_43 (dk_at dksL_law_20 21 rfl rfl)
theorem dL_law_622 : decode cL_law 622 = .ok (.aload_n 0, 1) := dk_42 (dk_at dksL_law_20 22 rfl rfl)
theorem dL_law_623 : decode cL_law 623 = .ok (.iload_n 3, 1) := dk_29 (dk_at dksL_law_20 23 rfl rfl)
theorem dL_law_624 : decode cL_law 624 = .ok (.iconst 1, 1) := dk_4 (dk_at dksL_law_21 0 rfl rfl)
theorem dL_law_625 : decode cL_law 625 = .ok (.iadd, 1) := dk_96 (dk_at dksL_law_21 1 rfl rfl)
theorem dL_law_626 : decode cL_law 626 = .ok (.iaload, 1) := dk_46 (dk_at dksL_law_21 2 rfl rfl)
theorem dL_law_627 : decode cL_law 627 = .ok (.aload_n 0, 1) := dk_42 (dk_at dksL_law_21 3 rfl rfl)
theorem dL_law_628 : decode cL_law 628 = .ok (.iload_n 3, 1) := dk_29 (dk_at dksL_law_21 4 rfl rfl)
theorem dL_law_629 : decode cL_law 629 = .ok (.iconst 2, 1) := dk_5 (dk_at dksL_law_21 5 rfl rfl)
theorem dL_law_630 : decode cL_law 630 = .ok (.iadd, 1) := dk_96 (dk_at dksL_law_21 6 rfl rfl)
theorem dL_law_631 : decode cL_law 631 = .ok (.iaload, 1) := dk_46 (dk_at dksL_law_21 7 rfl rfl)
theorem dL_law_632 : decode cL_law 632 = .ok (.aload_n 0, 1) := dk_42 (dk_at dksL_law_21 8 rfl rfl)
theorem dL_law_633 : decode cL_law 633 = .ok (.iload_n 3, 1) := dk_29 (dk_at dksL_law_21 9 rfl rfl)
theorem dL_law_634 : decode cL_law 634 = .ok (.iconst 3, 1) := dk_6 (dk_at dksL_law_21 10 rfl rfl)
theorem dL_law_635 : decode cL_law 635 = .ok (.iadd, 1) := dk_96 (dk_at dksL_law_21 11 rfl rfl)
theorem dL_law_636 : decode cL_law 636 = .ok (.iaload, 1) := dk_46 (dk_at dksL_law_21 12 rfl rfl)
theorem dL_law_637 : decode cL_law 637 = .ok (.invokevirtual 78, 3) := dk_182 0 78 (dk_at dksL_law_21 13 rfl rfl)
theorem dL_law_640 : decode cL_law 640 = .ok (.aload_n 2, 1) := dk_44 (dk_at dksL_law_21 16 rfl rfl)
theorem dL_law_641 : decode cL_law 641 = .ok (.aload_n 0, 1) := dk_42 (dk_at dksL_law_21 17 rfl rfl)
theorem dL_law_642 : decode cL_law 642 = .ok (.iload_n 3, 1) := dk_29 (dk_at dksL_law_21 18 rfl rfl)
theorem dL_law_643 : decode cL_law 643 = .ok (.iconst 1, 1) := dk_4 (dk_at dksL_law_21 19 rfl rfl)
theorem dL_law_644 : decode cL_law 644 = .ok (.iadd, 1) := dk_96 (dk_at dksL_law_21 20 rfl rfl)
theorem dL_law_645 : decode cL_law 645 = .ok (.iaload, 1) := dk_46 (dk_at dksL_law_21 21 rfl rfl)
theorem dL_law_646 : decode cL_law 646 = .ok (.aload_n 0, 1) := dk_42 (dk_at dksL_law_21 22 rfl rfl)
theorem dL_law_647 : decode cL_law 647 = .ok (.iload_n 3, 1) := dk_29 (dk_at dksL_law_21 23 rfl rfl)
theorem dL_law_648 : decode cL_law 648 = .ok (.iconst 2, 1) := dk_5 (dk_at dksL_law_22 0 rfl rfl)
theorem dL_law_649 : decode cL_law 649 = .ok (.iadd, 1) := dk_96 (dk_at dksL_law_22 1 rfl rfl)
theorem dL_law_650 : decode cL_law 650 = .ok (.iaload, 1) := dk_46 (dk_at dksL_law_22 2 rfl rfl)
theorem dL_law_651 : decode cL_law 651 = .ok (.aload_n 0, 1) := dk_42 (dk_at dksL_law_22 3 rfl rfl)
theorem dL_law_652 : decode cL_law 652 = .ok (.iload_n 3, 1) := dk_29 (dk_at dksL_law_22 4 rfl rfl)
theorem dL_law_653 : decode cL_law 653 = .ok (.iconst 3, 1) := dk_6 (dk_at dksL_law_22 5 rfl rfl)
theorem dL_law_654 : decode cL_law 654 = .ok (.iadd, 1) := dk_96 (dk_at dksL_law_22 6 rfl rfl)
theorem dL_law_655 : decode cL_law 655 = .ok (.iaload, 1) := dk_46 (dk_at dksL_law_22 7 rfl rfl)
theorem dL_law_656 : decode cL_law 656 = .ok (.invokevirtual 81, 3) := dk_182 0 81 (dk_at dksL_law_22 8 rfl rfl)
theorem dL_law_659 : decode cL_law 659 = .ok (.if_icmp .eq 629, 3) := dk_159 2 117 (dk_at dksL_law_22 11 rfl rfl)
theorem dL_law_662 : decode cL_law 662 = .ok (.iconst 0, 1) := dk_3 (dk_at dksL_law_22 14 rfl rfl)
theorem dL_law_663 : decode cL_law 663 = .ok (.ireturn, 1) := dk_172 (dk_at dksL_law_22 15 rfl rfl)
theorem dL_law_664 : decode cL_law 664 = .ok (.aload_n 1, 1) := dk_43 (dk_at dksL_law_22 16 rfl rfl)
theorem dL_law_665 : decode cL_law 665 = .ok (.aload_n 0, 1) := dk_42 (dk_at dksL_law_22 17 rfl rfl)
theorem dL_law_666 : decode cL_law 666 = .ok (.iload_n 3, 1) := dk_29 (dk_at dksL_law_22 18 rfl rfl)
theorem dL_law_667 : decode cL_law 667 = .ok (.iconst 1, 1) := dk_4 (dk_at dksL_law_22 19 rfl rfl)
theorem dL_law_668 : decode cL_law 668 = .ok (.iadd, 1) := dk_96 (dk_at dksL_law_22 20 rfl rfl)
theorem dL_law_669 : decode cL_law 669 = .ok (.iaload, 1) := dk_46 (dk_at dksL_law_22 21 rfl rfl)
theorem dL_law_670 : decode cL_law 670 = .ok (.invokevirtual 82, 3) := dk_182 0 82 (dk_at dksL_law_23 0 rfl rfl)
theorem dL_law_673 : decode cL_law 673 = .ok (.aload_n 2, 1) := dk_44 (dk_at dksL_law_23 3 rfl rfl)
theorem dL_law_674 : decode cL_law 674 = .ok (.aload_n 0, 1) := dk_42 (dk_at dksL_law_23 4 rfl rfl)
theorem dL_law_675 : decode cL_law 675 = .ok (.iload_n 3, 1) := dk_29 (dk_at dksL_law_23 5 rfl rfl)
theorem dL_law_676 : decode cL_law 676 = .ok (.iconst 1, 1) := dk_4 (dk_at dksL_law_23 6 rfl rfl)
theorem dL_law_677 : decode cL_law 677 = .ok (.iadd, 1) := dk_96 (dk_at dksL_law_23 7 rfl rfl)
theorem dL_law_678 : decode cL_law 678 = .ok (.iaload, 1) := dk_46 (dk_at dksL_law_23 8 rfl rfl)
theorem dL_law_679 : decode cL_law 679 = .ok (.invokevirtual 85, 3) := dk_182 0 85 (dk_at dksL_law_23 9 rfl rfl)
theorem dL_law_682 : decode cL_law 682 = .ok (.if_icmp .eq 606, 3) := dk_159 2 94 (dk_at dksL_law_23 12 rfl rfl)
theorem dL_law_685 : decode cL_law 685 = .ok (.iconst 0, 1) := dk_3 (dk_at dksL_law_23 15 rfl rfl)
theorem dL_law_686 : decode cL_law 686 = .ok (.ireturn, 1) := dk_172 (dk_at dksL_law_23 16 rfl rfl)
theorem dL_law_687 : decode cL_law 687 = .ok (.aload_n 1, 1) := dk_43 (dk_at dksL_law_23 17 rfl rfl)
theorem dL_law_688 : decode cL_law 688 = .ok (.aload_n 0, 1) := dk_42 (dk_at dksL_law_23 18 rfl rfl)
theorem dL_law_689 : decode cL_law 689 = .ok (.iload_n 3, 1) := dk_29 (dk_at dksL_law_23 19 rfl rfl)
theorem dL_law_690 : decode cL_law 690 = .ok (.iconst 1, 1) := dk_4 (dk_at dksL_law_23 20 rfl rfl)
theorem dL_law_691 : decode cL_law 691 = .ok (.iadd, 1) := dk_96 (dk_at dksL_law_23 21 rfl rfl)
theorem dL_law_692 : decode cL_law 692 = .ok (.iaload, 1) := dk_46 (dk_at dksL_law_23 22 rfl rfl)
theorem dL_law_693 : decode cL_law 693 = .ok (.invokevirtual 86, 3) := dk_182 0 86 (dk_at dksL_law_24 0 rfl rfl)
theorem dL_law_696 : decode cL_law 696 = .ok (.aload_n 2, 1) := dk_44 (dk_at dksL_law_24 3 rfl rfl)
theorem dL_law_697 : decode cL_law 697 = .ok (.aload_n 0, 1) := dk_42 (dk_at dksL_law_24 4 rfl rfl)
theorem dL_law_698 : decode cL_law 698 = .ok (.iload_n 3, 1) := dk_29 (dk_at dksL_law_24 5 rfl rfl)
theorem dL_law_699 : decode cL_law 699 = .ok (.iconst 1, 1) := dk_4 (dk_at dksL_law_24 6 rfl rfl)
theorem dL_law_700 : decode cL_law 700 = .ok (.iadd, 1) := dk_96 (dk_at dksL_law_24 7 rfl rfl)
theorem dL_law_701 : decode cL_law 701 = .ok (.iaload, 1) := dk_46 (dk_at dksL_law_24 8 rfl rfl)
theorem dL_law_702 : decode cL_law 702 = .ok (.invokevirtual 89, 3) := dk_182 0 89 (dk_at dksL_law_24 9 rfl rfl)
theorem dL_law_705 : decode cL_law 705 = .ok (.if_icmp .eq 583, 3) := dk_159 2 71 (dk_at dksL_law_24 12 rfl rfl)
theorem dL_law_708 : decode cL_law 708 = .ok (.iconst 0, 1) := dk_3 (dk_at dksL_law_24 15 rfl rfl)
theorem dL_law_709 : decode cL_law 709 = .ok (.ireturn, 1) := dk_172 (dk_at dksL_law_24 16 rfl rfl)
theorem dL_law_710 : decode cL_law 710 = .ok (.aload_n 1, 1) := dk_43 (dk_at dksL_law_24 17 rfl rfl)
theorem dL_law_711 : decode cL_law 711 = .ok (.invokevirtual 90, 3) := dk_182 0 90 (dk_at dksL_law_24 18 rfl rfl)
theorem dL_law_714 : decode cL_law 714 = .ok (.aload_n 2, 1) := dk_44 (dk_at dksL_law_24 21 rfl rfl)
theorem dL_law_715 : decode cL_law 715 = .ok (.invokevirtual 93, 3) := dk_182 0 93 (dk_at dksL_law_25 0 rfl rfl)
theorem dL_law_718 : decode cL_law 718 = .ok (.if_icmp .eq 570, 3) := dk_159 2 58 (dk_at dksL_law_25 3 rfl rfl)
theorem dL_law_721 : decode cL_law 721 = .ok (.iconst 0, 1) := dk_3 (dk_at dksL_law_25 6 rfl rfl)
theorem dL_law_722 : decode cL_law 722 = .ok (.ireturn, 1) := dk_172 (dk_at dksL_law_25 7 rfl rfl)
theorem dL_law_723 : decode cL_law 723 = .ok (.aload_n 1, 1) := dk_43 (dk_at dksL_law_25 8 rfl rfl)
theorem dL_law_724 : decode cL_law 724 = .ok (.aload_n 0, 1) := dk_42 (dk_at dksL_law_25 9 rfl rfl)
theorem dL_law_725 : decode cL_law 725 = .ok (.iload_n 3, 1) := dk_29 (dk_at dksL_law_25 10 rfl rfl)
theorem dL_law_726 : decode cL_law 726 = .ok (.iconst 1, 1) := dk_4 (dk_at dksL_law_25 11 rfl rfl)
theorem dL_law_727 : decode cL_law 727 = .ok (.iadd, 1) := dk_96 (dk_at dksL_law_25 12 rfl rfl)
theorem dL_law_728 : decode cL_law 728 = .ok (.iaload, 1) := dk_46 (dk_at dksL_law_25 13 rfl rfl)
theorem dL_law_729 : decode cL_law 729 = .ok (.invokevirtual 94, 3) := dk_182 0 94 (dk_at dksL_law_25 14 rfl rfl)
theorem dL_law_732 : decode cL_law 732 = .ok (.aload_n 2, 1) := dk_44 (dk_at dksL_law_25 17 rfl rfl)
theorem dL_law_733 : decode cL_law 733 = .ok (.aload_n 0, 1) := dk_42 (dk_at dksL_law_25 18 rfl rfl)
theorem dL_law_734 : decode cL_law 734 = .ok (.iload_n 3, 1) := dk_29 (dk_at dksL_law_25 19 rfl rfl)
theorem dL_law_735 : decode cL_law 735 = .ok (.iconst 1, 1) := dk_4 (dk_at dksL_law_25 20 rfl rfl)
theorem dL_law_736 : decode cL_law 736 = .ok (.iadd, 1) := dk_96 (dk_at dksL_law_25 21 rfl rfl)
theorem dL_law_737 : decode cL_law 737 = .ok (.iaload, 1) := dk_46 (dk_at dksL_law_25 22 rfl rfl)
theorem dL_law_738 : decode cL_law 738 = .ok (.invokevirtual 97, 3) := dk_182 0 97 (dk_at dksL_law_26 0 rfl rfl)
theorem dL_law_741 : decode cL_law 741 = .ok (.if_icmp .eq 547, 3) := dk_159 2 35 (dk_at dksL_law_26 3 rfl rfl)
theorem dL_law_744 : decode cL_law 744 = .ok (.iconst 0, 1) := dk_3 (dk_at dksL_law_26 6 rfl rfl)
theorem dL_law_745 : decode cL_law 745 = .ok (.ireturn, 1) := dk_172 (dk_at dksL_law_26 7 rfl rfl)
theorem dL_law_746 : decode cL_law 746 = .ok (.aload_n 1, 1) := dk_43 (dk_at dksL_law_26 8 rfl rfl)
theorem dL_law_747 : decode cL_law 747 = .ok (.aload_n 0, 1) := dk_42 (dk_at dksL_law_26 9 rfl rfl)
theorem dL_law_748 : decode cL_law 748 = .ok (.iload_n 3, 1) := dk_29 (dk_at dksL_law_26 10 rfl rfl)
theorem dL_law_749 : decode cL_law 749 = .ok (.iconst 1, 1) := dk_4 (dk_at dksL_law_26 11 rfl rfl)
theorem dL_law_750 : decode cL_law 750 = .ok (.iadd, 1) := dk_96 (dk_at dksL_law_26 12 rfl rfl)
theorem dL_law_751 : decode cL_law 751 = .ok (.iaload, 1) := dk_46 (dk_at dksL_law_26 13 rfl rfl)
theorem dL_law_752 : decode cL_law 752 = .ok (.aload_n 0, 1) := dk_42 (dk_at dksL_law_26 14 rfl rfl)
theorem dL_law_753 : decode cL_law 753 = .ok (.iload_n 3, 1) := dk_29 (dk_at dksL_law_26 15 rfl rfl)
theorem dL_law_754 : decode cL_law 754 = .ok (.iconst 2, 1) := dk_5 (dk_at dksL_law_26 16 rfl rfl)
theorem dL_law_755 : decode cL_law 755 = .ok (.iadd, 1) := dk_96 (dk_at dksL_law_26 17 rfl rfl)
theorem dL_law_756 : decode cL_law 756 = .ok (.iaload, 1) := dk_46 (dk_at dksL_law_26 18 rfl rfl)
theorem dL_law_757 : decode cL_law 757 = .ok (.invokevirtual 98, 3) := dk_182 0 98 (dk_at dksL_law_26 19 rfl rfl)
theorem dL_law_760 : decode cL_law 760 = .ok (.aload_n 2, 1) := dk_44 (dk_at dksL_law_26 22 rfl rfl)
theorem dL_law_761 : decode cL_law 761 = .ok (.aload_n 0, 1) := dk_42 (dk_at dksL_law_26 23 rfl rfl)
theorem dL_law_762 : decode cL_law 762 = .ok (.iload_n 3, 1) := dk_29 (dk_at dksL_law_27 0 rfl rfl)
theorem dL_law_763 : decode cL_law 763 = .ok (.iconst 1, 1) := dk_4 (dk_at dksL_law_27 1 rfl rfl)
theorem dL_law_764 : decode cL_law 764 = .ok (.iadd, 1) := dk_96 (dk_at dksL_law_27 2 rfl rfl)
theorem dL_law_765 : decode cL_law 765 = .ok (.iaload, 1) := dk_46 (dk_at dksL_law_27 3 rfl rfl)
theorem dL_law_766 : decode cL_law 766 = .ok (.aload_n 0, 1) := dk_42 (dk_at dksL_law_27 4 rfl rfl)
theorem dL_law_767 : decode cL_law 767 = .ok (.iload_n 3, 1) := dk_29 (dk_at dksL_law_27 5 rfl rfl)
theorem dL_law_768 : decode cL_law 768 = .ok (.iconst 2, 1) := dk_5 (dk_at dksL_law_27 6 rfl rfl)
theorem dL_law_769 : decode cL_law 769 = .ok (.iadd, 1) := dk_96 (dk_at dksL_law_27 7 rfl rfl)
theorem dL_law_770 : decode cL_law 770 = .ok (.iaload, 1) := dk_46 (dk_at dksL_law_27 8 rfl rfl)
theorem dL_law_771 : decode cL_law 771 = .ok (.invokevirtual 101, 3) := dk_182 0 101 (dk_at dksL_law_27 9 rfl rfl)
theorem dL_law_774 : decode cL_law 774 = .ok (.if_icmp .eq 514, 3) := dk_159 2 2 (dk_at dksL_law_27 12 rfl rfl)
theorem dL_law_777 : decode cL_law 777 = .ok (.iconst 0, 1) := dk_3 (dk_at dksL_law_27 15 rfl rfl)
theorem dL_law_778 : decode cL_law 778 = .ok (.ireturn, 1) := dk_172 (dk_at dksL_law_27 16 rfl rfl)
theorem dL_law_779 : decode cL_law 779 = .ok (.aload_n 1, 1) := dk_43 (dk_at dksL_law_27 17 rfl rfl)
theorem dL_law_780 : decode cL_law 780 = .ok (.aload_n 0, 1) := dk_42 (dk_at dksL_law_27 18 rfl rfl)
theorem dL_law_781 : decode cL_law 781 = .ok (.iload_n 3, 1) := dk_29 (dk_at dksL_law_27 19 rfl rfl)
theorem dL_law_782 : decode cL_law 782 = .ok (.iconst 1, 1) := dk_4 (dk_at dksL_law_27 20 rfl rfl)
theorem dL_law_783 : decode cL_law 783 = .ok (.iadd, 1) := dk_96 (dk_at dksL_law_27 21 rfl rfl)
theorem dL_law_784 : decode cL_law 784 = .ok (.iaload, 1) := dk_46 (dk_at dksL_law_27 22 rfl rfl)
theorem dL_law_785 : decode cL_law 785 = .ok (.aload_n 0, 1) := dk_42 (dk_at dksL_law_27 23 rfl rfl)
theorem dL_law_786 : decode cL_law 786 = .ok (.iload_n 3, 1) := dk_29 (dk_at dksL_law_28 0 rfl rfl)
theorem dL_law_787 : decode cL_law 787 = .ok (.iconst 2, 1) := dk_5 (dk_at dksL_law_28 1 rfl rfl)
theorem dL_law_788 : decode cL_law 788 = .ok (.iadd, 1) := dk_96 (dk_at dksL_law_28 2 rfl rfl)
theorem dL_law_789 : decode cL_law 789 = .ok (.iaload, 1) := dk_46 (dk_at dksL_law_28 3 rfl rfl)
theorem dL_law_790 : decode cL_law 790 = .ok (.invokevirtual 102, 3) := dk_182 0 102 (dk_at dksL_law_28 4 rfl rfl)
theorem dL_law_793 : decode cL_law 793 = .ok (.aload_n 2, 1) := dk_44 (dk_at dksL_law_28 7 rfl rfl)
theorem dL_law_794 : decode cL_law 794 = .ok (.aload_n 0, 1) := dk_42 (dk_at dksL_law_28 8 rfl rfl)
theorem dL_law_795 : decode cL_law 795 = .ok (.iload_n 3, 1) := dk_29 (dk_at dksL_law_28 9 rfl rfl)
theorem dL_law_796 : decode cL_law 796 = .ok (.iconst 1, 1) := dk_4 (dk_at dksL_law_28 10 rfl rfl)
theorem dL_law_797 : decode cL_law 797 = .ok (.iadd, 1) := dk_96 (dk_at dksL_law_28 11 rfl rfl)
theorem dL_law_798 : decode cL_law 798 = .ok (.iaload, 1) := dk_46 (dk_at dksL_law_28 12 rfl rfl)
theorem dL_law_799 : decode cL_law 799 = .ok (.aload_n 0, 1) := dk_42 (dk_at dksL_law_28 13 rfl rfl)
theorem dL_law_800 : decode cL_law 800 = .ok (.iload_n 3, 1) := dk_29 (dk_at dksL_law_28 14 rfl rfl)
theorem dL_law_801 : decode cL_law 801 = .ok (.iconst 2, 1) := dk_5 (dk_at dksL_law_28 15 rfl rfl)
theorem dL_law_802 : decode cL_law 802 = .ok (.iadd, 1) := dk_96 (dk_at dksL_law_28 16 rfl rfl)
theorem dL_law_803 : decode cL_law 803 = .ok (.iaload, 1) := dk_46 (dk_at dksL_law_28 17 rfl rfl)
theorem dL_law_804 : decode cL_law 804 = .ok (.invokevirtual 105, 3) := dk_182 0 105 (dk_at dksL_law_28 18 rfl rfl)
theorem dL_law_807 : decode cL_law 807 = .ok (.if_icmp .eq 481, 3) := dk_159 1 225 (dk_at dksL_law_28 21 rfl rfl)
theorem dL_law_810 : decode cL_law 810 = .ok (.iconst 0, 1) := dk_3 (dk_at dksL_law_29 0 rfl rfl)
theorem dL_law_811 : decode cL_law 811 = .ok (.ireturn, 1) := dk_172 (dk_at dksL_law_29 1 rfl rfl)
theorem dL_law_812 : decode cL_law 812 = .ok (.aload_n 1, 1) := dk_43 (dk_at dksL_law_29 2 rfl rfl)
theorem dL_law_813 : decode cL_law 813 = .ok (.aload_n 0, 1) := dk_42 (dk_at dksL_law_29 3 rfl rfl)
theorem dL_law_814 : decode cL_law 814 = .ok (.iload_n 3, 1) := dk_29 (dk_at dksL_law_29 4 rfl rfl)
theorem dL_law_815 : decode cL_law 815 = .ok (.iconst 1, 1) := dk_4 (dk_at dksL_law_29 5 rfl rfl)
theorem dL_law_816 : decode cL_law 816 = .ok (.iadd, 1) := dk_96 (dk_at dksL_law_29 6 rfl rfl)
theorem dL_law_817 : decode cL_law 817 = .ok (.iaload, 1) := dk_46 (dk_at dksL_law_29 7 rfl rfl)
theorem dL_law_818 : decode cL_law 818 = .ok (.aload_n 0, 1) := dk_42 (dk_at dksL_law_29 8 rfl rfl)
theorem dL_law_819 : decode cL_law 819 = .ok (.iload_n 3, 1) := dk_29 (dk_at dksL_law_29 9 rfl rfl)
theorem dL_law_820 : decode cL_law 820 = .ok (.iconst 2, 1) := dk_5 (dk_at dksL_law_29 10 rfl rfl)
theorem dL_law_821 : decode cL_law 821 = .ok (.iadd, 1) := dk_96 (dk_at dksL_law_29 11 rfl rfl)
theorem dL_law_822 : decode cL_law 822 = .ok (.iaload, 1) := dk_46 (dk_at dksL_law_29 12 rfl rfl)
theorem dL_law_823 : decode cL_law 823 = .ok (.invokevirtual 106, 3) := dk_182 0 106 (dk_at dksL_law_29 13 rfl rfl)
theorem dL_law_826 : decode cL_law 826 = .ok (.aload_n 2, 1) := dk_44 (dk_at dksL_law_29 16 rfl rfl)
theorem dL_law_827 : decode cL_law 827 = .ok (.aload_n 0, 1) := dk_42 (dk_at dksL_law_29 17 rfl rfl)
theorem dL_law_828 : decode cL_law 828 = .ok (.iload_n 3, 1) := dk_29 (dk_at dksL_law_29 18 rfl rfl)
theorem dL_law_829 : decode cL_law 829 = .ok (.iconst 1, 1) := dk_4 (dk_at dksL_law_29 19 rfl rfl)
theorem dL_law_830 : decode cL_law 830 = .ok (.iadd, 1) := dk_96 (dk_at dksL_law_29 20 rfl rfl)
theorem dL_law_831 : decode cL_law 831 = .ok (.iaload, 1) := dk_46 (dk_at dksL_law_29 21 rfl rfl)
theorem dL_law_832 : decode cL_law 832 = .ok (.aload_n 0, 1) := dk_42 (dk_at dksL_law_29 22 rfl rfl)
theorem dL_law_833 : decode cL_law 833 = .ok (.iload_n 3, 1) := dk_29 (dk_at dksL_law_29 23 rfl rfl)
theorem dL_law_834 : decode cL_law 834 = .ok (.iconst 2, 1) := dk_5 (dk_at dksL_law_30 0 rfl rfl)
theorem dL_law_835 : decode cL_law 835 = .ok (.iadd, 1) := dk_96 (dk_at dksL_law_30 1 rfl rfl)
theorem dL_law_836 : decode cL_law 836 = .ok (.iaload, 1) := dk_46 (dk_at dksL_law_30 2 rfl rfl)
theorem dL_law_837 : decode cL_law 837 = .ok (.invokevirtual 109, 3) := dk_182 0 109 (dk_at dksL_law_30 3 rfl rfl)
theorem dL_law_840 : decode cL_law 840 = .ok (.if_icmp .eq 448, 3) := dk_159 1 192 (dk_at dksL_law_30 6 rfl rfl)
theorem dL_law_843 : decode cL_law 843 = .ok (.iconst 0, 1) := dk_3 (dk_at dksL_law_30 9 rfl rfl)
theorem dL_law_844 : decode cL_law 844 = .ok (.ireturn, 1) := dk_172 (dk_at dksL_law_30 10 rfl rfl)
theorem dL_law_845 : decode cL_law 845 = .ok (.aload_n 1, 1) := dk_43 (dk_at dksL_law_30 11 rfl rfl)
theorem dL_law_846 : decode cL_law 846 = .ok (.aload_n 0, 1) := dk_42 (dk_at dksL_law_30 12 rfl rfl)
theorem dL_law_847 : decode cL_law 847 = .ok (.iload_n 3, 1) := dk_29 (dk_at dksL_law_30 13 rfl rfl)
theorem dL_law_848 : decode cL_law 848 = .ok (.iconst 1, 1) := dk_4 (dk_at dksL_law_30 14 rfl rfl)
theorem dL_law_849 : decode cL_law 849 = .ok (.iadd, 1) := dk_96 (dk_at dksL_law_30 15 rfl rfl)
theorem dL_law_850 : decode cL_law 850 = .ok (.iaload, 1) := dk_46 (dk_at dksL_law_30 16 rfl rfl)
theorem dL_law_851 : decode cL_law 851 = .ok (.invokevirtual 110, 3) := dk_182 0 110 (dk_at dksL_law_30 17 rfl rfl)
theorem dL_law_854 : decode cL_law 854 = .ok (.aload_n 2, 1) := dk_44 (dk_at dksL_law_30 20 rfl rfl)
theorem dL_law_855 : decode cL_law 855 = .ok (.aload_n 0, 1) := dk_42 (dk_at dksL_law_30 21 rfl rfl)
theorem dL_law_856 : decode cL_law 856 = .ok (.iload_n 3, 1) := dk_29 (dk_at dksL_law_30 22 rfl rfl)
theorem dL_law_857 : decode cL_law 857 = .ok (.iconst 1, 1) := dk_4 (dk_at dksL_law_30 23 rfl rfl)
theorem dL_law_858 : decode cL_law 858 = .ok (.iadd, 1) := dk_96 (dk_at dksL_law_31 0 rfl rfl)
theorem dL_law_859 : decode cL_law 859 = .ok (.iaload, 1) := dk_46 (dk_at dksL_law_31 1 rfl rfl)
theorem dL_law_860 : decode cL_law 860 = .ok (.invokevirtual 113, 3) := dk_182 0 113 (dk_at dksL_law_31 2 rfl rfl)
theorem dL_law_863 : decode cL_law 863 = .ok (.if_icmp .eq 425, 3) := dk_159 1 169 (dk_at dksL_law_31 5 rfl rfl)
theorem dL_law_866 : decode cL_law 866 = .ok (.iconst 0, 1) := dk_3 (dk_at dksL_law_31 8 rfl rfl)
theorem dL_law_867 : decode cL_law 867 = .ok (.ireturn, 1) := dk_172 (dk_at dksL_law_31 9 rfl rfl)
theorem dL_law_868 : decode cL_law 868 = .ok (.aload_n 1, 1) := dk_43 (dk_at dksL_law_31 10 rfl rfl)
theorem dL_law_869 : decode cL_law 869 = .ok (.aload_n 0, 1) := dk_42 (dk_at dksL_law_31 11 rfl rfl)
theorem dL_law_870 : decode cL_law 870 = .ok (.iload_n 3, 1) := dk_29 (dk_at dksL_law_31 12 rfl rfl)
theorem dL_law_871 : decode cL_law 871 = .ok (.iconst 1, 1) := dk_4 (dk_at dksL_law_31 13 rfl rfl)
theorem dL_law_872 : decode cL_law 872 = .ok (.iadd, 1) := dk_96 (dk_at dksL_law_31 14 rfl rfl)
theorem dL_law_873 : decode cL_law 873 = .ok (.iaload, 1) := dk_46 (dk_at dksL_law_31 15 rfl rfl)
theorem dL_law_874 : decode cL_law 874 = .ok (.aload_n 0, 1) := dk_42 (dk_at dksL_law_31 16 rfl rfl)
theorem dL_law_875 : decode cL_law 875 = .ok (.iload_n 3, 1) := dk_29 (dk_at dksL_law_31 17 rfl rfl)
theorem dL_law_876 : decode cL_law 876 = .ok (.iconst 2, 1) := dk_5 (dk_at dksL_law_31 18 rfl rfl)
theorem dL_law_877 : decode cL_law 877 = .ok (.iadd, 1) := dk_96 (dk_at dksL_law_31 19 rfl rfl)
theorem dL_law_878 : decode cL_law 878 = .ok (.iaload, 1) := dk_46 (dk_at dksL_law_31 20 rfl rfl)
theorem dL_law_879 : decode cL_law 879 = .ok (.invokevirtual 114, 3) := dk_182 0 114 (dk_at dksL_law_31 21 rfl rfl)
theorem dL_law_882 : decode cL_law 882 = .ok (.aload_n 2, 1) := dk_44 (dk_at dksL_law_32 0 rfl rfl)
theorem dL_law_883 : decode cL_law 883 = .ok (.aload_n 0, 1) := dk_42 (dk_at dksL_law_32 1 rfl rfl)
theorem dL_law_884 : decode cL_law 884 = .ok (.iload_n 3, 1) := dk_29 (dk_at dksL_law_32 2 rfl rfl)
theorem dL_law_885 : decode cL_law 885 = .ok (.iconst 1, 1) := dk_4 (dk_at dksL_law_32 3 rfl rfl)
theorem dL_law_886 : decode cL_law 886 = .ok (.iadd, 1) := dk_96 (dk_at dksL_law_32 4 rfl rfl)
theorem dL_law_887 : decode cL_law 887 = .ok (.iaload, 1) := dk_46 (dk_at dksL_law_32 5 rfl rfl)
theorem dL_law_888 : decode cL_law 888 = .ok (.aload_n 0, 1) := dk_42 (dk_at dksL_law_32 6 rfl rfl)
theorem dL_law_889 : decode cL_law 889 = .ok (.iload_n 3, 1) := dk_29 (dk_at dksL_law_32 7 rfl rfl)
theorem dL_law_890 : decode cL_law 890 = .ok (.iconst 2, 1) := dk_5 (dk_at dksL_law_32 8 rfl rfl)
theorem dL_law_891 : decode cL_law 891 = .ok (.iadd, 1) := dk_96 (dk_at dksL_law_32 9 rfl rfl)
theorem dL_law_892 : decode cL_law 892 = .ok (.iaload, 1) := dk_46 (dk_at dksL_law_32 10 rfl rfl)
theorem dL_law_893 : decode cL_law 893 = .ok (.invokevirtual 117, 3) := dk_182 0 117 (dk_at dksL_law_32 11 rfl rfl)
theorem dL_law_896 : decode cL_law 896 = .ok (.if_icmp .eq 392, 3) := dk_159 1 136 (dk_at dksL_law_32 14 rfl rfl)
theorem dL_law_899 : decode cL_law 899 = .ok (.iconst 0, 1) := dk_3 (dk_at dksL_law_32 17 rfl rfl)
theorem dL_law_900 : decode cL_law 900 = .ok (.ireturn, 1) := dk_172 (dk_at dksL_law_32 18 rfl rfl)
theorem dL_law_901 : decode cL_law 901 = .ok (.aload_n 1, 1) := dk_43 (dk_at dksL_law_32 19 rfl rfl)
theorem dL_law_902 : decode cL_law 902 = .ok (.aload_n 0, 1) := dk_42 (dk_at dksL_law_32 20 rfl rfl)
theorem dL_law_903 : decode cL_law 903 = .ok (.iload_n 3, 1) := dk_29 (dk_at dksL_law_32 21 rfl rfl)
theorem dL_law_904 : decode cL_law 904 = .ok (.iconst 1, 1) := dk_4 (dk_at dksL_law_32 22 rfl rfl)
theorem dL_law_905 : decode cL_law 905 = .ok (.iadd, 1) := dk_96 (dk_at dksL_law_32 23 rfl rfl)
theorem dL_law_906 : decode cL_law 906 = .ok (.iaload, 1) := dk_46 (dk_at dksL_law_33 0 rfl rfl)
theorem dL_law_907 : decode cL_law 907 = .ok (.aload_n 0, 1) := dk_42 (dk_at dksL_law_33 1 rfl rfl)
theorem dL_law_908 : decode cL_law 908 = .ok (.iload_n 3, 1) := dk_29 (dk_at dksL_law_33 2 rfl rfl)
theorem dL_law_909 : decode cL_law 909 = .ok (.iconst 2, 1) := dk_5 (dk_at dksL_law_33 3 rfl rfl)
theorem dL_law_910 : decode cL_law 910 = .ok (.iadd, 1) := dk_96 (dk_at dksL_law_33 4 rfl rfl)
theorem dL_law_911 : decode cL_law 911 = .ok (.iaload, 1) := dk_46 (dk_at dksL_law_33 5 rfl rfl)
theorem dL_law_912 : decode cL_law 912 = .ok (.invokevirtual 118, 3) := dk_182 0 118 (dk_at dksL_law_33 6 rfl rfl)
theorem dL_law_915 : decode cL_law 915 = .ok (.aload_n 2, 1) := dk_44 (dk_at dksL_law_33 9 rfl rfl)
theorem dL_law_916 : decode cL_law 916 = .ok (.aload_n 0, 1) := dk_42 (dk_at dksL_law_33 10 rfl rfl)
theorem dL_law_917 : decode cL_law 917 = .ok (.iload_n 3, 1) := dk_29 (dk_at dksL_law_33 11 rfl rfl)
theorem dL_law_918 : decode cL_law 918 = .ok (.iconst 1, 1) := dk_4 (dk_at dksL_law_33 12 rfl rfl)
theorem dL_law_919 : decode cL_law 919 = .ok (.iadd, 1) := dk_96 (dk_at dksL_law_33 13 rfl rfl)
theorem dL_law_920 : decode cL_law 920 = .ok (.iaload, 1) := dk_46 (dk_at dksL_law_33 14 rfl rfl)
theorem dL_law_921 : decode cL_law 921 = .ok (.aload_n 0, 1) := dk_42 (dk_at dksL_law_33 15 rfl rfl)
theorem dL_law_922 : decode cL_law 922 = .ok (.iload_n 3, 1) := dk_29 (dk_at dksL_law_33 16 rfl rfl)
theorem dL_law_923 : decode cL_law 923 = .ok (.iconst 2, 1) := dk_5 (dk_at dksL_law_33 17 rfl rfl)
theorem dL_law_924 : decode cL_law 924 = .ok (.iadd, 1) := dk_96 (dk_at dksL_law_33 18 rfl rfl)
theorem dL_law_925 : decode cL_law 925 = .ok (.iaload, 1) := dk_46 (dk_at dksL_law_33 19 rfl rfl)
theorem dL_law_926 : decode cL_law 926 = .ok (.invokevirtual 121, 3) := dk_182 0 121 (dk_at dksL_law_33 20 rfl rfl)
theorem dL_law_929 : decode cL_law 929 = .ok (.if_icmp .eq 359, 3) := dk_159 1 103 (dk_at dksL_law_34 0 rfl rfl)
theorem dL_law_932 : decode cL_law 932 = .ok (.iconst 0, 1) := dk_3 (dk_at dksL_law_34 3 rfl rfl)
theorem dL_law_933 : decode cL_law 933 = .ok (.ireturn, 1) := dk_172 (dk_at dksL_law_34 4 rfl rfl)
theorem dL_law_934 : decode cL_law 934 = .ok (.aload_n 1, 1) := dk_43 (dk_at dksL_law_34 5 rfl rfl)
theorem dL_law_935 : decode cL_law 935 = .ok (.aload_n 0, 1) := dk_42 (dk_at dksL_law_34 6 rfl rfl)
theorem dL_law_936 : decode cL_law 936 = .ok (.iload_n 3, 1) := dk_29 (dk_at dksL_law_34 7 rfl rfl)
theorem dL_law_937 : decode cL_law 937 = .ok (.iconst 1, 1) := dk_4 (dk_at dksL_law_34 8 rfl rfl)
theorem dL_law_938 : decode cL_law 938 = .ok (.iadd, 1) := dk_96 (dk_at dksL_law_34 9 rfl rfl)
theorem dL_law_939 : decode cL_law 939 = .ok (.iaload, 1) := dk_46 (dk_at dksL_law_34 10 rfl rfl)
theorem dL_law_940 : decode cL_law 940 = .ok (.aload_n 0, 1) := dk_42 (dk_at dksL_law_34 11 rfl rfl)
theorem dL_law_941 : decode cL_law 941 = .ok (.iload_n 3, 1) := dk_29 (dk_at dksL_law_34 12 rfl rfl)
theorem dL_law_942 : decode cL_law 942 = .ok (.iconst 2, 1) := dk_5 (dk_at dksL_law_34 13 rfl rfl)
theorem dL_law_943 : decode cL_law 943 = .ok (.iadd, 1) := dk_96 (dk_at dksL_law_34 14 rfl rfl)
theorem dL_law_944 : decode cL_law 944 = .ok (.iaload, 1) := dk_46 (dk_at dksL_law_34 15 rfl rfl)
theorem dL_law_945 : decode cL_law 945 = .ok (.aload_n 0, 1) := dk_42 (dk_at dksL_law_34 16 rfl rfl)
theorem dL_law_946 : decode cL_law 946 = .ok (.iload_n 3, 1) := dk_29 (dk_at dksL_law_34 17 rfl rfl)
theorem dL_law_947 : decode cL_law 947 = .ok (.iconst 3, 1) := dk_6 (dk_at dksL_law_34 18 rfl rfl)
theorem dL_law_948 : decode cL_law 948 = .ok (.iadd, 1) := dk_96 (dk_at dksL_law_34 19 rfl rfl)
theorem dL_law_949 : decode cL_law 949 = .ok (.iaload, 1) := dk_46 (dk_at dksL_law_34 20 rfl rfl)
theorem dL_law_950 : decode cL_law 950 = .ok (.aload_n 0, 1) := dk_42 (dk_at dksL_law_34 21 rfl rfl)
theorem dL_law_951 : decode cL_law 951 = .ok (.iload_n 3, 1) := dk_29 (dk_at dksL_law_34 22 rfl rfl)
theorem dL_law_952 : decode cL_law 952 = .ok (.iconst 4, 1) := dk_7 (dk_at dksL_law_34 23 rfl rfl)
theorem dL_law_953 : decode cL_law 953 = .ok (.iadd, 1) := dk_96 (dk_at dksL_law_35 0 rfl rfl)
theorem dL_law_954 : decode cL_law 954 = .ok (.iaload, 1) := dk_46 (dk_at dksL_law_35 1 rfl rfl)
theorem dL_law_955 : decode cL_law 955 = .ok (.aload_n 0, 1) := dk_42 (dk_at dksL_law_35 2 rfl rfl)
theorem dL_law_956 : decode cL_law 956 = .ok (.iload_n 3, 1) := dk_29 (dk_at dksL_law_35 3 rfl rfl)
theorem dL_law_957 : decode cL_law 957 = .ok (.iconst 5, 1) := dk_8 (dk_at dksL_law_35 4 rfl rfl)
theorem dL_law_958 : decode cL_law 958 = .ok (.iadd, 1) := dk_96 (dk_at dksL_law_35 5 rfl rfl)
theorem dL_law_959 : decode cL_law 959 = .ok (.iaload, 1) := dk_46 (dk_at dksL_law_35 6 rfl rfl)
theorem dL_law_960 : decode cL_law 960 = .ok (.invokevirtual 122, 3) := dk_182 0 122 (dk_at dksL_law_35 7 rfl rfl)
theorem dL_law_963 : decode cL_law 963 = .ok (.aload_n 2, 1) := dk_44 (dk_at dksL_law_35 10 rfl rfl)
theorem dL_law_964 : decode cL_law 964 = .ok (.aload_n 0, 1) := dk_42 (dk_at dksL_law_35 11 rfl rfl)
theorem dL_law_965 : decode cL_law 965 = .ok (.iload_n 3, 1) := dk_29 (dk_at dksL_law_35 12 rfl rfl)
theorem dL_law_966 : decode cL_law 966 = .ok (.iconst 1, 1) := dk_4 (dk_at dksL_law_35 13 rfl rfl)
theorem dL_law_967 : decode cL_law 967 = .ok (.iadd, 1) := dk_96 (dk_at dksL_law_35 14 rfl rfl)
theorem dL_law_968 : decode cL_law 968 = .ok (.iaload, 1) := dk_46 (dk_at dksL_law_35 15 rfl rfl)
theorem dL_law_969 : decode cL_law 969 = .ok (.aload_n 0, 1) := dk_42 (dk_at dksL_law_35 16 rfl rfl)
theorem dL_law_970 : decode cL_law 970 = .ok (.iload_n 3, 1) := dk_29 (dk_at dksL_law_35 17 rfl rfl)
theorem dL_law_971 : decode cL_law 971 = .ok (.iconst 2, 1) := dk_5 (dk_at dksL_law_35 18 rfl rfl)
theorem dL_law_972 : decode cL_law 972 = .ok (.iadd, 1) := dk_96 (dk_at dksL_law_35 19 rfl rfl)
theorem dL_law_973 : decode cL_law 973 = .ok (.iaload, 1) := dk_46 (dk_at dksL_law_35 20 rfl rfl)
theorem dL_law_974 : decode cL_law 974 = .ok (.aload_n 0, 1) := dk_42 (dk_at dksL_law_35 21 rfl rfl)
theorem dL_law_975 : decode cL_law 975 = .ok (.iload_n 3, 1) := dk_29 (dk_at dksL_law_35 22 rfl rfl)
theorem dL_law_976 : decode cL_law 976 = .ok (.iconst 3, 1) := dk_6 (dk_at dksL_law_35 23 rfl rfl)
theorem dL_law_977 : decode cL_law 977 = .ok (.iadd, 1) := dk_96 (dk_at dksL_law_36 0 rfl rfl)
theorem dL_law_978 : decode cL_law 978 = .ok (.iaload, 1) := dk_46 (dk_at dksL_law_36 1 rfl rfl)
theorem dL_law_979 : decode cL_law 979 = .ok (.aload_n 0, 1) := dk_42 (dk_at dksL_law_36 2 rfl rfl)
theorem dL_law_980 : decode cL_law 980 = .ok (.iload_n 3, 1) := dk_29 (dk_at dksL_law_36 3 rfl rfl)
theorem dL_law_981 : decode cL_law 981 = .ok (.iconst 4, 1) := dk_7 (dk_at dksL_law_36 4 rfl rfl)
theorem dL_law_982 : decode cL_law 982 = .ok (.iadd, 1) := dk_96 (dk_at dksL_law_36 5 rfl rfl)
theorem dL_law_983 : decode cL_law 983 = .ok (.iaload, 1) := dk_46 (dk_at dksL_law_36 6 rfl rfl)
theorem dL_law_984 : decode cL_law 984 = .ok (.aload_n 0, 1) := dk_42 (dk_at dksL_law_36 7 rfl rfl)
theorem dL_law_985 : decode cL_law 985 = .ok (.iload_n 3, 1) := dk_29 (dk_at dksL_law_36 8 rfl rfl)
theorem dL_law_986 : decode cL_law 986 = .ok (.iconst 5, 1) := dk_8 (dk_at dksL_law_36 9 rfl rfl)
theorem dL_law_987 : decode cL_law 987 = .ok (.iadd, 1) := dk_96 (dk_at dksL_law_36 10 rfl rfl)
theorem dL_law_988 : decode cL_law 988 = .ok (.iaload, 1) := dk_46 (dk_at dksL_law_36 11 rfl rfl)
theorem dL_law_989 : decode cL_law 989 = .ok (.invokevirtual 125, 3) := dk_182 0 125 (dk_at dksL_law_36 12 rfl rfl)
theorem dL_law_992 : decode cL_law 992 = .ok (.if_icmp .eq 296, 3) := dk_159 1 40 (dk_at dksL_law_36 15 rfl rfl)
theorem dL_law_995 : decode cL_law 995 = .ok (.iconst 0, 1) := dk_3 (dk_at dksL_law_36 18 rfl rfl)
theorem dL_law_996 : decode cL_law 996 = .ok (.ireturn, 1) := dk_172 (dk_at dksL_law_36 19 rfl rfl)
theorem dL_law_997 : decode cL_law 997 = .ok (.aload_n 1, 1) := dk_43 (dk_at dksL_law_36 20 rfl rfl)
theorem dL_law_998 : decode cL_law 998 = .ok (.aload_n 0, 1) := dk_42 (dk_at dksL_law_36 21 rfl rfl)
theorem dL_law_999 : decode cL_law 999 = .ok (.iload_n 3, 1) := dk_29 (dk_at dksL_law_36 22 rfl rfl)
theorem dL_law_1000 : decode cL_law 1000 = .ok (.iconst 1, 1) := dk_4 (dk_at dksL_law_36 23 rfl rfl)
theorem dL_law_1001 : decode cL_law 1001 = .ok (.iadd, 1) := dk_96 (dk_at dksL_law_37 0 rfl rfl)
theorem dL_law_1002 : decode cL_law 1002 = .ok (.iaload, 1) := dk_46 (dk_at dksL_law_37 1 rfl rfl)
theorem dL_law_1003 : decode cL_law 1003 = .ok (.aload_n 0, 1) := dk_42 (dk_at dksL_law_37 2 rfl rfl)
theorem dL_law_1004 : decode cL_law 1004 = .ok (.iload_n 3, 1) := dk_29 (dk_at dksL_law_37 3 rfl rfl)
theorem dL_law_1005 : decode cL_law 1005 = .ok (.iconst 2, 1) := dk_5 (dk_at dksL_law_37 4 rfl rfl)
theorem dL_law_1006 : decode cL_law 1006 = .ok (.iadd, 1) := dk_96 (dk_at dksL_law_37 5 rfl rfl)
theorem dL_law_1007 : decode cL_law 1007 = .ok (.iaload, 1) := dk_46 (dk_at dksL_law_37 6 rfl rfl)
theorem dL_law_1008 : decode cL_law 1008 = .ok (.aload_n 0, 1) := dk_42 (dk_at dksL_law_37 7 rfl rfl)
theorem dL_law_1009 : decode cL_law 1009 = .ok (.iload_n 3, 1) := dk_29 (dk_at dksL_law_37 8 rfl rfl)
theorem dL_law_1010 : decode cL_law 1010 = .ok (.iconst 3, 1) := dk_6 (dk_at dksL_law_37 9 rfl rfl)
theorem dL_law_1011 : decode cL_law 1011 = .ok (.iadd, 1) := dk_96 (dk_at dksL_law_37 10 rfl rfl)
theorem dL_law_1012 : decode cL_law 1012 = .ok (.iaload, 1) := dk_46 (dk_at dksL_law_37 11 rfl rfl)
theorem dL_law_1013 : decode cL_law 1013 = .ok (.aload_n 0, 1) := dk_42 (dk_at dksL_law_37 12 rfl rfl)
theorem dL_law_1014 : decode cL_law 1014 = .ok (.iload_n 3, 1) := dk_29 (dk_at dksL_law_37 13 rfl rfl)
theorem dL_law_1015 : decode cL_law 1015 = .ok (.iconst 4, 1) := dk_7 (dk_at dksL_law_37 14 rfl rfl)
theorem dL_law_1016 : decode cL_law 1016 = .ok (.iadd, 1) := dk_96 (dk_at dksL_law_37 15 rfl rfl)
theorem dL_law_1017 : decode cL_law 1017 = .ok (.iaload, 1) := dk_46 (dk_at dksL_law_37 16 rfl rfl)
theorem dL_law_1018 : decode cL_law 1018 = .ok (.invokevirtual 126, 3) := dk_182 0 126 (dk_at dksL_law_37 17 rfl rfl)
theorem dL_law_1021 : decode cL_law 1021 = .ok (.aload_n 2, 1) := dk_44 (dk_at dksL_law_37 20 rfl rfl)
theorem dL_law_1022 : decode cL_law 1022 = .ok (.aload_n 0, 1) := dk_42 (dk_at dksL_law_37 21 rfl rfl)
theorem dL_law_1023 : decode cL_law 1023 = .ok (.iload_n 3, 1) := dk_29 (dk_at dksL_law_37 22 rfl rfl)
theorem dL_law_1024 : decode cL_law 1024 = .ok (.iconst 1, 1) := dk_4 (dk_at dksL_law_37 23 rfl rfl)
theorem dL_law_1025 : decode cL_law 1025 = .ok (.iadd, 1) := dk_96 (dk_at dksL_law_38 0 rfl rfl)
theorem dL_law_1026 : decode cL_law 1026 = .ok (.iaload, 1) := dk_46 (dk_at dksL_law_38 1 rfl rfl)
theorem dL_law_1027 : decode cL_law 1027 = .ok (.aload_n 0, 1) := dk_42 (dk_at dksL_law_38 2 rfl rfl)
theorem dL_law_1028 : decode cL_law 1028 = .ok (.iload_n 3, 1) := dk_29 (dk_at dksL_law_38 3 rfl rfl)
theorem dL_law_1029 : decode cL_law 1029 = .ok (.iconst 2, 1) := dk_5 (dk_at dksL_law_38 4 rfl rfl)
theorem dL_law_1030 : decode cL_law 1030 = .ok (.iadd, 1) := dk_96 (dk_at dksL_law_38 5 rfl rfl)
theorem dL_law_1031 : decode cL_law 1031 = .ok (.iaload, 1) := dk_46 (dk_at dksL_law_38 6 rfl rfl)
theorem dL_law_1032 : decode cL_law 1032 = .ok (.aload_n 0, 1) := dk_42 (dk_at dksL_law_38 7 rfl rfl)
theorem dL_law_1033 : decode cL_law 1033 = .ok (.iload_n 3, 1) := dk_29 (dk_at dksL_law_38 8 rfl rfl)
theorem dL_law_1034 : decode cL_law 1034 = .ok (.iconst 3, 1) := dk_6 (dk_at dksL_law_38 9 rfl rfl)
theorem dL_law_1035 : decode cL_law 1035 = .ok (.iadd, 1) := dk_96 (dk_at dksL_law_38 10 rfl rfl)
theorem dL_law_1036 : decode cL_law 1036 = .ok (.iaload, 1) := dk_46 (dk_at dksL_law_38 11 rfl rfl)
theorem dL_law_1037 : decode cL_law 1037 = .ok (.aload_n 0, 1) := dk_42 (dk_at dksL_law_38 12 rfl rfl)
theorem dL_law_1038 : decode cL_law 1038 = .ok (.iload_n 3, 1) := dk_29 (dk_at dksL_law_38 13 rfl rfl)
theorem dL_law_1039 : decode cL_law 1039 = .ok (.iconst 4, 1) := dk_7 (dk_at dksL_law_38 14 rfl rfl)
theorem dL_law_1040 : decode cL_law 1040 = .ok (.iadd, 1) := dk_96 (dk_at dksL_law_38 15 rfl rfl)
theorem dL_law_1041 : decode cL_law 1041 = .ok (.iaload, 1) := dk_46 (dk_at dksL_law_38 16 rfl rfl)
theorem dL_law_1042 : decode cL_law 1042 = .ok (.invokevirtual 130, 3) := dk_182 0 130 (dk_at dksL_law_38 17 rfl rfl)
theorem dL_law_1045 : decode cL_law 1045 = .ok (.lcmp, 1) := dk_148 (dk_at dksL_law_38 20 rfl rfl)
theorem dL_law_1046 : decode cL_law 1046 = .ok (.ifCond .eq 242, 3) := dk_153 0 242 (dk_at dksL_law_38 21 rfl rfl)
theorem dL_law_1049 : decode cL_law 1049 = .ok (.iconst 0, 1) := dk_3 (dk_at dksL_law_39 0 rfl rfl)
theorem dL_law_1050 : decode cL_law 1050 = .ok (.ireturn, 1) := dk_172 (dk_at dksL_law_39 1 rfl rfl)
theorem dL_law_1051 : decode cL_law 1051 = .ok (.aload_n 1, 1) := dk_43 (dk_at dksL_law_39 2 rfl rfl)
theorem dL_law_1052 : decode cL_law 1052 = .ok (.aload_n 0, 1) := dk_42 (dk_at dksL_law_39 3 rfl rfl)
theorem dL_law_1053 : decode cL_law 1053 = .ok (.iload_n 3, 1) := dk_29 (dk_at dksL_law_39 4 rfl rfl)
theorem dL_law_1054 : decode cL_law 1054 = .ok (.iconst 1, 1) := dk_4 (dk_at dksL_law_39 5 rfl rfl)
theorem dL_law_1055 : decode cL_law 1055 = .ok (.iadd, 1) := dk_96 (dk_at dksL_law_39 6 rfl rfl)
theorem dL_law_1056 : decode cL_law 1056 = .ok (.iaload, 1) := dk_46 (dk_at dksL_law_39 7 rfl rfl)
theorem dL_law_1057 : decode cL_law 1057 = .ok (.aload_n 0, 1) := dk_42 (dk_at dksL_law_39 8 rfl rfl)
theorem dL_law_1058 : decode cL_law 1058 = .ok (.iload_n 3, 1) := dk_29 (dk_at dksL_law_39 9 rfl rfl)
theorem dL_law_1059 : decode cL_law 1059 = .ok (.iconst 2, 1) := dk_5 (dk_at dksL_law_39 10 rfl rfl)
theorem dL_law_1060 : decode cL_law 1060 = .ok (.iadd, 1) := dk_96 (dk_at dksL_law_39 11 rfl rfl)
theorem dL_law_1061 : decode cL_law 1061 = .ok (.iaload, 1) := dk_46 (dk_at dksL_law_39 12 rfl rfl)
theorem dL_law_1062 : decode cL_law 1062 = .ok (.aload_n 0, 1) := dk_42 (dk_at dksL_law_39 13 rfl rfl)
theorem dL_law_1063 : decode cL_law 1063 = .ok (.iload_n 3, 1) := dk_29 (dk_at dksL_law_39 14 rfl rfl)
theorem dL_law_1064 : decode cL_law 1064 = .ok (.iconst 3, 1) := dk_6 (dk_at dksL_law_39 15 rfl rfl)
theorem dL_law_1065 : decode cL_law 1065 = .ok (.iadd, 1) := dk_96 (dk_at dksL_law_39 16 rfl rfl)
theorem dL_law_1066 : decode cL_law 1066 = .ok (.iaload, 1) := dk_46 (dk_at dksL_law_39 17 rfl rfl)
theorem dL_law_1067 : decode cL_law 1067 = .ok (.invokevirtual 131, 3) := dk_182 0 131 (dk_at dksL_law_39 18 rfl rfl)
theorem dL_law_1070 : decode cL_law 1070 = .ok (.aload_n 2, 1) := dk_44 (dk_at dksL_law_39 21 rfl rfl)
theorem dL_law_1071 : decode cL_law 1071 = .ok (.aload_n 0, 1) := dk_42 (dk_at dksL_law_39 22 rfl rfl)
theorem dL_law_1072 : decode cL_law 1072 = .ok (.iload_n 3, 1) := dk_29 (dk_at dksL_law_39 23 rfl rfl)
theorem dL_law_1073 : decode cL_law 1073 = .ok (.iconst 1, 1) := dk_4 (dk_at dksL_law_40 0 rfl rfl)
theorem dL_law_1074 : decode cL_law 1074 = .ok (.iadd, 1) := dk_96 (dk_at dksL_law_40 1 rfl rfl)
theorem dL_law_1075 : decode cL_law 1075 = .ok (.iaload, 1) := dk_46 (dk_at dksL_law_40 2 rfl rfl)
theorem dL_law_1076 : decode cL_law 1076 = .ok (.aload_n 0, 1) := dk_42 (dk_at dksL_law_40 3 rfl rfl)
theorem dL_law_1077 : decode cL_law 1077 = .ok (.iload_n 3, 1) := dk_29 (dk_at dksL_law_40 4 rfl rfl)
theorem dL_law_1078 : decode cL_law 1078 = .ok (.iconst 2, 1) := dk_5 (dk_at dksL_law_40 5 rfl rfl)
theorem dL_law_1079 : decode cL_law 1079 = .ok (.iadd, 1) := dk_96 (dk_at dksL_law_40 6 rfl rfl)
theorem dL_law_1080 : decode cL_law 1080 = .ok (.iaload, 1) := dk_46 (dk_at dksL_law_40 7 rfl rfl)
theorem dL_law_1081 : decode cL_law 1081 = .ok (.aload_n 0, 1) := dk_42 (dk_at dksL_law_40 8 rfl rfl)
theorem dL_law_1082 : decode cL_law 1082 = .ok (.iload_n 3, 1) := dk_29 (dk_at dksL_law_40 9 rfl rfl)
theorem dL_law_1083 : decode cL_law 1083 = .ok (.iconst 3, 1) := dk_6 (dk_at dksL_law_40 10 rfl rfl)
theorem dL_law_1084 : decode cL_law 1084 = .ok (.iadd, 1) := dk_96 (dk_at dksL_law_40 11 rfl rfl)
theorem dL_law_1085 : decode cL_law 1085 = .ok (.iaload, 1) := dk_46 (dk_at dksL_law_40 12 rfl rfl)
theorem dL_law_1086 : decode cL_law 1086 = .ok (.invokevirtual 134, 3) := dk_182 0 134 (dk_at dksL_law_40 13 rfl rfl)
theorem dL_law_1089 : decode cL_law 1089 = .ok (.if_icmp .eq 199, 3) := dk_159 0 199 (dk_at dksL_law_40 16 rfl rfl)
theorem dL_law_1092 : decode cL_law 1092 = .ok (.iconst 0, 1) := dk_3 (dk_at dksL_law_40 19 rfl rfl)
theorem dL_law_1093 : decode cL_law 1093 = .ok (.ireturn, 1) := dk_172 (dk_at dksL_law_40 20 rfl rfl)
theorem dL_law_1094 : decode cL_law 1094 = .ok (.aload_n 1, 1) := dk_43 (dk_at dksL_law_40 21 rfl rfl)
theorem dL_law_1095 : decode cL_law 1095 = .ok (.aload_n 0, 1) := dk_42 (dk_at dksL_law_40 22 rfl rfl)
theorem dL_law_1096 : decode cL_law 1096 = .ok (.iload_n 3, 1) := dk_29 (dk_at dksL_law_40 23 rfl rfl)
theorem dL_law_1097 : decode cL_law 1097 = .ok (.iconst 1, 1) := dk_4 (dk_at dksL_law_41 0 rfl rfl)
theorem dL_law_1098 : decode cL_law 1098 = .ok (.iadd, 1) := dk_96 (dk_at dksL_law_41 1 rfl rfl)
theorem dL_law_1099 : decode cL_law 1099 = .ok (.iaload, 1) := dk_46 (dk_at dksL_law_41 2 rfl rfl)
theorem dL_law_1100 : decode cL_law 1100 = .ok (.invokevirtual 135, 3) := dk_182 0 135 (dk_at dksL_law_41 3 rfl rfl)
theorem dL_law_1103 : decode cL_law 1103 = .ok (.aload_n 2, 1) := dk_44 (dk_at dksL_law_41 6 rfl rfl)
theorem dL_law_1104 : decode cL_law 1104 = .ok (.aload_n 0, 1) := dk_42 (dk_at dksL_law_41 7 rfl rfl)
theorem dL_law_1105 : decode cL_law 1105 = .ok (.iload_n 3, 1) := dk_29 (dk_at dksL_law_41 8 rfl rfl)
theorem dL_law_1106 : decode cL_law 1106 = .ok (.iconst 1, 1) := dk_4 (dk_at dksL_law_41 9 rfl rfl)
theorem dL_law_1107 : decode cL_law 1107 = .ok (.iadd, 1) := dk_96 (dk_at dksL_law_41 10 rfl rfl)
theorem dL_law_1108 : decode cL_law 1108 = .ok (.iaload, 1) := dk_46 (dk_at dksL_law_41 11 rfl rfl)
theorem dL_law_1109 : decode cL_law 1109 = .ok (.invokevirtual 138, 3) := dk_182 0 138 (dk_at dksL_law_41 12 rfl rfl)
theorem dL_law_1112 : decode cL_law 1112 = .ok (.if_icmp .eq 176, 3) := dk_159 0 176 (dk_at dksL_law_41 15 rfl rfl)
theorem dL_law_1115 : decode cL_law 1115 = .ok (.iconst 0, 1) := dk_3 (dk_at dksL_law_41 18 rfl rfl)
theorem dL_law_1116 : decode cL_law 1116 = .ok (.ireturn, 1) := dk_172 (dk_at dksL_law_41 19 rfl rfl)
theorem dL_law_1117 : decode cL_law 1117 = .ok (.aload_n 1, 1) := dk_43 (dk_at dksL_law_41 20 rfl rfl)
theorem dL_law_1118 : decode cL_law 1118 = .ok (.aload_n 0, 1) := dk_42 (dk_at dksL_law_41 21 rfl rfl)
theorem dL_law_1119 : decode cL_law 1119 = .ok (.iload_n 3, 1) := dk_29 (dk_at dksL_law_41 22 rfl rfl)
theorem dL_law_1120 : decode cL_law 1120 = .ok (.iconst 1, 1) := dk_4 (dk_at dksL_law_41 23 rfl rfl)
theorem dL_law_1121 : decode cL_law 1121 = .ok (.iadd, 1) := dk_96 (dk_at dksL_law_42 0 rfl rfl)
theorem dL_law_1122 : decode cL_law 1122 = .ok (.iaload, 1) := dk_46 (dk_at dksL_law_42 1 rfl rfl)
theorem dL_law_1123 : decode cL_law 1123 = .ok (.invokevirtual 139, 3) := dk_182 0 139 (dk_at dksL_law_42 2 rfl rfl)
theorem dL_law_1126 : decode cL_law 1126 = .ok (.aload_n 2, 1) := dk_44 (dk_at dksL_law_42 5 rfl rfl)
theorem dL_law_1127 : decode cL_law 1127 = .ok (.aload_n 0, 1) := dk_42 (dk_at dksL_law_42 6 rfl rfl)
theorem dL_law_1128 : decode cL_law 1128 = .ok (.iload_n 3, 1) := dk_29 (dk_at dksL_law_42 7 rfl rfl)
theorem dL_law_1129 : decode cL_law 1129 = .ok (.iconst 1, 1) := dk_4 (dk_at dksL_law_42 8 rfl rfl)
theorem dL_law_1130 : decode cL_law 1130 = .ok (.iadd, 1) := dk_96 (dk_at dksL_law_42 9 rfl rfl)
theorem dL_law_1131 : decode cL_law 1131 = .ok (.iaload, 1) := dk_46 (dk_at dksL_law_42 10 rfl rfl)
theorem dL_law_1132 : decode cL_law 1132 = .ok (.invokevirtual 142, 3) := dk_182 0 142 (dk_at dksL_law_42 11 rfl rfl)
theorem dL_law_1135 : decode cL_law 1135 = .ok (.if_icmp .eq 153, 3) := dk_159 0 153 (dk_at dksL_law_42 14 rfl rfl)
theorem dL_law_1138 : decode cL_law 1138 = .ok (.iconst 0, 1) := dk_3 (dk_at dksL_law_42 17 rfl rfl)
theorem dL_law_1139 : decode cL_law 1139 = .ok (.ireturn, 1) := dk_172 (dk_at dksL_law_42 18 rfl rfl)
theorem dL_law_1140 : decode cL_law 1140 = .ok (.aload_n 1, 1) := dk_43 (dk_at dksL_law_42 19 rfl rfl)
theorem dL_law_1141 : decode cL_law 1141 = .ok (.aload_n 0, 1) := dk_42 (dk_at dksL_law_42 20 rfl rfl)
theorem dL_law_1142 : decode cL_law 1142 = .ok (.iload_n 3, 1) := dk_29 (dk_at dksL_law_42 21 rfl rfl)
theorem dL_law_1143 : decode cL_law 1143 = .ok (.iconst 1, 1) := dk_4 (dk_at dksL_law_42 22 rfl rfl)
theorem dL_law_1144 : decode cL_law 1144 = .ok (.iadd, 1) := dk_96 (dk_at dksL_law_42 23 rfl rfl)
theorem dL_law_1145 : decode cL_law 1145 = .ok (.iaload, 1) := dk_46 (dk_at dksL_law_43 0 rfl rfl)
theorem dL_law_1146 : decode cL_law 1146 = .ok (.invokevirtual 143, 3) := dk_182 0 143 (dk_at dksL_law_43 1 rfl rfl)
theorem dL_law_1149 : decode cL_law 1149 = .ok (.aload_n 2, 1) := dk_44 (dk_at dksL_law_43 4 rfl rfl)
theorem dL_law_1150 : decode cL_law 1150 = .ok (.aload_n 0, 1) := dk_42 (dk_at dksL_law_43 5 rfl rfl)
theorem dL_law_1151 : decode cL_law 1151 = .ok (.iload_n 3, 1) := dk_29 (dk_at dksL_law_43 6 rfl rfl)
theorem dL_law_1152 : decode cL_law 1152 = .ok (.iconst 1, 1) := dk_4 (dk_at dksL_law_43 7 rfl rfl)
theorem dL_law_1153 : decode cL_law 1153 = .ok (.iadd, 1) := dk_96 (dk_at dksL_law_43 8 rfl rfl)
theorem dL_law_1154 : decode cL_law 1154 = .ok (.iaload, 1) := dk_46 (dk_at dksL_law_43 9 rfl rfl)
theorem dL_law_1155 : decode cL_law 1155 = .ok (.invokevirtual 146, 3) := dk_182 0 146 (dk_at dksL_law_43 10 rfl rfl)
theorem dL_law_1158 : decode cL_law 1158 = .ok (.if_icmp .eq 130, 3) := dk_159 0 130 (dk_at dksL_law_43 13 rfl rfl)
theorem dL_law_1161 : decode cL_law 1161 = .ok (.iconst 0, 1) := dk_3 (dk_at dksL_law_43 16 rfl rfl)
theorem dL_law_1162 : decode cL_law 1162 = .ok (.ireturn, 1) := dk_172 (dk_at dksL_law_43 17 rfl rfl)
theorem dL_law_1163 : decode cL_law 1163 = .ok (.aload_n 1, 1) := dk_43 (dk_at dksL_law_43 18 rfl rfl)
theorem dL_law_1164 : decode cL_law 1164 = .ok (.aload_n 0, 1) := dk_42 (dk_at dksL_law_43 19 rfl rfl)
theorem dL_law_1165 : decode cL_law 1165 = .ok (.iload_n 3, 1) := dk_29 (dk_at dksL_law_43 20 rfl rfl)
theorem dL_law_1166 : decode cL_law 1166 = .ok (.iconst 1, 1) := dk_4 (dk_at dksL_law_43 21 rfl rfl)
theorem dL_law_1167 : decode cL_law 1167 = .ok (.iadd, 1) := dk_96 (dk_at dksL_law_43 22 rfl rfl)
theorem dL_law_1168 : decode cL_law 1168 = .ok (.iaload, 1) := dk_46 (dk_at dksL_law_43 23 rfl rfl)
theorem dL_law_1169 : decode cL_law 1169 = .ok (.aload_n 0, 1) := dk_42 (dk_at dksL_law_44 0 rfl rfl)
theorem dL_law_1170 : decode cL_law 1170 = .ok (.iload_n 3, 1) := dk_29 (dk_at dksL_law_44 1 rfl rfl)
theorem dL_law_1171 : decode cL_law 1171 = .ok (.iconst 2, 1) := dk_5 (dk_at dksL_law_44 2 rfl rfl)
theorem dL_law_1172 : decode cL_law 1172 = .ok (.iadd, 1) := dk_96 (dk_at dksL_law_44 3 rfl rfl)
theorem dL_law_1173 : decode cL_law 1173 = .ok (.iaload, 1) := dk_46 (dk_at dksL_law_44 4 rfl rfl)
theorem dL_law_1174 : decode cL_law 1174 = .ok (.invokevirtual 147, 3) := dk_182 0 147 (dk_at dksL_law_44 5 rfl rfl)
theorem dL_law_1177 : decode cL_law 1177 = .ok (.aload_n 2, 1) := dk_44 (dk_at dksL_law_44 8 rfl rfl)
theorem dL_law_1178 : decode cL_law 1178 = .ok (.aload_n 0, 1) := dk_42 (dk_at dksL_law_44 9 rfl rfl)
theorem dL_law_1179 : decode cL_law 1179 = .ok (.iload_n 3, 1) := dk_29 (dk_at dksL_law_44 10 rfl rfl)
theorem dL_law_1180 : decode cL_law 1180 = .ok (.iconst 1, 1) := dk_4 (dk_at dksL_law_44 11 rfl rfl)
theorem dL_law_1181 : decode cL_law 1181 = .ok (.iadd, 1) := dk_96 (dk_at dksL_law_44 12 rfl rfl)
theorem dL_law_1182 : decode cL_law 1182 = .ok (.iaload, 1) := dk_46 (dk_at dksL_law_44 13 rfl rfl)
theorem dL_law_1183 : decode cL_law 1183 = .ok (.aload_n 0, 1) := dk_42 (dk_at dksL_law_44 14 rfl rfl)
theorem dL_law_1184 : decode cL_law 1184 = .ok (.iload_n 3, 1) := dk_29 (dk_at dksL_law_44 15 rfl rfl)
theorem dL_law_1185 : decode cL_law 1185 = .ok (.iconst 2, 1) := dk_5 (dk_at dksL_law_44 16 rfl rfl)
theorem dL_law_1186 : decode cL_law 1186 = .ok (.iadd, 1) := dk_96 (dk_at dksL_law_44 17 rfl rfl)
theorem dL_law_1187 : decode cL_law 1187 = .ok (.iaload, 1) := dk_46 (dk_at dksL_law_44 18 rfl rfl)
theorem dL_law_1188 : decode cL_law 1188 = .ok (.invokevirtual 150, 3) := dk_182 0 150 (dk_at dksL_law_44 19 rfl rfl)
theorem dL_law_1191 : decode cL_law 1191 = .ok (.if_icmp .eq 97, 3) := dk_159 0 97 (dk_at dksL_law_45 0 rfl rfl)
theorem dL_law_1194 : decode cL_law 1194 = .ok (.iconst 0, 1) := dk_3 (dk_at dksL_law_45 3 rfl rfl)
theorem dL_law_1195 : decode cL_law 1195 = .ok (.ireturn, 1) := dk_172 (dk_at dksL_law_45 4 rfl rfl)
theorem dL_law_1196 : decode cL_law 1196 = .ok (.aload_n 1, 1) := dk_43 (dk_at dksL_law_45 5 rfl rfl)
theorem dL_law_1197 : decode cL_law 1197 = .ok (.aload_n 0, 1) := dk_42 (dk_at dksL_law_45 6 rfl rfl)
theorem dL_law_1198 : decode cL_law 1198 = .ok (.iload_n 3, 1) := dk_29 (dk_at dksL_law_45 7 rfl rfl)
theorem dL_law_1199 : decode cL_law 1199 = .ok (.iconst 1, 1) := dk_4 (dk_at dksL_law_45 8 rfl rfl)
theorem dL_law_1200 : decode cL_law 1200 = .ok (.iadd, 1) := dk_96 (dk_at dksL_law_45 9 rfl rfl)
theorem dL_law_1201 : decode cL_law 1201 = .ok (.iaload, 1) := dk_46 (dk_at dksL_law_45 10 rfl rfl)
theorem dL_law_1202 : decode cL_law 1202 = .ok (.aload_n 0, 1) := dk_42 (dk_at dksL_law_45 11 rfl rfl)
theorem dL_law_1203 : decode cL_law 1203 = .ok (.iload_n 3, 1) := dk_29 (dk_at dksL_law_45 12 rfl rfl)
theorem dL_law_1204 : decode cL_law 1204 = .ok (.iconst 2, 1) := dk_5 (dk_at dksL_law_45 13 rfl rfl)
theorem dL_law_1205 : decode cL_law 1205 = .ok (.iadd, 1) := dk_96 (dk_at dksL_law_45 14 rfl rfl)
theorem dL_law_1206 : decode cL_law 1206 = .ok (.iaload, 1) := dk_46 (dk_at dksL_law_45 15 rfl rfl)
theorem dL_law_1207 : decode cL_law 1207 = .ok (.invokevirtual 151, 3) := dk_182 0 151 (dk_at dksL_law_45 16 rfl rfl)
theorem dL_law_1210 : decode cL_law 1210 = .ok (.aload_n 2, 1) := dk_44 (dk_at dksL_law_45 19 rfl rfl)
theorem dL_law_1211 : decode cL_law 1211 = .ok (.aload_n 0, 1) := dk_42 (dk_at dksL_law_45 20 rfl rfl)
theorem dL_law_1212 : decode cL_law 1212 = .ok (.iload_n 3, 1) := dk_29 (dk_at dksL_law_45 21 rfl rfl)
theorem dL_law_1213 : decode cL_law 1213 = .ok (.iconst 1, 1) := dk_4 (dk_at dksL_law_45 22 rfl rfl)
theorem dL_law_1214 : decode cL_law 1214 = .ok (.iadd, 1) := dk_96 (dk_at dksL_law_45 23 rfl rfl)
theorem dL_law_1215 : decode cL_law 1215 = .ok (.iaload, 1) := dk_46 (dk_at dksL_law_46 0 rfl rfl)
theorem dL_law_1216 : decode cL_law 1216 = .ok (.aload_n 0, 1) := dk_42 (dk_at dksL_law_46 1 rfl rfl)
theorem dL_law_1217 : decode cL_law 1217 = .ok (.iload_n 3, 1) := dk_29 (dk_at dksL_law_46 2 rfl rfl)
theorem dL_law_1218 : decode cL_law 1218 = .ok (.iconst 2, 1) := dk_5 (dk_at dksL_law_46 3 rfl rfl)
theorem dL_law_1219 : decode cL_law 1219 = .ok (.iadd, 1) := dk_96 (dk_at dksL_law_46 4 rfl rfl)
theorem dL_law_1220 : decode cL_law 1220 = .ok (.iaload, 1) := dk_46 (dk_at dksL_law_46 5 rfl rfl)
theorem dL_law_1221 : decode cL_law 1221 = .ok (.invokevirtual 154, 3) := dk_182 0 154 (dk_at dksL_law_46 6 rfl rfl)
theorem dL_law_1224 : decode cL_law 1224 = .ok (.if_icmp .eq 64, 3) := dk_159 0 64 (dk_at dksL_law_46 9 rfl rfl)
theorem dL_law_1227 : decode cL_law 1227 = .ok (.iconst 0, 1) := dk_3 (dk_at dksL_law_46 12 rfl rfl)
theorem dL_law_1228 : decode cL_law 1228 = .ok (.ireturn, 1) := dk_172 (dk_at dksL_law_46 13 rfl rfl)
theorem dL_law_1229 : decode cL_law 1229 = .ok (.aload_n 1, 1) := dk_43 (dk_at dksL_law_46 14 rfl rfl)
theorem dL_law_1230 : decode cL_law 1230 = .ok (.aload_n 0, 1) := dk_42 (dk_at dksL_law_46 15 rfl rfl)
theorem dL_law_1231 : decode cL_law 1231 = .ok (.iload_n 3, 1) := dk_29 (dk_at dksL_law_46 16 rfl rfl)
theorem dL_law_1232 : decode cL_law 1232 = .ok (.iconst 1, 1) := dk_4 (dk_at dksL_law_46 17 rfl rfl)
theorem dL_law_1233 : decode cL_law 1233 = .ok (.iadd, 1) := dk_96 (dk_at dksL_law_46 18 rfl rfl)
theorem dL_law_1234 : decode cL_law 1234 = .ok (.iaload, 1) := dk_46 (dk_at dksL_law_46 19 rfl rfl)
theorem dL_law_1235 : decode cL_law 1235 = .ok (.invokevirtual 155, 3) := dk_182 0 155 (dk_at dksL_law_46 20 rfl rfl)
theorem dL_law_1238 : decode cL_law 1238 = .ok (.aload_n 2, 1) := dk_44 (dk_at dksL_law_46 23 rfl rfl)
theorem dL_law_1239 : decode cL_law 1239 = .ok (.aload_n 0, 1) := dk_42 (dk_at dksL_law_47 0 rfl rfl)
theorem dL_law_1240 : decode cL_law 1240 = .ok (.iload_n 3, 1) := dk_29 (dk_at dksL_law_47 1 rfl rfl)
theorem dL_law_1241 : decode cL_law 1241 = .ok (.iconst 1, 1) := dk_4 (dk_at dksL_law_47 2 rfl rfl)
theorem dL_law_1242 : decode cL_law 1242 = .ok (.iadd, 1) := dk_96 (dk_at dksL_law_47 3 rfl rfl)
theorem dL_law_1243 : decode cL_law 1243 = .ok (.iaload, 1) := dk_46 (dk_at dksL_law_47 4 rfl rfl)
theorem dL_law_1244 : decode cL_law 1244 = .ok (.invokevirtual 158, 3) := dk_182 0 158 (dk_at dksL_law_47 5 rfl rfl)
theorem dL_law_1247 : decode cL_law 1247 = .ok (.if_icmp .eq 41, 3) := dk_159 0 41 (dk_at dksL_law_47 8 rfl rfl)
theorem dL_law_1250 : decode cL_law 1250 = .ok (.iconst 0, 1) := dk_3 (dk_at dksL_law_47 11 rfl rfl)
theorem dL_law_1251 : decode cL_law 1251 = .ok (.ireturn, 1) := dk_172 (dk_at dksL_law_47 12 rfl rfl)
theorem dL_law_1252 : decode cL_law 1252 = .ok (.aload_n 1, 1) := dk_43 (dk_at dksL_law_47 13 rfl rfl)
theorem dL_law_1253 : decode cL_law 1253 = .ok (.aload_n 0, 1) := dk_42 (dk_at dksL_law_47 14 rfl rfl)
theorem dL_law_1254 : decode cL_law 1254 = .ok (.iload_n 3, 1) := dk_29 (dk_at dksL_law_47 15 rfl rfl)
theorem dL_law_1255 : decode cL_law 1255 = .ok (.iconst 1, 1) := dk_4 (dk_at dksL_law_47 16 rfl rfl)
theorem dL_law_1256 : decode cL_law 1256 = .ok (.iadd, 1) := dk_96 (dk_at dksL_law_47 17 rfl rfl)
theorem dL_law_1257 : decode cL_law 1257 = .ok (.iaload, 1) := dk_46 (dk_at dksL_law_47 18 rfl rfl)
theorem dL_law_1258 : decode cL_law 1258 = .ok (.invokevirtual 159, 3) := dk_182 0 159 (dk_at dksL_law_47 19 rfl rfl)
theorem dL_law_1261 : decode cL_law 1261 = .ok (.aload_n 2, 1) := dk_44 (dk_at dksL_law_47 22 rfl rfl)
theorem dL_law_1262 : decode cL_law 1262 = .ok (.aload_n 0, 1) := dk_42 (dk_at dksL_law_47 23 rfl rfl)
theorem dL_law_1263 : decode cL_law 1263 = .ok (.iload_n 3, 1) := dk_29 (dk_at dksL_law_48 0 rfl rfl)
theorem dL_law_1264 : decode cL_law 1264 = .ok (.iconst 1, 1) := dk_4 (dk_at dksL_law_48 1 rfl rfl)
theorem dL_law_1265 : decode cL_law 1265 = .ok (.iadd, 1) := dk_96 (dk_at dksL_law_48 2 rfl rfl)
theorem dL_law_1266 : decode cL_law 1266 = .ok (.iaload, 1) := dk_46 (dk_at dksL_law_48 3 rfl rfl)
theorem dL_law_1267 : decode cL_law 1267 = .ok (.invokevirtual 162, 3) := dk_182 0 162 (dk_at dksL_law_48 4 rfl rfl)
theorem dL_law_1270 : decode cL_law 1270 = .ok (.if_icmp .eq 18, 3) := dk_159 0 18 (dk_at dksL_law_48 7 rfl rfl)
theorem dL_law_1273 : decode cL_law 1273 = .ok (.iconst 0, 1) := dk_3 (dk_at dksL_law_48 10 rfl rfl)
theorem dL_law_1274 : decode cL_law 1274 = .ok (.ireturn, 1) := dk_172 (dk_at dksL_law_48 11 rfl rfl)
theorem dL_law_1275 : decode cL_law 1275 = .ok (.aload_n 1, 1) := dk_43 (dk_at dksL_law_48 12 rfl rfl)
theorem dL_law_1276 : decode cL_law 1276 = .ok (.invokevirtual 163, 3) := dk_182 0 163 (dk_at dksL_law_48 13 rfl rfl)
theorem dL_law_1279 : decode cL_law 1279 = .ok (.aload_n 2, 1) := dk_44 (dk_at dksL_law_48 16 rfl rfl)
theorem dL_law_1280 : decode cL_law 1280 = .ok (.invokevirtual 166, 3) := dk_182 0 166 (dk_at dksL_law_48 17 rfl rfl)
theorem dL_law_1283 : decode cL_law 1283 = .ok (.if_icmp .eq 5, 3) := dk_159 0 5 (dk_at dksL_law_48 20 rfl rfl)
theorem dL_law_1286 : decode cL_law 1286 = .ok (.iconst 0, 1) := dk_3 (dk_at dksL_law_48 23 rfl rfl)
theorem dL_law_1287 : decode cL_law 1287 = .ok (.ireturn, 1) := dk_172 (dk_at dksL_law_49 0 rfl rfl)
theorem dL_law_1288 : decode cL_law 1288 = .ok (.iinc 3 6, 3) := dk_132 3 6 (dk_at dksL_law_49 1 rfl rfl)
theorem dL_law_1291 : decode cL_law 1291 = .ok (.goto (-1273), 3) := dk_167 251 7 (dk_at dksL_law_49 4 rfl rfl)
theorem dL_law_1294 : decode cL_law 1294 = .ok (.iconst 1, 1) := dk_4 (dk_at dksL_law_49 7 rfl rfl)
theorem dL_law_1295 : decode cL_law 1295 = .ok (.ireturn, 1) := dk_172 (dk_at dksL_law_49 8 rfl rfl)

/-! DishLift$House -/
set_option maxRecDepth 100000
def RX1 : String := "DishLift$House"
def TX1 : u_T := fun k => match k with
  | 0 => ("DishLift$House", "floors", "I", false)
  | 1 => ("DishLift$House", "room", "I", false)
  | 2 => ("DishLift$House", "rope", "I", false)
  | 3 => ("DishLift$House", "car", "I", false)
  | 4 => ("DishLift$House", "way", "I", false)
  | 5 => ("DishLift$House", "dishes", "Ljava/util/List;", false)
  | 6 => ("DishLift$House", "how", "[I", true)
  | 7 => ("DishLift$House", "at", "[I", true)
  | 8 => ("DishLift$House", "to", "[I", true)
  | 9 => ("DishLift$House", "weight", "[I", true)
  | 10 => ("DishLift$House", "heat", "[I", true)
  | 11 => ("DishLift$House", "rank", "[I", true)
  | 12 => ("DishLift$House", "minute", "I", false)
  | 13 => ("DishLift$House", "takenFor", "I", false)
  | _ => ("DishLift$House", "taken", "LDishLift$Dish;", false)
def tyX1 : Nat → FieldType := fun k => match k with
  | 0 => .int
  | 1 => .int
  | 2 => .int
  | 3 => .int
  | 4 => .int
  | 5 => .object "java/util/List"
  | 6 => .array .int
  | 7 => .array .int
  | 8 => .array .int
  | 9 => .array .int
  | 10 => .array .int
  | 11 => .array .int
  | 12 => .int
  | 13 => .int
  | _ => .object "DishLift$Dish"
abbrev wsX10 : List Cond := u_ws RX1 TX1 15
set_option maxRecDepth 100000 in
theorem nmX1 : ∀ a, a < 15 → ∀ b, b < 15 → a ≠ b → (TX1 a).2.1 ≠ (TX1 b).2.1 := by decide +kernel
set_option maxRecDepth 100000 in
theorem tyX1_ok : ∀ k, k < 15 → parseFieldDescriptor (TX1 k).2.2.1 = some (tyX1 k) := by decide +kernel
abbrev cX1_init : ByteArray := prog_7_method_1_code
def yX1_init : MethodName := ⟨RX1, "<init>", "()V"⟩
def dkwX1_init_4 : List UInt8 := [177]
abbrev dktX1_init_4 : List UInt8 := dkwX1_init_4 ++ []
def dkwX1_init_3 : List UInt8 := [181, 0, 42, 3, 60, 27, 16, 6, 162, 0, 16, 42, 180, 0, 38, 27, 27, 79, 132, 1, 1, 167, 255, 240]
abbrev dktX1_init_3 : List UInt8 := dkwX1_init_3 ++ dktX1_init_4
def dkwX1_init_2 : List UInt8 := [188, 10, 181, 0, 32, 42, 16, 6, 188, 10, 181, 0, 35, 42, 16, 6, 188, 10, 181, 0, 38, 42, 18, 41]
abbrev dktX1_init_2 : List UInt8 := dkwX1_init_2 ++ dktX1_init_3
def dkwX1_init_1 : List UInt8 := [188, 10, 181, 0, 22, 42, 16, 6, 188, 10, 181, 0, 26, 42, 16, 6, 188, 10, 181, 0, 29, 42, 16, 6]
abbrev dktX1_init_1 : List UInt8 := dkwX1_init_1 ++ dktX1_init_2
def dkwX1_init_0 : List UInt8 := [42, 183, 0, 3, 42, 4, 181, 0, 9, 42, 187, 0, 15, 89, 183, 0, 17, 181, 0, 18, 42, 16, 6]
abbrev dktX1_init_0 : List UInt8 := dkwX1_init_0 ++ dktX1_init_1
theorem dksX1_init_0 : cX1_init.data.toList.drop 0 = dktX1_init_0 := by decide +kernel
theorem dksX1_init_1 : cX1_init.data.toList.drop 23 = dktX1_init_1 := dk_seg dksX1_init_0 23 rfl rfl
theorem dksX1_init_2 : cX1_init.data.toList.drop 47 = dktX1_init_2 := dk_seg dksX1_init_1 24 rfl rfl
theorem dksX1_init_3 : cX1_init.data.toList.drop 71 = dktX1_init_3 := dk_seg dksX1_init_2 24 rfl rfl
theorem dksX1_init_4 : cX1_init.data.toList.drop 95 = dktX1_init_4 := dk_seg dksX1_init_3 24 rfl rfl
theorem dX1_init_0 : decode cX1_init 0 = .ok (.aload_n 0, 1) := dk_42 (dk_at dksX1_init_0 0 rfl rfl)
theorem dX1_init_1 : decode cX1_init 1 = .ok (.invokespecial 3, 3) := dk_183 0 3 (dk_at dksX1_init_0 1 rfl rfl)
theorem dX1_init_4 : decode cX1_init 4 = .ok (.aload_n 0, 1) := dk_42 (dk_at dksX1_init_0 4 rfl rfl)
theorem dX1_init_5 : decode cX1_init 5 = .ok (.iconst 1, 1) := dk_4 (dk_at dksX1_init_0 5 rfl rfl)
theorem dX1_init_6 : decode cX1_init 6 = .ok (.putfield 9, 3) := dk_181 0 9 (dk_at dksX1_init_0 6 rfl rfl)
theorem dX1_init_9 : decode cX1_init 9 = .ok (.aload_n 0, 1) := dk_42 (dk_at dksX1_init_0 9 rfl rfl)
theorem dX1_init_10 : decode cX1_init 10 = .ok (.new 15, 3) := dk_187 0 15 (dk_at dksX1_init_0 10 rfl rfl)
theorem dX1_init_13 : decode cX1_init 13 = .ok (.dup, 1) := dk_89 (dk_at dksX1_init_0 13 rfl rfl)
theorem dX1_init_14 : decode cX1_init 14 = .ok (.invokespecial 17, 3) := dk_183 0 17 (dk_at dksX1_init_0 14 rfl rfl)
theorem dX1_init_17 : decode cX1_init 17 = .ok (.putfield 18, 3) := dk_181 0 18 (dk_at dksX1_init_0 17 rfl rfl)
theorem dX1_init_20 : decode cX1_init 20 = .ok (.aload_n 0, 1) := dk_42 (dk_at dksX1_init_0 20 rfl rfl)
theorem dX1_init_21 : decode cX1_init 21 = .ok (.bipush 6, 2) := dk_16 6 (dk_at dksX1_init_0 21 rfl rfl)
theorem dX1_init_23 : decode cX1_init 23 = .ok (.newarray .int, 2) := dk_188_10 (dk_at dksX1_init_1 0 rfl rfl)
theorem dX1_init_25 : decode cX1_init 25 = .ok (.putfield 22, 3) := dk_181 0 22 (dk_at dksX1_init_1 2 rfl rfl)
theorem dX1_init_28 : decode cX1_init 28 = .ok (.aload_n 0, 1) := dk_42 (dk_at dksX1_init_1 5 rfl rfl)
theorem dX1_init_29 : decode cX1_init 29 = .ok (.bipush 6, 2) := dk_16 6 (dk_at dksX1_init_1 6 rfl rfl)
theorem dX1_init_31 : decode cX1_init 31 = .ok (.newarray .int, 2) := dk_188_10 (dk_at dksX1_init_1 8 rfl rfl)
theorem dX1_init_33 : decode cX1_init 33 = .ok (.putfield 26, 3) := dk_181 0 26 (dk_at dksX1_init_1 10 rfl rfl)
theorem dX1_init_36 : decode cX1_init 36 = .ok (.aload_n 0, 1) := dk_42 (dk_at dksX1_init_1 13 rfl rfl)
theorem dX1_init_37 : decode cX1_init 37 = .ok (.bipush 6, 2) := dk_16 6 (dk_at dksX1_init_1 14 rfl rfl)
theorem dX1_init_39 : decode cX1_init 39 = .ok (.newarray .int, 2) := dk_188_10 (dk_at dksX1_init_1 16 rfl rfl)
theorem dX1_init_41 : decode cX1_init 41 = .ok (.putfield 29, 3) := dk_181 0 29 (dk_at dksX1_init_1 18 rfl rfl)
theorem dX1_init_44 : decode cX1_init 44 = .ok (.aload_n 0, 1) := dk_42 (dk_at dksX1_init_1 21 rfl rfl)
theorem dX1_init_45 : decode cX1_init 45 = .ok (.bipush 6, 2) := dk_16 6 (dk_at dksX1_init_1 22 rfl rfl)
theorem dX1_init_47 : decode cX1_init 47 = .ok (.newarray .int, 2) := dk_188_10 (dk_at dksX1_init_2 0 rfl rfl)
theorem dX1_init_49 : decode cX1_init 49 = .ok (.putfield 32, 3) := dk_181 0 32 (dk_at dksX1_init_2 2 rfl rfl)
theorem dX1_init_52 : decode cX1_init 52 = .ok (.aload_n 0, 1) := dk_42 (dk_at dksX1_init_2 5 rfl rfl)
theorem dX1_init_53 : decode cX1_init 53 = .ok (.bipush 6, 2) := dk_16 6 (dk_at dksX1_init_2 6 rfl rfl)
theorem dX1_init_55 : decode cX1_init 55 = .ok (.newarray .int, 2) := dk_188_10 (dk_at dksX1_init_2 8 rfl rfl)
theorem dX1_init_57 : decode cX1_init 57 = .ok (.putfield 35, 3) := dk_181 0 35 (dk_at dksX1_init_2 10 rfl rfl)
theorem dX1_init_60 : decode cX1_init 60 = .ok (.aload_n 0, 1) := dk_42 (dk_at dksX1_init_2 13 rfl rfl)
theorem dX1_init_61 : decode cX1_init 61 = .ok (.bipush 6, 2) := dk_16 6 (dk_at dksX1_init_2 14 rfl rfl)
theorem dX1_init_63 : decode cX1_init 63 = .ok (.newarray .int, 2) := dk_188_10 (dk_at dksX1_init_2 16 rfl rfl)
theorem dX1_init_65 : decode cX1_init 65 = .ok (.putfield 38, 3) := dk_181 0 38 (dk_at dksX1_init_2 18 rfl rfl)
theorem dX1_init_68 : decode cX1_init 68 = .ok (.aload_n 0, 1) := dk_42 (dk_at dksX1_init_2 21 rfl rfl)
theorem dX1_init_69 : decode cX1_init 69 = .ok (.ldc 41, 2) := dk_18 41 (dk_at dksX1_init_2 22 rfl rfl)
theorem dX1_init_71 : decode cX1_init 71 = .ok (.putfield 42, 3) := dk_181 0 42 (dk_at dksX1_init_3 0 rfl rfl)
theorem dX1_init_74 : decode cX1_init 74 = .ok (.iconst 0, 1) := dk_3 (dk_at dksX1_init_3 3 rfl rfl)
theorem dX1_init_75 : decode cX1_init 75 = .ok (.istore_n 1, 1) := dk_60 (dk_at dksX1_init_3 4 rfl rfl)
theorem dX1_init_76 : decode cX1_init 76 = .ok (.iload_n 1, 1) := dk_27 (dk_at dksX1_init_3 5 rfl rfl)
theorem dX1_init_77 : decode cX1_init 77 = .ok (.bipush 6, 2) := dk_16 6 (dk_at dksX1_init_3 6 rfl rfl)
theorem dX1_init_79 : decode cX1_init 79 = .ok (.if_icmp .ge 16, 3) := dk_162 0 16 (dk_at dksX1_init_3 8 rfl rfl)
theorem dX1_init_82 : decode cX1_init 82 = .ok (.aload_n 0, 1) := dk_42 (dk_at dksX1_init_3 11 rfl rfl)
theorem dX1_init_83 : decode cX1_init 83 = .ok (.getfield 38, 3) := dk_180 0 38 (dk_at dksX1_init_3 12 rfl rfl)
theorem dX1_init_86 : decode cX1_init 86 = .ok (.iload_n 1, 1) := dk_27 (dk_at dksX1_init_3 15 rfl rfl)
theorem dX1_init_87 : decode cX1_init 87 = .ok (.iload_n 1, 1) := dk_27 (dk_at dksX1_init_3 16 rfl rfl)
theorem dX1_init_88 : decode cX1_init 88 = .ok (.iastore, 1) := dk_79 (dk_at dksX1_init_3 17 rfl rfl)
theorem dX1_init_89 : decode cX1_init 89 = .ok (.iinc 1 1, 3) := dk_132 1 1 (dk_at dksX1_init_3 18 rfl rfl)
theorem dX1_init_92 : decode cX1_init 92 = .ok (.goto (-16), 3) := dk_167 255 240 (dk_at dksX1_init_3 21 rfl rfl)
theorem dX1_init_95 : decode cX1_init 95 = .ok (.return_, 1) := dk_177 (dk_at dksX1_init_4 0 rfl rfl)
abbrev cX1_many : ByteArray := prog_7_method_3_code
def yX1_many : MethodName := ⟨RX1, "many", "()I"⟩
def dkwX1_many_0 : List UInt8 := [42, 180, 0, 18, 185, 0, 66, 1, 0, 172]
abbrev dktX1_many_0 : List UInt8 := dkwX1_many_0 ++ []
theorem dksX1_many_0 : cX1_many.data.toList.drop 0 = dktX1_many_0 := by decide +kernel
theorem dX1_many_0 : decode cX1_many 0 = .ok (.aload_n 0, 1) := dk_42 (dk_at dksX1_many_0 0 rfl rfl)
theorem dX1_many_1 : decode cX1_many 1 = .ok (.getfield 18, 3) := dk_180 0 18 (dk_at dksX1_many_0 1 rfl rfl)
theorem dX1_many_4 : decode cX1_many 4 = .ok (.invokeinterface 66 1, 5) := by decide +kernel
theorem dX1_many_9 : decode cX1_many 9 = .ok (.ireturn, 1) := dk_172 (dk_at dksX1_many_0 9 rfl rfl)
abbrev cX1_become : ByteArray := prog_7_method_2_code
def yX1_become : MethodName := ⟨RX1, "become", "(LDishLift$House;)LDishLift$House;"⟩
def dkwX1_become_6 : List UInt8 := [180, 0, 63, 181, 0, 63, 42, 18, 41, 181, 0, 42, 42, 176]
abbrev dktX1_become_6 : List UInt8 := dkwX1_become_6 ++ []
def dkwX1_become_5 : List UInt8 := [16, 6, 184, 0, 57, 43, 180, 0, 38, 3, 42, 180, 0, 38, 3, 16, 6, 184, 0, 57, 42, 43]
abbrev dktX1_become_5 : List UInt8 := dkwX1_become_5 ++ dktX1_become_6
def dkwX1_become_4 : List UInt8 := [180, 0, 32, 3, 42, 180, 0, 32, 3, 16, 6, 184, 0, 57, 43, 180, 0, 35, 3, 42, 180, 0, 35, 3]
abbrev dktX1_become_4 : List UInt8 := dkwX1_become_4 ++ dktX1_become_5
def dkwX1_become_3 : List UInt8 := [3, 16, 6, 184, 0, 57, 43, 180, 0, 29, 3, 42, 180, 0, 29, 3, 16, 6, 184, 0, 57, 43]
abbrev dktX1_become_3 : List UInt8 := dkwX1_become_3 ++ dktX1_become_4
def dkwX1_become_2 : List UInt8 := [43, 180, 0, 22, 3, 42, 180, 0, 22, 3, 16, 6, 184, 0, 57, 43, 180, 0, 26, 3, 42, 180, 0, 26]
abbrev dktX1_become_2 : List UInt8 := dkwX1_become_2 ++ dktX1_become_3
def dkwX1_become_1 : List UInt8 := [42, 43, 180, 0, 54, 181, 0, 54, 42, 43, 180, 0, 9, 181, 0, 9, 42, 43, 180, 0, 18, 181, 0, 18]
abbrev dktX1_become_1 : List UInt8 := dkwX1_become_1 ++ dktX1_become_2
def dkwX1_become_0 : List UInt8 := [42, 43, 180, 0, 45, 181, 0, 45, 42, 43, 180, 0, 48, 181, 0, 48, 42, 43, 180, 0, 51, 181, 0, 51]
abbrev dktX1_become_0 : List UInt8 := dkwX1_become_0 ++ dktX1_become_1
theorem dksX1_become_0 : cX1_become.data.toList.drop 0 = dktX1_become_0 := by decide +kernel
theorem dksX1_become_1 : cX1_become.data.toList.drop 24 = dktX1_become_1 := dk_seg dksX1_become_0 24 rfl rfl
theorem dksX1_become_2 : cX1_become.data.toList.drop 48 = dktX1_become_2 := dk_seg dksX1_become_1 24 rfl rfl
theorem dksX1_become_3 : cX1_become.data.toList.drop 72 = dktX1_become_3 := dk_seg dksX1_become_2 24 rfl rfl
theorem dksX1_become_4 : cX1_become.data.toList.drop 94 = dktX1_become_4 := dk_seg dksX1_become_3 22 rfl rfl
theorem dksX1_become_5 : cX1_become.data.toList.drop 118 = dktX1_become_5 := dk_seg dksX1_become_4 24 rfl rfl
theorem dksX1_become_6 : cX1_become.data.toList.drop 140 = dktX1_become_6 := dk_seg dksX1_become_5 22 rfl rfl
theorem dX1_become_0 : decode cX1_become 0 = .ok (.aload_n 0, 1) := dk_42 (dk_at dksX1_become_0 0 rfl rfl)
theorem dX1_become_1 : decode cX1_become 1 = .ok (.aload_n 1, 1) := dk_43 (dk_at dksX1_become_0 1 rfl rfl)
theorem dX1_become_2 : decode cX1_become 2 = .ok (.getfield 45, 3) := dk_180 0 45 (dk_at dksX1_become_0 2 rfl rfl)
theorem dX1_become_5 : decode cX1_become 5 = .ok (.putfield 45, 3) := dk_181 0 45 (dk_at dksX1_become_0 5 rfl rfl)
theorem dX1_become_8 : decode cX1_become 8 = .ok (.aload_n 0, 1) := dk_42 (dk_at dksX1_become_0 8 rfl rfl)
theorem dX1_become_9 : decode cX1_become 9 = .ok (.aload_n 1, 1) := dk_43 (dk_at dksX1_become_0 9 rfl rfl)
theorem dX1_become_10 : decode cX1_become 10 = .ok (.getfield 48, 3) := dk_180 0 48 (dk_at dksX1_become_0 10 rfl rfl)
theorem dX1_become_13 : decode cX1_become 13 = .ok (.putfield 48, 3) := dk_181 0 48 (dk_at dksX1_become_0 13 rfl rfl)
theorem dX1_become_16 : decode cX1_become 16 = .ok (.aload_n 0, 1) := dk_42 (dk_at dksX1_become_0 16 rfl rfl)
theorem dX1_become_17 : decode cX1_become 17 = .ok (.aload_n 1, 1) := dk_43 (dk_at dksX1_become_0 17 rfl rfl)
theorem dX1_become_18 : decode cX1_become 18 = .ok (.getfield 51, 3) := dk_180 0 51 (dk_at dksX1_become_0 18 rfl rfl)
theorem dX1_become_21 : decode cX1_become 21 = .ok (.putfield 51, 3) := dk_181 0 51 (dk_at dksX1_become_0 21 rfl rfl)
theorem dX1_become_24 : decode cX1_become 24 = .ok (.aload_n 0, 1) := dk_42 (dk_at dksX1_become_1 0 rfl rfl)
theorem dX1_become_25 : decode cX1_become 25 = .ok (.aload_n 1, 1) := dk_43 (dk_at dksX1_become_1 1 rfl rfl)
theorem dX1_become_26 : decode cX1_become 26 = .ok (.getfield 54, 3) := dk_180 0 54 (dk_at dksX1_become_1 2 rfl rfl)
theorem dX1_become_29 : decode cX1_become 29 = .ok (.putfield 54, 3) := dk_181 0 54 (dk_at dksX1_become_1 5 rfl rfl)
theorem dX1_become_32 : decode cX1_become 32 = .ok (.aload_n 0, 1) := dk_42 (dk_at dksX1_become_1 8 rfl rfl)
theorem dX1_become_33 : decode cX1_become 33 = .ok (.aload_n 1, 1) := dk_43 (dk_at dksX1_become_1 9 rfl rfl)
theorem dX1_become_34 : decode cX1_become 34 = .ok (.getfield 9, 3) := dk_180 0 9 (dk_at dksX1_become_1 10 rfl rfl)
theorem dX1_become_37 : decode cX1_become 37 = .ok (.putfield 9, 3) := dk_181 0 9 (dk_at dksX1_become_1 13 rfl rfl)
theorem dX1_become_40 : decode cX1_become 40 = .ok (.aload_n 0, 1) := dk_42 (dk_at dksX1_become_1 16 rfl rfl)
theorem dX1_become_41 : decode cX1_become 41 = .ok (.aload_n 1, 1) := dk_43 (dk_at dksX1_become_1 17 rfl rfl)
theorem dX1_become_42 : decode cX1_become 42 = .ok (.getfield 18, 3) := dk_180 0 18 (dk_at dksX1_become_1 18 rfl rfl)
theorem dX1_become_45 : decode cX1_become 45 = .ok (.putfield 18, 3) := dk_181 0 18 (dk_at dksX1_become_1 21 rfl rfl)
theorem dX1_become_48 : decode cX1_become 48 = .ok (.aload_n 1, 1) := dk_43 (dk_at dksX1_become_2 0 rfl rfl)
theorem dX1_become_49 : decode cX1_become 49 = .ok (.getfield 22, 3) := dk_180 0 22 (dk_at dksX1_become_2 1 rfl rfl)
theorem dX1_become_52 : decode cX1_become 52 = .ok (.iconst 0, 1) := dk_3 (dk_at dksX1_become_2 4 rfl rfl)
theorem dX1_become_53 : decode cX1_become 53 = .ok (.aload_n 0, 1) := dk_42 (dk_at dksX1_become_2 5 rfl rfl)
theorem dX1_become_54 : decode cX1_become 54 = .ok (.getfield 22, 3) := dk_180 0 22 (dk_at dksX1_become_2 6 rfl rfl)
theorem dX1_become_57 : decode cX1_become 57 = .ok (.iconst 0, 1) := dk_3 (dk_at dksX1_become_2 9 rfl rfl)
theorem dX1_become_58 : decode cX1_become 58 = .ok (.bipush 6, 2) := dk_16 6 (dk_at dksX1_become_2 10 rfl rfl)
theorem dX1_become_60 : decode cX1_become 60 = .ok (.invokestatic 57, 3) := dk_184 0 57 (dk_at dksX1_become_2 12 rfl rfl)
theorem dX1_become_63 : decode cX1_become 63 = .ok (.aload_n 1, 1) := dk_43 (dk_at dksX1_become_2 15 rfl rfl)
theorem dX1_become_64 : decode cX1_become 64 = .ok (.getfield 26, 3) := dk_180 0 26 (dk_at dksX1_become_2 16 rfl rfl)
theorem dX1_become_67 : decode cX1_become 67 = .ok (.iconst 0, 1) := dk_3 (dk_at dksX1_become_2 19 rfl rfl)
theorem dX1_become_68 : decode cX1_become 68 = .ok (.aload_n 0, 1) := dk_42 (dk_at dksX1_become_2 20 rfl rfl)
theorem dX1_become_69 : decode cX1_become 69 = .ok (.getfield 26, 3) := dk_180 0 26 (dk_at dksX1_become_2 21 rfl rfl)
theorem dX1_become_72 : decode cX1_become 72 = .ok (.iconst 0, 1) := dk_3 (dk_at dksX1_become_3 0 rfl rfl)
theorem dX1_become_73 : decode cX1_become 73 = .ok (.bipush 6, 2) := dk_16 6 (dk_at dksX1_become_3 1 rfl rfl)
theorem dX1_become_75 : decode cX1_become 75 = .ok (.invokestatic 57, 3) := dk_184 0 57 (dk_at dksX1_become_3 3 rfl rfl)
theorem dX1_become_78 : decode cX1_become 78 = .ok (.aload_n 1, 1) := dk_43 (dk_at dksX1_become_3 6 rfl rfl)
theorem dX1_become_79 : decode cX1_become 79 = .ok (.getfield 29, 3) := dk_180 0 29 (dk_at dksX1_become_3 7 rfl rfl)
theorem dX1_become_82 : decode cX1_become 82 = .ok (.iconst 0, 1) := dk_3 (dk_at dksX1_become_3 10 rfl rfl)
theorem dX1_become_83 : decode cX1_become 83 = .ok (.aload_n 0, 1) := dk_42 (dk_at dksX1_become_3 11 rfl rfl)
theorem dX1_become_84 : decode cX1_become 84 = .ok (.getfield 29, 3) := dk_180 0 29 (dk_at dksX1_become_3 12 rfl rfl)
theorem dX1_become_87 : decode cX1_become 87 = .ok (.iconst 0, 1) := dk_3 (dk_at dksX1_become_3 15 rfl rfl)
theorem dX1_become_88 : decode cX1_become 88 = .ok (.bipush 6, 2) := dk_16 6 (dk_at dksX1_become_3 16 rfl rfl)
theorem dX1_become_90 : decode cX1_become 90 = .ok (.invokestatic 57, 3) := dk_184 0 57 (dk_at dksX1_become_3 18 rfl rfl)
theorem dX1_become_93 : decode cX1_become 93 = .ok (.aload_n 1, 1) := dk_43 (dk_at dksX1_become_3 21 rfl rfl)
theorem dX1_become_94 : decode cX1_become 94 = .ok (.getfield 32, 3) := dk_180 0 32 (dk_at dksX1_become_4 0 rfl rfl)
theorem dX1_become_97 : decode cX1_become 97 = .ok (.iconst 0, 1) := dk_3 (dk_at dksX1_become_4 3 rfl rfl)
theorem dX1_become_98 : decode cX1_become 98 = .ok (.aload_n 0, 1) := dk_42 (dk_at dksX1_become_4 4 rfl rfl)
theorem dX1_become_99 : decode cX1_become 99 = .ok (.getfield 32, 3) := dk_180 0 32 (dk_at dksX1_become_4 5 rfl rfl)
theorem dX1_become_102 : decode cX1_become 102 = .ok (.iconst 0, 1) := dk_3 (dk_at dksX1_become_4 8 rfl rfl)
theorem dX1_become_103 : decode cX1_become 103 = .ok (.bipush 6, 2) := dk_16 6 (dk_at dksX1_become_4 9 rfl rfl)
theorem dX1_become_105 : decode cX1_become 105 = .ok (.invokestatic 57, 3) := dk_184 0 57 (dk_at dksX1_become_4 11 rfl rfl)
theorem dX1_become_108 : decode cX1_become 108 = .ok (.aload_n 1, 1) := dk_43 (dk_at dksX1_become_4 14 rfl rfl)
theorem dX1_become_109 : decode cX1_become 109 = .ok (.getfield 35, 3) := dk_180 0 35 (dk_at dksX1_become_4 15 rfl rfl)
theorem dX1_become_112 : decode cX1_become 112 = .ok (.iconst 0, 1) := dk_3 (dk_at dksX1_become_4 18 rfl rfl)
theorem dX1_become_113 : decode cX1_become 113 = .ok (.aload_n 0, 1) := dk_42 (dk_at dksX1_become_4 19 rfl rfl)
theorem dX1_become_114 : decode cX1_become 114 = .ok (.getfield 35, 3) := dk_180 0 35 (dk_at dksX1_become_4 20 rfl rfl)
theorem dX1_become_117 : decode cX1_become 117 = .ok (.iconst 0, 1) := dk_3 (dk_at dksX1_become_4 23 rfl rfl)
theorem dX1_become_118 : decode cX1_become 118 = .ok (.bipush 6, 2) := dk_16 6 (dk_at dksX1_become_5 0 rfl rfl)
theorem dX1_become_120 : decode cX1_become 120 = .ok (.invokestatic 57, 3) := dk_184 0 57 (dk_at dksX1_become_5 2 rfl rfl)
theorem dX1_become_123 : decode cX1_become 123 = .ok (.aload_n 1, 1) := dk_43 (dk_at dksX1_become_5 5 rfl rfl)
theorem dX1_become_124 : decode cX1_become 124 = .ok (.getfield 38, 3) := dk_180 0 38 (dk_at dksX1_become_5 6 rfl rfl)
theorem dX1_become_127 : decode cX1_become 127 = .ok (.iconst 0, 1) := dk_3 (dk_at dksX1_become_5 9 rfl rfl)
theorem dX1_become_128 : decode cX1_become 128 = .ok (.aload_n 0, 1) := dk_42 (dk_at dksX1_become_5 10 rfl rfl)
theorem dX1_become_129 : decode cX1_become 129 = .ok (.getfield 38, 3) := dk_180 0 38 (dk_at dksX1_become_5 11 rfl rfl)
theorem dX1_become_132 : decode cX1_become 132 = .ok (.iconst 0, 1) := dk_3 (dk_at dksX1_become_5 14 rfl rfl)
theorem dX1_become_133 : decode cX1_become 133 = .ok (.bipush 6, 2) := dk_16 6 (dk_at dksX1_become_5 15 rfl rfl)
theorem dX1_become_135 : decode cX1_become 135 = .ok (.invokestatic 57, 3) := dk_184 0 57 (dk_at dksX1_become_5 17 rfl rfl)
theorem dX1_become_138 : decode cX1_become 138 = .ok (.aload_n 0, 1) := dk_42 (dk_at dksX1_become_5 20 rfl rfl)
theorem dX1_become_139 : decode cX1_become 139 = .ok (.aload_n 1, 1) := dk_43 (dk_at dksX1_become_5 21 rfl rfl)
theorem dX1_become_140 : decode cX1_become 140 = .ok (.getfield 63, 3) := dk_180 0 63 (dk_at dksX1_become_6 0 rfl rfl)
theorem dX1_become_143 : decode cX1_become 143 = .ok (.putfield 63, 3) := dk_181 0 63 (dk_at dksX1_become_6 3 rfl rfl)
theorem dX1_become_146 : decode cX1_become 146 = .ok (.aload_n 0, 1) := dk_42 (dk_at dksX1_become_6 6 rfl rfl)
theorem dX1_become_147 : decode cX1_become 147 = .ok (.ldc 41, 2) := dk_18 41 (dk_at dksX1_become_6 7 rfl rfl)
theorem dX1_become_149 : decode cX1_become 149 = .ok (.putfield 42, 3) := dk_181 0 42 (dk_at dksX1_become_6 9 rfl rfl)
theorem dX1_become_152 : decode cX1_become 152 = .ok (.aload_n 0, 1) := dk_42 (dk_at dksX1_become_6 12 rfl rfl)
theorem dX1_become_153 : decode cX1_become 153 = .ok (.areturn, 1) := dk_176 (dk_at dksX1_become_6 13 rfl rfl)
abbrev cX1_pass : ByteArray := prog_7_method_11_code
def yX1_pass : MethodName := ⟨RX1, "pass", "()LDishLift$House;"⟩
def dkwX1_pass_0 : List UInt8 := [42, 182, 0, 112, 42, 42, 182, 0, 115, 182, 0, 119, 42, 176]
abbrev dktX1_pass_0 : List UInt8 := dkwX1_pass_0 ++ []
theorem dksX1_pass_0 : cX1_pass.data.toList.drop 0 = dktX1_pass_0 := by decide +kernel
theorem dX1_pass_0 : decode cX1_pass 0 = .ok (.aload_n 0, 1) := dk_42 (dk_at dksX1_pass_0 0 rfl rfl)
theorem dX1_pass_1 : decode cX1_pass 1 = .ok (.invokevirtual 112, 3) := dk_182 0 112 (dk_at dksX1_pass_0 1 rfl rfl)
theorem dX1_pass_4 : decode cX1_pass 4 = .ok (.aload_n 0, 1) := dk_42 (dk_at dksX1_pass_0 4 rfl rfl)
theorem dX1_pass_5 : decode cX1_pass 5 = .ok (.aload_n 0, 1) := dk_42 (dk_at dksX1_pass_0 5 rfl rfl)
theorem dX1_pass_6 : decode cX1_pass 6 = .ok (.invokevirtual 115, 3) := dk_182 0 115 (dk_at dksX1_pass_0 6 rfl rfl)
theorem dX1_pass_9 : decode cX1_pass 9 = .ok (.invokevirtual 119, 3) := dk_182 0 119 (dk_at dksX1_pass_0 9 rfl rfl)
theorem dX1_pass_12 : decode cX1_pass 12 = .ok (.aload_n 0, 1) := dk_42 (dk_at dksX1_pass_0 12 rfl rfl)
theorem dX1_pass_13 : decode cX1_pass 13 = .ok (.areturn, 1) := dk_176 (dk_at dksX1_pass_0 13 rfl rfl)
abbrev cX1_stops : ByteArray := prog_7_method_7_code
def yX1_stops : MethodName := ⟨RX1, "stops", "()V"⟩
def dkwX1_stops_6 : List UInt8 := [180, 0, 22, 28, 4, 79, 132, 1, 1, 167, 255, 176, 177]
abbrev dktX1_stops_6 : List UInt8 := dkwX1_stops_6 ++ []
def dkwX1_stops_5 : List UInt8 := [162, 0, 28, 42, 182, 0, 94, 42, 180, 0, 32, 28, 46, 96, 42, 180, 0, 51, 163, 0, 10, 42]
abbrev dktX1_stops_5 : List UInt8 := dkwX1_stops_5 ++ dktX1_stops_6
def dkwX1_stops_4 : List UInt8 := [180, 0, 26, 28, 46, 42, 180, 0, 54, 160, 0, 43, 42, 4, 182, 0, 85, 184, 0, 89, 42, 180, 0, 48]
abbrev dktX1_stops_4 : List UInt8 := dkwX1_stops_4 ++ dktX1_stops_5
def dkwX1_stops_3 : List UInt8 := [42, 182, 0, 82, 162, 0, 78, 42, 180, 0, 38, 27, 46, 61, 42, 180, 0, 22, 28, 46, 154, 0, 56, 42]
abbrev dktX1_stops_3 : List UInt8 := dkwX1_stops_3 ++ dktX1_stops_4
def dkwX1_stops_2 : List UInt8 := [46, 42, 180, 0, 54, 160, 0, 10, 42, 180, 0, 22, 27, 5, 79, 132, 1, 1, 167, 255, 192, 3, 60, 27]
abbrev dktX1_stops_2 : List UInt8 := dkwX1_stops_2 ++ dktX1_stops_3
def dkwX1_stops_1 : List UInt8 := [27, 46, 42, 180, 0, 54, 160, 0, 33, 42, 180, 0, 22, 27, 46, 4, 159, 0, 16, 42, 180, 0, 26, 27]
abbrev dktX1_stops_1 : List UInt8 := dkwX1_stops_1 ++ dktX1_stops_2
def dkwX1_stops_0 : List UInt8 := [3, 60, 27, 42, 182, 0, 82, 162, 0, 62, 42, 180, 0, 22, 27, 46, 5, 159, 0, 46, 42, 180, 0, 29]
abbrev dktX1_stops_0 : List UInt8 := dkwX1_stops_0 ++ dktX1_stops_1
theorem dksX1_stops_0 : cX1_stops.data.toList.drop 0 = dktX1_stops_0 := by decide +kernel
theorem dksX1_stops_1 : cX1_stops.data.toList.drop 24 = dktX1_stops_1 := dk_seg dksX1_stops_0 24 rfl rfl
theorem dksX1_stops_2 : cX1_stops.data.toList.drop 48 = dktX1_stops_2 := dk_seg dksX1_stops_1 24 rfl rfl
theorem dksX1_stops_3 : cX1_stops.data.toList.drop 72 = dktX1_stops_3 := dk_seg dksX1_stops_2 24 rfl rfl
theorem dksX1_stops_4 : cX1_stops.data.toList.drop 96 = dktX1_stops_4 := dk_seg dksX1_stops_3 24 rfl rfl
theorem dksX1_stops_5 : cX1_stops.data.toList.drop 120 = dktX1_stops_5 := dk_seg dksX1_stops_4 24 rfl rfl
theorem dksX1_stops_6 : cX1_stops.data.toList.drop 142 = dktX1_stops_6 := dk_seg dksX1_stops_5 22 rfl rfl
theorem dX1_stops_0 : decode cX1_stops 0 = .ok (.iconst 0, 1) := dk_3 (dk_at dksX1_stops_0 0 rfl rfl)
theorem dX1_stops_1 : decode cX1_stops 1 = .ok (.istore_n 1, 1) := dk_60 (dk_at dksX1_stops_0 1 rfl rfl)
theorem dX1_stops_2 : decode cX1_stops 2 = .ok (.iload_n 1, 1) := dk_27 (dk_at dksX1_stops_0 2 rfl rfl)
theorem dX1_stops_3 : decode cX1_stops 3 = .ok (.aload_n 0, 1) := dk_42 (dk_at dksX1_stops_0 3 rfl rfl)
theorem dX1_stops_4 : decode cX1_stops 4 = .ok (.invokevirtual 82, 3) := dk_182 0 82 (dk_at dksX1_stops_0 4 rfl rfl)
theorem dX1_stops_7 : decode cX1_stops 7 = .ok (.if_icmp .ge 62, 3) := dk_162 0 62 (dk_at dksX1_stops_0 7 rfl rfl)
theorem dX1_stops_10 : decode cX1_stops 10 = .ok (.aload_n 0, 1) := dk_42 (dk_at dksX1_stops_0 10 rfl rfl)
theorem dX1_stops_11 : decode cX1_stops 11 = .ok (.getfield 22, 3) := dk_180 0 22 (dk_at dksX1_stops_0 11 rfl rfl)
theorem dX1_stops_14 : decode cX1_stops 14 = .ok (.iload_n 1, 1) := dk_27 (dk_at dksX1_stops_0 14 rfl rfl)
theorem dX1_stops_15 : decode cX1_stops 15 = .ok (.iaload, 1) := dk_46 (dk_at dksX1_stops_0 15 rfl rfl)
theorem dX1_stops_16 : decode cX1_stops 16 = .ok (.iconst 2, 1) := dk_5 (dk_at dksX1_stops_0 16 rfl rfl)
theorem dX1_stops_17 : decode cX1_stops 17 = .ok (.if_icmp .eq 46, 3) := dk_159 0 46 (dk_at dksX1_stops_0 17 rfl rfl)
theorem dX1_stops_20 : decode cX1_stops 20 = .ok (.aload_n 0, 1) := dk_42 (dk_at dksX1_stops_0 20 rfl rfl)
theorem dX1_stops_21 : decode cX1_stops 21 = .ok (.getfield 29, 3) := dk_180 0 29 (dk_at dksX1_stops_0 21 rfl rfl)
theorem dX1_stops_24 : decode cX1_stops 24 = .ok (.iload_n 1, 1) := dk_27 (dk_at dksX1_stops_1 0 rfl rfl)
theorem dX1_stops_25 : decode cX1_stops 25 = .ok (.iaload, 1) := dk_46 (dk_at dksX1_stops_1 1 rfl rfl)
theorem dX1_stops_26 : decode cX1_stops 26 = .ok (.aload_n 0, 1) := dk_42 (dk_at dksX1_stops_1 2 rfl rfl)
theorem dX1_stops_27 : decode cX1_stops 27 = .ok (.getfield 54, 3) := dk_180 0 54 (dk_at dksX1_stops_1 3 rfl rfl)
theorem dX1_stops_30 : decode cX1_stops 30 = .ok (.if_icmp .ne 33, 3) := dk_160 0 33 (dk_at dksX1_stops_1 6 rfl rfl)
theorem dX1_stops_33 : decode cX1_stops 33 = .ok (.aload_n 0, 1) := dk_42 (dk_at dksX1_stops_1 9 rfl rfl)
theorem dX1_stops_34 : decode cX1_stops 34 = .ok (.getfield 22, 3) := dk_180 0 22 (dk_at dksX1_stops_1 10 rfl rfl)
theorem dX1_stops_37 : decode cX1_stops 37 = .ok (.iload_n 1, 1) := dk_27 (dk_at dksX1_stops_1 13 rfl rfl)
theorem dX1_stops_38 : decode cX1_stops 38 = .ok (.iaload, 1) := dk_46 (dk_at dksX1_stops_1 14 rfl rfl)
theorem dX1_stops_39 : decode cX1_stops 39 = .ok (.iconst 1, 1) := dk_4 (dk_at dksX1_stops_1 15 rfl rfl)
theorem dX1_stops_40 : decode cX1_stops 40 = .ok (.if_icmp .eq 16, 3) := dk_159 0 16 (dk_at dksX1_stops_1 16 rfl rfl)
theorem dX1_stops_43 : decode cX1_stops 43 = .ok (.aload_n 0, 1) := dk_42 (dk_at dksX1_stops_1 19 rfl rfl)
theorem dX1_stops_44 : decode cX1_stops 44 = .ok (.getfield 26, 3) := dk_180 0 26 (dk_at dksX1_stops_1 20 rfl rfl)
theorem dX1_stops_47 : decode cX1_stops 47 = .ok (.iload_n 1, 1) := dk_27 (dk_at dksX1_stops_1 23 rfl rfl)
theorem dX1_stops_48 : decode cX1_stops 48 = .ok (.iaload, 1) := dk_46 (dk_at dksX1_stops_2 0 rfl rfl)
theorem dX1_stops_49 : decode cX1_stops 49 = .ok (.aload_n 0, 1) := dk_42 (dk_at dksX1_stops_2 1 rfl rfl)
theorem dX1_stops_50 : decode cX1_stops 50 = .ok (.getfield 54, 3) := dk_180 0 54 (dk_at dksX1_stops_2 2 rfl rfl)
theorem dX1_stops_53 : decode cX1_stops 53 = .ok (.if_icmp .ne 10, 3) := dk_160 0 10 (dk_at dksX1_stops_2 5 rfl rfl)
theorem dX1_stops_56 : decode cX1_stops 56 = .ok (.aload_n 0, 1) := dk_42 (dk_at dksX1_stops_2 8 rfl rfl)
theorem dX1_stops_57 : decode cX1_stops 57 = .ok (.getfield 22, 3) := dk_180 0 22 (dk_at dksX1_stops_2 9 rfl rfl)
theorem dX1_stops_60 : decode cX1_stops 60 = .ok (.iload_n 1, 1) := dk_27 (dk_at dksX1_stops_2 12 rfl rfl)
theorem dX1_stops_61 : decode cX1_stops 61 = .ok (.iconst 2, 1) := dk_5 (dk_at dksX1_stops_2 13 rfl rfl)
theorem dX1_stops_62 : decode cX1_stops 62 = .ok (.iastore, 1) := dk_79 (dk_at dksX1_stops_2 14 rfl rfl)
theorem dX1_stops_63 : decode cX1_stops 63 = .ok (.iinc 1 1, 3) := dk_132 1 1 (dk_at dksX1_stops_2 15 rfl rfl)
theorem dX1_stops_66 : decode cX1_stops 66 = .ok (.goto (-64), 3) := dk_167 255 192 (dk_at dksX1_stops_2 18 rfl rfl)
theorem dX1_stops_69 : decode cX1_stops 69 = .ok (.iconst 0, 1) := dk_3 (dk_at dksX1_stops_2 21 rfl rfl)
theorem dX1_stops_70 : decode cX1_stops 70 = .ok (.istore_n 1, 1) := dk_60 (dk_at dksX1_stops_2 22 rfl rfl)
theorem dX1_stops_71 : decode cX1_stops 71 = .ok (.iload_n 1, 1) := dk_27 (dk_at dksX1_stops_2 23 rfl rfl)
theorem dX1_stops_72 : decode cX1_stops 72 = .ok (.aload_n 0, 1) := dk_42 (dk_at dksX1_stops_3 0 rfl rfl)
theorem dX1_stops_73 : decode cX1_stops 73 = .ok (.invokevirtual 82, 3) := dk_182 0 82 (dk_at dksX1_stops_3 1 rfl rfl)
theorem dX1_stops_76 : decode cX1_stops 76 = .ok (.if_icmp .ge 78, 3) := dk_162 0 78 (dk_at dksX1_stops_3 4 rfl rfl)
theorem dX1_stops_79 : decode cX1_stops 79 = .ok (.aload_n 0, 1) := dk_42 (dk_at dksX1_stops_3 7 rfl rfl)
theorem dX1_stops_80 : decode cX1_stops 80 = .ok (.getfield 38, 3) := dk_180 0 38 (dk_at dksX1_stops_3 8 rfl rfl)
theorem dX1_stops_83 : decode cX1_stops 83 = .ok (.iload_n 1, 1) := dk_27 (dk_at dksX1_stops_3 11 rfl rfl)
theorem dX1_stops_84 : decode cX1_stops 84 = .ok (.iaload, 1) := dk_46 (dk_at dksX1_stops_3 12 rfl rfl)
theorem dX1_stops_85 : decode cX1_stops 85 = .ok (.istore_n 2, 1) := dk_61 (dk_at dksX1_stops_3 13 rfl rfl)
theorem dX1_stops_86 : decode cX1_stops 86 = .ok (.aload_n 0, 1) := dk_42 (dk_at dksX1_stops_3 14 rfl rfl)
theorem dX1_stops_87 : decode cX1_stops 87 = .ok (.getfield 22, 3) := dk_180 0 22 (dk_at dksX1_stops_3 15 rfl rfl)
theorem dX1_stops_90 : decode cX1_stops 90 = .ok (.iload_n 2, 1) := dk_28 (dk_at dksX1_stops_3 18 rfl rfl)
theorem dX1_stops_91 : decode cX1_stops 91 = .ok (.iaload, 1) := dk_46 (dk_at dksX1_stops_3 19 rfl rfl)
theorem dX1_stops_92 : decode cX1_stops 92 = .ok (.ifCond .ne 56, 3) := dk_154 0 56 (dk_at dksX1_stops_3 20 rfl rfl)
theorem dX1_stops_95 : decode cX1_stops 95 = .ok (.aload_n 0, 1) := dk_42 (dk_at dksX1_stops_3 23 rfl rfl)
theorem dX1_stops_96 : decode cX1_stops 96 = .ok (.getfield 26, 3) := dk_180 0 26 (dk_at dksX1_stops_4 0 rfl rfl)
theorem dX1_stops_99 : decode cX1_stops 99 = .ok (.iload_n 2, 1) := dk_28 (dk_at dksX1_stops_4 3 rfl rfl)
theorem dX1_stops_100 : decode cX1_stops 100 = .ok (.iaload, 1) := dk_46 (dk_at dksX1_stops_4 4 rfl rfl)
theorem dX1_stops_101 : decode cX1_stops 101 = .ok (.aload_n 0, 1) := dk_42 (dk_at dksX1_stops_4 5 rfl rfl)
theorem dX1_stops_102 : decode cX1_stops 102 = .ok (.getfield 54, 3) := dk_180 0 54 (dk_at dksX1_stops_4 6 rfl rfl)
theorem dX1_stops_105 : decode cX1_stops 105 = .ok (.if_icmp .ne 43, 3) := dk_160 0 43 (dk_at dksX1_stops_4 9 rfl rfl)
theorem dX1_stops_108 : decode cX1_stops 108 = .ok (.aload_n 0, 1) := dk_42 (dk_at dksX1_stops_4 12 rfl rfl)
theorem dX1_stops_109 : decode cX1_stops 109 = .ok (.iconst 1, 1) := dk_4 (dk_at dksX1_stops_4 13 rfl rfl)
theorem dX1_stops_110 : decode cX1_stops 110 = .ok (.invokevirtual 85, 3) := dk_182 0 85 (dk_at dksX1_stops_4 14 rfl rfl)
theorem dX1_stops_113 : decode cX1_stops 113 = .ok (.invokestatic 89, 3) := dk_184 0 89 (dk_at dksX1_stops_4 17 rfl rfl)
theorem dX1_stops_116 : decode cX1_stops 116 = .ok (.aload_n 0, 1) := dk_42 (dk_at dksX1_stops_4 20 rfl rfl)
theorem dX1_stops_117 : decode cX1_stops 117 = .ok (.getfield 48, 3) := dk_180 0 48 (dk_at dksX1_stops_4 21 rfl rfl)
theorem dX1_stops_120 : decode cX1_stops 120 = .ok (.if_icmp .ge 28, 3) := dk_162 0 28 (dk_at dksX1_stops_5 0 rfl rfl)
theorem dX1_stops_123 : decode cX1_stops 123 = .ok (.aload_n 0, 1) := dk_42 (dk_at dksX1_stops_5 3 rfl rfl)
theorem dX1_stops_124 : decode cX1_stops 124 = .ok (.invokevirtual 94, 3) := dk_182 0 94 (dk_at dksX1_stops_5 4 rfl rfl)
theorem dX1_stops_127 : decode cX1_stops 127 = .ok (.aload_n 0, 1) := dk_42 (dk_at dksX1_stops_5 7 rfl rfl)
theorem dX1_stops_128 : decode cX1_stops 128 = .ok (.getfield 32, 3) := dk_180 0 32 (dk_at dksX1_stops_5 8 rfl rfl)
theorem dX1_stops_131 : decode cX1_stops 131 = .ok (.iload_n 2, 1) := dk_28 (dk_at dksX1_stops_5 11 rfl rfl)
theorem dX1_stops_132 : decode cX1_stops 132 = .ok (.iaload, 1) := dk_46 (dk_at dksX1_stops_5 12 rfl rfl)
theorem dX1_stops_133 : decode cX1_stops 133 = .ok (.iadd, 1) := dk_96 (dk_at dksX1_stops_5 13 rfl rfl)
theorem dX1_stops_134 : decode cX1_stops 134 = .ok (.aload_n 0, 1) := dk_42 (dk_at dksX1_stops_5 14 rfl rfl)
theorem dX1_stops_135 : decode cX1_stops 135 = .ok (.getfield 51, 3) := dk_180 0 51 (dk_at dksX1_stops_5 15 rfl rfl)
theorem dX1_stops_138 : decode cX1_stops 138 = .ok (.if_icmp .gt 10, 3) := dk_163 0 10 (dk_at dksX1_stops_5 18 rfl rfl)
theorem dX1_stops_141 : decode cX1_stops 141 = .ok (.aload_n 0, 1) := dk_42 (dk_at dksX1_stops_5 21 rfl rfl)
theorem dX1_stops_142 : decode cX1_stops 142 = .ok (.getfield 22, 3) := dk_180 0 22 (dk_at dksX1_stops_6 0 rfl rfl)
theorem dX1_stops_145 : decode cX1_stops 145 = .ok (.iload_n 2, 1) := dk_28 (dk_at dksX1_stops_6 3 rfl rfl)
theorem dX1_stops_146 : decode cX1_stops 146 = .ok (.iconst 1, 1) := dk_4 (dk_at dksX1_stops_6 4 rfl rfl)
theorem dX1_stops_147 : decode cX1_stops 147 = .ok (.iastore, 1) := dk_79 (dk_at dksX1_stops_6 5 rfl rfl)
theorem dX1_stops_148 : decode cX1_stops 148 = .ok (.iinc 1 1, 3) := dk_132 1 1 (dk_at dksX1_stops_6 6 rfl rfl)
theorem dX1_stops_151 : decode cX1_stops 151 = .ok (.goto (-80), 3) := dk_167 255 176 (dk_at dksX1_stops_6 9 rfl rfl)
theorem dX1_stops_154 : decode cX1_stops 154 = .ok (.return_, 1) := dk_177 (dk_at dksX1_stops_6 12 rfl rfl)
abbrev cX1_areSo : ByteArray := prog_7_method_5_code
def yX1_areSo : MethodName := ⟨RX1, "areSo", "(I)I"⟩
def dkwX1_areSo_1 : List UInt8 := [29, 120, 167, 0, 4, 3, 128, 61, 132, 3, 1, 167, 255, 225, 28, 172]
abbrev dktX1_areSo_1 : List UInt8 := dkwX1_areSo_1 ++ []
def dkwX1_areSo_0 : List UInt8 := [3, 61, 3, 62, 29, 42, 182, 0, 82, 162, 0, 29, 28, 42, 180, 0, 22, 29, 46, 27, 160, 0, 9, 4]
abbrev dktX1_areSo_0 : List UInt8 := dkwX1_areSo_0 ++ dktX1_areSo_1
theorem dksX1_areSo_0 : cX1_areSo.data.toList.drop 0 = dktX1_areSo_0 := by decide +kernel
theorem dksX1_areSo_1 : cX1_areSo.data.toList.drop 24 = dktX1_areSo_1 := dk_seg dksX1_areSo_0 24 rfl rfl
theorem dX1_areSo_0 : decode cX1_areSo 0 = .ok (.iconst 0, 1) := dk_3 (dk_at dksX1_areSo_0 0 rfl rfl)
theorem dX1_areSo_1 : decode cX1_areSo 1 = .ok (.istore_n 2, 1) := dk_61 (dk_at dksX1_areSo_0 1 rfl rfl)
theorem dX1_areSo_2 : decode cX1_areSo 2 = .ok (.iconst 0, 1) := dk_3 (dk_at dksX1_areSo_0 2 rfl rfl)
theorem dX1_areSo_3 : decode cX1_areSo 3 = .ok (.istore_n 3, 1) := dk_62 (dk_at dksX1_areSo_0 3 rfl rfl)
theorem dX1_areSo_4 : decode cX1_areSo 4 = .ok (.iload_n 3, 1) := dk_29 (dk_at dksX1_areSo_0 4 rfl rfl)
theorem dX1_areSo_5 : decode cX1_areSo 5 = .ok (.aload_n 0, 1) := dk_42 (dk_at dksX1_areSo_0 5 rfl rfl)
theorem dX1_areSo_6 : decode cX1_areSo 6 = .ok (.invokevirtual 82, 3) := dk_182 0 82 (dk_at dksX1_areSo_0 6 rfl rfl)
theorem dX1_areSo_9 : decode cX1_areSo 9 = .ok (.if_icmp .ge 29, 3) := dk_162 0 29 (dk_at dksX1_areSo_0 9 rfl rfl)
theorem dX1_areSo_12 : decode cX1_areSo 12 = .ok (.iload_n 2, 1) := dk_28 (dk_at dksX1_areSo_0 12 rfl rfl)
theorem dX1_areSo_13 : decode cX1_areSo 13 = .ok (.aload_n 0, 1) := dk_42 (dk_at dksX1_areSo_0 13 rfl rfl)
theorem dX1_areSo_14 : decode cX1_areSo 14 = .ok (.getfield 22, 3) := dk_180 0 22 (dk_at dksX1_areSo_0 14 rfl rfl)
theorem dX1_areSo_17 : decode cX1_areSo 17 = .ok (.iload_n 3, 1) := dk_29 (dk_at dksX1_areSo_0 17 rfl rfl)
theorem dX1_areSo_18 : decode cX1_areSo 18 = .ok (.iaload, 1) := dk_46 (dk_at dksX1_areSo_0 18 rfl rfl)
theorem dX1_areSo_19 : decode cX1_areSo 19 = .ok (.iload_n 1, 1) := dk_27 (dk_at dksX1_areSo_0 19 rfl rfl)
theorem dX1_areSo_20 : decode cX1_areSo 20 = .ok (.if_icmp .ne 9, 3) := dk_160 0 9 (dk_at dksX1_areSo_0 20 rfl rfl)
theorem dX1_areSo_23 : decode cX1_areSo 23 = .ok (.iconst 1, 1) := dk_4 (dk_at dksX1_areSo_0 23 rfl rfl)
theorem dX1_areSo_24 : decode cX1_areSo 24 = .ok (.iload_n 3, 1) := dk_29 (dk_at dksX1_areSo_1 0 rfl rfl)
theorem dX1_areSo_25 : decode cX1_areSo 25 = .ok (.ishl, 1) := dk_120 (dk_at dksX1_areSo_1 1 rfl rfl)
theorem dX1_areSo_26 : decode cX1_areSo 26 = .ok (.goto 4, 3) := dk_167 0 4 (dk_at dksX1_areSo_1 2 rfl rfl)
theorem dX1_areSo_29 : decode cX1_areSo 29 = .ok (.iconst 0, 1) := dk_3 (dk_at dksX1_areSo_1 5 rfl rfl)
theorem dX1_areSo_30 : decode cX1_areSo 30 = .ok (.ior, 1) := dk_128 (dk_at dksX1_areSo_1 6 rfl rfl)
theorem dX1_areSo_31 : decode cX1_areSo 31 = .ok (.istore_n 2, 1) := dk_61 (dk_at dksX1_areSo_1 7 rfl rfl)
theorem dX1_areSo_32 : decode cX1_areSo 32 = .ok (.iinc 3 1, 3) := dk_132 3 1 (dk_at dksX1_areSo_1 8 rfl rfl)
theorem dX1_areSo_35 : decode cX1_areSo 35 = .ok (.goto (-31), 3) := dk_167 255 225 (dk_at dksX1_areSo_1 11 rfl rfl)
theorem dX1_areSo_38 : decode cX1_areSo 38 = .ok (.iload_n 2, 1) := dk_28 (dk_at dksX1_areSo_1 14 rfl rfl)
theorem dX1_areSo_39 : decode cX1_areSo 39 = .ok (.ireturn, 1) := dk_172 (dk_at dksX1_areSo_1 15 rfl rfl)
abbrev cX1_load : ByteArray := prog_7_method_6_code
def yX1_load : MethodName := ⟨RX1, "load", "()I"⟩
def dkwX1_load_1 : List UInt8 := [180, 0, 32, 28, 46, 167, 0, 4, 3, 96, 60, 132, 2, 1, 167, 255, 222, 27, 172]
abbrev dktX1_load_1 : List UInt8 := dkwX1_load_1 ++ []
def dkwX1_load_0 : List UInt8 := [3, 60, 3, 61, 28, 42, 182, 0, 82, 162, 0, 32, 27, 42, 180, 0, 22, 28, 46, 4, 160, 0, 12, 42]
abbrev dktX1_load_0 : List UInt8 := dkwX1_load_0 ++ dktX1_load_1
theorem dksX1_load_0 : cX1_load.data.toList.drop 0 = dktX1_load_0 := by decide +kernel
theorem dksX1_load_1 : cX1_load.data.toList.drop 24 = dktX1_load_1 := dk_seg dksX1_load_0 24 rfl rfl
theorem dX1_load_0 : decode cX1_load 0 = .ok (.iconst 0, 1) := dk_3 (dk_at dksX1_load_0 0 rfl rfl)
theorem dX1_load_1 : decode cX1_load 1 = .ok (.istore_n 1, 1) := dk_60 (dk_at dksX1_load_0 1 rfl rfl)
theorem dX1_load_2 : decode cX1_load 2 = .ok (.iconst 0, 1) := dk_3 (dk_at dksX1_load_0 2 rfl rfl)
theorem dX1_load_3 : decode cX1_load 3 = .ok (.istore_n 2, 1) := dk_61 (dk_at dksX1_load_0 3 rfl rfl)
theorem dX1_load_4 : decode cX1_load 4 = .ok (.iload_n 2, 1) := dk_28 (dk_at dksX1_load_0 4 rfl rfl)
theorem dX1_load_5 : decode cX1_load 5 = .ok (.aload_n 0, 1) := dk_42 (dk_at dksX1_load_0 5 rfl rfl)
theorem dX1_load_6 : decode cX1_load 6 = .ok (.invokevirtual 82, 3) := dk_182 0 82 (dk_at dksX1_load_0 6 rfl rfl)
theorem dX1_load_9 : decode cX1_load 9 = .ok (.if_icmp .ge 32, 3) := dk_162 0 32 (dk_at dksX1_load_0 9 rfl rfl)
theorem dX1_load_12 : decode cX1_load 12 = .ok (.iload_n 1, 1) := dk_27 (dk_at dksX1_load_0 12 rfl rfl)
theorem dX1_load_13 : decode cX1_load 13 = .ok (.aload_n 0, 1) := dk_42 (dk_at dksX1_load_0 13 rfl rfl)
theorem dX1_load_14 : decode cX1_load 14 = .ok (.getfield 22, 3) := dk_180 0 22 (dk_at dksX1_load_0 14 rfl rfl)
theorem dX1_load_17 : decode cX1_load 17 = .ok (.iload_n 2, 1) := dk_28 (dk_at dksX1_load_0 17 rfl rfl)
theorem dX1_load_18 : decode cX1_load 18 = .ok (.iaload, 1) := dk_46 (dk_at dksX1_load_0 18 rfl rfl)
theorem dX1_load_19 : decode cX1_load 19 = .ok (.iconst 1, 1) := dk_4 (dk_at dksX1_load_0 19 rfl rfl)
theorem dX1_load_20 : decode cX1_load 20 = .ok (.if_icmp .ne 12, 3) := dk_160 0 12 (dk_at dksX1_load_0 20 rfl rfl)
theorem dX1_load_23 : decode cX1_load 23 = .ok (.aload_n 0, 1) := dk_42 (dk_at dksX1_load_0 23 rfl rfl)
theorem dX1_load_24 : decode cX1_load 24 = .ok (.getfield 32, 3) := dk_180 0 32 (dk_at dksX1_load_1 0 rfl rfl)
theorem dX1_load_27 : decode cX1_load 27 = .ok (.iload_n 2, 1) := dk_28 (dk_at dksX1_load_1 3 rfl rfl)
theorem dX1_load_28 : decode cX1_load 28 = .ok (.iaload, 1) := dk_46 (dk_at dksX1_load_1 4 rfl rfl)
theorem dX1_load_29 : decode cX1_load 29 = .ok (.goto 4, 3) := dk_167 0 4 (dk_at dksX1_load_1 5 rfl rfl)
theorem dX1_load_32 : decode cX1_load 32 = .ok (.iconst 0, 1) := dk_3 (dk_at dksX1_load_1 8 rfl rfl)
theorem dX1_load_33 : decode cX1_load 33 = .ok (.iadd, 1) := dk_96 (dk_at dksX1_load_1 9 rfl rfl)
theorem dX1_load_34 : decode cX1_load 34 = .ok (.istore_n 1, 1) := dk_60 (dk_at dksX1_load_1 10 rfl rfl)
theorem dX1_load_35 : decode cX1_load 35 = .ok (.iinc 2 1, 3) := dk_132 2 1 (dk_at dksX1_load_1 11 rfl rfl)
theorem dX1_load_38 : decode cX1_load 38 = .ok (.goto (-34), 3) := dk_167 255 222 (dk_at dksX1_load_1 14 rfl rfl)
theorem dX1_load_41 : decode cX1_load 41 = .ok (.iload_n 1, 1) := dk_27 (dk_at dksX1_load_1 17 rfl rfl)
theorem dX1_load_42 : decode cX1_load 42 = .ok (.ireturn, 1) := dk_172 (dk_at dksX1_load_1 18 rfl rfl)
abbrev cX1_goes : ByteArray := prog_7_method_9_code
def yX1_goes : MethodName := ⟨RX1, "goes", "()Z"⟩
def dkwX1_goes_3 : List UInt8 := [5, 42, 180, 0, 9, 104, 4, 100, 96, 181, 0, 54, 4, 172]
abbrev dktX1_goes_3 : List UInt8 := dkwX1_goes_3 ++ []
def dkwX1_goes_2 : List UInt8 := [154, 0, 12, 4, 42, 180, 0, 9, 100, 167, 0, 7, 42, 180, 0, 9, 181, 0, 9, 42, 89, 180, 0, 54]
abbrev dktX1_goes_2 : List UInt8 := dkwX1_goes_2 ++ dktX1_goes_3
def dkwX1_goes_1 : List UInt8 := [27, 154, 0, 9, 28, 154, 0, 5, 3, 172, 42, 42, 180, 0, 9, 4, 160, 0, 7, 27, 167, 0, 4, 28]
abbrev dktX1_goes_1 : List UInt8 := dkwX1_goes_1 ++ dktX1_goes_2
def dkwX1_goes_0 : List UInt8 := [42, 182, 0, 97, 42, 180, 0, 54, 122, 60, 42, 182, 0, 97, 4, 42, 180, 0, 54, 120, 4, 100, 126, 61]
abbrev dktX1_goes_0 : List UInt8 := dkwX1_goes_0 ++ dktX1_goes_1
theorem dksX1_goes_0 : cX1_goes.data.toList.drop 0 = dktX1_goes_0 := by decide +kernel
theorem dksX1_goes_1 : cX1_goes.data.toList.drop 24 = dktX1_goes_1 := dk_seg dksX1_goes_0 24 rfl rfl
theorem dksX1_goes_2 : cX1_goes.data.toList.drop 48 = dktX1_goes_2 := dk_seg dksX1_goes_1 24 rfl rfl
theorem dksX1_goes_3 : cX1_goes.data.toList.drop 72 = dktX1_goes_3 := dk_seg dksX1_goes_2 24 rfl rfl
theorem dX1_goes_0 : decode cX1_goes 0 = .ok (.aload_n 0, 1) := dk_42 (dk_at dksX1_goes_0 0 rfl rfl)
theorem dX1_goes_1 : decode cX1_goes 1 = .ok (.invokevirtual 97, 3) := dk_182 0 97 (dk_at dksX1_goes_0 1 rfl rfl)
theorem dX1_goes_4 : decode cX1_goes 4 = .ok (.aload_n 0, 1) := dk_42 (dk_at dksX1_goes_0 4 rfl rfl)
theorem dX1_goes_5 : decode cX1_goes 5 = .ok (.getfield 54, 3) := dk_180 0 54 (dk_at dksX1_goes_0 5 rfl rfl)
theorem dX1_goes_8 : decode cX1_goes 8 = .ok (.ishr, 1) := dk_122 (dk_at dksX1_goes_0 8 rfl rfl)
theorem dX1_goes_9 : decode cX1_goes 9 = .ok (.istore_n 1, 1) := dk_60 (dk_at dksX1_goes_0 9 rfl rfl)
theorem dX1_goes_10 : decode cX1_goes 10 = .ok (.aload_n 0, 1) := dk_42 (dk_at dksX1_goes_0 10 rfl rfl)
theorem dX1_goes_11 : decode cX1_goes 11 = .ok (.invokevirtual 97, 3) := dk_182 0 97 (dk_at dksX1_goes_0 11 rfl rfl)
theorem dX1_goes_14 : decode cX1_goes 14 = .ok (.iconst 1, 1) := dk_4 (dk_at dksX1_goes_0 14 rfl rfl)
theorem dX1_goes_15 : decode cX1_goes 15 = .ok (.aload_n 0, 1) := dk_42 (dk_at dksX1_goes_0 15 rfl rfl)
theorem dX1_goes_16 : decode cX1_goes 16 = .ok (.getfield 54, 3) := dk_180 0 54 (dk_at dksX1_goes_0 16 rfl rfl)
theorem dX1_goes_19 : decode cX1_goes 19 = .ok (.ishl, 1) := dk_120 (dk_at dksX1_goes_0 19 rfl rfl)
theorem dX1_goes_20 : decode cX1_goes 20 = .ok (.iconst 1, 1) := dk_4 (dk_at dksX1_goes_0 20 rfl rfl)
theorem dX1_goes_21 : decode cX1_goes 21 = .ok (.isub, 1) := dk_100 (dk_at dksX1_goes_0 21 rfl rfl)
theorem dX1_goes_22 : decode cX1_goes 22 = .ok (.iand, 1) := dk_126 (dk_at dksX1_goes_0 22 rfl rfl)
theorem dX1_goes_23 : decode cX1_goes 23 = .ok (.istore_n 2, 1) := dk_61 (dk_at dksX1_goes_0 23 rfl rfl)
theorem dX1_goes_24 : decode cX1_goes 24 = .ok (.iload_n 1, 1) := dk_27 (dk_at dksX1_goes_1 0 rfl rfl)
theorem dX1_goes_25 : decode cX1_goes 25 = .ok (.ifCond .ne 9, 3) := dk_154 0 9 (dk_at dksX1_goes_1 1 rfl rfl)
theorem dX1_goes_28 : decode cX1_goes 28 = .ok (.iload_n 2, 1) := dk_28 (dk_at dksX1_goes_1 4 rfl rfl)
theorem dX1_goes_29 : decode cX1_goes 29 = .ok (.ifCond .ne 5, 3) := dk_154 0 5 (dk_at dksX1_goes_1 5 rfl rfl)
theorem dX1_goes_32 : decode cX1_goes 32 = .ok (.iconst 0, 1) := dk_3 (dk_at dksX1_goes_1 8 rfl rfl)
theorem dX1_goes_33 : decode cX1_goes 33 = .ok (.ireturn, 1) := dk_172 (dk_at dksX1_goes_1 9 rfl rfl)
theorem dX1_goes_34 : decode cX1_goes 34 = .ok (.aload_n 0, 1) := dk_42 (dk_at dksX1_goes_1 10 rfl rfl)
theorem dX1_goes_35 : decode cX1_goes 35 = .ok (.aload_n 0, 1) := dk_42 (dk_at dksX1_goes_1 11 rfl rfl)
theorem dX1_goes_36 : decode cX1_goes 36 = .ok (.getfield 9, 3) := dk_180 0 9 (dk_at dksX1_goes_1 12 rfl rfl)
theorem dX1_goes_39 : decode cX1_goes 39 = .ok (.iconst 1, 1) := dk_4 (dk_at dksX1_goes_1 15 rfl rfl)
theorem dX1_goes_40 : decode cX1_goes 40 = .ok (.if_icmp .ne 7, 3) := dk_160 0 7 (dk_at dksX1_goes_1 16 rfl rfl)
theorem dX1_goes_43 : decode cX1_goes 43 = .ok (.iload_n 1, 1) := dk_27 (dk_at dksX1_goes_1 19 rfl rfl)
theorem dX1_goes_44 : decode cX1_goes 44 = .ok (.goto 4, 3) := dk_167 0 4 (dk_at dksX1_goes_1 20 rfl rfl)
theorem dX1_goes_47 : decode cX1_goes 47 = .ok (.iload_n 2, 1) := dk_28 (dk_at dksX1_goes_1 23 rfl rfl)
theorem dX1_goes_48 : decode cX1_goes 48 = .ok (.ifCond .ne 12, 3) := dk_154 0 12 (dk_at dksX1_goes_2 0 rfl rfl)
theorem dX1_goes_51 : decode cX1_goes 51 = .ok (.iconst 1, 1) := dk_4 (dk_at dksX1_goes_2 3 rfl rfl)
theorem dX1_goes_52 : decode cX1_goes 52 = .ok (.aload_n 0, 1) := dk_42 (dk_at dksX1_goes_2 4 rfl rfl)
theorem dX1_goes_53 : decode cX1_goes 53 = .ok (.getfield 9, 3) := dk_180 0 9 (dk_at dksX1_goes_2 5 rfl rfl)
theorem dX1_goes_56 : decode cX1_goes 56 = .ok (.isub, 1) := dk_100 (dk_at dksX1_goes_2 8 rfl rfl)
theorem dX1_goes_57 : decode cX1_goes 57 = .ok (.goto 7, 3) := dk_167 0 7 (dk_at dksX1_goes_2 9 rfl rfl)
theorem dX1_goes_60 : decode cX1_goes 60 = .ok (.aload_n 0, 1) := dk_42 (dk_at dksX1_goes_2 12 rfl rfl)
theorem dX1_goes_61 : decode cX1_goes 61 = .ok (.getfield 9, 3) := dk_180 0 9 (dk_at dksX1_goes_2 13 rfl rfl)
theorem dX1_goes_64 : decode cX1_goes 64 = .ok (.putfield 9, 3) := dk_181 0 9 (dk_at dksX1_goes_2 16 rfl rfl)
theorem dX1_goes_67 : decode cX1_goes 67 = .ok (.aload_n 0, 1) := dk_42 (dk_at dksX1_goes_2 19 rfl rfl)
theorem dX1_goes_68 : decode cX1_goes 68 = .ok (.dup, 1) := dk_89 (dk_at dksX1_goes_2 20 rfl rfl)
theorem dX1_goes_69 : decode cX1_goes 69 = .ok (.getfield 54, 3) := dk_180 0 54 (dk_at dksX1_goes_2 21 rfl rfl)
theorem dX1_goes_72 : decode cX1_goes 72 = .ok (.iconst 2, 1) := dk_5 (dk_at dksX1_goes_3 0 rfl rfl)
theorem dX1_goes_73 : decode cX1_goes 73 = .ok (.aload_n 0, 1) := dk_42 (dk_at dksX1_goes_3 1 rfl rfl)
theorem dX1_goes_74 : decode cX1_goes 74 = .ok (.getfield 9, 3) := dk_180 0 9 (dk_at dksX1_goes_3 2 rfl rfl)
theorem dX1_goes_77 : decode cX1_goes 77 = .ok (.imul, 1) := dk_104 (dk_at dksX1_goes_3 5 rfl rfl)
theorem dX1_goes_78 : decode cX1_goes 78 = .ok (.iconst 1, 1) := dk_4 (dk_at dksX1_goes_3 6 rfl rfl)
theorem dX1_goes_79 : decode cX1_goes 79 = .ok (.isub, 1) := dk_100 (dk_at dksX1_goes_3 7 rfl rfl)
theorem dX1_goes_80 : decode cX1_goes 80 = .ok (.iadd, 1) := dk_96 (dk_at dksX1_goes_3 8 rfl rfl)
theorem dX1_goes_81 : decode cX1_goes 81 = .ok (.putfield 54, 3) := dk_181 0 54 (dk_at dksX1_goes_3 9 rfl rfl)
theorem dX1_goes_84 : decode cX1_goes 84 = .ok (.iconst 1, 1) := dk_4 (dk_at dksX1_goes_3 12 rfl rfl)
theorem dX1_goes_85 : decode cX1_goes 85 = .ok (.ireturn, 1) := dk_172 (dk_at dksX1_goes_3 13 rfl rfl)
abbrev cX1_called : ByteArray := prog_7_method_8_code
def yX1_called : MethodName := ⟨RX1, "called", "()I"⟩
def dkwX1_called_3 : List UInt8 := [27, 4, 42, 180, 0, 54, 120, 2, 130, 126, 172]
abbrev dktX1_called_3 : List UInt8 := dkwX1_called_3 ++ []
def dkwX1_called_2 : List UInt8 := [42, 180, 0, 51, 163, 0, 14, 27, 4, 42, 180, 0, 26, 28, 46, 120, 128, 60, 132, 2, 1, 167, 255, 191]
abbrev dktX1_called_2 : List UInt8 := dkwX1_called_2 ++ dktX1_called_3
def dkwX1_called_1 : List UInt8 := [42, 180, 0, 29, 28, 46, 120, 128, 60, 42, 180, 0, 22, 28, 46, 154, 0, 27, 42, 180, 0, 32, 28, 46]
abbrev dktX1_called_1 : List UInt8 := dkwX1_called_1 ++ dktX1_called_2
def dkwX1_called_0 : List UInt8 := [3, 60, 3, 61, 28, 42, 182, 0, 82, 162, 0, 63, 42, 180, 0, 22, 28, 46, 4, 160, 0, 14, 27, 4]
abbrev dktX1_called_0 : List UInt8 := dkwX1_called_0 ++ dktX1_called_1
theorem dksX1_called_0 : cX1_called.data.toList.drop 0 = dktX1_called_0 := by decide +kernel
theorem dksX1_called_1 : cX1_called.data.toList.drop 24 = dktX1_called_1 := dk_seg dksX1_called_0 24 rfl rfl
theorem dksX1_called_2 : cX1_called.data.toList.drop 48 = dktX1_called_2 := dk_seg dksX1_called_1 24 rfl rfl
theorem dksX1_called_3 : cX1_called.data.toList.drop 72 = dktX1_called_3 := dk_seg dksX1_called_2 24 rfl rfl
theorem dX1_called_0 : decode cX1_called 0 = .ok (.iconst 0, 1) := dk_3 (dk_at dksX1_called_0 0 rfl rfl)
theorem dX1_called_1 : decode cX1_called 1 = .ok (.istore_n 1, 1) := dk_60 (dk_at dksX1_called_0 1 rfl rfl)
theorem dX1_called_2 : decode cX1_called 2 = .ok (.iconst 0, 1) := dk_3 (dk_at dksX1_called_0 2 rfl rfl)
theorem dX1_called_3 : decode cX1_called 3 = .ok (.istore_n 2, 1) := dk_61 (dk_at dksX1_called_0 3 rfl rfl)
theorem dX1_called_4 : decode cX1_called 4 = .ok (.iload_n 2, 1) := dk_28 (dk_at dksX1_called_0 4 rfl rfl)
theorem dX1_called_5 : decode cX1_called 5 = .ok (.aload_n 0, 1) := dk_42 (dk_at dksX1_called_0 5 rfl rfl)
theorem dX1_called_6 : decode cX1_called 6 = .ok (.invokevirtual 82, 3) := dk_182 0 82 (dk_at dksX1_called_0 6 rfl rfl)
theorem dX1_called_9 : decode cX1_called 9 = .ok (.if_icmp .ge 63, 3) := dk_162 0 63 (dk_at dksX1_called_0 9 rfl rfl)
theorem dX1_called_12 : decode cX1_called 12 = .ok (.aload_n 0, 1) := dk_42 (dk_at dksX1_called_0 12 rfl rfl)
theorem dX1_called_13 : decode cX1_called 13 = .ok (.getfield 22, 3) := dk_180 0 22 (dk_at dksX1_called_0 13 rfl rfl)
theorem dX1_called_16 : decode cX1_called 16 = .ok (.iload_n 2, 1) := dk_28 (dk_at dksX1_called_0 16 rfl rfl)
theorem dX1_called_17 : decode cX1_called 17 = .ok (.iaload, 1) := dk_46 (dk_at dksX1_called_0 17 rfl rfl)
theorem dX1_called_18 : decode cX1_called 18 = .ok (.iconst 1, 1) := dk_4 (dk_at dksX1_called_0 18 rfl rfl)
theorem dX1_called_19 : decode cX1_called 19 = .ok (.if_icmp .ne 14, 3) := dk_160 0 14 (dk_at dksX1_called_0 19 rfl rfl)
theorem dX1_called_22 : decode cX1_called 22 = .ok (.iload_n 1, 1) := dk_27 (dk_at dksX1_called_0 22 rfl rfl)
theorem dX1_called_23 : decode cX1_called 23 = .ok (.iconst 1, 1) := dk_4 (dk_at dksX1_called_0 23 rfl rfl)
theorem dX1_called_24 : decode cX1_called 24 = .ok (.aload_n 0, 1) := dk_42 (dk_at dksX1_called_1 0 rfl rfl)
theorem dX1_called_25 : decode cX1_called 25 = .ok (.getfield 29, 3) := dk_180 0 29 (dk_at dksX1_called_1 1 rfl rfl)
theorem dX1_called_28 : decode cX1_called 28 = .ok (.iload_n 2, 1) := dk_28 (dk_at dksX1_called_1 4 rfl rfl)
theorem dX1_called_29 : decode cX1_called 29 = .ok (.iaload, 1) := dk_46 (dk_at dksX1_called_1 5 rfl rfl)
theorem dX1_called_30 : decode cX1_called 30 = .ok (.ishl, 1) := dk_120 (dk_at dksX1_called_1 6 rfl rfl)
theorem dX1_called_31 : decode cX1_called 31 = .ok (.ior, 1) := dk_128 (dk_at dksX1_called_1 7 rfl rfl)
theorem dX1_called_32 : decode cX1_called 32 = .ok (.istore_n 1, 1) := dk_60 (dk_at dksX1_called_1 8 rfl rfl)
theorem dX1_called_33 : decode cX1_called 33 = .ok (.aload_n 0, 1) := dk_42 (dk_at dksX1_called_1 9 rfl rfl)
theorem dX1_called_34 : decode cX1_called 34 = .ok (.getfield 22, 3) := dk_180 0 22 (dk_at dksX1_called_1 10 rfl rfl)
theorem dX1_called_37 : decode cX1_called 37 = .ok (.iload_n 2, 1) := dk_28 (dk_at dksX1_called_1 13 rfl rfl)
theorem dX1_called_38 : decode cX1_called 38 = .ok (.iaload, 1) := dk_46 (dk_at dksX1_called_1 14 rfl rfl)
theorem dX1_called_39 : decode cX1_called 39 = .ok (.ifCond .ne 27, 3) := dk_154 0 27 (dk_at dksX1_called_1 15 rfl rfl)
theorem dX1_called_42 : decode cX1_called 42 = .ok (.aload_n 0, 1) := dk_42 (dk_at dksX1_called_1 18 rfl rfl)
theorem dX1_called_43 : decode cX1_called 43 = .ok (.getfield 32, 3) := dk_180 0 32 (dk_at dksX1_called_1 19 rfl rfl)
theorem dX1_called_46 : decode cX1_called 46 = .ok (.iload_n 2, 1) := dk_28 (dk_at dksX1_called_1 22 rfl rfl)
theorem dX1_called_47 : decode cX1_called 47 = .ok (.iaload, 1) := dk_46 (dk_at dksX1_called_1 23 rfl rfl)
theorem dX1_called_48 : decode cX1_called 48 = .ok (.aload_n 0, 1) := dk_42 (dk_at dksX1_called_2 0 rfl rfl)
theorem dX1_called_49 : decode cX1_called 49 = .ok (.getfield 51, 3) := dk_180 0 51 (dk_at dksX1_called_2 1 rfl rfl)
theorem dX1_called_52 : decode cX1_called 52 = .ok (.if_icmp .gt 14, 3) := dk_163 0 14 (dk_at dksX1_called_2 4 rfl rfl)
theorem dX1_called_55 : decode cX1_called 55 = .ok (.iload_n 1, 1) := dk_27 (dk_at dksX1_called_2 7 rfl rfl)
theorem dX1_called_56 : decode cX1_called 56 = .ok (.iconst 1, 1) := dk_4 (dk_at dksX1_called_2 8 rfl rfl)
theorem dX1_called_57 : decode cX1_called 57 = .ok (.aload_n 0, 1) := dk_42 (dk_at dksX1_called_2 9 rfl rfl)
theorem dX1_called_58 : decode cX1_called 58 = .ok (.getfield 26, 3) := dk_180 0 26 (dk_at dksX1_called_2 10 rfl rfl)
theorem dX1_called_61 : decode cX1_called 61 = .ok (.iload_n 2, 1) := dk_28 (dk_at dksX1_called_2 13 rfl rfl)
theorem dX1_called_62 : decode cX1_called 62 = .ok (.iaload, 1) := dk_46 (dk_at dksX1_called_2 14 rfl rfl)
theorem dX1_called_63 : decode cX1_called 63 = .ok (.ishl, 1) := dk_120 (dk_at dksX1_called_2 15 rfl rfl)
theorem dX1_called_64 : decode cX1_called 64 = .ok (.ior, 1) := dk_128 (dk_at dksX1_called_2 16 rfl rfl)
theorem dX1_called_65 : decode cX1_called 65 = .ok (.istore_n 1, 1) := dk_60 (dk_at dksX1_called_2 17 rfl rfl)
theorem dX1_called_66 : decode cX1_called 66 = .ok (.iinc 2 1, 3) := dk_132 2 1 (dk_at dksX1_called_2 18 rfl rfl)
theorem dX1_called_69 : decode cX1_called 69 = .ok (.goto (-65), 3) := dk_167 255 191 (dk_at dksX1_called_2 21 rfl rfl)
theorem dX1_called_72 : decode cX1_called 72 = .ok (.iload_n 1, 1) := dk_27 (dk_at dksX1_called_3 0 rfl rfl)
theorem dX1_called_73 : decode cX1_called 73 = .ok (.iconst 1, 1) := dk_4 (dk_at dksX1_called_3 1 rfl rfl)
theorem dX1_called_74 : decode cX1_called 74 = .ok (.aload_n 0, 1) := dk_42 (dk_at dksX1_called_3 2 rfl rfl)
theorem dX1_called_75 : decode cX1_called 75 = .ok (.getfield 54, 3) := dk_180 0 54 (dk_at dksX1_called_3 3 rfl rfl)
theorem dX1_called_78 : decode cX1_called 78 = .ok (.ishl, 1) := dk_120 (dk_at dksX1_called_3 6 rfl rfl)
theorem dX1_called_79 : decode cX1_called 79 = .ok (.iconst (-1), 1) := dk_2 (dk_at dksX1_called_3 7 rfl rfl)
theorem dX1_called_80 : decode cX1_called 80 = .ok (.ixor, 1) := dk_130 (dk_at dksX1_called_3 8 rfl rfl)
theorem dX1_called_81 : decode cX1_called 81 = .ok (.iand, 1) := dk_126 (dk_at dksX1_called_3 9 rfl rfl)
theorem dX1_called_82 : decode cX1_called 82 = .ok (.ireturn, 1) := dk_172 (dk_at dksX1_called_3 10 rfl rfl)
abbrev cX1_cools : ByteArray := prog_7_method_10_code
def yX1_cools : MethodName := ⟨RX1, "cools", "(Z)V"⟩
def dkwX1_cools_4 : List UInt8 := [132, 2, 1, 167, 255, 163, 42, 89, 180, 0, 63, 4, 96, 181, 0, 63, 177]
abbrev dktX1_cools_4 : List UInt8 := dkwX1_cools_4 ++ []
def dkwX1_cools_3 : List UInt8 := [153, 0, 17, 42, 180, 0, 22, 28, 46, 4, 160, 0, 7, 4, 167, 0, 4, 3, 182, 0, 108, 79]
abbrev dktX1_cools_3 : List UInt8 := dkwX1_cools_3 ++ dktX1_cools_4
def dkwX1_cools_2 : List UInt8 := [180, 0, 32, 28, 42, 28, 182, 0, 100, 42, 180, 0, 32, 28, 46, 42, 180, 0, 35, 28, 46, 27]
abbrev dktX1_cools_2 : List UInt8 := dkwX1_cools_2 ++ dktX1_cools_3
def dkwX1_cools_1 : List UInt8 := [180, 0, 35, 28, 42, 28, 182, 0, 100, 42, 180, 0, 35, 28, 46, 42, 180, 0, 63, 182, 0, 104, 79, 42]
abbrev dktX1_cools_1 : List UInt8 := dkwX1_cools_1 ++ dktX1_cools_2
def dkwX1_cools_0 : List UInt8 := [3, 61, 28, 42, 182, 0, 82, 162, 0, 91, 42, 180, 0, 22, 28, 46, 5, 160, 0, 6, 167, 0, 72, 42]
abbrev dktX1_cools_0 : List UInt8 := dkwX1_cools_0 ++ dktX1_cools_1
theorem dksX1_cools_0 : cX1_cools.data.toList.drop 0 = dktX1_cools_0 := by decide +kernel
theorem dksX1_cools_1 : cX1_cools.data.toList.drop 24 = dktX1_cools_1 := dk_seg dksX1_cools_0 24 rfl rfl
theorem dksX1_cools_2 : cX1_cools.data.toList.drop 48 = dktX1_cools_2 := dk_seg dksX1_cools_1 24 rfl rfl
theorem dksX1_cools_3 : cX1_cools.data.toList.drop 70 = dktX1_cools_3 := dk_seg dksX1_cools_2 22 rfl rfl
theorem dksX1_cools_4 : cX1_cools.data.toList.drop 92 = dktX1_cools_4 := dk_seg dksX1_cools_3 22 rfl rfl
theorem dX1_cools_0 : decode cX1_cools 0 = .ok (.iconst 0, 1) := dk_3 (dk_at dksX1_cools_0 0 rfl rfl)
theorem dX1_cools_1 : decode cX1_cools 1 = .ok (.istore_n 2, 1) := dk_61 (dk_at dksX1_cools_0 1 rfl rfl)
theorem dX1_cools_2 : decode cX1_cools 2 = .ok (.iload_n 2, 1) := dk_28 (dk_at dksX1_cools_0 2 rfl rfl)
theorem dX1_cools_3 : decode cX1_cools 3 = .ok (.aload_n 0, 1) := dk_42 (dk_at dksX1_cools_0 3 rfl rfl)
theorem dX1_cools_4 : decode cX1_cools 4 = .ok (.invokevirtual 82, 3) := dk_182 0 82 (dk_at dksX1_cools_0 4 rfl rfl)
theorem dX1_cools_7 : decode cX1_cools 7 = .ok (.if_icmp .ge 91, 3) := dk_162 0 91 (dk_at dksX1_cools_0 7 rfl rfl)
theorem dX1_cools_10 : decode cX1_cools 10 = .ok (.aload_n 0, 1) := dk_42 (dk_at dksX1_cools_0 10 rfl rfl)
theorem dX1_cools_11 : decode cX1_cools 11 = .ok (.getfield 22, 3) := dk_180 0 22 (dk_at dksX1_cools_0 11 rfl rfl)
theorem dX1_cools_14 : decode cX1_cools 14 = .ok (.iload_n 2, 1) := dk_28 (dk_at dksX1_cools_0 14 rfl rfl)
theorem dX1_cools_15 : decode cX1_cools 15 = .ok (.iaload, 1) := dk_46 (dk_at dksX1_cools_0 15 rfl rfl)
theorem dX1_cools_16 : decode cX1_cools 16 = .ok (.iconst 2, 1) := dk_5 (dk_at dksX1_cools_0 16 rfl rfl)
theorem dX1_cools_17 : decode cX1_cools 17 = .ok (.if_icmp .ne 6, 3) := dk_160 0 6 (dk_at dksX1_cools_0 17 rfl rfl)
theorem dX1_cools_20 : decode cX1_cools 20 = .ok (.goto 72, 3) := dk_167 0 72 (dk_at dksX1_cools_0 20 rfl rfl)
theorem dX1_cools_23 : decode cX1_cools 23 = .ok (.aload_n 0, 1) := dk_42 (dk_at dksX1_cools_0 23 rfl rfl)
theorem dX1_cools_24 : decode cX1_cools 24 = .ok (.getfield 35, 3) := dk_180 0 35 (dk_at dksX1_cools_1 0 rfl rfl)
theorem dX1_cools_27 : decode cX1_cools 27 = .ok (.iload_n 2, 1) := dk_28 (dk_at dksX1_cools_1 3 rfl rfl)
theorem dX1_cools_28 : decode cX1_cools 28 = .ok (.aload_n 0, 1) := dk_42 (dk_at dksX1_cools_1 4 rfl rfl)
theorem dX1_cools_29 : decode cX1_cools 29 = .ok (.iload_n 2, 1) := dk_28 (dk_at dksX1_cools_1 5 rfl rfl)
theorem dX1_cools_30 : decode cX1_cools 30 = .ok (.invokevirtual 100, 3) := dk_182 0 100 (dk_at dksX1_cools_1 6 rfl rfl)
theorem dX1_cools_33 : decode cX1_cools 33 = .ok (.aload_n 0, 1) := dk_42 (dk_at dksX1_cools_1 9 rfl rfl)
theorem dX1_cools_34 : decode cX1_cools 34 = .ok (.getfield 35, 3) := dk_180 0 35 (dk_at dksX1_cools_1 10 rfl rfl)
theorem dX1_cools_37 : decode cX1_cools 37 = .ok (.iload_n 2, 1) := dk_28 (dk_at dksX1_cools_1 13 rfl rfl)
theorem dX1_cools_38 : decode cX1_cools 38 = .ok (.iaload, 1) := dk_46 (dk_at dksX1_cools_1 14 rfl rfl)
theorem dX1_cools_39 : decode cX1_cools 39 = .ok (.aload_n 0, 1) := dk_42 (dk_at dksX1_cools_1 15 rfl rfl)
theorem dX1_cools_40 : decode cX1_cools 40 = .ok (.getfield 63, 3) := dk_180 0 63 (dk_at dksX1_cools_1 16 rfl rfl)
theorem dX1_cools_43 : decode cX1_cools 43 = .ok (.invokevirtual 104, 3) := dk_182 0 104 (dk_at dksX1_cools_1 19 rfl rfl)
theorem dX1_cools_46 : decode cX1_cools 46 = .ok (.iastore, 1) := dk_79 (dk_at dksX1_cools_1 22 rfl rfl)
theorem dX1_cools_47 : decode cX1_cools 47 = .ok (.aload_n 0, 1) := dk_42 (dk_at dksX1_cools_1 23 rfl rfl)
theorem dX1_cools_48 : decode cX1_cools 48 = .ok (.getfield 32, 3) := dk_180 0 32 (dk_at dksX1_cools_2 0 rfl rfl)
theorem dX1_cools_51 : decode cX1_cools 51 = .ok (.iload_n 2, 1) := dk_28 (dk_at dksX1_cools_2 3 rfl rfl)
theorem dX1_cools_52 : decode cX1_cools 52 = .ok (.aload_n 0, 1) := dk_42 (dk_at dksX1_cools_2 4 rfl rfl)
theorem dX1_cools_53 : decode cX1_cools 53 = .ok (.iload_n 2, 1) := dk_28 (dk_at dksX1_cools_2 5 rfl rfl)
theorem dX1_cools_54 : decode cX1_cools 54 = .ok (.invokevirtual 100, 3) := dk_182 0 100 (dk_at dksX1_cools_2 6 rfl rfl)
theorem dX1_cools_57 : decode cX1_cools 57 = .ok (.aload_n 0, 1) := dk_42 (dk_at dksX1_cools_2 9 rfl rfl)
theorem dX1_cools_58 : decode cX1_cools 58 = .ok (.getfield 32, 3) := dk_180 0 32 (dk_at dksX1_cools_2 10 rfl rfl)
theorem dX1_cools_61 : decode cX1_cools 61 = .ok (.iload_n 2, 1) := dk_28 (dk_at dksX1_cools_2 13 rfl rfl)
theorem dX1_cools_62 : decode cX1_cools 62 = .ok (.iaload, 1) := dk_46 (dk_at dksX1_cools_2 14 rfl rfl)
theorem dX1_cools_63 : decode cX1_cools 63 = .ok (.aload_n 0, 1) := dk_42 (dk_at dksX1_cools_2 15 rfl rfl)
theorem dX1_cools_64 : decode cX1_cools 64 = .ok (.getfield 35, 3) := dk_180 0 35 (dk_at dksX1_cools_2 16 rfl rfl)
theorem dX1_cools_67 : decode cX1_cools 67 = .ok (.iload_n 2, 1) := dk_28 (dk_at dksX1_cools_2 19 rfl rfl)
theorem dX1_cools_68 : decode cX1_cools 68 = .ok (.iaload, 1) := dk_46 (dk_at dksX1_cools_2 20 rfl rfl)
theorem dX1_cools_69 : decode cX1_cools 69 = .ok (.iload_n 1, 1) := dk_27 (dk_at dksX1_cools_2 21 rfl rfl)
theorem dX1_cools_70 : decode cX1_cools 70 = .ok (.ifCond .eq 17, 3) := dk_153 0 17 (dk_at dksX1_cools_3 0 rfl rfl)
theorem dX1_cools_73 : decode cX1_cools 73 = .ok (.aload_n 0, 1) := dk_42 (dk_at dksX1_cools_3 3 rfl rfl)
theorem dX1_cools_74 : decode cX1_cools 74 = .ok (.getfield 22, 3) := dk_180 0 22 (dk_at dksX1_cools_3 4 rfl rfl)
theorem dX1_cools_77 : decode cX1_cools 77 = .ok (.iload_n 2, 1) := dk_28 (dk_at dksX1_cools_3 7 rfl rfl)
theorem dX1_cools_78 : decode cX1_cools 78 = .ok (.iaload, 1) := dk_46 (dk_at dksX1_cools_3 8 rfl rfl)
theorem dX1_cools_79 : decode cX1_cools 79 = .ok (.iconst 1, 1) := dk_4 (dk_at dksX1_cools_3 9 rfl rfl)
theorem dX1_cools_80 : decode cX1_cools 80 = .ok (.if_icmp .ne 7, 3) := dk_160 0 7 (dk_at dksX1_cools_3 10 rfl rfl)
theorem dX1_cools_83 : decode cX1_cools 83 = .ok (.iconst 1, 1) := dk_4 (dk_at dksX1_cools_3 13 rfl rfl)
theorem dX1_cools_84 : decode cX1_cools 84 = .ok (.goto 4, 3) := dk_167 0 4 (dk_at dksX1_cools_3 14 rfl rfl)
theorem dX1_cools_87 : decode cX1_cools 87 = .ok (.iconst 0, 1) := dk_3 (dk_at dksX1_cools_3 17 rfl rfl)
theorem dX1_cools_88 : decode cX1_cools 88 = .ok (.invokevirtual 108, 3) := dk_182 0 108 (dk_at dksX1_cools_3 18 rfl rfl)
theorem dX1_cools_91 : decode cX1_cools 91 = .ok (.iastore, 1) := dk_79 (dk_at dksX1_cools_3 21 rfl rfl)
theorem dX1_cools_92 : decode cX1_cools 92 = .ok (.iinc 2 1, 3) := dk_132 2 1 (dk_at dksX1_cools_4 0 rfl rfl)
theorem dX1_cools_95 : decode cX1_cools 95 = .ok (.goto (-93), 3) := dk_167 255 163 (dk_at dksX1_cools_4 3 rfl rfl)
theorem dX1_cools_98 : decode cX1_cools 98 = .ok (.aload_n 0, 1) := dk_42 (dk_at dksX1_cools_4 6 rfl rfl)
theorem dX1_cools_99 : decode cX1_cools 99 = .ok (.dup, 1) := dk_89 (dk_at dksX1_cools_4 7 rfl rfl)
theorem dX1_cools_100 : decode cX1_cools 100 = .ok (.getfield 63, 3) := dk_180 0 63 (dk_at dksX1_cools_4 8 rfl rfl)
theorem dX1_cools_103 : decode cX1_cools 103 = .ok (.iconst 1, 1) := dk_4 (dk_at dksX1_cools_4 11 rfl rfl)
theorem dX1_cools_104 : decode cX1_cools 104 = .ok (.iadd, 1) := dk_96 (dk_at dksX1_cools_4 12 rfl rfl)
theorem dX1_cools_105 : decode cX1_cools 105 = .ok (.putfield 63, 3) := dk_181 0 63 (dk_at dksX1_cools_4 13 rfl rfl)
theorem dX1_cools_108 : decode cX1_cools 108 = .ok (.return_, 1) := dk_177 (dk_at dksX1_cools_4 16 rfl rfl)
abbrev cX1_dish : ByteArray := prog_7_method_4_code
def yX1_dish : MethodName := ⟨RX1, "dish", "(I)LDishLift$Dish;"⟩
def dkwX1_dish_1 : List UInt8 := [185, 0, 76, 2, 0, 192, 0, 80, 176]
abbrev dktX1_dish_1 : List UInt8 := dkwX1_dish_1 ++ []
def dkwX1_dish_0 : List UInt8 := [27, 42, 180, 0, 42, 160, 0, 10, 42, 180, 0, 72, 167, 0, 16, 42, 180, 0, 18, 27]
abbrev dktX1_dish_0 : List UInt8 := dkwX1_dish_0 ++ dktX1_dish_1
theorem dksX1_dish_0 : cX1_dish.data.toList.drop 0 = dktX1_dish_0 := by decide +kernel
theorem dksX1_dish_1 : cX1_dish.data.toList.drop 20 = dktX1_dish_1 := dk_seg dksX1_dish_0 20 rfl rfl
theorem dX1_dish_0 : decode cX1_dish 0 = .ok (.iload_n 1, 1) := dk_27 (dk_at dksX1_dish_0 0 rfl rfl)
theorem dX1_dish_1 : decode cX1_dish 1 = .ok (.aload_n 0, 1) := dk_42 (dk_at dksX1_dish_0 1 rfl rfl)
theorem dX1_dish_2 : decode cX1_dish 2 = .ok (.getfield 42, 3) := dk_180 0 42 (dk_at dksX1_dish_0 2 rfl rfl)
theorem dX1_dish_5 : decode cX1_dish 5 = .ok (.if_icmp .ne 10, 3) := dk_160 0 10 (dk_at dksX1_dish_0 5 rfl rfl)
theorem dX1_dish_8 : decode cX1_dish 8 = .ok (.aload_n 0, 1) := dk_42 (dk_at dksX1_dish_0 8 rfl rfl)
theorem dX1_dish_9 : decode cX1_dish 9 = .ok (.getfield 72, 3) := dk_180 0 72 (dk_at dksX1_dish_0 9 rfl rfl)
theorem dX1_dish_12 : decode cX1_dish 12 = .ok (.goto 16, 3) := dk_167 0 16 (dk_at dksX1_dish_0 12 rfl rfl)
theorem dX1_dish_15 : decode cX1_dish 15 = .ok (.aload_n 0, 1) := dk_42 (dk_at dksX1_dish_0 15 rfl rfl)
theorem dX1_dish_16 : decode cX1_dish 16 = .ok (.getfield 18, 3) := dk_180 0 18 (dk_at dksX1_dish_0 16 rfl rfl)
theorem dX1_dish_19 : decode cX1_dish 19 = .ok (.iload_n 1, 1) := dk_27 (dk_at dksX1_dish_0 19 rfl rfl)
theorem dX1_dish_20 : decode cX1_dish 20 = .ok (.invokeinterface 76 2, 5) := by decide +kernel
theorem dX1_dish_25 : decode cX1_dish 25 = .ok (.checkcast 80, 3) := dk_192 0 80 (dk_at dksX1_dish_1 5 rfl rfl)
theorem dX1_dish_28 : decode cX1_dish 28 = .ok (.areturn, 1) := dk_176 (dk_at dksX1_dish_1 8 rfl rfl)
abbrev cX1_send : ByteArray := prog_7_method_16_code
def yX1_send : MethodName := ⟨RX1, "send", "(III)V"⟩
def dkwX1_send_1 : List UInt8 := [28, 79, 42, 180, 0, 35, 27, 29, 79, 177]
abbrev dktX1_send_1 : List UInt8 := dkwX1_send_1 ++ []
def dkwX1_send_0 : List UInt8 := [42, 180, 0, 22, 27, 3, 79, 42, 180, 0, 26, 27, 42, 180, 0, 29, 27, 46, 79, 42, 180, 0, 29, 27]
abbrev dktX1_send_0 : List UInt8 := dkwX1_send_0 ++ dktX1_send_1
theorem dksX1_send_0 : cX1_send.data.toList.drop 0 = dktX1_send_0 := by decide +kernel
theorem dksX1_send_1 : cX1_send.data.toList.drop 24 = dktX1_send_1 := dk_seg dksX1_send_0 24 rfl rfl
theorem dX1_send_0 : decode cX1_send 0 = .ok (.aload_n 0, 1) := dk_42 (dk_at dksX1_send_0 0 rfl rfl)
theorem dX1_send_1 : decode cX1_send 1 = .ok (.getfield 22, 3) := dk_180 0 22 (dk_at dksX1_send_0 1 rfl rfl)
theorem dX1_send_4 : decode cX1_send 4 = .ok (.iload_n 1, 1) := dk_27 (dk_at dksX1_send_0 4 rfl rfl)
theorem dX1_send_5 : decode cX1_send 5 = .ok (.iconst 0, 1) := dk_3 (dk_at dksX1_send_0 5 rfl rfl)
theorem dX1_send_6 : decode cX1_send 6 = .ok (.iastore, 1) := dk_79 (dk_at dksX1_send_0 6 rfl rfl)
theorem dX1_send_7 : decode cX1_send 7 = .ok (.aload_n 0, 1) := dk_42 (dk_at dksX1_send_0 7 rfl rfl)
theorem dX1_send_8 : decode cX1_send 8 = .ok (.getfield 26, 3) := dk_180 0 26 (dk_at dksX1_send_0 8 rfl rfl)
theorem dX1_send_11 : decode cX1_send 11 = .ok (.iload_n 1, 1) := dk_27 (dk_at dksX1_send_0 11 rfl rfl)
theorem dX1_send_12 : decode cX1_send 12 = .ok (.aload_n 0, 1) := dk_42 (dk_at dksX1_send_0 12 rfl rfl)
theorem dX1_send_13 : decode cX1_send 13 = .ok (.getfield 29, 3) := dk_180 0 29 (dk_at dksX1_send_0 13 rfl rfl)
theorem dX1_send_16 : decode cX1_send 16 = .ok (.iload_n 1, 1) := dk_27 (dk_at dksX1_send_0 16 rfl rfl)
theorem dX1_send_17 : decode cX1_send 17 = .ok (.iaload, 1) := dk_46 (dk_at dksX1_send_0 17 rfl rfl)
theorem dX1_send_18 : decode cX1_send 18 = .ok (.iastore, 1) := dk_79 (dk_at dksX1_send_0 18 rfl rfl)
theorem dX1_send_19 : decode cX1_send 19 = .ok (.aload_n 0, 1) := dk_42 (dk_at dksX1_send_0 19 rfl rfl)
theorem dX1_send_20 : decode cX1_send 20 = .ok (.getfield 29, 3) := dk_180 0 29 (dk_at dksX1_send_0 20 rfl rfl)
theorem dX1_send_23 : decode cX1_send 23 = .ok (.iload_n 1, 1) := dk_27 (dk_at dksX1_send_0 23 rfl rfl)
theorem dX1_send_24 : decode cX1_send 24 = .ok (.iload_n 2, 1) := dk_28 (dk_at dksX1_send_1 0 rfl rfl)
theorem dX1_send_25 : decode cX1_send 25 = .ok (.iastore, 1) := dk_79 (dk_at dksX1_send_1 1 rfl rfl)
theorem dX1_send_26 : decode cX1_send 26 = .ok (.aload_n 0, 1) := dk_42 (dk_at dksX1_send_1 2 rfl rfl)
theorem dX1_send_27 : decode cX1_send 27 = .ok (.getfield 35, 3) := dk_180 0 35 (dk_at dksX1_send_1 3 rfl rfl)
theorem dX1_send_30 : decode cX1_send 30 = .ok (.iload_n 1, 1) := dk_27 (dk_at dksX1_send_1 6 rfl rfl)
theorem dX1_send_31 : decode cX1_send 31 = .ok (.iload_n 3, 1) := dk_29 (dk_at dksX1_send_1 7 rfl rfl)
theorem dX1_send_32 : decode cX1_send 32 = .ok (.iastore, 1) := dk_79 (dk_at dksX1_send_1 8 rfl rfl)
theorem dX1_send_33 : decode cX1_send 33 = .ok (.return_, 1) := dk_177 (dk_at dksX1_send_1 9 rfl rfl)
abbrev cX1_isDone : ByteArray := prog_7_method_14_code
def yX1_isDone : MethodName := ⟨RX1, "isDone", "()Z"⟩
def dkwX1_isDone_0 : List UInt8 := [42, 5, 182, 0, 85, 4, 42, 182, 0, 82, 120, 4, 100, 160, 0, 7, 4, 167, 0, 4, 3, 172]
abbrev dktX1_isDone_0 : List UInt8 := dkwX1_isDone_0 ++ []
theorem dksX1_isDone_0 : cX1_isDone.data.toList.drop 0 = dktX1_isDone_0 := by decide +kernel
theorem dX1_isDone_0 : decode cX1_isDone 0 = .ok (.aload_n 0, 1) := dk_42 (dk_at dksX1_isDone_0 0 rfl rfl)
theorem dX1_isDone_1 : decode cX1_isDone 1 = .ok (.iconst 2, 1) := dk_5 (dk_at dksX1_isDone_0 1 rfl rfl)
theorem dX1_isDone_2 : decode cX1_isDone 2 = .ok (.invokevirtual 85, 3) := dk_182 0 85 (dk_at dksX1_isDone_0 2 rfl rfl)
theorem dX1_isDone_5 : decode cX1_isDone 5 = .ok (.iconst 1, 1) := dk_4 (dk_at dksX1_isDone_0 5 rfl rfl)
theorem dX1_isDone_6 : decode cX1_isDone 6 = .ok (.aload_n 0, 1) := dk_42 (dk_at dksX1_isDone_0 6 rfl rfl)
theorem dX1_isDone_7 : decode cX1_isDone 7 = .ok (.invokevirtual 82, 3) := dk_182 0 82 (dk_at dksX1_isDone_0 7 rfl rfl)
theorem dX1_isDone_10 : decode cX1_isDone 10 = .ok (.ishl, 1) := dk_120 (dk_at dksX1_isDone_0 10 rfl rfl)
theorem dX1_isDone_11 : decode cX1_isDone 11 = .ok (.iconst 1, 1) := dk_4 (dk_at dksX1_isDone_0 11 rfl rfl)
theorem dX1_isDone_12 : decode cX1_isDone 12 = .ok (.isub, 1) := dk_100 (dk_at dksX1_isDone_0 12 rfl rfl)
theorem dX1_isDone_13 : decode cX1_isDone 13 = .ok (.if_icmp .ne 7, 3) := dk_160 0 7 (dk_at dksX1_isDone_0 13 rfl rfl)
theorem dX1_isDone_16 : decode cX1_isDone 16 = .ok (.iconst 1, 1) := dk_4 (dk_at dksX1_isDone_0 16 rfl rfl)
theorem dX1_isDone_17 : decode cX1_isDone 17 = .ok (.goto 4, 3) := dk_167 0 4 (dk_at dksX1_isDone_0 17 rfl rfl)
theorem dX1_isDone_20 : decode cX1_isDone 20 = .ok (.iconst 0, 1) := dk_3 (dk_at dksX1_isDone_0 20 rfl rfl)
theorem dX1_isDone_21 : decode cX1_isDone 21 = .ok (.ireturn, 1) := dk_172 (dk_at dksX1_isDone_0 21 rfl rfl)
abbrev cX1_fine : ByteArray := prog_7_method_13_code
def yX1_fine : MethodName := ⟨RX1, "fine", "()I"⟩
def dkwX1_fine_2 : List UInt8 := [60, 132, 2, 1, 167, 255, 208, 27, 172]
abbrev dktX1_fine_2 : List UInt8 := dkwX1_fine_2 ++ []
def dkwX1_fine_1 : List UInt8 := [28, 182, 0, 100, 42, 180, 0, 35, 28, 46, 182, 0, 123, 153, 0, 9, 4, 28, 120, 167, 0, 4, 3, 128]
abbrev dktX1_fine_1 : List UInt8 := dkwX1_fine_1 ++ dktX1_fine_2
def dkwX1_fine_0 : List UInt8 := [3, 60, 3, 61, 28, 42, 182, 0, 82, 162, 0, 46, 27, 42, 180, 0, 22, 28, 46, 5, 160, 0, 26, 42]
abbrev dktX1_fine_0 : List UInt8 := dkwX1_fine_0 ++ dktX1_fine_1
theorem dksX1_fine_0 : cX1_fine.data.toList.drop 0 = dktX1_fine_0 := by decide +kernel
theorem dksX1_fine_1 : cX1_fine.data.toList.drop 24 = dktX1_fine_1 := dk_seg dksX1_fine_0 24 rfl rfl
theorem dksX1_fine_2 : cX1_fine.data.toList.drop 48 = dktX1_fine_2 := dk_seg dksX1_fine_1 24 rfl rfl
theorem dX1_fine_0 : decode cX1_fine 0 = .ok (.iconst 0, 1) := dk_3 (dk_at dksX1_fine_0 0 rfl rfl)
theorem dX1_fine_1 : decode cX1_fine 1 = .ok (.istore_n 1, 1) := dk_60 (dk_at dksX1_fine_0 1 rfl rfl)
theorem dX1_fine_2 : decode cX1_fine 2 = .ok (.iconst 0, 1) := dk_3 (dk_at dksX1_fine_0 2 rfl rfl)
theorem dX1_fine_3 : decode cX1_fine 3 = .ok (.istore_n 2, 1) := dk_61 (dk_at dksX1_fine_0 3 rfl rfl)
theorem dX1_fine_4 : decode cX1_fine 4 = .ok (.iload_n 2, 1) := dk_28 (dk_at dksX1_fine_0 4 rfl rfl)
theorem dX1_fine_5 : decode cX1_fine 5 = .ok (.aload_n 0, 1) := dk_42 (dk_at dksX1_fine_0 5 rfl rfl)
theorem dX1_fine_6 : decode cX1_fine 6 = .ok (.invokevirtual 82, 3) := dk_182 0 82 (dk_at dksX1_fine_0 6 rfl rfl)
theorem dX1_fine_9 : decode cX1_fine 9 = .ok (.if_icmp .ge 46, 3) := dk_162 0 46 (dk_at dksX1_fine_0 9 rfl rfl)
theorem dX1_fine_12 : decode cX1_fine 12 = .ok (.iload_n 1, 1) := dk_27 (dk_at dksX1_fine_0 12 rfl rfl)
theorem dX1_fine_13 : decode cX1_fine 13 = .ok (.aload_n 0, 1) := dk_42 (dk_at dksX1_fine_0 13 rfl rfl)
theorem dX1_fine_14 : decode cX1_fine 14 = .ok (.getfield 22, 3) := dk_180 0 22 (dk_at dksX1_fine_0 14 rfl rfl)
theorem dX1_fine_17 : decode cX1_fine 17 = .ok (.iload_n 2, 1) := dk_28 (dk_at dksX1_fine_0 17 rfl rfl)
theorem dX1_fine_18 : decode cX1_fine 18 = .ok (.iaload, 1) := dk_46 (dk_at dksX1_fine_0 18 rfl rfl)
theorem dX1_fine_19 : decode cX1_fine 19 = .ok (.iconst 2, 1) := dk_5 (dk_at dksX1_fine_0 19 rfl rfl)
theorem dX1_fine_20 : decode cX1_fine 20 = .ok (.if_icmp .ne 26, 3) := dk_160 0 26 (dk_at dksX1_fine_0 20 rfl rfl)
theorem dX1_fine_23 : decode cX1_fine 23 = .ok (.aload_n 0, 1) := dk_42 (dk_at dksX1_fine_0 23 rfl rfl)
theorem dX1_fine_24 : decode cX1_fine 24 = .ok (.iload_n 2, 1) := dk_28 (dk_at dksX1_fine_1 0 rfl rfl)
theorem dX1_fine_25 : decode cX1_fine 25 = .ok (.invokevirtual 100, 3) := dk_182 0 100 (dk_at dksX1_fine_1 1 rfl rfl)
theorem dX1_fine_28 : decode cX1_fine 28 = .ok (.aload_n 0, 1) := dk_42 (dk_at dksX1_fine_1 4 rfl rfl)
theorem dX1_fine_29 : decode cX1_fine 29 = .ok (.getfield 35, 3) := dk_180 0 35 (dk_at dksX1_fine_1 5 rfl rfl)
theorem dX1_fine_32 : decode cX1_fine 32 = .ok (.iload_n 2, 1) := dk_28 (dk_at dksX1_fine_1 8 rfl rfl)
theorem dX1_fine_33 : decode cX1_fine 33 = .ok (.iaload, 1) := dk_46 (dk_at dksX1_fine_1 9 rfl rfl)
theorem dX1_fine_34 : decode cX1_fine 34 = .ok (.invokevirtual 123, 3) := dk_182 0 123 (dk_at dksX1_fine_1 10 rfl rfl)
theorem dX1_fine_37 : decode cX1_fine 37 = .ok (.ifCond .eq 9, 3) := dk_153 0 9 (dk_at dksX1_fine_1 13 rfl rfl)
theorem dX1_fine_40 : decode cX1_fine 40 = .ok (.iconst 1, 1) := dk_4 (dk_at dksX1_fine_1 16 rfl rfl)
theorem dX1_fine_41 : decode cX1_fine 41 = .ok (.iload_n 2, 1) := dk_28 (dk_at dksX1_fine_1 17 rfl rfl)
theorem dX1_fine_42 : decode cX1_fine 42 = .ok (.ishl, 1) := dk_120 (dk_at dksX1_fine_1 18 rfl rfl)
theorem dX1_fine_43 : decode cX1_fine 43 = .ok (.goto 4, 3) := dk_167 0 4 (dk_at dksX1_fine_1 19 rfl rfl)
theorem dX1_fine_46 : decode cX1_fine 46 = .ok (.iconst 0, 1) := dk_3 (dk_at dksX1_fine_1 22 rfl rfl)
theorem dX1_fine_47 : decode cX1_fine 47 = .ok (.ior, 1) := dk_128 (dk_at dksX1_fine_1 23 rfl rfl)
theorem dX1_fine_48 : decode cX1_fine 48 = .ok (.istore_n 1, 1) := dk_60 (dk_at dksX1_fine_2 0 rfl rfl)
theorem dX1_fine_49 : decode cX1_fine 49 = .ok (.iinc 2 1, 3) := dk_132 2 1 (dk_at dksX1_fine_2 1 rfl rfl)
theorem dX1_fine_52 : decode cX1_fine 52 = .ok (.goto (-48), 3) := dk_167 255 208 (dk_at dksX1_fine_2 4 rfl rfl)
theorem dX1_fine_55 : decode cX1_fine 55 = .ok (.iload_n 1, 1) := dk_27 (dk_at dksX1_fine_2 7 rfl rfl)
theorem dX1_fine_56 : decode cX1_fine 56 = .ok (.ireturn, 1) := dk_172 (dk_at dksX1_fine_2 8 rfl rfl)
abbrev cX1_heats : ByteArray := prog_7_method_15_code
def yX1_heats : MethodName := ⟨RX1, "heats", "(Z)I"⟩
def dkwX1_heats_1 : List UInt8 := [160, 0, 12, 42, 180, 0, 35, 29, 46, 167, 0, 4, 3, 96, 61, 132, 3, 1, 167, 255, 218, 28, 172]
abbrev dktX1_heats_1 : List UInt8 := dkwX1_heats_1 ++ []
def dkwX1_heats_0 : List UInt8 := [3, 61, 3, 62, 29, 42, 182, 0, 82, 162, 0, 36, 28, 27, 153, 0, 13, 42, 180, 0, 22, 29, 46, 5]
abbrev dktX1_heats_0 : List UInt8 := dkwX1_heats_0 ++ dktX1_heats_1
theorem dksX1_heats_0 : cX1_heats.data.toList.drop 0 = dktX1_heats_0 := by decide +kernel
theorem dksX1_heats_1 : cX1_heats.data.toList.drop 24 = dktX1_heats_1 := dk_seg dksX1_heats_0 24 rfl rfl
theorem dX1_heats_0 : decode cX1_heats 0 = .ok (.iconst 0, 1) := dk_3 (dk_at dksX1_heats_0 0 rfl rfl)
theorem dX1_heats_1 : decode cX1_heats 1 = .ok (.istore_n 2, 1) := dk_61 (dk_at dksX1_heats_0 1 rfl rfl)
theorem dX1_heats_2 : decode cX1_heats 2 = .ok (.iconst 0, 1) := dk_3 (dk_at dksX1_heats_0 2 rfl rfl)
theorem dX1_heats_3 : decode cX1_heats 3 = .ok (.istore_n 3, 1) := dk_62 (dk_at dksX1_heats_0 3 rfl rfl)
theorem dX1_heats_4 : decode cX1_heats 4 = .ok (.iload_n 3, 1) := dk_29 (dk_at dksX1_heats_0 4 rfl rfl)
theorem dX1_heats_5 : decode cX1_heats 5 = .ok (.aload_n 0, 1) := dk_42 (dk_at dksX1_heats_0 5 rfl rfl)
theorem dX1_heats_6 : decode cX1_heats 6 = .ok (.invokevirtual 82, 3) := dk_182 0 82 (dk_at dksX1_heats_0 6 rfl rfl)
theorem dX1_heats_9 : decode cX1_heats 9 = .ok (.if_icmp .ge 36, 3) := dk_162 0 36 (dk_at dksX1_heats_0 9 rfl rfl)
theorem dX1_heats_12 : decode cX1_heats 12 = .ok (.iload_n 2, 1) := dk_28 (dk_at dksX1_heats_0 12 rfl rfl)
theorem dX1_heats_13 : decode cX1_heats 13 = .ok (.iload_n 1, 1) := dk_27 (dk_at dksX1_heats_0 13 rfl rfl)
theorem dX1_heats_14 : decode cX1_heats 14 = .ok (.ifCond .eq 13, 3) := dk_153 0 13 (dk_at dksX1_heats_0 14 rfl rfl)
theorem dX1_heats_17 : decode cX1_heats 17 = .ok (.aload_n 0, 1) := dk_42 (dk_at dksX1_heats_0 17 rfl rfl)
theorem dX1_heats_18 : decode cX1_heats 18 = .ok (.getfield 22, 3) := dk_180 0 22 (dk_at dksX1_heats_0 18 rfl rfl)
theorem dX1_heats_21 : decode cX1_heats 21 = .ok (.iload_n 3, 1) := dk_29 (dk_at dksX1_heats_0 21 rfl rfl)
theorem dX1_heats_22 : decode cX1_heats 22 = .ok (.iaload, 1) := dk_46 (dk_at dksX1_heats_0 22 rfl rfl)
theorem dX1_heats_23 : decode cX1_heats 23 = .ok (.iconst 2, 1) := dk_5 (dk_at dksX1_heats_0 23 rfl rfl)
theorem dX1_heats_24 : decode cX1_heats 24 = .ok (.if_icmp .ne 12, 3) := dk_160 0 12 (dk_at dksX1_heats_1 0 rfl rfl)
theorem dX1_heats_27 : decode cX1_heats 27 = .ok (.aload_n 0, 1) := dk_42 (dk_at dksX1_heats_1 3 rfl rfl)
theorem dX1_heats_28 : decode cX1_heats 28 = .ok (.getfield 35, 3) := dk_180 0 35 (dk_at dksX1_heats_1 4 rfl rfl)
theorem dX1_heats_31 : decode cX1_heats 31 = .ok (.iload_n 3, 1) := dk_29 (dk_at dksX1_heats_1 7 rfl rfl)
theorem dX1_heats_32 : decode cX1_heats 32 = .ok (.iaload, 1) := dk_46 (dk_at dksX1_heats_1 8 rfl rfl)
theorem dX1_heats_33 : decode cX1_heats 33 = .ok (.goto 4, 3) := dk_167 0 4 (dk_at dksX1_heats_1 9 rfl rfl)
theorem dX1_heats_36 : decode cX1_heats 36 = .ok (.iconst 0, 1) := dk_3 (dk_at dksX1_heats_1 12 rfl rfl)
theorem dX1_heats_37 : decode cX1_heats 37 = .ok (.iadd, 1) := dk_96 (dk_at dksX1_heats_1 13 rfl rfl)
theorem dX1_heats_38 : decode cX1_heats 38 = .ok (.istore_n 2, 1) := dk_61 (dk_at dksX1_heats_1 14 rfl rfl)
theorem dX1_heats_39 : decode cX1_heats 39 = .ok (.iinc 3 1, 3) := dk_132 3 1 (dk_at dksX1_heats_1 15 rfl rfl)
theorem dX1_heats_42 : decode cX1_heats 42 = .ok (.goto (-38), 3) := dk_167 255 218 (dk_at dksX1_heats_1 18 rfl rfl)
theorem dX1_heats_45 : decode cX1_heats 45 = .ok (.iload_n 2, 1) := dk_28 (dk_at dksX1_heats_1 21 rfl rfl)
theorem dX1_heats_46 : decode cX1_heats 46 = .ok (.ireturn, 1) := dk_172 (dk_at dksX1_heats_1 22 rfl rfl)
abbrev cX1_sticks : ByteArray := prog_7_method_12_code
def yX1_sticks : MethodName := ⟨RX1, "sticks", "()LDishLift$House;"⟩
def dkwX1_sticks_0 : List UInt8 := [42, 3, 182, 0, 119, 42, 176]
abbrev dktX1_sticks_0 : List UInt8 := dkwX1_sticks_0 ++ []
theorem dksX1_sticks_0 : cX1_sticks.data.toList.drop 0 = dktX1_sticks_0 := by decide +kernel
theorem dX1_sticks_0 : decode cX1_sticks 0 = .ok (.aload_n 0, 1) := dk_42 (dk_at dksX1_sticks_0 0 rfl rfl)
theorem dX1_sticks_1 : decode cX1_sticks 1 = .ok (.iconst 0, 1) := dk_3 (dk_at dksX1_sticks_0 1 rfl rfl)
theorem dX1_sticks_2 : decode cX1_sticks 2 = .ok (.invokevirtual 119, 3) := dk_182 0 119 (dk_at dksX1_sticks_0 2 rfl rfl)
theorem dX1_sticks_5 : decode cX1_sticks 5 = .ok (.aload_n 0, 1) := dk_42 (dk_at dksX1_sticks_0 5 rfl rfl)
theorem dX1_sticks_6 : decode cX1_sticks 6 = .ok (.areturn, 1) := dk_176 (dk_at dksX1_sticks_0 6 rfl rfl)
theorem q83 : (Jvm.Cond.initialized "DishLift$House") ∈ lw_all := lw_g (lw_at lw_m1 2 rfl) rfl
theorem q126 : (Jvm.Cond.instantiable "DishLift$House" (15 : Nat)) ∈ lw_all := lw_g (lw_at lw_m1 45 rfl) rfl
theorem q128 : (Jvm.Cond.instanceMethod ({ cls := "DishLift$House", name := "<init>", desc := "()V" } : Jvm.MethodName)) ∈ lw_all := lw_g (lw_at lw_m1 47 rfl) rfl
theorem q129 : (Jvm.Cond.code ({ cls := "DishLift$House", name := "<init>", desc := "()V" } : Jvm.MethodName) prog_7_method_1_code (2 : Nat) (Option.none : Option Jvm.ClassFile.FieldType)) ∈ lw_all := lw_g (lw_at lw_m1 48 rfl) rfl
theorem q130 : (Jvm.Cond.methodLink "DishLift$House" (3 : Nat) ({ cls := "java/lang/Object", name := "<init>", desc := "()V" } : Jvm.MethodName)) ∈ lw_all := lw_g (lw_at lw_m1 49 rfl) rfl
theorem q131 : (Jvm.Cond.classLink "DishLift$House" (15 : Nat) "java/util/ArrayList") ∈ lw_all := lw_g (lw_at lw_m1 50 rfl) rfl
theorem q133 : (Jvm.Cond.methodLink "DishLift$House" (17 : Nat) ({ cls := "java/util/ArrayList", name := "<init>", desc := "()V" } : Jvm.MethodName)) ∈ lw_all := lw_g (lw_at lw_m1 52 rfl) rfl
theorem q158 : (Jvm.Cond.constant "DishLift$House" (41 : Nat) (-1000000 : Int32)) ∈ lw_all := lw_g (lw_at lw_m1 77 rfl) rfl
theorem q159 : (Jvm.Cond.fieldLink "DishLift$House" (45 : Nat) "DishLift$House" "floors" "I") ∈ lw_all := lw_g (lw_at lw_m1 78 rfl) rfl
theorem q162 : (Jvm.Cond.fieldLink "DishLift$House" (48 : Nat) "DishLift$House" "room" "I") ∈ lw_all := lw_g (lw_at lw_m1 81 rfl) rfl
theorem q165 : (Jvm.Cond.fieldLink "DishLift$House" (51 : Nat) "DishLift$House" "rope" "I") ∈ lw_all := lw_g (lw_at lw_m1 84 rfl) rfl
theorem q168 : (Jvm.Cond.fieldLink "DishLift$House" (54 : Nat) "DishLift$House" "car" "I") ∈ lw_all := lw_g (lw_at lw_m1 87 rfl) rfl
theorem q170 : (Jvm.Cond.fieldLink "DishLift$House" (9 : Nat) "DishLift$House" "way" "I") ∈ lw_all := lw_g (lw_at lw_m1 89 rfl) rfl
theorem q172 : (Jvm.Cond.fieldLink "DishLift$House" (18 : Nat) "DishLift$House" "dishes" "Ljava/util/List;") ∈ lw_all := lw_g (lw_at lw_m1 91 rfl) rfl
theorem q175 : (Jvm.Cond.fieldLink "DishLift$House" (22 : Nat) "DishLift$House" "how" "[I") ∈ lw_all := lw_g (lw_at lw_m1 94 rfl) rfl
theorem q177 : (Jvm.Cond.fieldLink "DishLift$House" (26 : Nat) "DishLift$House" "at" "[I") ∈ lw_all := lw_g (lw_at lw_m1 96 rfl) rfl
theorem q180 : (Jvm.Cond.fieldLink "DishLift$House" (29 : Nat) "DishLift$House" "to" "[I") ∈ lw_all := lw_g (lw_at lw_m1 99 rfl) rfl
theorem q183 : (Jvm.Cond.fieldLink "DishLift$House" (32 : Nat) "DishLift$House" "weight" "[I") ∈ lw_all := lw_g (lw_at lw_m1 102 rfl) rfl
theorem q187 : (Jvm.Cond.fieldLink "DishLift$House" (35 : Nat) "DishLift$House" "heat" "[I") ∈ lw_all := lw_g (lw_at lw_m1 106 rfl) rfl
theorem q191 : (Jvm.Cond.fieldLink "DishLift$House" (38 : Nat) "DishLift$House" "rank" "[I") ∈ lw_all := lw_g (lw_at lw_m1 110 rfl) rfl
theorem q193 : (Jvm.Cond.fieldLink "DishLift$House" (63 : Nat) "DishLift$House" "minute" "I") ∈ lw_all := lw_g (lw_at lw_m1 112 rfl) rfl
theorem q195 : (Jvm.Cond.fieldLink "DishLift$House" (42 : Nat) "DishLift$House" "takenFor" "I") ∈ lw_all := lw_g (lw_at lw_m1 114 rfl) rfl
theorem q197 : (Jvm.Cond.fieldLink "DishLift$House" (72 : Nat) "DishLift$House" "taken" "LDishLift$Dish;") ∈ lw_all := lw_g (lw_at lw_m1 116 rfl) rfl
theorem q199 : (Jvm.Cond.lays "DishLift$House" "DishLift$House" "floors" "I") ∈ lw_all := lw_g (lw_at lw_m1 118 rfl) rfl
theorem q200 : (Jvm.Cond.soleField "DishLift$House" "floors") ∈ lw_all := lw_g (lw_at lw_m1 119 rfl) rfl
theorem q201 : (Jvm.Cond.lays "DishLift$House" "DishLift$House" "room" "I") ∈ lw_all := lw_g (lw_at lw_m1 120 rfl) rfl
theorem q202 : (Jvm.Cond.soleField "DishLift$House" "room") ∈ lw_all := lw_g (lw_at lw_m1 121 rfl) rfl
theorem q203 : (Jvm.Cond.lays "DishLift$House" "DishLift$House" "rope" "I") ∈ lw_all := lw_g (lw_at lw_m1 122 rfl) rfl
theorem q204 : (Jvm.Cond.soleField "DishLift$House" "rope") ∈ lw_all := lw_g (lw_at lw_m1 123 rfl) rfl
theorem q205 : (Jvm.Cond.lays "DishLift$House" "DishLift$House" "car" "I") ∈ lw_all := lw_g (lw_at lw_m1 124 rfl) rfl
theorem q206 : (Jvm.Cond.soleField "DishLift$House" "car") ∈ lw_all := lw_g (lw_at lw_m1 125 rfl) rfl
theorem q207 : (Jvm.Cond.lays "DishLift$House" "DishLift$House" "way" "I") ∈ lw_all := lw_g (lw_at lw_m1 126 rfl) rfl
theorem q208 : (Jvm.Cond.soleField "DishLift$House" "way") ∈ lw_all := lw_g (lw_at lw_m1 127 rfl) rfl
theorem q209 : (Jvm.Cond.lays "DishLift$House" "DishLift$House" "dishes" "Ljava/util/List;") ∈ lw_all := lw_g (lw_at lw_m1 128 rfl) rfl
theorem q210 : (Jvm.Cond.soleField "DishLift$House" "dishes") ∈ lw_all := lw_g (lw_at lw_m1 129 rfl) rfl
theorem q211 : (Jvm.Cond.laysFinal "DishLift$House" "DishLift$House" "how" "[I") ∈ lw_all := lw_g (lw_at lw_m1 130 rfl) rfl
theorem q212 : (Jvm.Cond.soleField "DishLift$House" "how") ∈ lw_all := lw_g (lw_at lw_m1 131 rfl) rfl
theorem q213 : (Jvm.Cond.laysFinal "DishLift$House" "DishLift$House" "at" "[I") ∈ lw_all := lw_g (lw_at lw_m1 132 rfl) rfl
theorem q214 : (Jvm.Cond.soleField "DishLift$House" "at") ∈ lw_all := lw_g (lw_at lw_m1 133 rfl) rfl
theorem q215 : (Jvm.Cond.laysFinal "DishLift$House" "DishLift$House" "to" "[I") ∈ lw_all := lw_g (lw_at lw_m1 134 rfl) rfl
theorem q216 : (Jvm.Cond.soleField "DishLift$House" "to") ∈ lw_all := lw_g (lw_at lw_m1 135 rfl) rfl
theorem q217 : (Jvm.Cond.laysFinal "DishLift$House" "DishLift$House" "weight" "[I") ∈ lw_all := lw_g (lw_at lw_m1 136 rfl) rfl
theorem q218 : (Jvm.Cond.soleField "DishLift$House" "weight") ∈ lw_all := lw_g (lw_at lw_m1 137 rfl) rfl
theorem q219 : (Jvm.Cond.laysFinal "DishLift$House" "DishLift$House" "heat" "[I") ∈ lw_all := lw_g (lw_at lw_m1 138 rfl) rfl
theorem q220 : (Jvm.Cond.soleField "DishLift$House" "heat") ∈ lw_all := lw_g (lw_at lw_m1 139 rfl) rfl
theorem q221 : (Jvm.Cond.laysFinal "DishLift$House" "DishLift$House" "rank" "[I") ∈ lw_all := lw_g (lw_at lw_m1 140 rfl) rfl
theorem q222 : (Jvm.Cond.soleField "DishLift$House" "rank") ∈ lw_all := lw_g (lw_at lw_m1 141 rfl) rfl
theorem q223 : (Jvm.Cond.lays "DishLift$House" "DishLift$House" "minute" "I") ∈ lw_all := lw_g (lw_at lw_m1 142 rfl) rfl
theorem q224 : (Jvm.Cond.soleField "DishLift$House" "minute") ∈ lw_all := lw_g (lw_at lw_m1 143 rfl) rfl
theorem q225 : (Jvm.Cond.lays "DishLift$House" "DishLift$House" "takenFor" "I") ∈ lw_all := lw_g (lw_at lw_m1 144 rfl) rfl
theorem q226 : (Jvm.Cond.soleField "DishLift$House" "takenFor") ∈ lw_all := lw_g (lw_at lw_m1 145 rfl) rfl
theorem q227 : (Jvm.Cond.lays "DishLift$House" "DishLift$House" "taken" "LDishLift$Dish;") ∈ lw_all := lw_g (lw_at lw_m1 146 rfl) rfl
theorem q228 : (Jvm.Cond.soleField "DishLift$House" "taken") ∈ lw_all := lw_g (lw_at lw_m1 147 rfl) rfl
theorem q229 : (Jvm.Cond.superclass "DishLift$House" "java/lang/Object") ∈ lw_all := lw_g (lw_at lw_m1 148 rfl) rfl
theorem q663 : (Jvm.Cond.instanceMethod ({ cls := "DishLift$House", name := "many", desc := "()I" } : Jvm.MethodName)) ∈ lw_all := lw_g (lw_at lw_m3 102 rfl) rfl
theorem q664 : (Jvm.Cond.selects "DishLift$House" ({ cls := "DishLift$House", name := "many", desc := "()I" } : Jvm.MethodName) ({ cls := "DishLift$House", name := "many", desc := "()I" } : Jvm.MethodName)) ∈ lw_all := lw_g (lw_at lw_m3 103 rfl) rfl
theorem q665 : (Jvm.Cond.code ({ cls := "DishLift$House", name := "many", desc := "()I" } : Jvm.MethodName) prog_7_method_3_code (1 : Nat) (Option.some Jvm.ClassFile.FieldType.int)) ∈ lw_all := lw_g (lw_at lw_m3 104 rfl) rfl
theorem q666 : (Jvm.Cond.interfaceEntry "DishLift$House" (66 : Nat)) ∈ lw_tbl := lw_at lw_m3 105 rfl
theorem q667 : (Jvm.Cond.methodLink "DishLift$House" (66 : Nat) ({ cls := "java/util/List", name := "size", desc := "()I" } : Jvm.MethodName)) ∈ lw_all := lw_g (lw_at lw_m3 106 rfl) rfl
theorem q725 : (Jvm.Cond.selects "DishLift$House" ({ cls := "java/lang/Object", name := "getClass", desc := "()Ljava/lang/Class;" } : Jvm.MethodName) ({ cls := "java/lang/Object", name := "getClass", desc := "()Ljava/lang/Class;" } : Jvm.MethodName)) ∈ lw_all := lw_g (lw_at lw_m3 164 rfl) rfl
theorem q751 : (Jvm.Cond.instanceMethod ({ cls := "DishLift$House", name := "become", desc := "(LDishLift$House;)LDishLift$House;" } : Jvm.MethodName)) ∈ lw_all := lw_g (lw_at lw_m3 190 rfl) rfl
theorem q752 : (Jvm.Cond.selects "DishLift$House" ({ cls := "DishLift$House", name := "become", desc := "(LDishLift$House;)LDishLift$House;" } : Jvm.MethodName) ({ cls := "DishLift$House", name := "become", desc := "(LDishLift$House;)LDishLift$House;" } : Jvm.MethodName)) ∈ lw_all := lw_g (lw_at lw_m3 191 rfl) rfl
theorem q753 : (Jvm.Cond.code ({ cls := "DishLift$House", name := "become", desc := "(LDishLift$House;)LDishLift$House;" } : Jvm.MethodName) prog_7_method_2_code (2 : Nat) (Option.some (Jvm.ClassFile.FieldType.object "DishLift$House"))) ∈ lw_all := lw_g (lw_at lw_m3 192 rfl) rfl
theorem q754 : (Jvm.Cond.methodLink "DishLift$House" (57 : Nat) ({ cls := "java/lang/System", name := "arraycopy", desc := "(Ljava/lang/Object;ILjava/lang/Object;II)V" } : Jvm.MethodName)) ∈ lw_all := lw_g (lw_at lw_m3 193 rfl) rfl
theorem q779 : (Jvm.Cond.instanceMethod ({ cls := "DishLift$House", name := "pass", desc := "()LDishLift$House;" } : Jvm.MethodName)) ∈ lw_all := lw_g (lw_at lw_m3 218 rfl) rfl
theorem q780 : (Jvm.Cond.selects "DishLift$House" ({ cls := "DishLift$House", name := "pass", desc := "()LDishLift$House;" } : Jvm.MethodName) ({ cls := "DishLift$House", name := "pass", desc := "()LDishLift$House;" } : Jvm.MethodName)) ∈ lw_all := lw_g (lw_at lw_m3 219 rfl) rfl
theorem q781 : (Jvm.Cond.code ({ cls := "DishLift$House", name := "pass", desc := "()LDishLift$House;" } : Jvm.MethodName) prog_7_method_11_code (1 : Nat) (Option.some (Jvm.ClassFile.FieldType.object "DishLift$House"))) ∈ lw_all := lw_g (lw_at lw_m3 220 rfl) rfl
theorem q782 : (Jvm.Cond.methodLink "DishLift$House" (112 : Nat) ({ cls := "DishLift$House", name := "stops", desc := "()V" } : Jvm.MethodName)) ∈ lw_all := lw_g (lw_at lw_m3 221 rfl) rfl
theorem q783 : (Jvm.Cond.privateMethod ({ cls := "DishLift$House", name := "stops", desc := "()V" } : Jvm.MethodName)) ∈ lw_tbl := lw_at lw_m3 222 rfl
theorem q784 : (Jvm.Cond.instanceMethod ({ cls := "DishLift$House", name := "stops", desc := "()V" } : Jvm.MethodName)) ∈ lw_all := lw_g (lw_at lw_m3 223 rfl) rfl
theorem q785 : (Jvm.Cond.code ({ cls := "DishLift$House", name := "stops", desc := "()V" } : Jvm.MethodName) prog_7_method_7_code (3 : Nat) (Option.none : Option Jvm.ClassFile.FieldType)) ∈ lw_all := lw_g (lw_at lw_m3 224 rfl) rfl
theorem q786 : (Jvm.Cond.methodLink "DishLift$House" (82 : Nat) ({ cls := "DishLift$House", name := "many", desc := "()I" } : Jvm.MethodName)) ∈ lw_all := lw_g (lw_at lw_m3 225 rfl) rfl
theorem q787 : (Jvm.Cond.methodLink "DishLift$House" (85 : Nat) ({ cls := "DishLift$House", name := "areSo", desc := "(I)I" } : Jvm.MethodName)) ∈ lw_all := lw_g (lw_at lw_m3 226 rfl) rfl
theorem q788 : (Jvm.Cond.instanceMethod ({ cls := "DishLift$House", name := "areSo", desc := "(I)I" } : Jvm.MethodName)) ∈ lw_all := lw_g (lw_at lw_m3 227 rfl) rfl
theorem q789 : (Jvm.Cond.selects "DishLift$House" ({ cls := "DishLift$House", name := "areSo", desc := "(I)I" } : Jvm.MethodName) ({ cls := "DishLift$House", name := "areSo", desc := "(I)I" } : Jvm.MethodName)) ∈ lw_all := lw_g (lw_at lw_m3 228 rfl) rfl
theorem q790 : (Jvm.Cond.code ({ cls := "DishLift$House", name := "areSo", desc := "(I)I" } : Jvm.MethodName) prog_7_method_5_code (4 : Nat) (Option.some Jvm.ClassFile.FieldType.int)) ∈ lw_all := lw_g (lw_at lw_m3 229 rfl) rfl
theorem q791 : (Jvm.Cond.methodLink "DishLift$House" (89 : Nat) ({ cls := "java/lang/Integer", name := "bitCount", desc := "(I)I" } : Jvm.MethodName)) ∈ lw_all := lw_g (lw_at lw_m3 230 rfl) rfl
theorem q797 : (Jvm.Cond.methodLink "DishLift$House" (94 : Nat) ({ cls := "DishLift$House", name := "load", desc := "()I" } : Jvm.MethodName)) ∈ lw_all := lw_g (lw_at lw_m3 236 rfl) rfl
theorem q798 : (Jvm.Cond.instanceMethod ({ cls := "DishLift$House", name := "load", desc := "()I" } : Jvm.MethodName)) ∈ lw_all := lw_g (lw_at lw_m3 237 rfl) rfl
theorem q799 : (Jvm.Cond.selects "DishLift$House" ({ cls := "DishLift$House", name := "load", desc := "()I" } : Jvm.MethodName) ({ cls := "DishLift$House", name := "load", desc := "()I" } : Jvm.MethodName)) ∈ lw_all := lw_g (lw_at lw_m3 238 rfl) rfl
theorem q800 : (Jvm.Cond.code ({ cls := "DishLift$House", name := "load", desc := "()I" } : Jvm.MethodName) prog_7_method_6_code (3 : Nat) (Option.some Jvm.ClassFile.FieldType.int)) ∈ lw_all := lw_g (lw_at lw_m3 239 rfl) rfl
theorem q801 : (Jvm.Cond.methodLink "DishLift$House" (115 : Nat) ({ cls := "DishLift$House", name := "goes", desc := "()Z" } : Jvm.MethodName)) ∈ lw_all := lw_g (lw_at lw_m4 0 rfl) rfl
theorem q802 : (Jvm.Cond.privateMethod ({ cls := "DishLift$House", name := "goes", desc := "()Z" } : Jvm.MethodName)) ∈ lw_tbl := lw_at lw_m4 1 rfl
theorem q803 : (Jvm.Cond.instanceMethod ({ cls := "DishLift$House", name := "goes", desc := "()Z" } : Jvm.MethodName)) ∈ lw_all := lw_g (lw_at lw_m4 2 rfl) rfl
theorem q804 : (Jvm.Cond.code ({ cls := "DishLift$House", name := "goes", desc := "()Z" } : Jvm.MethodName) prog_7_method_9_code (3 : Nat) (Option.some Jvm.ClassFile.FieldType.boolean)) ∈ lw_all := lw_g (lw_at lw_m4 3 rfl) rfl
theorem q805 : (Jvm.Cond.methodLink "DishLift$House" (97 : Nat) ({ cls := "DishLift$House", name := "called", desc := "()I" } : Jvm.MethodName)) ∈ lw_all := lw_g (lw_at lw_m4 4 rfl) rfl
theorem q806 : (Jvm.Cond.instanceMethod ({ cls := "DishLift$House", name := "called", desc := "()I" } : Jvm.MethodName)) ∈ lw_all := lw_g (lw_at lw_m4 5 rfl) rfl
theorem q807 : (Jvm.Cond.selects "DishLift$House" ({ cls := "DishLift$House", name := "called", desc := "()I" } : Jvm.MethodName) ({ cls := "DishLift$House", name := "called", desc := "()I" } : Jvm.MethodName)) ∈ lw_all := lw_g (lw_at lw_m4 6 rfl) rfl
theorem q808 : (Jvm.Cond.code ({ cls := "DishLift$House", name := "called", desc := "()I" } : Jvm.MethodName) prog_7_method_8_code (3 : Nat) (Option.some Jvm.ClassFile.FieldType.int)) ∈ lw_all := lw_g (lw_at lw_m4 7 rfl) rfl
theorem q809 : (Jvm.Cond.methodLink "DishLift$House" (119 : Nat) ({ cls := "DishLift$House", name := "cools", desc := "(Z)V" } : Jvm.MethodName)) ∈ lw_all := lw_g (lw_at lw_m4 8 rfl) rfl
theorem q810 : (Jvm.Cond.privateMethod ({ cls := "DishLift$House", name := "cools", desc := "(Z)V" } : Jvm.MethodName)) ∈ lw_tbl := lw_at lw_m4 9 rfl
theorem q811 : (Jvm.Cond.instanceMethod ({ cls := "DishLift$House", name := "cools", desc := "(Z)V" } : Jvm.MethodName)) ∈ lw_all := lw_g (lw_at lw_m4 10 rfl) rfl
theorem q812 : (Jvm.Cond.code ({ cls := "DishLift$House", name := "cools", desc := "(Z)V" } : Jvm.MethodName) prog_7_method_10_code (3 : Nat) (Option.none : Option Jvm.ClassFile.FieldType)) ∈ lw_all := lw_g (lw_at lw_m4 11 rfl) rfl
theorem q813 : (Jvm.Cond.methodLink "DishLift$House" (100 : Nat) ({ cls := "DishLift$House", name := "dish", desc := "(I)LDishLift$Dish;" } : Jvm.MethodName)) ∈ lw_all := lw_g (lw_at lw_m4 12 rfl) rfl
theorem q814 : (Jvm.Cond.instanceMethod ({ cls := "DishLift$House", name := "dish", desc := "(I)LDishLift$Dish;" } : Jvm.MethodName)) ∈ lw_all := lw_g (lw_at lw_m4 13 rfl) rfl
theorem q815 : (Jvm.Cond.selects "DishLift$House" ({ cls := "DishLift$House", name := "dish", desc := "(I)LDishLift$Dish;" } : Jvm.MethodName) ({ cls := "DishLift$House", name := "dish", desc := "(I)LDishLift$Dish;" } : Jvm.MethodName)) ∈ lw_all := lw_g (lw_at lw_m4 14 rfl) rfl
theorem q816 : (Jvm.Cond.code ({ cls := "DishLift$House", name := "dish", desc := "(I)LDishLift$Dish;" } : Jvm.MethodName) prog_7_method_4_code (2 : Nat) (Option.some (Jvm.ClassFile.FieldType.object "DishLift$Dish"))) ∈ lw_all := lw_g (lw_at lw_m4 15 rfl) rfl
theorem q817 : (Jvm.Cond.interfaceEntry "DishLift$House" (76 : Nat)) ∈ lw_tbl := lw_at lw_m4 16 rfl
theorem q818 : (Jvm.Cond.methodLink "DishLift$House" (76 : Nat) ({ cls := "java/util/List", name := "get", desc := "(I)Ljava/lang/Object;" } : Jvm.MethodName)) ∈ lw_all := lw_g (lw_at lw_m4 17 rfl) rfl
theorem q834 : (Jvm.Cond.classLink "DishLift$House" (80 : Nat) "DishLift$Dish") ∈ lw_all := lw_g (lw_at lw_m4 33 rfl) rfl
theorem q835 : (Jvm.Cond.methodLink "DishLift$House" (104 : Nat) ({ cls := "DishLift$Dish", name := "heatBehind", desc := "(II)I" } : Jvm.MethodName)) ∈ lw_all := lw_g (lw_at lw_m4 34 rfl) rfl
theorem q852 : (Jvm.Cond.methodLink "DishLift$House" (108 : Nat) ({ cls := "DishLift$Dish", name := "weightBehind", desc := "(IIZ)I" } : Jvm.MethodName)) ∈ lw_all := lw_g (lw_at lw_m4 51 rfl) rfl
theorem q896 : (Jvm.Cond.instanceMethod ({ cls := "DishLift$House", name := "send", desc := "(III)V" } : Jvm.MethodName)) ∈ lw_all := lw_g (lw_at lw_m4 95 rfl) rfl
theorem q897 : (Jvm.Cond.selects "DishLift$House" ({ cls := "DishLift$House", name := "send", desc := "(III)V" } : Jvm.MethodName) ({ cls := "DishLift$House", name := "send", desc := "(III)V" } : Jvm.MethodName)) ∈ lw_all := lw_g (lw_at lw_m4 96 rfl) rfl
theorem q898 : (Jvm.Cond.code ({ cls := "DishLift$House", name := "send", desc := "(III)V" } : Jvm.MethodName) prog_7_method_16_code (4 : Nat) (Option.none : Option Jvm.ClassFile.FieldType)) ∈ lw_all := lw_g (lw_at lw_m4 97 rfl) rfl
theorem q954 : (Jvm.Cond.instanceMethod ({ cls := "DishLift$House", name := "isDone", desc := "()Z" } : Jvm.MethodName)) ∈ lw_all := lw_g (lw_at lw_m4 153 rfl) rfl
theorem q955 : (Jvm.Cond.selects "DishLift$House" ({ cls := "DishLift$House", name := "isDone", desc := "()Z" } : Jvm.MethodName) ({ cls := "DishLift$House", name := "isDone", desc := "()Z" } : Jvm.MethodName)) ∈ lw_all := lw_g (lw_at lw_m4 154 rfl) rfl
theorem q956 : (Jvm.Cond.code ({ cls := "DishLift$House", name := "isDone", desc := "()Z" } : Jvm.MethodName) prog_7_method_14_code (1 : Nat) (Option.some Jvm.ClassFile.FieldType.boolean)) ∈ lw_all := lw_g (lw_at lw_m4 155 rfl) rfl
theorem q962 : (Jvm.Cond.instanceMethod ({ cls := "DishLift$House", name := "fine", desc := "()I" } : Jvm.MethodName)) ∈ lw_all := lw_g (lw_at lw_m4 161 rfl) rfl
theorem q963 : (Jvm.Cond.selects "DishLift$House" ({ cls := "DishLift$House", name := "fine", desc := "()I" } : Jvm.MethodName) ({ cls := "DishLift$House", name := "fine", desc := "()I" } : Jvm.MethodName)) ∈ lw_all := lw_g (lw_at lw_m4 162 rfl) rfl
theorem q964 : (Jvm.Cond.code ({ cls := "DishLift$House", name := "fine", desc := "()I" } : Jvm.MethodName) prog_7_method_13_code (3 : Nat) (Option.some Jvm.ClassFile.FieldType.int)) ∈ lw_all := lw_g (lw_at lw_m4 163 rfl) rfl
theorem q965 : (Jvm.Cond.methodLink "DishLift$House" (123 : Nat) ({ cls := "DishLift$Dish", name := "isGood", desc := "(I)Z" } : Jvm.MethodName)) ∈ lw_all := lw_g (lw_at lw_m4 164 rfl) rfl
theorem q1028 : (Jvm.Cond.instanceMethod ({ cls := "DishLift$House", name := "heats", desc := "(Z)I" } : Jvm.MethodName)) ∈ lw_all := lw_g (lw_at lw_m4 227 rfl) rfl
theorem q1029 : (Jvm.Cond.selects "DishLift$House" ({ cls := "DishLift$House", name := "heats", desc := "(Z)I" } : Jvm.MethodName) ({ cls := "DishLift$House", name := "heats", desc := "(Z)I" } : Jvm.MethodName)) ∈ lw_all := lw_g (lw_at lw_m4 228 rfl) rfl
theorem q1030 : (Jvm.Cond.code ({ cls := "DishLift$House", name := "heats", desc := "(Z)I" } : Jvm.MethodName) prog_7_method_15_code (4 : Nat) (Option.some Jvm.ClassFile.FieldType.int)) ∈ lw_all := lw_g (lw_at lw_m4 229 rfl) rfl
theorem q1071 : (Jvm.Cond.instanceMethod ({ cls := "DishLift$House", name := "sticks", desc := "()LDishLift$House;" } : Jvm.MethodName)) ∈ lw_all := lw_g (lw_at lw_m5 30 rfl) rfl
theorem q1072 : (Jvm.Cond.selects "DishLift$House" ({ cls := "DishLift$House", name := "sticks", desc := "()LDishLift$House;" } : Jvm.MethodName) ({ cls := "DishLift$House", name := "sticks", desc := "()LDishLift$House;" } : Jvm.MethodName)) ∈ lw_all := lw_g (lw_at lw_m5 31 rfl) rfl
theorem q1073 : (Jvm.Cond.code ({ cls := "DishLift$House", name := "sticks", desc := "()LDishLift$House;" } : Jvm.MethodName) prog_7_method_12_code (1 : Nat) (Option.some (Jvm.ClassFile.FieldType.object "DishLift$House"))) ∈ lw_all := lw_g (lw_at lw_m5 32 rfl) rfl
theorem q1701 : (Jvm.Cond.castable "DishLift$House" "java/lang/Object") ∈ lw_tbl := lw_at lw_m7 180 rfl
theorem in_X1 : ∀ w ∈ wsX10, w ∈ lw_all := lw_in wsX10 [199, 201, 203, 205, 207, 209, 211, 213, 215, 217, 219, 221, 223, 225, 227] (by decide +kernel) (by decide +kernel)

/-! DishLift$Finding -/
set_option maxRecDepth 100000
def RX10 : String := "DishLift$Finding"
def TX10 : u_T := fun k => match k with
  | 0 => ("java/lang/Throwable", "cause", "Ljava/lang/Throwable;", false)
  | 1 => ("java/lang/Throwable", "stackTrace", "[Ljava/lang/StackTraceElement;", false)
  | 2 => ("java/lang/Throwable", "suppressedExceptions", "Ljava/util/List;", false)
  | 3 => ("java/lang/Throwable", "detailMessage", "Ljava/lang/String;", false)
  | 4 => ("java/lang/Throwable", "backtrace", "Ljava/lang/Object;", false)
  | 5 => ("java/lang/Throwable", "depth", "I", false)
  | _ => ("DishLift$Finding", "number", "I", true)
def tyX10 : Nat → FieldType := fun k => match k with
  | 0 => .object "java/lang/Throwable"
  | 1 => .array (.object "java/lang/StackTraceElement")
  | 2 => .object "java/util/List"
  | 3 => .object "java/lang/String"
  | 4 => .object "java/lang/Object"
  | 5 => .int
  | _ => .int
abbrev wsX100 : List Cond := u_ws RX10 TX10 7
theorem nmX10 : ∀ a, a < 7 → ∀ b, b < 7 → a ≠ b → (TX10 a).2.1 ≠ (TX10 b).2.1 := by decide +kernel
theorem tyX10_ok : ∀ k, k < 7 → parseFieldDescriptor (TX10 k).2.2.1 = some (tyX10 k) := by decide +kernel
abbrev cX10_init : ByteArray := prog_5_method_1_code
def yX10_init : MethodName := ⟨RX10, "<init>", "(I)V"⟩
def dkwX10_init_0 : List UInt8 := [42, 1, 1, 3, 3, 183, 0, 1, 42, 27, 181, 0, 7, 177]
abbrev dktX10_init_0 : List UInt8 := dkwX10_init_0 ++ []
theorem dksX10_init_0 : cX10_init.data.toList.drop 0 = dktX10_init_0 := by decide +kernel
theorem dX10_init_0 : decode cX10_init 0 = .ok (.aload_n 0, 1) := dk_42 (dk_at dksX10_init_0 0 rfl rfl)
theorem dX10_init_1 : decode cX10_init 1 = .ok (.aconst_null, 1) := dk_1 (dk_at dksX10_init_0 1 rfl rfl)
theorem dX10_init_2 : decode cX10_init 2 = .ok (.aconst_null, 1) := dk_1 (dk_at dksX10_init_0 2 rfl rfl)
theorem dX10_init_3 : decode cX10_init 3 = .ok (.iconst 0, 1) := dk_3 (dk_at dksX10_init_0 3 rfl rfl)
theorem dX10_init_4 : decode cX10_init 4 = .ok (.iconst 0, 1) := dk_3 (dk_at dksX10_init_0 4 rfl rfl)
theorem dX10_init_5 : decode cX10_init 5 = .ok (.invokespecial 1, 3) := dk_183 0 1 (dk_at dksX10_init_0 5 rfl rfl)
theorem dX10_init_8 : decode cX10_init 8 = .ok (.aload_n 0, 1) := dk_42 (dk_at dksX10_init_0 8 rfl rfl)
theorem dX10_init_9 : decode cX10_init 9 = .ok (.iload_n 1, 1) := dk_27 (dk_at dksX10_init_0 9 rfl rfl)
theorem dX10_init_10 : decode cX10_init 10 = .ok (.putfield 7, 3) := dk_181 0 7 (dk_at dksX10_init_0 10 rfl rfl)
theorem dX10_init_13 : decode cX10_init 13 = .ok (.return_, 1) := dk_177 (dk_at dksX10_init_0 13 rfl rfl)
theorem q97 : (Jvm.Cond.initialized "DishLift$Finding") ∈ lw_all := lw_g (lw_at lw_m1 16 rfl) rfl
theorem q354 : (Jvm.Cond.instantiable "DishLift$Finding" (7 : Nat)) ∈ lw_all := lw_g (lw_at lw_m2 33 rfl) rfl
theorem q355 : (Jvm.Cond.castable "DishLift$Finding" "DishLift$Finding") ∈ lw_tbl := lw_at lw_m2 34 rfl
theorem q360 : (Jvm.Cond.selects "DishLift$Finding" ({ cls := "java/lang/Throwable", name := "fillInStackTrace", desc := "(I)Ljava/lang/Throwable;" } : Jvm.MethodName) ({ cls := "java/lang/Throwable", name := "fillInStackTrace", desc := "(I)Ljava/lang/Throwable;" } : Jvm.MethodName)) ∈ lw_all := lw_g (lw_at lw_m2 39 rfl) rfl
theorem q361 : (Jvm.Cond.selects "DishLift$Finding" ({ cls := "java/lang/Throwable", name := "fillInStackTrace", desc := "()Ljava/lang/Throwable;" } : Jvm.MethodName) ({ cls := "java/lang/Throwable", name := "fillInStackTrace", desc := "()Ljava/lang/Throwable;" } : Jvm.MethodName)) ∈ lw_all := lw_g (lw_at lw_m2 40 rfl) rfl
theorem q362 : (Jvm.Cond.lays "DishLift$Finding" "java/lang/Throwable" "cause" "Ljava/lang/Throwable;") ∈ lw_all := lw_g (lw_at lw_m2 41 rfl) rfl
theorem q364 : (Jvm.Cond.lays "DishLift$Finding" "java/lang/Throwable" "stackTrace" "[Ljava/lang/StackTraceElement;") ∈ lw_all := lw_g (lw_at lw_m2 43 rfl) rfl
theorem q366 : (Jvm.Cond.lays "DishLift$Finding" "java/lang/Throwable" "suppressedExceptions" "Ljava/util/List;") ∈ lw_all := lw_g (lw_at lw_m2 45 rfl) rfl
theorem q368 : (Jvm.Cond.lays "DishLift$Finding" "java/lang/Throwable" "detailMessage" "Ljava/lang/String;") ∈ lw_all := lw_g (lw_at lw_m2 47 rfl) rfl
theorem q370 : (Jvm.Cond.lays "DishLift$Finding" "java/lang/Throwable" "backtrace" "Ljava/lang/Object;") ∈ lw_all := lw_g (lw_at lw_m2 49 rfl) rfl
theorem q394 : (Jvm.Cond.instanceMethod ({ cls := "DishLift$Finding", name := "<init>", desc := "(I)V" } : Jvm.MethodName)) ∈ lw_all := lw_g (lw_at lw_m2 73 rfl) rfl
theorem q395 : (Jvm.Cond.code ({ cls := "DishLift$Finding", name := "<init>", desc := "(I)V" } : Jvm.MethodName) prog_5_method_1_code (2 : Nat) (Option.none : Option Jvm.ClassFile.FieldType)) ∈ lw_all := lw_g (lw_at lw_m2 74 rfl) rfl
theorem q396 : (Jvm.Cond.methodLink "DishLift$Finding" (1 : Nat) ({ cls := "java/lang/Exception", name := "<init>", desc := "(Ljava/lang/String;Ljava/lang/Throwable;ZZ)V" } : Jvm.MethodName)) ∈ lw_all := lw_g (lw_at lw_m2 75 rfl) rfl
theorem q402 : (Jvm.Cond.fieldLink "DishLift$Finding" (7 : Nat) "DishLift$Finding" "number" "I") ∈ lw_all := lw_g (lw_at lw_m2 81 rfl) rfl
theorem q409 : (Jvm.Cond.laysFinal "DishLift$Finding" "DishLift$Finding" "number" "I") ∈ lw_all := lw_g (lw_at lw_m2 88 rfl) rfl
theorem q410 : (Jvm.Cond.soleField "DishLift$Finding" "number") ∈ lw_all := lw_g (lw_at lw_m2 89 rfl) rfl
theorem q415 : (Jvm.Cond.lays "DishLift$Finding" "java/lang/Throwable" "depth" "I") ∈ lw_all := lw_g (lw_at lw_m2 94 rfl) rfl
theorem q418 : (Jvm.Cond.superclass "DishLift$Finding" "java/lang/Exception") ∈ lw_all := lw_g (lw_at lw_m2 97 rfl) rfl
theorem q723 : (Jvm.Cond.selects "DishLift$Finding" ({ cls := "java/lang/Object", name := "getClass", desc := "()Ljava/lang/Class;" } : Jvm.MethodName) ({ cls := "java/lang/Object", name := "getClass", desc := "()Ljava/lang/Class;" } : Jvm.MethodName)) ∈ lw_all := lw_g (lw_at lw_m3 162 rfl) rfl
theorem q1712 : (Jvm.Cond.castable "DishLift$Finding" "java/lang/Object") ∈ lw_tbl := lw_at lw_m7 191 rfl
theorem in_X10 : ∀ w ∈ wsX100, w ∈ lw_all := lw_in wsX100 [362, 364, 366, 368, 370, 415, 409] (by decide +kernel) (by decide +kernel)

/-! DishLift$Row -/
set_option maxRecDepth 100000
def RX11 : String := "DishLift$Row"
def TX11 : u_T := fun k => match k with
  | 0 => ("DishLift$Row", "lane", "I", true)
  | _ => ("DishLift$Row", "items", "[I", true)
def tyX11 : Nat → FieldType := fun k => match k with
  | 0 => .int
  | _ => .array .int
abbrev wsX110 : List Cond := u_ws RX11 TX11 2
theorem nmX11 : ∀ a, a < 2 → ∀ b, b < 2 → a ≠ b → (TX11 a).2.1 ≠ (TX11 b).2.1 := by decide +kernel
theorem tyX11_ok : ∀ k, k < 2 → parseFieldDescriptor (TX11 k).2.2.1 = some (tyX11 k) := by decide +kernel
abbrev cX11_init : ByteArray := prog_12_method_1_code
def yX11_init : MethodName := ⟨RX11, "<init>", "(II)V"⟩
def dkwX11_init_0 : List UInt8 := [42, 183, 0, 3, 42, 27, 181, 0, 9, 42, 28, 188, 10, 181, 0, 15, 177]
abbrev dktX11_init_0 : List UInt8 := dkwX11_init_0 ++ []
theorem dksX11_init_0 : cX11_init.data.toList.drop 0 = dktX11_init_0 := by decide +kernel
theorem dX11_init_0 : decode cX11_init 0 = .ok (.aload_n 0, 1) := dk_42 (dk_at dksX11_init_0 0 rfl rfl)
theorem dX11_init_1 : decode cX11_init 1 = .ok (.invokespecial 3, 3) := dk_183 0 3 (dk_at dksX11_init_0 1 rfl rfl)
theorem dX11_init_4 : decode cX11_init 4 = .ok (.aload_n 0, 1) := dk_42 (dk_at dksX11_init_0 4 rfl rfl)
theorem dX11_init_5 : decode cX11_init 5 = .ok (.iload_n 1, 1) := dk_27 (dk_at dksX11_init_0 5 rfl rfl)
theorem dX11_init_6 : decode cX11_init 6 = .ok (.putfield 9, 3) := dk_181 0 9 (dk_at dksX11_init_0 6 rfl rfl)
theorem dX11_init_9 : decode cX11_init 9 = .ok (.aload_n 0, 1) := dk_42 (dk_at dksX11_init_0 9 rfl rfl)
theorem dX11_init_10 : decode cX11_init 10 = .ok (.iload_n 2, 1) := dk_28 (dk_at dksX11_init_0 10 rfl rfl)
theorem dX11_init_11 : decode cX11_init 11 = .ok (.newarray .int, 2) := dk_188_10 (dk_at dksX11_init_0 11 rfl rfl)
theorem dX11_init_13 : decode cX11_init 13 = .ok (.putfield 15, 3) := dk_181 0 15 (dk_at dksX11_init_0 13 rfl rfl)
theorem dX11_init_16 : decode cX11_init 16 = .ok (.return_, 1) := dk_177 (dk_at dksX11_init_0 16 rfl rfl)
abbrev cX11_cut : ByteArray := prog_12_method_2_code
def yX11_cut : MethodName := ⟨RX11, "cut", "(I)I"⟩
def dkwX11_cut_1 : List UInt8 := [167, 0, 4, 27, 172]
abbrev dktX11_cut_1 : List UInt8 := dkwX11_cut_1 ++ []
def dkwX11_cut_0 : List UInt8 := [42, 180, 0, 9, 154, 0, 8, 27, 145, 167, 0, 17, 42, 180, 0, 9, 4, 160, 0, 8, 27, 147]
abbrev dktX11_cut_0 : List UInt8 := dkwX11_cut_0 ++ dktX11_cut_1
theorem dksX11_cut_0 : cX11_cut.data.toList.drop 0 = dktX11_cut_0 := by decide +kernel
theorem dksX11_cut_1 : cX11_cut.data.toList.drop 22 = dktX11_cut_1 := dk_seg dksX11_cut_0 22 rfl rfl
theorem dX11_cut_0 : decode cX11_cut 0 = .ok (.aload_n 0, 1) := dk_42 (dk_at dksX11_cut_0 0 rfl rfl)
theorem dX11_cut_1 : decode cX11_cut 1 = .ok (.getfield 9, 3) := dk_180 0 9 (dk_at dksX11_cut_0 1 rfl rfl)
theorem dX11_cut_4 : decode cX11_cut 4 = .ok (.ifCond .ne 8, 3) := dk_154 0 8 (dk_at dksX11_cut_0 4 rfl rfl)
theorem dX11_cut_7 : decode cX11_cut 7 = .ok (.iload_n 1, 1) := dk_27 (dk_at dksX11_cut_0 7 rfl rfl)
theorem dX11_cut_8 : decode cX11_cut 8 = .ok (.i2b, 1) := dk_145 (dk_at dksX11_cut_0 8 rfl rfl)
theorem dX11_cut_9 : decode cX11_cut 9 = .ok (.goto 17, 3) := dk_167 0 17 (dk_at dksX11_cut_0 9 rfl rfl)
theorem dX11_cut_12 : decode cX11_cut 12 = .ok (.aload_n 0, 1) := dk_42 (dk_at dksX11_cut_0 12 rfl rfl)
theorem dX11_cut_13 : decode cX11_cut 13 = .ok (.getfield 9, 3) := dk_180 0 9 (dk_at dksX11_cut_0 13 rfl rfl)
theorem dX11_cut_16 : decode cX11_cut 16 = .ok (.iconst 1, 1) := dk_4 (dk_at dksX11_cut_0 16 rfl rfl)
theorem dX11_cut_17 : decode cX11_cut 17 = .ok (.if_icmp .ne 8, 3) := dk_160 0 8 (dk_at dksX11_cut_0 17 rfl rfl)
theorem dX11_cut_20 : decode cX11_cut 20 = .ok (.iload_n 1, 1) := dk_27 (dk_at dksX11_cut_0 20 rfl rfl)
theorem dX11_cut_21 : decode cX11_cut 21 = .ok (.i2s, 1) := dk_147 (dk_at dksX11_cut_0 21 rfl rfl)
theorem dX11_cut_22 : decode cX11_cut 22 = .ok (.goto 4, 3) := dk_167 0 4 (dk_at dksX11_cut_1 0 rfl rfl)
theorem dX11_cut_25 : decode cX11_cut 25 = .ok (.iload_n 1, 1) := dk_27 (dk_at dksX11_cut_1 3 rfl rfl)
theorem dX11_cut_26 : decode cX11_cut 26 = .ok (.ireturn, 1) := dk_172 (dk_at dksX11_cut_1 4 rfl rfl)
abbrev cX11_row : ByteArray := prog_12_method_3_code
def yX11_row : MethodName := ⟨RX11, "row", "(II)[I"⟩
def dkwX11_row_1 : List UInt8 := [5, 184, 0, 19, 28, 188, 10, 78, 42, 180, 0, 15, 27, 45, 3, 28, 184, 0, 23, 45, 176]
abbrev dktX11_row_1 : List UInt8 := dkwX11_row_1 ++ []
def dkwX11_row_0 : List UInt8 := [27, 155, 0, 22, 27, 133, 28, 133, 97, 42, 180, 0, 15, 190, 133, 148, 157, 0, 7, 4, 167, 0, 4, 3]
abbrev dktX11_row_0 : List UInt8 := dkwX11_row_0 ++ dktX11_row_1
theorem dksX11_row_0 : cX11_row.data.toList.drop 0 = dktX11_row_0 := by decide +kernel
theorem dksX11_row_1 : cX11_row.data.toList.drop 24 = dktX11_row_1 := dk_seg dksX11_row_0 24 rfl rfl
theorem dX11_row_0 : decode cX11_row 0 = .ok (.iload_n 1, 1) := dk_27 (dk_at dksX11_row_0 0 rfl rfl)
theorem dX11_row_1 : decode cX11_row 1 = .ok (.ifCond .lt 22, 3) := dk_155 0 22 (dk_at dksX11_row_0 1 rfl rfl)
theorem dX11_row_4 : decode cX11_row 4 = .ok (.iload_n 1, 1) := dk_27 (dk_at dksX11_row_0 4 rfl rfl)
theorem dX11_row_5 : decode cX11_row 5 = .ok (.i2l, 1) := dk_133 (dk_at dksX11_row_0 5 rfl rfl)
theorem dX11_row_6 : decode cX11_row 6 = .ok (.iload_n 2, 1) := dk_28 (dk_at dksX11_row_0 6 rfl rfl)
theorem dX11_row_7 : decode cX11_row 7 = .ok (.i2l, 1) := dk_133 (dk_at dksX11_row_0 7 rfl rfl)
theorem dX11_row_8 : decode cX11_row 8 = .ok (.ladd, 1) := dk_97 (dk_at dksX11_row_0 8 rfl rfl)
theorem dX11_row_9 : decode cX11_row 9 = .ok (.aload_n 0, 1) := dk_42 (dk_at dksX11_row_0 9 rfl rfl)
theorem dX11_row_10 : decode cX11_row 10 = .ok (.getfield 15, 3) := dk_180 0 15 (dk_at dksX11_row_0 10 rfl rfl)
theorem dX11_row_13 : decode cX11_row 13 = .ok (.arraylength, 1) := dk_190 (dk_at dksX11_row_0 13 rfl rfl)
theorem dX11_row_14 : decode cX11_row 14 = .ok (.i2l, 1) := dk_133 (dk_at dksX11_row_0 14 rfl rfl)
theorem dX11_row_15 : decode cX11_row 15 = .ok (.lcmp, 1) := dk_148 (dk_at dksX11_row_0 15 rfl rfl)
theorem dX11_row_16 : decode cX11_row 16 = .ok (.ifCond .gt 7, 3) := dk_157 0 7 (dk_at dksX11_row_0 16 rfl rfl)
theorem dX11_row_19 : decode cX11_row 19 = .ok (.iconst 1, 1) := dk_4 (dk_at dksX11_row_0 19 rfl rfl)
theorem dX11_row_20 : decode cX11_row 20 = .ok (.goto 4, 3) := dk_167 0 4 (dk_at dksX11_row_0 20 rfl rfl)
theorem dX11_row_23 : decode cX11_row 23 = .ok (.iconst 0, 1) := dk_3 (dk_at dksX11_row_0 23 rfl rfl)
theorem dX11_row_24 : decode cX11_row 24 = .ok (.iconst 2, 1) := dk_5 (dk_at dksX11_row_1 0 rfl rfl)
theorem dX11_row_25 : decode cX11_row 25 = .ok (.invokestatic 19, 3) := dk_184 0 19 (dk_at dksX11_row_1 1 rfl rfl)
theorem dX11_row_28 : decode cX11_row 28 = .ok (.iload_n 2, 1) := dk_28 (dk_at dksX11_row_1 4 rfl rfl)
theorem dX11_row_29 : decode cX11_row 29 = .ok (.newarray .int, 2) := dk_188_10 (dk_at dksX11_row_1 5 rfl rfl)
theorem dX11_row_31 : decode cX11_row 31 = .ok (.astore_n 3, 1) := dk_78 (dk_at dksX11_row_1 7 rfl rfl)
theorem dX11_row_32 : decode cX11_row 32 = .ok (.aload_n 0, 1) := dk_42 (dk_at dksX11_row_1 8 rfl rfl)
theorem dX11_row_33 : decode cX11_row 33 = .ok (.getfield 15, 3) := dk_180 0 15 (dk_at dksX11_row_1 9 rfl rfl)
theorem dX11_row_36 : decode cX11_row 36 = .ok (.iload_n 1, 1) := dk_27 (dk_at dksX11_row_1 12 rfl rfl)
theorem dX11_row_37 : decode cX11_row 37 = .ok (.aload_n 3, 1) := dk_45 (dk_at dksX11_row_1 13 rfl rfl)
theorem dX11_row_38 : decode cX11_row 38 = .ok (.iconst 0, 1) := dk_3 (dk_at dksX11_row_1 14 rfl rfl)
theorem dX11_row_39 : decode cX11_row 39 = .ok (.iload_n 2, 1) := dk_28 (dk_at dksX11_row_1 15 rfl rfl)
theorem dX11_row_40 : decode cX11_row 40 = .ok (.invokestatic 23, 3) := dk_184 0 23 (dk_at dksX11_row_1 16 rfl rfl)
theorem dX11_row_43 : decode cX11_row 43 = .ok (.aload_n 3, 1) := dk_45 (dk_at dksX11_row_1 19 rfl rfl)
theorem dX11_row_44 : decode cX11_row 44 = .ok (.areturn, 1) := dk_176 (dk_at dksX11_row_1 20 rfl rfl)
theorem q98 : (Jvm.Cond.initialized "DishLift$Row") ∈ lw_all := lw_g (lw_at lw_m1 17 rfl) rfl
theorem q419 : (Jvm.Cond.instantiable "DishLift$Row" (2 : Nat)) ∈ lw_all := lw_g (lw_at lw_m2 98 rfl) rfl
theorem q421 : (Jvm.Cond.instanceMethod ({ cls := "DishLift$Row", name := "<init>", desc := "(II)V" } : Jvm.MethodName)) ∈ lw_all := lw_g (lw_at lw_m2 100 rfl) rfl
theorem q422 : (Jvm.Cond.code ({ cls := "DishLift$Row", name := "<init>", desc := "(II)V" } : Jvm.MethodName) prog_12_method_1_code (3 : Nat) (Option.none : Option Jvm.ClassFile.FieldType)) ∈ lw_all := lw_g (lw_at lw_m2 101 rfl) rfl
theorem q423 : (Jvm.Cond.methodLink "DishLift$Row" (3 : Nat) ({ cls := "java/lang/Object", name := "<init>", desc := "()V" } : Jvm.MethodName)) ∈ lw_all := lw_g (lw_at lw_m2 102 rfl) rfl
theorem q424 : (Jvm.Cond.fieldLink "DishLift$Row" (9 : Nat) "DishLift$Row" "lane" "I") ∈ lw_all := lw_g (lw_at lw_m2 103 rfl) rfl
theorem q426 : (Jvm.Cond.fieldLink "DishLift$Row" (15 : Nat) "DishLift$Row" "items" "[I") ∈ lw_all := lw_g (lw_at lw_m2 105 rfl) rfl
theorem q428 : (Jvm.Cond.laysFinal "DishLift$Row" "DishLift$Row" "lane" "I") ∈ lw_all := lw_g (lw_at lw_m2 107 rfl) rfl
theorem q429 : (Jvm.Cond.soleField "DishLift$Row" "lane") ∈ lw_all := lw_g (lw_at lw_m2 108 rfl) rfl
theorem q430 : (Jvm.Cond.laysFinal "DishLift$Row" "DishLift$Row" "items" "[I") ∈ lw_all := lw_g (lw_at lw_m2 109 rfl) rfl
theorem q431 : (Jvm.Cond.soleField "DishLift$Row" "items") ∈ lw_all := lw_g (lw_at lw_m2 110 rfl) rfl
theorem q432 : (Jvm.Cond.superclass "DishLift$Row" "java/lang/Object") ∈ lw_all := lw_g (lw_at lw_m2 111 rfl) rfl
theorem q451 : (Jvm.Cond.instanceMethod ({ cls := "DishLift$Row", name := "cut", desc := "(I)I" } : Jvm.MethodName)) ∈ lw_all := lw_g (lw_at lw_m2 130 rfl) rfl
theorem q452 : (Jvm.Cond.selects "DishLift$Row" ({ cls := "DishLift$Row", name := "cut", desc := "(I)I" } : Jvm.MethodName) ({ cls := "DishLift$Row", name := "cut", desc := "(I)I" } : Jvm.MethodName)) ∈ lw_all := lw_g (lw_at lw_m2 131 rfl) rfl
theorem q453 : (Jvm.Cond.code ({ cls := "DishLift$Row", name := "cut", desc := "(I)I" } : Jvm.MethodName) prog_12_method_2_code (2 : Nat) (Option.some Jvm.ClassFile.FieldType.int)) ∈ lw_all := lw_g (lw_at lw_m2 132 rfl) rfl
theorem q729 : (Jvm.Cond.selects "DishLift$Row" ({ cls := "java/lang/Object", name := "getClass", desc := "()Ljava/lang/Class;" } : Jvm.MethodName) ({ cls := "java/lang/Object", name := "getClass", desc := "()Ljava/lang/Class;" } : Jvm.MethodName)) ∈ lw_all := lw_g (lw_at lw_m3 168 rfl) rfl
theorem q1042 : (Jvm.Cond.instanceMethod ({ cls := "DishLift$Row", name := "row", desc := "(II)[I" } : Jvm.MethodName)) ∈ lw_all := lw_g (lw_at lw_m5 1 rfl) rfl
theorem q1043 : (Jvm.Cond.selects "DishLift$Row" ({ cls := "DishLift$Row", name := "row", desc := "(II)[I" } : Jvm.MethodName) ({ cls := "DishLift$Row", name := "row", desc := "(II)[I" } : Jvm.MethodName)) ∈ lw_all := lw_g (lw_at lw_m5 2 rfl) rfl
theorem q1044 : (Jvm.Cond.code ({ cls := "DishLift$Row", name := "row", desc := "(II)[I" } : Jvm.MethodName) prog_12_method_3_code (4 : Nat) (Option.some (Jvm.ClassFile.FieldType.array Jvm.ClassFile.FieldType.int))) ∈ lw_all := lw_g (lw_at lw_m5 3 rfl) rfl
theorem q1045 : (Jvm.Cond.methodLinkNest "DishLift$Row" (19 : Nat) ({ cls := "DishLift", name := "must", desc := "(ZI)V" } : Jvm.MethodName) "DishLift") ∈ lw_tbl := lw_at lw_m5 4 rfl
theorem q1046 : (Jvm.Cond.methodLink "DishLift$Row" (23 : Nat) ({ cls := "java/lang/System", name := "arraycopy", desc := "(Ljava/lang/Object;ILjava/lang/Object;II)V" } : Jvm.MethodName)) ∈ lw_all := lw_g (lw_at lw_m5 5 rfl) rfl
theorem q1700 : (Jvm.Cond.castable "DishLift$Row" "java/lang/Object") ∈ lw_tbl := lw_at lw_m7 179 rfl
theorem in_X11 : ∀ w ∈ wsX110, w ∈ lw_all := lw_in wsX110 [428, 430] (by decide +kernel) (by decide +kernel)

/-! DishLift$Reader -/
set_option maxRecDepth 100000
def RX12 : String := "DishLift$Reader"
def TX12 : u_T := fun k => match k with
  | 0 => ("DishLift$Reader", "text", "[B", true)
  | 1 => ("DishLift$Reader", "size", "I", true)
  | 2 => ("DishLift$Reader", "at", "I", false)
  | 3 => ("DishLift$Reader", "token", "I", false)
  | 4 => ("DishLift$Reader", "from", "I", false)
  | 5 => ("DishLift$Reader", "value", "I", false)
  | _ => ("DishLift$Reader", "made", "LDishLift$House;", true)
def tyX12 : Nat → FieldType := fun k => match k with
  | 0 => .array .byte
  | 1 => .int
  | 2 => .int
  | 3 => .int
  | 4 => .int
  | 5 => .int
  | _ => .object "DishLift$House"
abbrev wsX120 : List Cond := u_ws RX12 TX12 7
theorem nmX12 : ∀ a, a < 7 → ∀ b, b < 7 → a ≠ b → (TX12 a).2.1 ≠ (TX12 b).2.1 := by decide +kernel
theorem tyX12_ok : ∀ k, k < 7 → parseFieldDescriptor (TX12 k).2.2.1 = some (tyX12 k) := by decide +kernel
abbrev cX12_init : ByteArray := prog_10_method_1_code
def yX12_init : MethodName := ⟨RX12, "<init>", "([BI)V"⟩
def dkwX12_init_1 : List UInt8 := [181, 0, 22, 177]
abbrev dktX12_init_1 : List UInt8 := dkwX12_init_1 ++ []
def dkwX12_init_0 : List UInt8 := [42, 183, 0, 3, 42, 187, 0, 9, 89, 183, 0, 11, 181, 0, 12, 42, 43, 181, 0, 18, 42, 28]
abbrev dktX12_init_0 : List UInt8 := dkwX12_init_0 ++ dktX12_init_1
theorem dksX12_init_0 : cX12_init.data.toList.drop 0 = dktX12_init_0 := by decide +kernel
theorem dksX12_init_1 : cX12_init.data.toList.drop 22 = dktX12_init_1 := dk_seg dksX12_init_0 22 rfl rfl
theorem dX12_init_0 : decode cX12_init 0 = .ok (.aload_n 0, 1) := dk_42 (dk_at dksX12_init_0 0 rfl rfl)
theorem dX12_init_1 : decode cX12_init 1 = .ok (.invokespecial 3, 3) := dk_183 0 3 (dk_at dksX12_init_0 1 rfl rfl)
theorem dX12_init_4 : decode cX12_init 4 = .ok (.aload_n 0, 1) := dk_42 (dk_at dksX12_init_0 4 rfl rfl)
theorem dX12_init_5 : decode cX12_init 5 = .ok (.new 9, 3) := dk_187 0 9 (dk_at dksX12_init_0 5 rfl rfl)
theorem dX12_init_8 : decode cX12_init 8 = .ok (.dup, 1) := dk_89 (dk_at dksX12_init_0 8 rfl rfl)
theorem dX12_init_9 : decode cX12_init 9 = .ok (.invokespecial 11, 3) := dk_183 0 11 (dk_at dksX12_init_0 9 rfl rfl)
theorem dX12_init_12 : decode cX12_init 12 = .ok (.putfield 12, 3) := dk_181 0 12 (dk_at dksX12_init_0 12 rfl rfl)
theorem dX12_init_15 : decode cX12_init 15 = .ok (.aload_n 0, 1) := dk_42 (dk_at dksX12_init_0 15 rfl rfl)
theorem dX12_init_16 : decode cX12_init 16 = .ok (.aload_n 1, 1) := dk_43 (dk_at dksX12_init_0 16 rfl rfl)
theorem dX12_init_17 : decode cX12_init 17 = .ok (.putfield 18, 3) := dk_181 0 18 (dk_at dksX12_init_0 17 rfl rfl)
theorem dX12_init_20 : decode cX12_init 20 = .ok (.aload_n 0, 1) := dk_42 (dk_at dksX12_init_0 20 rfl rfl)
theorem dX12_init_21 : decode cX12_init 21 = .ok (.iload_n 2, 1) := dk_28 (dk_at dksX12_init_0 21 rfl rfl)
theorem dX12_init_22 : decode cX12_init 22 = .ok (.putfield 22, 3) := dk_181 0 22 (dk_at dksX12_init_1 0 rfl rfl)
theorem dX12_init_25 : decode cX12_init 25 = .ok (.return_, 1) := dk_177 (dk_at dksX12_init_1 3 rfl rfl)
abbrev cX12_all : ByteArray := prog_10_method_12_code
def yX12_all : MethodName := ⟨RX12, "all", "()V"⟩
def dkwX12_all_5 : List UInt8 := [167, 0, 4, 3, 4, 182, 0, 60, 177]
abbrev dktX12_all_5 : List UInt8 := dkwX12_all_5 ++ []
def dkwX12_all_4 : List UInt8 := [182, 0, 106, 18, 29, 159, 0, 10, 42, 182, 0, 110, 167, 255, 241, 42, 42, 180, 0, 40, 154, 0, 7, 4]
abbrev dktX12_all_4 : List UInt8 := dkwX12_all_4 ++ dktX12_all_5
def dkwX12_all_3 : List UInt8 := [18, 104, 182, 0, 106, 18, 29, 159, 0, 7, 4, 167, 0, 4, 3, 4, 182, 0, 60, 42, 18, 104]
abbrev dktX12_all_3 : List UInt8 := dkwX12_all_3 ++ dktX12_all_4
def dkwX12_all_2 : List UInt8 := [16, 40, 182, 0, 92, 181, 0, 98, 42, 7, 182, 0, 67, 42, 180, 0, 12, 27, 181, 0, 101, 42, 42]
abbrev dktX12_all_2 : List UInt8 := dkwX12_all_2 ++ dktX12_all_3
def dkwX12_all_1 : List UInt8 := [182, 0, 71, 60, 42, 180, 0, 12, 42, 4, 7, 182, 0, 92, 181, 0, 95, 42, 180, 0, 12, 42, 4]
abbrev dktX12_all_1 : List UInt8 := dkwX12_all_1 ++ dktX12_all_2
def dkwX12_all_0 : List UInt8 := [42, 182, 0, 64, 42, 42, 16, 100, 182, 0, 88, 4, 182, 0, 60, 42, 182, 0, 64, 42, 5, 16, 9]
abbrev dktX12_all_0 : List UInt8 := dkwX12_all_0 ++ dktX12_all_1
theorem dksX12_all_0 : cX12_all.data.toList.drop 0 = dktX12_all_0 := by decide +kernel
theorem dksX12_all_1 : cX12_all.data.toList.drop 23 = dktX12_all_1 := dk_seg dksX12_all_0 23 rfl rfl
theorem dksX12_all_2 : cX12_all.data.toList.drop 46 = dktX12_all_2 := dk_seg dksX12_all_1 23 rfl rfl
theorem dksX12_all_3 : cX12_all.data.toList.drop 69 = dktX12_all_3 := dk_seg dksX12_all_2 23 rfl rfl
theorem dksX12_all_4 : cX12_all.data.toList.drop 91 = dktX12_all_4 := dk_seg dksX12_all_3 22 rfl rfl
theorem dksX12_all_5 : cX12_all.data.toList.drop 115 = dktX12_all_5 := dk_seg dksX12_all_4 24 rfl rfl
theorem dX12_all_0 : decode cX12_all 0 = .ok (.aload_n 0, 1) := dk_42 (dk_at dksX12_all_0 0 rfl rfl)
theorem dX12_all_1 : decode cX12_all 1 = .ok (.invokevirtual 64, 3) := dk_182 0 64 (dk_at dksX12_all_0 1 rfl rfl)
theorem dX12_all_4 : decode cX12_all 4 = .ok (.aload_n 0, 1) := dk_42 (dk_at dksX12_all_0 4 rfl rfl)
theorem dX12_all_5 : decode cX12_all 5 = .ok (.aload_n 0, 1) := dk_42 (dk_at dksX12_all_0 5 rfl rfl)
theorem dX12_all_6 : decode cX12_all 6 = .ok (.bipush 100, 2) := dk_16 100 (dk_at dksX12_all_0 6 rfl rfl)
theorem dX12_all_8 : decode cX12_all 8 = .ok (.invokevirtual 88, 3) := dk_182 0 88 (dk_at dksX12_all_0 8 rfl rfl)
theorem dX12_all_11 : decode cX12_all 11 = .ok (.iconst 1, 1) := dk_4 (dk_at dksX12_all_0 11 rfl rfl)
theorem dX12_all_12 : decode cX12_all 12 = .ok (.invokevirtual 60, 3) := dk_182 0 60 (dk_at dksX12_all_0 12 rfl rfl)
theorem dX12_all_15 : decode cX12_all 15 = .ok (.aload_n 0, 1) := dk_42 (dk_at dksX12_all_0 15 rfl rfl)
theorem dX12_all_16 : decode cX12_all 16 = .ok (.invokevirtual 64, 3) := dk_182 0 64 (dk_at dksX12_all_0 16 rfl rfl)
theorem dX12_all_19 : decode cX12_all 19 = .ok (.aload_n 0, 1) := dk_42 (dk_at dksX12_all_0 19 rfl rfl)
theorem dX12_all_20 : decode cX12_all 20 = .ok (.iconst 2, 1) := dk_5 (dk_at dksX12_all_0 20 rfl rfl)
theorem dX12_all_21 : decode cX12_all 21 = .ok (.bipush 9, 2) := dk_16 9 (dk_at dksX12_all_0 21 rfl rfl)
theorem dX12_all_23 : decode cX12_all 23 = .ok (.invokevirtual 71, 3) := dk_182 0 71 (dk_at dksX12_all_1 0 rfl rfl)
theorem dX12_all_26 : decode cX12_all 26 = .ok (.istore_n 1, 1) := dk_60 (dk_at dksX12_all_1 3 rfl rfl)
theorem dX12_all_27 : decode cX12_all 27 = .ok (.aload_n 0, 1) := dk_42 (dk_at dksX12_all_1 4 rfl rfl)
theorem dX12_all_28 : decode cX12_all 28 = .ok (.getfield 12, 3) := dk_180 0 12 (dk_at dksX12_all_1 5 rfl rfl)
theorem dX12_all_31 : decode cX12_all 31 = .ok (.aload_n 0, 1) := dk_42 (dk_at dksX12_all_1 8 rfl rfl)
theorem dX12_all_32 : decode cX12_all 32 = .ok (.iconst 1, 1) := dk_4 (dk_at dksX12_all_1 9 rfl rfl)
theorem dX12_all_33 : decode cX12_all 33 = .ok (.iconst 4, 1) := dk_7 (dk_at dksX12_all_1 10 rfl rfl)
theorem dX12_all_34 : decode cX12_all 34 = .ok (.invokevirtual 92, 3) := dk_182 0 92 (dk_at dksX12_all_1 11 rfl rfl)
theorem dX12_all_37 : decode cX12_all 37 = .ok (.putfield 95, 3) := dk_181 0 95 (dk_at dksX12_all_1 14 rfl rfl)
theorem dX12_all_40 : decode cX12_all 40 = .ok (.aload_n 0, 1) := dk_42 (dk_at dksX12_all_1 17 rfl rfl)
theorem dX12_all_41 : decode cX12_all 41 = .ok (.getfield 12, 3) := dk_180 0 12 (dk_at dksX12_all_1 18 rfl rfl)
theorem dX12_all_44 : decode cX12_all 44 = .ok (.aload_n 0, 1) := dk_42 (dk_at dksX12_all_1 21 rfl rfl)
theorem dX12_all_45 : decode cX12_all 45 = .ok (.iconst 1, 1) := dk_4 (dk_at dksX12_all_1 22 rfl rfl)
theorem dX12_all_46 : decode cX12_all 46 = .ok (.bipush 40, 2) := dk_16 40 (dk_at dksX12_all_2 0 rfl rfl)
theorem dX12_all_48 : decode cX12_all 48 = .ok (.invokevirtual 92, 3) := dk_182 0 92 (dk_at dksX12_all_2 2 rfl rfl)
theorem dX12_all_51 : decode cX12_all 51 = .ok (.putfield 98, 3) := dk_181 0 98 (dk_at dksX12_all_2 5 rfl rfl)
theorem dX12_all_54 : decode cX12_all 54 = .ok (.aload_n 0, 1) := dk_42 (dk_at dksX12_all_2 8 rfl rfl)
theorem dX12_all_55 : decode cX12_all 55 = .ok (.iconst 4, 1) := dk_7 (dk_at dksX12_all_2 9 rfl rfl)
theorem dX12_all_56 : decode cX12_all 56 = .ok (.invokevirtual 67, 3) := dk_182 0 67 (dk_at dksX12_all_2 10 rfl rfl)
theorem dX12_all_59 : decode cX12_all 59 = .ok (.aload_n 0, 1) := dk_42 (dk_at dksX12_all_2 13 rfl rfl)
theorem dX12_all_60 : decode cX12_all 60 = .ok (.getfield 12, 3) := dk_180 0 12 (dk_at dksX12_all_2 14 rfl rfl)
theorem dX12_all_63 : decode cX12_all 63 = .ok (.iload_n 1, 1) := dk_27 (dk_at dksX12_all_2 17 rfl rfl)
theorem dX12_all_64 : decode cX12_all 64 = .ok (.putfield 101, 3) := dk_181 0 101 (dk_at dksX12_all_2 18 rfl rfl)
theorem dX12_all_67 : decode cX12_all 67 = .ok (.aload_n 0, 1) := dk_42 (dk_at dksX12_all_2 21 rfl rfl)
theorem dX12_all_68 : decode cX12_all 68 = .ok (.aload_n 0, 1) := dk_42 (dk_at dksX12_all_2 22 rfl rfl)
theorem dX12_all_69 : decode cX12_all 69 = .ok (.ldc 104, 2) := dk_18 104 (dk_at dksX12_all_3 0 rfl rfl)
theorem dX12_all_71 : decode cX12_all 71 = .ok (.invokevirtual 106, 3) := dk_182 0 106 (dk_at dksX12_all_3 2 rfl rfl)
theorem dX12_all_74 : decode cX12_all 74 = .ok (.ldc 29, 2) := dk_18 29 (dk_at dksX12_all_3 5 rfl rfl)
theorem dX12_all_76 : decode cX12_all 76 = .ok (.if_icmp .eq 7, 3) := dk_159 0 7 (dk_at dksX12_all_3 7 rfl rfl)
theorem dX12_all_79 : decode cX12_all 79 = .ok (.iconst 1, 1) := dk_4 (dk_at dksX12_all_3 10 rfl rfl)
theorem dX12_all_80 : decode cX12_all 80 = .ok (.goto 4, 3) := dk_167 0 4 (dk_at dksX12_all_3 11 rfl rfl)
theorem dX12_all_83 : decode cX12_all 83 = .ok (.iconst 0, 1) := dk_3 (dk_at dksX12_all_3 14 rfl rfl)
theorem dX12_all_84 : decode cX12_all 84 = .ok (.iconst 1, 1) := dk_4 (dk_at dksX12_all_3 15 rfl rfl)
theorem dX12_all_85 : decode cX12_all 85 = .ok (.invokevirtual 60, 3) := dk_182 0 60 (dk_at dksX12_all_3 16 rfl rfl)
theorem dX12_all_88 : decode cX12_all 88 = .ok (.aload_n 0, 1) := dk_42 (dk_at dksX12_all_3 19 rfl rfl)
theorem dX12_all_89 : decode cX12_all 89 = .ok (.ldc 104, 2) := dk_18 104 (dk_at dksX12_all_3 20 rfl rfl)
theorem dX12_all_91 : decode cX12_all 91 = .ok (.invokevirtual 106, 3) := dk_182 0 106 (dk_at dksX12_all_4 0 rfl rfl)
theorem dX12_all_94 : decode cX12_all 94 = .ok (.ldc 29, 2) := dk_18 29 (dk_at dksX12_all_4 3 rfl rfl)
theorem dX12_all_96 : decode cX12_all 96 = .ok (.if_icmp .eq 10, 3) := dk_159 0 10 (dk_at dksX12_all_4 5 rfl rfl)
theorem dX12_all_99 : decode cX12_all 99 = .ok (.aload_n 0, 1) := dk_42 (dk_at dksX12_all_4 8 rfl rfl)
theorem dX12_all_100 : decode cX12_all 100 = .ok (.invokevirtual 110, 3) := dk_182 0 110 (dk_at dksX12_all_4 9 rfl rfl)
theorem dX12_all_103 : decode cX12_all 103 = .ok (.goto (-15), 3) := dk_167 255 241 (dk_at dksX12_all_4 12 rfl rfl)
theorem dX12_all_106 : decode cX12_all 106 = .ok (.aload_n 0, 1) := dk_42 (dk_at dksX12_all_4 15 rfl rfl)
theorem dX12_all_107 : decode cX12_all 107 = .ok (.aload_n 0, 1) := dk_42 (dk_at dksX12_all_4 16 rfl rfl)
theorem dX12_all_108 : decode cX12_all 108 = .ok (.getfield 40, 3) := dk_180 0 40 (dk_at dksX12_all_4 17 rfl rfl)
theorem dX12_all_111 : decode cX12_all 111 = .ok (.ifCond .ne 7, 3) := dk_154 0 7 (dk_at dksX12_all_4 20 rfl rfl)
theorem dX12_all_114 : decode cX12_all 114 = .ok (.iconst 1, 1) := dk_4 (dk_at dksX12_all_4 23 rfl rfl)
theorem dX12_all_115 : decode cX12_all 115 = .ok (.goto 4, 3) := dk_167 0 4 (dk_at dksX12_all_5 0 rfl rfl)
theorem dX12_all_118 : decode cX12_all 118 = .ok (.iconst 0, 1) := dk_3 (dk_at dksX12_all_5 3 rfl rfl)
theorem dX12_all_119 : decode cX12_all 119 = .ok (.iconst 1, 1) := dk_4 (dk_at dksX12_all_5 4 rfl rfl)
theorem dX12_all_120 : decode cX12_all 120 = .ok (.invokevirtual 60, 3) := dk_182 0 60 (dk_at dksX12_all_5 5 rfl rfl)
theorem dX12_all_123 : decode cX12_all 123 = .ok (.return_, 1) := dk_177 (dk_at dksX12_all_5 8 rfl rfl)
abbrev cX12_next : ByteArray := prog_10_method_3_code
def yX12_next : MethodName := ⟨RX12, "next", "()V"⟩
def dkwX12_next_8 : List UInt8 := [16, 59, 160, 0, 7, 7, 167, 0, 4, 8, 181, 0, 40, 177]
abbrev dktX12_next_8 : List UInt8 := dkwX12_next_8 ++ []
def dkwX12_next_7 : List UInt8 := [20, 0, 53, 184, 0, 47, 153, 0, 7, 4, 167, 0, 24, 27, 16, 44, 160, 0, 7, 6, 167, 0, 14, 27]
abbrev dktX12_next_7 : List UInt8 := dkwX12_next_7 ++ dktX12_next_8
def dkwX12_next_6 : List UInt8 := [181, 0, 40, 167, 0, 56, 42, 89, 180, 0, 26, 4, 96, 181, 0, 26, 42, 27, 133, 20, 0, 51]
abbrev dktX12_next_6 : List UInt8 := dkwX12_next_6 ++ dktX12_next_7
def dkwX12_next_5 : List UInt8 := [167, 255, 190, 42, 42, 180, 0, 26, 42, 180, 0, 30, 100, 5, 163, 0, 7, 5, 167, 0, 4, 8]
abbrev dktX12_next_5 : List UInt8 := dkwX12_next_5 ++ dktX12_next_6
def dkwX12_next_4 : List UInt8 := [16, 48, 100, 167, 0, 7, 42, 180, 0, 37, 181, 0, 37, 42, 89, 180, 0, 26, 4, 96, 181, 0, 26]
abbrev dktX12_next_4 : List UInt8 := dkwX12_next_4 ++ dktX12_next_5
def dkwX12_next_3 : List UInt8 := [180, 0, 26, 42, 180, 0, 30, 100, 5, 162, 0, 21, 16, 10, 42, 180, 0, 37, 104, 42, 182, 0, 33, 96]
abbrev dktX12_next_3 : List UInt8 := dkwX12_next_3 ++ dktX12_next_4
def dkwX12_next_2 : List UInt8 := [181, 0, 37, 42, 182, 0, 33, 133, 20, 0, 43, 20, 0, 45, 184, 0, 47, 153, 0, 55, 42, 42]
abbrev dktX12_next_2 : List UInt8 := dkwX12_next_2 ++ dktX12_next_3
def dkwX12_next_1 : List UInt8 := [42, 3, 181, 0, 40, 167, 0, 169, 27, 133, 20, 0, 43, 20, 0, 45, 184, 0, 47, 153, 0, 102, 42, 3]
abbrev dktX12_next_1 : List UInt8 := dkwX12_next_1 ++ dktX12_next_2
def dkwX12_next_0 : List UInt8 := [42, 42, 180, 0, 26, 181, 0, 30, 42, 182, 0, 33, 60, 42, 27, 181, 0, 37, 27, 18, 29, 160, 0, 11]
abbrev dktX12_next_0 : List UInt8 := dkwX12_next_0 ++ dktX12_next_1
theorem dksX12_next_0 : cX12_next.data.toList.drop 0 = dktX12_next_0 := by decide +kernel
theorem dksX12_next_1 : cX12_next.data.toList.drop 24 = dktX12_next_1 := dk_seg dksX12_next_0 24 rfl rfl
theorem dksX12_next_2 : cX12_next.data.toList.drop 48 = dktX12_next_2 := dk_seg dksX12_next_1 24 rfl rfl
theorem dksX12_next_3 : cX12_next.data.toList.drop 70 = dktX12_next_3 := dk_seg dksX12_next_2 22 rfl rfl
theorem dksX12_next_4 : cX12_next.data.toList.drop 94 = dktX12_next_4 := dk_seg dksX12_next_3 24 rfl rfl
theorem dksX12_next_5 : cX12_next.data.toList.drop 117 = dktX12_next_5 := dk_seg dksX12_next_4 23 rfl rfl
theorem dksX12_next_6 : cX12_next.data.toList.drop 139 = dktX12_next_6 := dk_seg dksX12_next_5 22 rfl rfl
theorem dksX12_next_7 : cX12_next.data.toList.drop 161 = dktX12_next_7 := dk_seg dksX12_next_6 22 rfl rfl
theorem dksX12_next_8 : cX12_next.data.toList.drop 185 = dktX12_next_8 := dk_seg dksX12_next_7 24 rfl rfl
theorem dX12_next_0 : decode cX12_next 0 = .ok (.aload_n 0, 1) := dk_42 (dk_at dksX12_next_0 0 rfl rfl)
theorem dX12_next_1 : decode cX12_next 1 = .ok (.aload_n 0, 1) := dk_42 (dk_at dksX12_next_0 1 rfl rfl)
theorem dX12_next_2 : decode cX12_next 2 = .ok (.getfield 26, 3) := dk_180 0 26 (dk_at dksX12_next_0 2 rfl rfl)
theorem dX12_next_5 : decode cX12_next 5 = .ok (.putfield 30, 3) := dk_181 0 30 (dk_at dksX12_next_0 5 rfl rfl)
theorem dX12_next_8 : decode cX12_next 8 = .ok (.aload_n 0, 1) := dk_42 (dk_at dksX12_next_0 8 rfl rfl)
theorem dX12_next_9 : decode cX12_next 9 = .ok (.invokevirtual 33, 3) := dk_182 0 33 (dk_at dksX12_next_0 9 rfl rfl)
theorem dX12_next_12 : decode cX12_next 12 = .ok (.istore_n 1, 1) := dk_60 (dk_at dksX12_next_0 12 rfl rfl)
theorem dX12_next_13 : decode cX12_next 13 = .ok (.aload_n 0, 1) := dk_42 (dk_at dksX12_next_0 13 rfl rfl)
theorem dX12_next_14 : decode cX12_next 14 = .ok (.iload_n 1, 1) := dk_27 (dk_at dksX12_next_0 14 rfl rfl)
theorem dX12_next_15 : decode cX12_next 15 = .ok (.putfield 37, 3) := dk_181 0 37 (dk_at dksX12_next_0 15 rfl rfl)
theorem dX12_next_18 : decode cX12_next 18 = .ok (.iload_n 1, 1) := dk_27 (dk_at dksX12_next_0 18 rfl rfl)
theorem dX12_next_19 : decode cX12_next 19 = .ok (.ldc 29, 2) := dk_18 29 (dk_at dksX12_next_0 19 rfl rfl)
theorem dX12_next_21 : decode cX12_next 21 = .ok (.if_icmp .ne 11, 3) := dk_160 0 11 (dk_at dksX12_next_0 21 rfl rfl)
theorem dX12_next_24 : decode cX12_next 24 = .ok (.aload_n 0, 1) := dk_42 (dk_at dksX12_next_1 0 rfl rfl)
theorem dX12_next_25 : decode cX12_next 25 = .ok (.iconst 0, 1) := dk_3 (dk_at dksX12_next_1 1 rfl rfl)
theorem dX12_next_26 : decode cX12_next 26 = .ok (.putfield 40, 3) := dk_181 0 40 (dk_at dksX12_next_1 2 rfl rfl)
theorem dX12_next_29 : decode cX12_next 29 = .ok (.goto 169, 3) := dk_167 0 169 (dk_at dksX12_next_1 5 rfl rfl)
theorem dX12_next_32 : decode cX12_next 32 = .ok (.iload_n 1, 1) := dk_27 (dk_at dksX12_next_1 8 rfl rfl)
theorem dX12_next_33 : decode cX12_next 33 = .ok (.i2l, 1) := dk_133 (dk_at dksX12_next_1 9 rfl rfl)
theorem dX12_next_34 : decode cX12_next 34 = .ok (.ldc2_w 43, 3) := dk_20 0 43 (dk_at dksX12_next_1 10 rfl rfl)
theorem dX12_next_37 : decode cX12_next 37 = .ok (.ldc2_w 45, 3) := dk_20 0 45 (dk_at dksX12_next_1 13 rfl rfl)
theorem dX12_next_40 : decode cX12_next 40 = .ok (.invokestatic 47, 3) := dk_184 0 47 (dk_at dksX12_next_1 16 rfl rfl)
theorem dX12_next_43 : decode cX12_next 43 = .ok (.ifCond .eq 102, 3) := dk_153 0 102 (dk_at dksX12_next_1 19 rfl rfl)
theorem dX12_next_46 : decode cX12_next 46 = .ok (.aload_n 0, 1) := dk_42 (dk_at dksX12_next_1 22 rfl rfl)
theorem dX12_next_47 : decode cX12_next 47 = .ok (.iconst 0, 1) := dk_3 (dk_at dksX12_next_1 23 rfl rfl)
theorem dX12_next_48 : decode cX12_next 48 = .ok (.putfield 37, 3) := dk_181 0 37 (dk_at dksX12_next_2 0 rfl rfl)
theorem dX12_next_51 : decode cX12_next 51 = .ok (.aload_n 0, 1) := dk_42 (dk_at dksX12_next_2 3 rfl rfl)
theorem dX12_next_52 : decode cX12_next 52 = .ok (.invokevirtual 33, 3) := dk_182 0 33 (dk_at dksX12_next_2 4 rfl rfl)
theorem dX12_next_55 : decode cX12_next 55 = .ok (.i2l, 1) := dk_133 (dk_at dksX12_next_2 7 rfl rfl)
theorem dX12_next_56 : decode cX12_next 56 = .ok (.ldc2_w 43, 3) := dk_20 0 43 (dk_at dksX12_next_2 8 rfl rfl)
theorem dX12_next_59 : decode cX12_next 59 = .ok (.ldc2_w 45, 3) := dk_20 0 45 (dk_at dksX12_next_2 11 rfl rfl)
theorem dX12_next_62 : decode cX12_next 62 = .ok (.invokestatic 47, 3) := dk_184 0 47 (dk_at dksX12_next_2 14 rfl rfl)
theorem dX12_next_65 : decode cX12_next 65 = .ok (.ifCond .eq 55, 3) := dk_153 0 55 (dk_at dksX12_next_2 17 rfl rfl)
theorem dX12_next_68 : decode cX12_next 68 = .ok (.aload_n 0, 1) := dk_42 (dk_at dksX12_next_2 20 rfl rfl)
theorem dX12_next_69 : decode cX12_next 69 = .ok (.aload_n 0, 1) := dk_42 (dk_at dksX12_next_2 21 rfl rfl)
theorem dX12_next_70 : decode cX12_next 70 = .ok (.getfield 26, 3) := dk_180 0 26 (dk_at dksX12_next_3 0 rfl rfl)
theorem dX12_next_73 : decode cX12_next 73 = .ok (.aload_n 0, 1) := dk_42 (dk_at dksX12_next_3 3 rfl rfl)
theorem dX12_next_74 : decode cX12_next 74 = .ok (.getfield 30, 3) := dk_180 0 30 (dk_at dksX12_next_3 4 rfl rfl)
theorem dX12_next_77 : decode cX12_next 77 = .ok (.isub, 1) := dk_100 (dk_at dksX12_next_3 7 rfl rfl)
theorem dX12_next_78 : decode cX12_next 78 = .ok (.iconst 2, 1) := dk_5 (dk_at dksX12_next_3 8 rfl rfl)
theorem dX12_next_79 : decode cX12_next 79 = .ok (.if_icmp .ge 21, 3) := dk_162 0 21 (dk_at dksX12_next_3 9 rfl rfl)
theorem dX12_next_82 : decode cX12_next 82 = .ok (.bipush 10, 2) := dk_16 10 (dk_at dksX12_next_3 12 rfl rfl)
theorem dX12_next_84 : decode cX12_next 84 = .ok (.aload_n 0, 1) := dk_42 (dk_at dksX12_next_3 14 rfl rfl)
theorem dX12_next_85 : decode cX12_next 85 = .ok (.getfield 37, 3) := dk_180 0 37 (dk_at dksX12_next_3 15 rfl rfl)
theorem dX12_next_88 : decode cX12_next 88 = .ok (.imul, 1) := dk_104 (dk_at dksX12_next_3 18 rfl rfl)
theorem dX12_next_89 : decode cX12_next 89 = .ok (.aload_n 0, 1) := dk_42 (dk_at dksX12_next_3 19 rfl rfl)
theorem dX12_next_90 : decode cX12_next 90 = .ok (.invokevirtual 33, 3) := dk_182 0 33 (dk_at dksX12_next_3 20 rfl rfl)
theorem dX12_next_93 : decode cX12_next 93 = .ok (.iadd, 1) := dk_96 (dk_at dksX12_next_3 23 rfl rfl)
theorem dX12_next_94 : decode cX12_next 94 = .ok (.bipush 48, 2) := dk_16 48 (dk_at dksX12_next_4 0 rfl rfl)
theorem dX12_next_96 : decode cX12_next 96 = .ok (.isub, 1) := dk_100 (dk_at dksX12_next_4 2 rfl rfl)
theorem dX12_next_97 : decode cX12_next 97 = .ok (.goto 7, 3) := dk_167 0 7 (dk_at dksX12_next_4 3 rfl rfl)
theorem dX12_next_100 : decode cX12_next 100 = .ok (.aload_n 0, 1) := dk_42 (dk_at dksX12_next_4 6 rfl rfl)
theorem dX12_next_101 : decode cX12_next 101 = .ok (.getfield 37, 3) := dk_180 0 37 (dk_at dksX12_next_4 7 rfl rfl)
theorem dX12_next_104 : decode cX12_next 104 = .ok (.putfield 37, 3) := dk_181 0 37 (dk_at dksX12_next_4 10 rfl rfl)
theorem dX12_next_107 : decode cX12_next 107 = .ok (.aload_n 0, 1) := dk_42 (dk_at dksX12_next_4 13 rfl rfl)
theorem dX12_next_108 : decode cX12_next 108 = .ok (.dup, 1) := dk_89 (dk_at dksX12_next_4 14 rfl rfl)
theorem dX12_next_109 : decode cX12_next 109 = .ok (.getfield 26, 3) := dk_180 0 26 (dk_at dksX12_next_4 15 rfl rfl)
theorem dX12_next_112 : decode cX12_next 112 = .ok (.iconst 1, 1) := dk_4 (dk_at dksX12_next_4 18 rfl rfl)
theorem dX12_next_113 : decode cX12_next 113 = .ok (.iadd, 1) := dk_96 (dk_at dksX12_next_4 19 rfl rfl)
theorem dX12_next_114 : decode cX12_next 114 = .ok (.putfield 26, 3) := dk_181 0 26 (dk_at dksX12_next_4 20 rfl rfl)
theorem dX12_next_117 : decode cX12_next 117 = .ok (.goto (-66), 3) := dk_167 255 190 (dk_at dksX12_next_5 0 rfl rfl)
theorem dX12_next_120 : decode cX12_next 120 = .ok (.aload_n 0, 1) := dk_42 (dk_at dksX12_next_5 3 rfl rfl)
theorem dX12_next_121 : decode cX12_next 121 = .ok (.aload_n 0, 1) := dk_42 (dk_at dksX12_next_5 4 rfl rfl)
theorem dX12_next_122 : decode cX12_next 122 = .ok (.getfield 26, 3) := dk_180 0 26 (dk_at dksX12_next_5 5 rfl rfl)
theorem dX12_next_125 : decode cX12_next 125 = .ok (.aload_n 0, 1) := dk_42 (dk_at dksX12_next_5 8 rfl rfl)
theorem dX12_next_126 : decode cX12_next 126 = .ok (.getfield 30, 3) := dk_180 0 30 (dk_at dksX12_next_5 9 rfl rfl)
theorem dX12_next_129 : decode cX12_next 129 = .ok (.isub, 1) := dk_100 (dk_at dksX12_next_5 12 rfl rfl)
theorem dX12_next_130 : decode cX12_next 130 = .ok (.iconst 2, 1) := dk_5 (dk_at dksX12_next_5 13 rfl rfl)
theorem dX12_next_131 : decode cX12_next 131 = .ok (.if_icmp .gt 7, 3) := dk_163 0 7 (dk_at dksX12_next_5 14 rfl rfl)
theorem dX12_next_134 : decode cX12_next 134 = .ok (.iconst 2, 1) := dk_5 (dk_at dksX12_next_5 17 rfl rfl)
theorem dX12_next_135 : decode cX12_next 135 = .ok (.goto 4, 3) := dk_167 0 4 (dk_at dksX12_next_5 18 rfl rfl)
theorem dX12_next_138 : decode cX12_next 138 = .ok (.iconst 5, 1) := dk_8 (dk_at dksX12_next_5 21 rfl rfl)
theorem dX12_next_139 : decode cX12_next 139 = .ok (.putfield 40, 3) := dk_181 0 40 (dk_at dksX12_next_6 0 rfl rfl)
theorem dX12_next_142 : decode cX12_next 142 = .ok (.goto 56, 3) := dk_167 0 56 (dk_at dksX12_next_6 3 rfl rfl)
theorem dX12_next_145 : decode cX12_next 145 = .ok (.aload_n 0, 1) := dk_42 (dk_at dksX12_next_6 6 rfl rfl)
theorem dX12_next_146 : decode cX12_next 146 = .ok (.dup, 1) := dk_89 (dk_at dksX12_next_6 7 rfl rfl)
theorem dX12_next_147 : decode cX12_next 147 = .ok (.getfield 26, 3) := dk_180 0 26 (dk_at dksX12_next_6 8 rfl rfl)
theorem dX12_next_150 : decode cX12_next 150 = .ok (.iconst 1, 1) := dk_4 (dk_at dksX12_next_6 11 rfl rfl)
theorem dX12_next_151 : decode cX12_next 151 = .ok (.iadd, 1) := dk_96 (dk_at dksX12_next_6 12 rfl rfl)
theorem dX12_next_152 : decode cX12_next 152 = .ok (.putfield 26, 3) := dk_181 0 26 (dk_at dksX12_next_6 13 rfl rfl)
theorem dX12_next_155 : decode cX12_next 155 = .ok (.aload_n 0, 1) := dk_42 (dk_at dksX12_next_6 16 rfl rfl)
theorem dX12_next_156 : decode cX12_next 156 = .ok (.iload_n 1, 1) := dk_27 (dk_at dksX12_next_6 17 rfl rfl)
theorem dX12_next_157 : decode cX12_next 157 = .ok (.i2l, 1) := dk_133 (dk_at dksX12_next_6 18 rfl rfl)
theorem dX12_next_158 : decode cX12_next 158 = .ok (.ldc2_w 51, 3) := dk_20 0 51 (dk_at dksX12_next_6 19 rfl rfl)
theorem dX12_next_161 : decode cX12_next 161 = .ok (.ldc2_w 53, 3) := dk_20 0 53 (dk_at dksX12_next_7 0 rfl rfl)
theorem dX12_next_164 : decode cX12_next 164 = .ok (.invokestatic 47, 3) := dk_184 0 47 (dk_at dksX12_next_7 3 rfl rfl)
theorem dX12_next_167 : decode cX12_next 167 = .ok (.ifCond .eq 7, 3) := dk_153 0 7 (dk_at dksX12_next_7 6 rfl rfl)
theorem dX12_next_170 : decode cX12_next 170 = .ok (.iconst 1, 1) := dk_4 (dk_at dksX12_next_7 9 rfl rfl)
theorem dX12_next_171 : decode cX12_next 171 = .ok (.goto 24, 3) := dk_167 0 24 (dk_at dksX12_next_7 10 rfl rfl)
theorem dX12_next_174 : decode cX12_next 174 = .ok (.iload_n 1, 1) := dk_27 (dk_at dksX12_next_7 13 rfl rfl)
theorem dX12_next_175 : decode cX12_next 175 = .ok (.bipush 44, 2) := dk_16 44 (dk_at dksX12_next_7 14 rfl rfl)
theorem dX12_next_177 : decode cX12_next 177 = .ok (.if_icmp .ne 7, 3) := dk_160 0 7 (dk_at dksX12_next_7 16 rfl rfl)
theorem dX12_next_180 : decode cX12_next 180 = .ok (.iconst 3, 1) := dk_6 (dk_at dksX12_next_7 19 rfl rfl)
theorem dX12_next_181 : decode cX12_next 181 = .ok (.goto 14, 3) := dk_167 0 14 (dk_at dksX12_next_7 20 rfl rfl)
theorem dX12_next_184 : decode cX12_next 184 = .ok (.iload_n 1, 1) := dk_27 (dk_at dksX12_next_7 23 rfl rfl)
theorem dX12_next_185 : decode cX12_next 185 = .ok (.bipush 59, 2) := dk_16 59 (dk_at dksX12_next_8 0 rfl rfl)
theorem dX12_next_187 : decode cX12_next 187 = .ok (.if_icmp .ne 7, 3) := dk_160 0 7 (dk_at dksX12_next_8 2 rfl rfl)
theorem dX12_next_190 : decode cX12_next 190 = .ok (.iconst 4, 1) := dk_7 (dk_at dksX12_next_8 5 rfl rfl)
theorem dX12_next_191 : decode cX12_next 191 = .ok (.goto 4, 3) := dk_167 0 4 (dk_at dksX12_next_8 6 rfl rfl)
theorem dX12_next_194 : decode cX12_next 194 = .ok (.iconst 5, 1) := dk_8 (dk_at dksX12_next_8 9 rfl rfl)
theorem dX12_next_195 : decode cX12_next 195 = .ok (.putfield 40, 3) := dk_181 0 40 (dk_at dksX12_next_8 10 rfl rfl)
theorem dX12_next_198 : decode cX12_next 198 = .ok (.return_, 1) := dk_177 (dk_at dksX12_next_8 13 rfl rfl)
abbrev cX12_look : ByteArray := prog_10_method_2_code
def yX12_look : MethodName := ⟨RX12, "look", "()I"⟩
def dkwX12_look_1 : List UInt8 := [167, 0, 5, 18, 29, 172]
abbrev dktX12_look_1 : List UInt8 := dkwX12_look_1 ++ []
def dkwX12_look_0 : List UInt8 := [42, 180, 0, 26, 42, 180, 0, 22, 162, 0, 19, 42, 180, 0, 18, 42, 180, 0, 26, 51, 17, 0, 255, 126]
abbrev dktX12_look_0 : List UInt8 := dkwX12_look_0 ++ dktX12_look_1
theorem dksX12_look_0 : cX12_look.data.toList.drop 0 = dktX12_look_0 := by decide +kernel
theorem dksX12_look_1 : cX12_look.data.toList.drop 24 = dktX12_look_1 := dk_seg dksX12_look_0 24 rfl rfl
theorem dX12_look_0 : decode cX12_look 0 = .ok (.aload_n 0, 1) := dk_42 (dk_at dksX12_look_0 0 rfl rfl)
theorem dX12_look_1 : decode cX12_look 1 = .ok (.getfield 26, 3) := dk_180 0 26 (dk_at dksX12_look_0 1 rfl rfl)
theorem dX12_look_4 : decode cX12_look 4 = .ok (.aload_n 0, 1) := dk_42 (dk_at dksX12_look_0 4 rfl rfl)
theorem dX12_look_5 : decode cX12_look 5 = .ok (.getfield 22, 3) := dk_180 0 22 (dk_at dksX12_look_0 5 rfl rfl)
theorem dX12_look_8 : decode cX12_look 8 = .ok (.if_icmp .ge 19, 3) := dk_162 0 19 (dk_at dksX12_look_0 8 rfl rfl)
theorem dX12_look_11 : decode cX12_look 11 = .ok (.aload_n 0, 1) := dk_42 (dk_at dksX12_look_0 11 rfl rfl)
theorem dX12_look_12 : decode cX12_look 12 = .ok (.getfield 18, 3) := dk_180 0 18 (dk_at dksX12_look_0 12 rfl rfl)
theorem dX12_look_15 : decode cX12_look 15 = .ok (.aload_n 0, 1) := dk_42 (dk_at dksX12_look_0 15 rfl rfl)
theorem dX12_look_16 : decode cX12_look 16 = .ok (.getfield 26, 3) := dk_180 0 26 (dk_at dksX12_look_0 16 rfl rfl)
theorem dX12_look_19 : decode cX12_look 19 = .ok (.baload, 1) := dk_51 (dk_at dksX12_look_0 19 rfl rfl)
theorem dX12_look_20 : decode cX12_look 20 = .ok (.sipush 255, 3) := dk_17 0 255 (dk_at dksX12_look_0 20 rfl rfl)
theorem dX12_look_23 : decode cX12_look 23 = .ok (.iand, 1) := dk_126 (dk_at dksX12_look_0 23 rfl rfl)
theorem dX12_look_24 : decode cX12_look 24 = .ok (.goto 5, 3) := dk_167 0 5 (dk_at dksX12_look_1 0 rfl rfl)
theorem dX12_look_27 : decode cX12_look 27 = .ok (.ldc 29, 2) := dk_18 29 (dk_at dksX12_look_1 3 rfl rfl)
theorem dX12_look_29 : decode cX12_look 29 = .ok (.ireturn, 1) := dk_172 (dk_at dksX12_look_1 5 rfl rfl)
abbrev cX12_isLetter : ByteArray := prog_10_method_5_code
def yX12_isLetter : MethodName := ⟨RX12, "isLetter", "(I)Z"⟩
def dkwX12_isLetter_0 : List UInt8 := [42, 180, 0, 40, 4, 160, 0, 15, 42, 180, 0, 37, 27, 160, 0, 7, 4, 167, 0, 4, 3, 172]
abbrev dktX12_isLetter_0 : List UInt8 := dkwX12_isLetter_0 ++ []
theorem dksX12_isLetter_0 : cX12_isLetter.data.toList.drop 0 = dktX12_isLetter_0 := by decide +kernel
theorem dX12_isLetter_0 : decode cX12_isLetter 0 = .ok (.aload_n 0, 1) := dk_42 (dk_at dksX12_isLetter_0 0 rfl rfl)
theorem dX12_isLetter_1 : decode cX12_isLetter 1 = .ok (.getfield 40, 3) := dk_180 0 40 (dk_at dksX12_isLetter_0 1 rfl rfl)
theorem dX12_isLetter_4 : decode cX12_isLetter 4 = .ok (.iconst 1, 1) := dk_4 (dk_at dksX12_isLetter_0 4 rfl rfl)
theorem dX12_isLetter_5 : decode cX12_isLetter 5 = .ok (.if_icmp .ne 15, 3) := dk_160 0 15 (dk_at dksX12_isLetter_0 5 rfl rfl)
theorem dX12_isLetter_8 : decode cX12_isLetter 8 = .ok (.aload_n 0, 1) := dk_42 (dk_at dksX12_isLetter_0 8 rfl rfl)
theorem dX12_isLetter_9 : decode cX12_isLetter 9 = .ok (.getfield 37, 3) := dk_180 0 37 (dk_at dksX12_isLetter_0 9 rfl rfl)
theorem dX12_isLetter_12 : decode cX12_isLetter 12 = .ok (.iload_n 1, 1) := dk_27 (dk_at dksX12_isLetter_0 12 rfl rfl)
theorem dX12_isLetter_13 : decode cX12_isLetter 13 = .ok (.if_icmp .ne 7, 3) := dk_160 0 7 (dk_at dksX12_isLetter_0 13 rfl rfl)
theorem dX12_isLetter_16 : decode cX12_isLetter 16 = .ok (.iconst 1, 1) := dk_4 (dk_at dksX12_isLetter_0 16 rfl rfl)
theorem dX12_isLetter_17 : decode cX12_isLetter 17 = .ok (.goto 4, 3) := dk_167 0 4 (dk_at dksX12_isLetter_0 17 rfl rfl)
theorem dX12_isLetter_20 : decode cX12_isLetter 20 = .ok (.iconst 0, 1) := dk_3 (dk_at dksX12_isLetter_0 20 rfl rfl)
theorem dX12_isLetter_21 : decode cX12_isLetter 21 = .ok (.ireturn, 1) := dk_172 (dk_at dksX12_isLetter_0 21 rfl rfl)
abbrev cX12_must : ByteArray := prog_10_method_4_code
def yX12_must : MethodName := ⟨RX12, "must", "(ZI)V"⟩
def dkwX12_must_0 : List UInt8 := [27, 154, 0, 16, 187, 0, 55, 89, 28, 42, 180, 0, 30, 183, 0, 57, 191, 177]
abbrev dktX12_must_0 : List UInt8 := dkwX12_must_0 ++ []
theorem dksX12_must_0 : cX12_must.data.toList.drop 0 = dktX12_must_0 := by decide +kernel
theorem dX12_must_0 : decode cX12_must 0 = .ok (.iload_n 1, 1) := dk_27 (dk_at dksX12_must_0 0 rfl rfl)
theorem dX12_must_1 : decode cX12_must 1 = .ok (.ifCond .ne 16, 3) := dk_154 0 16 (dk_at dksX12_must_0 1 rfl rfl)
theorem dX12_must_4 : decode cX12_must 4 = .ok (.new 55, 3) := dk_187 0 55 (dk_at dksX12_must_0 4 rfl rfl)
theorem dX12_must_7 : decode cX12_must 7 = .ok (.dup, 1) := dk_89 (dk_at dksX12_must_0 7 rfl rfl)
theorem dX12_must_8 : decode cX12_must 8 = .ok (.iload_n 2, 1) := dk_28 (dk_at dksX12_must_0 8 rfl rfl)
theorem dX12_must_9 : decode cX12_must 9 = .ok (.aload_n 0, 1) := dk_42 (dk_at dksX12_must_0 9 rfl rfl)
theorem dX12_must_10 : decode cX12_must 10 = .ok (.getfield 30, 3) := dk_180 0 30 (dk_at dksX12_must_0 10 rfl rfl)
theorem dX12_must_13 : decode cX12_must 13 = .ok (.invokespecial 57, 3) := dk_183 0 57 (dk_at dksX12_must_0 13 rfl rfl)
theorem dX12_must_16 : decode cX12_must 16 = .ok (.athrow, 1) := dk_191 (dk_at dksX12_must_0 16 rfl rfl)
theorem dX12_must_17 : decode cX12_must 17 = .ok (.return_, 1) := dk_177 (dk_at dksX12_must_0 17 rfl rfl)
abbrev cX12_figure : ByteArray := prog_10_method_6_code
def yX12_figure : MethodName := ⟨RX12, "figure", "(II)I"⟩
def dkwX12_figure_1 : List UInt8 := [27, 133, 28, 133, 184, 0, 47, 5, 182, 0, 60, 42, 180, 0, 37, 62, 42, 182, 0, 64, 29, 172]
abbrev dktX12_figure_1 : List UInt8 := dkwX12_figure_1 ++ []
def dkwX12_figure_0 : List UInt8 := [42, 42, 180, 0, 40, 5, 160, 0, 7, 4, 167, 0, 4, 3, 4, 182, 0, 60, 42, 42, 180, 0, 37, 133]
abbrev dktX12_figure_0 : List UInt8 := dkwX12_figure_0 ++ dktX12_figure_1
theorem dksX12_figure_0 : cX12_figure.data.toList.drop 0 = dktX12_figure_0 := by decide +kernel
theorem dksX12_figure_1 : cX12_figure.data.toList.drop 24 = dktX12_figure_1 := dk_seg dksX12_figure_0 24 rfl rfl
theorem dX12_figure_0 : decode cX12_figure 0 = .ok (.aload_n 0, 1) := dk_42 (dk_at dksX12_figure_0 0 rfl rfl)
theorem dX12_figure_1 : decode cX12_figure 1 = .ok (.aload_n 0, 1) := dk_42 (dk_at dksX12_figure_0 1 rfl rfl)
theorem dX12_figure_2 : decode cX12_figure 2 = .ok (.getfield 40, 3) := dk_180 0 40 (dk_at dksX12_figure_0 2 rfl rfl)
theorem dX12_figure_5 : decode cX12_figure 5 = .ok (.iconst 2, 1) := dk_5 (dk_at dksX12_figure_0 5 rfl rfl)
theorem dX12_figure_6 : decode cX12_figure 6 = .ok (.if_icmp .ne 7, 3) := dk_160 0 7 (dk_at dksX12_figure_0 6 rfl rfl)
theorem dX12_figure_9 : decode cX12_figure 9 = .ok (.iconst 1, 1) := dk_4 (dk_at dksX12_figure_0 9 rfl rfl)
theorem dX12_figure_10 : decode cX12_figure 10 = .ok (.goto 4, 3) := dk_167 0 4 (dk_at dksX12_figure_0 10 rfl rfl)
theorem dX12_figure_13 : decode cX12_figure 13 = .ok (.iconst 0, 1) := dk_3 (dk_at dksX12_figure_0 13 rfl rfl)
theorem dX12_figure_14 : decode cX12_figure 14 = .ok (.iconst 1, 1) := dk_4 (dk_at dksX12_figure_0 14 rfl rfl)
theorem dX12_figure_15 : decode cX12_figure 15 = .ok (.invokevirtual 60, 3) := dk_182 0 60 (dk_at dksX12_figure_0 15 rfl rfl)
theorem dX12_figure_18 : decode cX12_figure 18 = .ok (.aload_n 0, 1) := dk_42 (dk_at dksX12_figure_0 18 rfl rfl)
theorem dX12_figure_19 : decode cX12_figure 19 = .ok (.aload_n 0, 1) := dk_42 (dk_at dksX12_figure_0 19 rfl rfl)
theorem dX12_figure_20 : decode cX12_figure 20 = .ok (.getfield 37, 3) := dk_180 0 37 (dk_at dksX12_figure_0 20 rfl rfl)
theorem dX12_figure_23 : decode cX12_figure 23 = .ok (.i2l, 1) := dk_133 (dk_at dksX12_figure_0 23 rfl rfl)
theorem dX12_figure_24 : decode cX12_figure 24 = .ok (.iload_n 1, 1) := dk_27 (dk_at dksX12_figure_1 0 rfl rfl)
theorem dX12_figure_25 : decode cX12_figure 25 = .ok (.i2l, 1) := dk_133 (dk_at dksX12_figure_1 1 rfl rfl)
theorem dX12_figure_26 : decode cX12_figure 26 = .ok (.iload_n 2, 1) := dk_28 (dk_at dksX12_figure_1 2 rfl rfl)
theorem dX12_figure_27 : decode cX12_figure 27 = .ok (.i2l, 1) := dk_133 (dk_at dksX12_figure_1 3 rfl rfl)
theorem dX12_figure_28 : decode cX12_figure 28 = .ok (.invokestatic 47, 3) := dk_184 0 47 (dk_at dksX12_figure_1 4 rfl rfl)
theorem dX12_figure_31 : decode cX12_figure 31 = .ok (.iconst 2, 1) := dk_5 (dk_at dksX12_figure_1 7 rfl rfl)
theorem dX12_figure_32 : decode cX12_figure 32 = .ok (.invokevirtual 60, 3) := dk_182 0 60 (dk_at dksX12_figure_1 8 rfl rfl)
theorem dX12_figure_35 : decode cX12_figure 35 = .ok (.aload_n 0, 1) := dk_42 (dk_at dksX12_figure_1 11 rfl rfl)
theorem dX12_figure_36 : decode cX12_figure 36 = .ok (.getfield 37, 3) := dk_180 0 37 (dk_at dksX12_figure_1 12 rfl rfl)
theorem dX12_figure_39 : decode cX12_figure 39 = .ok (.istore_n 3, 1) := dk_62 (dk_at dksX12_figure_1 15 rfl rfl)
theorem dX12_figure_40 : decode cX12_figure 40 = .ok (.aload_n 0, 1) := dk_42 (dk_at dksX12_figure_1 16 rfl rfl)
theorem dX12_figure_41 : decode cX12_figure 41 = .ok (.invokevirtual 64, 3) := dk_182 0 64 (dk_at dksX12_figure_1 17 rfl rfl)
theorem dX12_figure_44 : decode cX12_figure 44 = .ok (.iload_n 3, 1) := dk_29 (dk_at dksX12_figure_1 20 rfl rfl)
theorem dX12_figure_45 : decode cX12_figure 45 = .ok (.ireturn, 1) := dk_172 (dk_at dksX12_figure_1 21 rfl rfl)
abbrev cX12_more : ByteArray := prog_10_method_7_code
def yX12_more : MethodName := ⟨RX12, "more", "(II)I"⟩
def dkwX12_more_0 : List UInt8 := [42, 6, 182, 0, 67, 42, 27, 28, 182, 0, 71, 172]
abbrev dktX12_more_0 : List UInt8 := dkwX12_more_0 ++ []
theorem dksX12_more_0 : cX12_more.data.toList.drop 0 = dktX12_more_0 := by decide +kernel
theorem dX12_more_0 : decode cX12_more 0 = .ok (.aload_n 0, 1) := dk_42 (dk_at dksX12_more_0 0 rfl rfl)
theorem dX12_more_1 : decode cX12_more 1 = .ok (.iconst 3, 1) := dk_6 (dk_at dksX12_more_0 1 rfl rfl)
theorem dX12_more_2 : decode cX12_more 2 = .ok (.invokevirtual 67, 3) := dk_182 0 67 (dk_at dksX12_more_0 2 rfl rfl)
theorem dX12_more_5 : decode cX12_more 5 = .ok (.aload_n 0, 1) := dk_42 (dk_at dksX12_more_0 5 rfl rfl)
theorem dX12_more_6 : decode cX12_more 6 = .ok (.iload_n 1, 1) := dk_27 (dk_at dksX12_more_0 6 rfl rfl)
theorem dX12_more_7 : decode cX12_more 7 = .ok (.iload_n 2, 1) := dk_28 (dk_at dksX12_more_0 7 rfl rfl)
theorem dX12_more_8 : decode cX12_more 8 = .ok (.invokevirtual 71, 3) := dk_182 0 71 (dk_at dksX12_more_0 8 rfl rfl)
theorem dX12_more_11 : decode cX12_more 11 = .ok (.ireturn, 1) := dk_172 (dk_at dksX12_more_0 11 rfl rfl)
abbrev cX12_sign : ByteArray := prog_10_method_8_code
def yX12_sign : MethodName := ⟨RX12, "sign", "(I)V"⟩
def dkwX12_sign_0 : List UInt8 := [42, 42, 180, 0, 40, 27, 160, 0, 7, 4, 167, 0, 4, 3, 4, 182, 0, 60, 42, 182, 0, 64, 177]
abbrev dktX12_sign_0 : List UInt8 := dkwX12_sign_0 ++ []
theorem dksX12_sign_0 : cX12_sign.data.toList.drop 0 = dktX12_sign_0 := by decide +kernel
theorem dX12_sign_0 : decode cX12_sign 0 = .ok (.aload_n 0, 1) := dk_42 (dk_at dksX12_sign_0 0 rfl rfl)
theorem dX12_sign_1 : decode cX12_sign 1 = .ok (.aload_n 0, 1) := dk_42 (dk_at dksX12_sign_0 1 rfl rfl)
theorem dX12_sign_2 : decode cX12_sign 2 = .ok (.getfield 40, 3) := dk_180 0 40 (dk_at dksX12_sign_0 2 rfl rfl)
theorem dX12_sign_5 : decode cX12_sign 5 = .ok (.iload_n 1, 1) := dk_27 (dk_at dksX12_sign_0 5 rfl rfl)
theorem dX12_sign_6 : decode cX12_sign 6 = .ok (.if_icmp .ne 7, 3) := dk_160 0 7 (dk_at dksX12_sign_0 6 rfl rfl)
theorem dX12_sign_9 : decode cX12_sign 9 = .ok (.iconst 1, 1) := dk_4 (dk_at dksX12_sign_0 9 rfl rfl)
theorem dX12_sign_10 : decode cX12_sign 10 = .ok (.goto 4, 3) := dk_167 0 4 (dk_at dksX12_sign_0 10 rfl rfl)
theorem dX12_sign_13 : decode cX12_sign 13 = .ok (.iconst 0, 1) := dk_3 (dk_at dksX12_sign_0 13 rfl rfl)
theorem dX12_sign_14 : decode cX12_sign 14 = .ok (.iconst 1, 1) := dk_4 (dk_at dksX12_sign_0 14 rfl rfl)
theorem dX12_sign_15 : decode cX12_sign 15 = .ok (.invokevirtual 60, 3) := dk_182 0 60 (dk_at dksX12_sign_0 15 rfl rfl)
theorem dX12_sign_18 : decode cX12_sign 18 = .ok (.aload_n 0, 1) := dk_42 (dk_at dksX12_sign_0 18 rfl rfl)
theorem dX12_sign_19 : decode cX12_sign 19 = .ok (.invokevirtual 64, 3) := dk_182 0 64 (dk_at dksX12_sign_0 19 rfl rfl)
theorem dX12_sign_22 : decode cX12_sign 22 = .ok (.return_, 1) := dk_177 (dk_at dksX12_sign_0 22 rfl rfl)
abbrev cX12_sortOf : ByteArray := prog_10_method_11_code
def yX12_sortOf : MethodName := ⟨RX12, "sortOf", "(Ljava/lang/String;)I"⟩
def dkwX12_sortOf_0 : List UInt8 := [43, 42, 180, 0, 40, 42, 180, 0, 37, 184, 0, 84, 172]
abbrev dktX12_sortOf_0 : List UInt8 := dkwX12_sortOf_0 ++ []
theorem dksX12_sortOf_0 : cX12_sortOf.data.toList.drop 0 = dktX12_sortOf_0 := by decide +kernel
theorem dX12_sortOf_0 : decode cX12_sortOf 0 = .ok (.aload_n 1, 1) := dk_43 (dk_at dksX12_sortOf_0 0 rfl rfl)
theorem dX12_sortOf_1 : decode cX12_sortOf 1 = .ok (.aload_n 0, 1) := dk_42 (dk_at dksX12_sortOf_0 1 rfl rfl)
theorem dX12_sortOf_2 : decode cX12_sortOf 2 = .ok (.getfield 40, 3) := dk_180 0 40 (dk_at dksX12_sortOf_0 2 rfl rfl)
theorem dX12_sortOf_5 : decode cX12_sortOf 5 = .ok (.aload_n 0, 1) := dk_42 (dk_at dksX12_sortOf_0 5 rfl rfl)
theorem dX12_sortOf_6 : decode cX12_sortOf 6 = .ok (.getfield 37, 3) := dk_180 0 37 (dk_at dksX12_sortOf_0 6 rfl rfl)
theorem dX12_sortOf_9 : decode cX12_sortOf 9 = .ok (.invokestatic 84, 3) := dk_184 0 84 (dk_at dksX12_sortOf_0 9 rfl rfl)
theorem dX12_sortOf_12 : decode cX12_sortOf 12 = .ok (.ireturn, 1) := dk_172 (dk_at dksX12_sortOf_0 12 rfl rfl)
abbrev cX12_sortIn : ByteArray := prog_10_method_10_code
def yX12_sortIn : MethodName := ⟨RX12, "sortIn", "(Ljava/lang/String;II)I"⟩
def dkwX12_sortIn_1 : List UInt8 := [132, 3, 1, 167, 255, 231, 29, 42, 182, 0, 75, 162, 0, 7, 29, 167, 0, 5, 18, 29, 172]
abbrev dktX12_sortIn_1 : List UInt8 := dkwX12_sortIn_1 ++ []
def dkwX12_sortIn_0 : List UInt8 := [3, 62, 29, 42, 182, 0, 75, 162, 0, 23, 27, 4, 160, 0, 12, 42, 29, 182, 0, 80, 28, 159, 0, 9]
abbrev dktX12_sortIn_0 : List UInt8 := dkwX12_sortIn_0 ++ dktX12_sortIn_1
theorem dksX12_sortIn_0 : cX12_sortIn.data.toList.drop 0 = dktX12_sortIn_0 := by decide +kernel
theorem dksX12_sortIn_1 : cX12_sortIn.data.toList.drop 24 = dktX12_sortIn_1 := dk_seg dksX12_sortIn_0 24 rfl rfl
theorem dX12_sortIn_0 : decode cX12_sortIn 0 = .ok (.iconst 0, 1) := dk_3 (dk_at dksX12_sortIn_0 0 rfl rfl)
theorem dX12_sortIn_1 : decode cX12_sortIn 1 = .ok (.istore_n 3, 1) := dk_62 (dk_at dksX12_sortIn_0 1 rfl rfl)
theorem dX12_sortIn_2 : decode cX12_sortIn 2 = .ok (.iload_n 3, 1) := dk_29 (dk_at dksX12_sortIn_0 2 rfl rfl)
theorem dX12_sortIn_3 : decode cX12_sortIn 3 = .ok (.aload_n 0, 1) := dk_42 (dk_at dksX12_sortIn_0 3 rfl rfl)
theorem dX12_sortIn_4 : decode cX12_sortIn 4 = .ok (.invokevirtual 75, 3) := dk_182 0 75 (dk_at dksX12_sortIn_0 4 rfl rfl)
theorem dX12_sortIn_7 : decode cX12_sortIn 7 = .ok (.if_icmp .ge 23, 3) := dk_162 0 23 (dk_at dksX12_sortIn_0 7 rfl rfl)
theorem dX12_sortIn_10 : decode cX12_sortIn 10 = .ok (.iload_n 1, 1) := dk_27 (dk_at dksX12_sortIn_0 10 rfl rfl)
theorem dX12_sortIn_11 : decode cX12_sortIn 11 = .ok (.iconst 1, 1) := dk_4 (dk_at dksX12_sortIn_0 11 rfl rfl)
theorem dX12_sortIn_12 : decode cX12_sortIn 12 = .ok (.if_icmp .ne 12, 3) := dk_160 0 12 (dk_at dksX12_sortIn_0 12 rfl rfl)
theorem dX12_sortIn_15 : decode cX12_sortIn 15 = .ok (.aload_n 0, 1) := dk_42 (dk_at dksX12_sortIn_0 15 rfl rfl)
theorem dX12_sortIn_16 : decode cX12_sortIn 16 = .ok (.iload_n 3, 1) := dk_29 (dk_at dksX12_sortIn_0 16 rfl rfl)
theorem dX12_sortIn_17 : decode cX12_sortIn 17 = .ok (.invokevirtual 80, 3) := dk_182 0 80 (dk_at dksX12_sortIn_0 17 rfl rfl)
theorem dX12_sortIn_20 : decode cX12_sortIn 20 = .ok (.iload_n 2, 1) := dk_28 (dk_at dksX12_sortIn_0 20 rfl rfl)
theorem dX12_sortIn_21 : decode cX12_sortIn 21 = .ok (.if_icmp .eq 9, 3) := dk_159 0 9 (dk_at dksX12_sortIn_0 21 rfl rfl)
theorem dX12_sortIn_24 : decode cX12_sortIn 24 = .ok (.iinc 3 1, 3) := dk_132 3 1 (dk_at dksX12_sortIn_1 0 rfl rfl)
theorem dX12_sortIn_27 : decode cX12_sortIn 27 = .ok (.goto (-25), 3) := dk_167 255 231 (dk_at dksX12_sortIn_1 3 rfl rfl)
theorem dX12_sortIn_30 : decode cX12_sortIn 30 = .ok (.iload_n 3, 1) := dk_29 (dk_at dksX12_sortIn_1 6 rfl rfl)
theorem dX12_sortIn_31 : decode cX12_sortIn 31 = .ok (.aload_n 0, 1) := dk_42 (dk_at dksX12_sortIn_1 7 rfl rfl)
theorem dX12_sortIn_32 : decode cX12_sortIn 32 = .ok (.invokevirtual 75, 3) := dk_182 0 75 (dk_at dksX12_sortIn_1 8 rfl rfl)
theorem dX12_sortIn_35 : decode cX12_sortIn 35 = .ok (.if_icmp .ge 7, 3) := dk_162 0 7 (dk_at dksX12_sortIn_1 11 rfl rfl)
theorem dX12_sortIn_38 : decode cX12_sortIn 38 = .ok (.iload_n 3, 1) := dk_29 (dk_at dksX12_sortIn_1 14 rfl rfl)
theorem dX12_sortIn_39 : decode cX12_sortIn 39 = .ok (.goto 5, 3) := dk_167 0 5 (dk_at dksX12_sortIn_1 15 rfl rfl)
theorem dX12_sortIn_42 : decode cX12_sortIn 42 = .ok (.ldc 29, 2) := dk_18 29 (dk_at dksX12_sortIn_1 18 rfl rfl)
theorem dX12_sortIn_44 : decode cX12_sortIn 44 = .ok (.ireturn, 1) := dk_172 (dk_at dksX12_sortIn_1 20 rfl rfl)
abbrev cX12_dish : ByteArray := prog_10_method_13_code
def yX12_dish : MethodName := ⟨RX12, "dish", "()V"⟩
def dkwX12_dish_5 : List UInt8 := [87, 42, 7, 182, 0, 67, 177]
abbrev dktX12_dish_5 : List UInt8 := dkwX12_dish_5 ++ []
def dkwX12_dish_4 : List UInt8 := [3, 16, 60, 182, 0, 92, 79, 42, 180, 0, 12, 180, 0, 131, 27, 28, 184, 0, 135, 185, 0, 139, 2, 0]
abbrev dktX12_dish_4 : List UInt8 := dkwX12_dish_4 ++ dktX12_dish_5
def dkwX12_dish_3 : List UInt8 := [180, 0, 12, 180, 0, 125, 28, 42, 4, 16, 9, 182, 0, 92, 79, 42, 180, 0, 12, 180, 0, 128, 28, 42]
abbrev dktX12_dish_3 : List UInt8 := dkwX12_dish_3 ++ dktX12_dish_4
def dkwX12_dish_2 : List UInt8 := [180, 0, 12, 180, 0, 122, 28, 42, 3, 42, 180, 0, 12, 180, 0, 101, 4, 100, 182, 0, 92, 79, 42]
abbrev dktX12_dish_2 : List UInt8 := dkwX12_dish_2 ++ dktX12_dish_3
def dkwX12_dish_1 : List UInt8 := [180, 0, 12, 180, 0, 119, 28, 42, 3, 42, 180, 0, 12, 180, 0, 101, 4, 100, 182, 0, 71, 79, 42]
abbrev dktX12_dish_1 : List UInt8 := dkwX12_dish_1 ++ dktX12_dish_2
def dkwX12_dish_0 : List UInt8 := [42, 18, 104, 182, 0, 106, 60, 42, 180, 0, 12, 182, 0, 113, 61, 42, 28, 16, 6, 182, 0, 116, 42]
abbrev dktX12_dish_0 : List UInt8 := dkwX12_dish_0 ++ dktX12_dish_1
theorem dksX12_dish_0 : cX12_dish.data.toList.drop 0 = dktX12_dish_0 := by decide +kernel
theorem dksX12_dish_1 : cX12_dish.data.toList.drop 23 = dktX12_dish_1 := dk_seg dksX12_dish_0 23 rfl rfl
theorem dksX12_dish_2 : cX12_dish.data.toList.drop 46 = dktX12_dish_2 := dk_seg dksX12_dish_1 23 rfl rfl
theorem dksX12_dish_3 : cX12_dish.data.toList.drop 69 = dktX12_dish_3 := dk_seg dksX12_dish_2 23 rfl rfl
theorem dksX12_dish_4 : cX12_dish.data.toList.drop 93 = dktX12_dish_4 := dk_seg dksX12_dish_3 24 rfl rfl
theorem dksX12_dish_5 : cX12_dish.data.toList.drop 117 = dktX12_dish_5 := dk_seg dksX12_dish_4 24 rfl rfl
theorem dX12_dish_0 : decode cX12_dish 0 = .ok (.aload_n 0, 1) := dk_42 (dk_at dksX12_dish_0 0 rfl rfl)
theorem dX12_dish_1 : decode cX12_dish 1 = .ok (.ldc 104, 2) := dk_18 104 (dk_at dksX12_dish_0 1 rfl rfl)
theorem dX12_dish_3 : decode cX12_dish 3 = .ok (.invokevirtual 106, 3) := dk_182 0 106 (dk_at dksX12_dish_0 3 rfl rfl)
theorem dX12_dish_6 : decode cX12_dish 6 = .ok (.istore_n 1, 1) := dk_60 (dk_at dksX12_dish_0 6 rfl rfl)
theorem dX12_dish_7 : decode cX12_dish 7 = .ok (.aload_n 0, 1) := dk_42 (dk_at dksX12_dish_0 7 rfl rfl)
theorem dX12_dish_8 : decode cX12_dish 8 = .ok (.getfield 12, 3) := dk_180 0 12 (dk_at dksX12_dish_0 8 rfl rfl)
theorem dX12_dish_11 : decode cX12_dish 11 = .ok (.invokevirtual 113, 3) := dk_182 0 113 (dk_at dksX12_dish_0 11 rfl rfl)
theorem dX12_dish_14 : decode cX12_dish 14 = .ok (.istore_n 2, 1) := dk_61 (dk_at dksX12_dish_0 14 rfl rfl)
theorem dX12_dish_15 : decode cX12_dish 15 = .ok (.aload_n 0, 1) := dk_42 (dk_at dksX12_dish_0 15 rfl rfl)
theorem dX12_dish_16 : decode cX12_dish 16 = .ok (.iload_n 2, 1) := dk_28 (dk_at dksX12_dish_0 16 rfl rfl)
theorem dX12_dish_17 : decode cX12_dish 17 = .ok (.bipush 6, 2) := dk_16 6 (dk_at dksX12_dish_0 17 rfl rfl)
theorem dX12_dish_19 : decode cX12_dish 19 = .ok (.invokevirtual 116, 3) := dk_182 0 116 (dk_at dksX12_dish_0 19 rfl rfl)
theorem dX12_dish_22 : decode cX12_dish 22 = .ok (.aload_n 0, 1) := dk_42 (dk_at dksX12_dish_0 22 rfl rfl)
theorem dX12_dish_23 : decode cX12_dish 23 = .ok (.getfield 12, 3) := dk_180 0 12 (dk_at dksX12_dish_1 0 rfl rfl)
theorem dX12_dish_26 : decode cX12_dish 26 = .ok (.getfield 119, 3) := dk_180 0 119 (dk_at dksX12_dish_1 3 rfl rfl)
theorem dX12_dish_29 : decode cX12_dish 29 = .ok (.iload_n 2, 1) := dk_28 (dk_at dksX12_dish_1 6 rfl rfl)
theorem dX12_dish_30 : decode cX12_dish 30 = .ok (.aload_n 0, 1) := dk_42 (dk_at dksX12_dish_1 7 rfl rfl)
theorem dX12_dish_31 : decode cX12_dish 31 = .ok (.iconst 0, 1) := dk_3 (dk_at dksX12_dish_1 8 rfl rfl)
theorem dX12_dish_32 : decode cX12_dish 32 = .ok (.aload_n 0, 1) := dk_42 (dk_at dksX12_dish_1 9 rfl rfl)
theorem dX12_dish_33 : decode cX12_dish 33 = .ok (.getfield 12, 3) := dk_180 0 12 (dk_at dksX12_dish_1 10 rfl rfl)
theorem dX12_dish_36 : decode cX12_dish 36 = .ok (.getfield 101, 3) := dk_180 0 101 (dk_at dksX12_dish_1 13 rfl rfl)
theorem dX12_dish_39 : decode cX12_dish 39 = .ok (.iconst 1, 1) := dk_4 (dk_at dksX12_dish_1 16 rfl rfl)
theorem dX12_dish_40 : decode cX12_dish 40 = .ok (.isub, 1) := dk_100 (dk_at dksX12_dish_1 17 rfl rfl)
theorem dX12_dish_41 : decode cX12_dish 41 = .ok (.invokevirtual 71, 3) := dk_182 0 71 (dk_at dksX12_dish_1 18 rfl rfl)
theorem dX12_dish_44 : decode cX12_dish 44 = .ok (.iastore, 1) := dk_79 (dk_at dksX12_dish_1 21 rfl rfl)
theorem dX12_dish_45 : decode cX12_dish 45 = .ok (.aload_n 0, 1) := dk_42 (dk_at dksX12_dish_1 22 rfl rfl)
theorem dX12_dish_46 : decode cX12_dish 46 = .ok (.getfield 12, 3) := dk_180 0 12 (dk_at dksX12_dish_2 0 rfl rfl)
theorem dX12_dish_49 : decode cX12_dish 49 = .ok (.getfield 122, 3) := dk_180 0 122 (dk_at dksX12_dish_2 3 rfl rfl)
theorem dX12_dish_52 : decode cX12_dish 52 = .ok (.iload_n 2, 1) := dk_28 (dk_at dksX12_dish_2 6 rfl rfl)
theorem dX12_dish_53 : decode cX12_dish 53 = .ok (.aload_n 0, 1) := dk_42 (dk_at dksX12_dish_2 7 rfl rfl)
theorem dX12_dish_54 : decode cX12_dish 54 = .ok (.iconst 0, 1) := dk_3 (dk_at dksX12_dish_2 8 rfl rfl)
theorem dX12_dish_55 : decode cX12_dish 55 = .ok (.aload_n 0, 1) := dk_42 (dk_at dksX12_dish_2 9 rfl rfl)
theorem dX12_dish_56 : decode cX12_dish 56 = .ok (.getfield 12, 3) := dk_180 0 12 (dk_at dksX12_dish_2 10 rfl rfl)
theorem dX12_dish_59 : decode cX12_dish 59 = .ok (.getfield 101, 3) := dk_180 0 101 (dk_at dksX12_dish_2 13 rfl rfl)
theorem dX12_dish_62 : decode cX12_dish 62 = .ok (.iconst 1, 1) := dk_4 (dk_at dksX12_dish_2 16 rfl rfl)
theorem dX12_dish_63 : decode cX12_dish 63 = .ok (.isub, 1) := dk_100 (dk_at dksX12_dish_2 17 rfl rfl)
theorem dX12_dish_64 : decode cX12_dish 64 = .ok (.invokevirtual 92, 3) := dk_182 0 92 (dk_at dksX12_dish_2 18 rfl rfl)
theorem dX12_dish_67 : decode cX12_dish 67 = .ok (.iastore, 1) := dk_79 (dk_at dksX12_dish_2 21 rfl rfl)
theorem dX12_dish_68 : decode cX12_dish 68 = .ok (.aload_n 0, 1) := dk_42 (dk_at dksX12_dish_2 22 rfl rfl)
theorem dX12_dish_69 : decode cX12_dish 69 = .ok (.getfield 12, 3) := dk_180 0 12 (dk_at dksX12_dish_3 0 rfl rfl)
theorem dX12_dish_72 : decode cX12_dish 72 = .ok (.getfield 125, 3) := dk_180 0 125 (dk_at dksX12_dish_3 3 rfl rfl)
theorem dX12_dish_75 : decode cX12_dish 75 = .ok (.iload_n 2, 1) := dk_28 (dk_at dksX12_dish_3 6 rfl rfl)
theorem dX12_dish_76 : decode cX12_dish 76 = .ok (.aload_n 0, 1) := dk_42 (dk_at dksX12_dish_3 7 rfl rfl)
theorem dX12_dish_77 : decode cX12_dish 77 = .ok (.iconst 1, 1) := dk_4 (dk_at dksX12_dish_3 8 rfl rfl)
theorem dX12_dish_78 : decode cX12_dish 78 = .ok (.bipush 9, 2) := dk_16 9 (dk_at dksX12_dish_3 9 rfl rfl)
theorem dX12_dish_80 : decode cX12_dish 80 = .ok (.invokevirtual 92, 3) := dk_182 0 92 (dk_at dksX12_dish_3 11 rfl rfl)
theorem dX12_dish_83 : decode cX12_dish 83 = .ok (.iastore, 1) := dk_79 (dk_at dksX12_dish_3 14 rfl rfl)
theorem dX12_dish_84 : decode cX12_dish 84 = .ok (.aload_n 0, 1) := dk_42 (dk_at dksX12_dish_3 15 rfl rfl)
theorem dX12_dish_85 : decode cX12_dish 85 = .ok (.getfield 12, 3) := dk_180 0 12 (dk_at dksX12_dish_3 16 rfl rfl)
theorem dX12_dish_88 : decode cX12_dish 88 = .ok (.getfield 128, 3) := dk_180 0 128 (dk_at dksX12_dish_3 19 rfl rfl)
theorem dX12_dish_91 : decode cX12_dish 91 = .ok (.iload_n 2, 1) := dk_28 (dk_at dksX12_dish_3 22 rfl rfl)
theorem dX12_dish_92 : decode cX12_dish 92 = .ok (.aload_n 0, 1) := dk_42 (dk_at dksX12_dish_3 23 rfl rfl)
theorem dX12_dish_93 : decode cX12_dish 93 = .ok (.iconst 0, 1) := dk_3 (dk_at dksX12_dish_4 0 rfl rfl)
theorem dX12_dish_94 : decode cX12_dish 94 = .ok (.bipush 60, 2) := dk_16 60 (dk_at dksX12_dish_4 1 rfl rfl)
theorem dX12_dish_96 : decode cX12_dish 96 = .ok (.invokevirtual 92, 3) := dk_182 0 92 (dk_at dksX12_dish_4 3 rfl rfl)
theorem dX12_dish_99 : decode cX12_dish 99 = .ok (.iastore, 1) := dk_79 (dk_at dksX12_dish_4 6 rfl rfl)
theorem dX12_dish_100 : decode cX12_dish 100 = .ok (.aload_n 0, 1) := dk_42 (dk_at dksX12_dish_4 7 rfl rfl)
theorem dX12_dish_101 : decode cX12_dish 101 = .ok (.getfield 12, 3) := dk_180 0 12 (dk_at dksX12_dish_4 8 rfl rfl)
theorem dX12_dish_104 : decode cX12_dish 104 = .ok (.getfield 131, 3) := dk_180 0 131 (dk_at dksX12_dish_4 11 rfl rfl)
theorem dX12_dish_107 : decode cX12_dish 107 = .ok (.iload_n 1, 1) := dk_27 (dk_at dksX12_dish_4 14 rfl rfl)
theorem dX12_dish_108 : decode cX12_dish 108 = .ok (.iload_n 2, 1) := dk_28 (dk_at dksX12_dish_4 15 rfl rfl)
theorem dX12_dish_109 : decode cX12_dish 109 = .ok (.invokestatic 135, 3) := dk_184 0 135 (dk_at dksX12_dish_4 16 rfl rfl)
theorem dX12_dish_112 : decode cX12_dish 112 = .ok (.invokeinterface 139 2, 5) := by decide +kernel
theorem dX12_dish_117 : decode cX12_dish 117 = .ok (.pop, 1) := dk_87 (dk_at dksX12_dish_5 0 rfl rfl)
theorem dX12_dish_118 : decode cX12_dish 118 = .ok (.aload_n 0, 1) := dk_42 (dk_at dksX12_dish_5 1 rfl rfl)
theorem dX12_dish_119 : decode cX12_dish 119 = .ok (.iconst 4, 1) := dk_7 (dk_at dksX12_dish_5 2 rfl rfl)
theorem dX12_dish_120 : decode cX12_dish 120 = .ok (.invokevirtual 67, 3) := dk_182 0 67 (dk_at dksX12_dish_5 3 rfl rfl)
theorem dX12_dish_123 : decode cX12_dish 123 = .ok (.return_, 1) := dk_177 (dk_at dksX12_dish_5 6 rfl rfl)
abbrev cX12_begin : ByteArray := prog_10_method_9_code
def yX12_begin : MethodName := ⟨RX12, "begin", "(II)V"⟩
def dkwX12_begin_0 : List UInt8 := [42, 27, 28, 162, 0, 7, 4, 167, 0, 4, 3, 6, 182, 0, 60, 42, 182, 0, 64, 177]
abbrev dktX12_begin_0 : List UInt8 := dkwX12_begin_0 ++ []
theorem dksX12_begin_0 : cX12_begin.data.toList.drop 0 = dktX12_begin_0 := by decide +kernel
theorem dX12_begin_0 : decode cX12_begin 0 = .ok (.aload_n 0, 1) := dk_42 (dk_at dksX12_begin_0 0 rfl rfl)
theorem dX12_begin_1 : decode cX12_begin 1 = .ok (.iload_n 1, 1) := dk_27 (dk_at dksX12_begin_0 1 rfl rfl)
theorem dX12_begin_2 : decode cX12_begin 2 = .ok (.iload_n 2, 1) := dk_28 (dk_at dksX12_begin_0 2 rfl rfl)
theorem dX12_begin_3 : decode cX12_begin 3 = .ok (.if_icmp .ge 7, 3) := dk_162 0 7 (dk_at dksX12_begin_0 3 rfl rfl)
theorem dX12_begin_6 : decode cX12_begin 6 = .ok (.iconst 1, 1) := dk_4 (dk_at dksX12_begin_0 6 rfl rfl)
theorem dX12_begin_7 : decode cX12_begin 7 = .ok (.goto 4, 3) := dk_167 0 4 (dk_at dksX12_begin_0 7 rfl rfl)
theorem dX12_begin_10 : decode cX12_begin 10 = .ok (.iconst 0, 1) := dk_3 (dk_at dksX12_begin_0 10 rfl rfl)
theorem dX12_begin_11 : decode cX12_begin 11 = .ok (.iconst 3, 1) := dk_6 (dk_at dksX12_begin_0 11 rfl rfl)
theorem dX12_begin_12 : decode cX12_begin 12 = .ok (.invokevirtual 60, 3) := dk_182 0 60 (dk_at dksX12_begin_0 12 rfl rfl)
theorem dX12_begin_15 : decode cX12_begin 15 = .ok (.aload_n 0, 1) := dk_42 (dk_at dksX12_begin_0 15 rfl rfl)
theorem dX12_begin_16 : decode cX12_begin 16 = .ok (.invokevirtual 64, 3) := dk_182 0 64 (dk_at dksX12_begin_0 16 rfl rfl)
theorem dX12_begin_19 : decode cX12_begin 19 = .ok (.return_, 1) := dk_177 (dk_at dksX12_begin_0 19 rfl rfl)
theorem q104 : (Jvm.Cond.initialized "DishLift$Reader") ∈ lw_all := lw_g (lw_at lw_m1 23 rfl) rfl
theorem q160 : (Jvm.Cond.fieldLink "DishLift$Reader" (101 : Nat) "DishLift$House" "floors" "I") ∈ lw_all := lw_g (lw_at lw_m1 79 rfl) rfl
theorem q163 : (Jvm.Cond.fieldLink "DishLift$Reader" (95 : Nat) "DishLift$House" "room" "I") ∈ lw_all := lw_g (lw_at lw_m1 82 rfl) rfl
theorem q166 : (Jvm.Cond.fieldLink "DishLift$Reader" (98 : Nat) "DishLift$House" "rope" "I") ∈ lw_all := lw_g (lw_at lw_m1 85 rfl) rfl
theorem q173 : (Jvm.Cond.fieldLink "DishLift$Reader" (131 : Nat) "DishLift$House" "dishes" "Ljava/util/List;") ∈ lw_all := lw_g (lw_at lw_m1 92 rfl) rfl
theorem q178 : (Jvm.Cond.fieldLink "DishLift$Reader" (119 : Nat) "DishLift$House" "at" "[I") ∈ lw_all := lw_g (lw_at lw_m1 97 rfl) rfl
theorem q181 : (Jvm.Cond.fieldLink "DishLift$Reader" (122 : Nat) "DishLift$House" "to" "[I") ∈ lw_all := lw_g (lw_at lw_m1 100 rfl) rfl
theorem q185 : (Jvm.Cond.fieldLink "DishLift$Reader" (125 : Nat) "DishLift$House" "weight" "[I") ∈ lw_all := lw_g (lw_at lw_m1 104 rfl) rfl
theorem q189 : (Jvm.Cond.fieldLink "DishLift$Reader" (128 : Nat) "DishLift$House" "heat" "[I") ∈ lw_all := lw_g (lw_at lw_m1 108 rfl) rfl
theorem q511 : (Jvm.Cond.instantiable "DishLift$Reader" (7 : Nat)) ∈ lw_all := lw_g (lw_at lw_m2 190 rfl) rfl
theorem q513 : (Jvm.Cond.instanceMethod ({ cls := "DishLift$Reader", name := "<init>", desc := "([BI)V" } : Jvm.MethodName)) ∈ lw_all := lw_g (lw_at lw_m2 192 rfl) rfl
theorem q514 : (Jvm.Cond.code ({ cls := "DishLift$Reader", name := "<init>", desc := "([BI)V" } : Jvm.MethodName) prog_10_method_1_code (3 : Nat) (Option.none : Option Jvm.ClassFile.FieldType)) ∈ lw_all := lw_g (lw_at lw_m2 193 rfl) rfl
theorem q515 : (Jvm.Cond.methodLink "DishLift$Reader" (3 : Nat) ({ cls := "java/lang/Object", name := "<init>", desc := "()V" } : Jvm.MethodName)) ∈ lw_all := lw_g (lw_at lw_m2 194 rfl) rfl
theorem q516 : (Jvm.Cond.classLink "DishLift$Reader" (9 : Nat) "DishLift$House") ∈ lw_all := lw_g (lw_at lw_m2 195 rfl) rfl
theorem q517 : (Jvm.Cond.methodLink "DishLift$Reader" (11 : Nat) ({ cls := "DishLift$House", name := "<init>", desc := "()V" } : Jvm.MethodName)) ∈ lw_all := lw_g (lw_at lw_m2 196 rfl) rfl
theorem q518 : (Jvm.Cond.fieldLink "DishLift$Reader" (18 : Nat) "DishLift$Reader" "text" "[B") ∈ lw_all := lw_g (lw_at lw_m2 197 rfl) rfl
theorem q519 : (Jvm.Cond.fieldLink "DishLift$Reader" (22 : Nat) "DishLift$Reader" "size" "I") ∈ lw_all := lw_g (lw_at lw_m2 198 rfl) rfl
theorem q520 : (Jvm.Cond.fieldLink "DishLift$Reader" (26 : Nat) "DishLift$Reader" "at" "I") ∈ lw_all := lw_g (lw_at lw_m2 199 rfl) rfl
theorem q521 : (Jvm.Cond.fieldLink "DishLift$Reader" (40 : Nat) "DishLift$Reader" "token" "I") ∈ lw_all := lw_g (lw_at lw_m2 200 rfl) rfl
theorem q522 : (Jvm.Cond.fieldLink "DishLift$Reader" (30 : Nat) "DishLift$Reader" "from" "I") ∈ lw_all := lw_g (lw_at lw_m2 201 rfl) rfl
theorem q523 : (Jvm.Cond.fieldLink "DishLift$Reader" (37 : Nat) "DishLift$Reader" "value" "I") ∈ lw_all := lw_g (lw_at lw_m2 202 rfl) rfl
theorem q524 : (Jvm.Cond.fieldLink "DishLift$Reader" (12 : Nat) "DishLift$Reader" "made" "LDishLift$House;") ∈ lw_all := lw_g (lw_at lw_m2 203 rfl) rfl
theorem q526 : (Jvm.Cond.laysFinal "DishLift$Reader" "DishLift$Reader" "text" "[B") ∈ lw_all := lw_g (lw_at lw_m2 205 rfl) rfl
theorem q527 : (Jvm.Cond.soleField "DishLift$Reader" "text") ∈ lw_all := lw_g (lw_at lw_m2 206 rfl) rfl
theorem q528 : (Jvm.Cond.laysFinal "DishLift$Reader" "DishLift$Reader" "size" "I") ∈ lw_all := lw_g (lw_at lw_m2 207 rfl) rfl
theorem q529 : (Jvm.Cond.soleField "DishLift$Reader" "size") ∈ lw_all := lw_g (lw_at lw_m2 208 rfl) rfl
theorem q530 : (Jvm.Cond.lays "DishLift$Reader" "DishLift$Reader" "at" "I") ∈ lw_all := lw_g (lw_at lw_m2 209 rfl) rfl
theorem q531 : (Jvm.Cond.soleField "DishLift$Reader" "at") ∈ lw_all := lw_g (lw_at lw_m2 210 rfl) rfl
theorem q532 : (Jvm.Cond.lays "DishLift$Reader" "DishLift$Reader" "token" "I") ∈ lw_all := lw_g (lw_at lw_m2 211 rfl) rfl
theorem q533 : (Jvm.Cond.soleField "DishLift$Reader" "token") ∈ lw_all := lw_g (lw_at lw_m2 212 rfl) rfl
theorem q534 : (Jvm.Cond.lays "DishLift$Reader" "DishLift$Reader" "from" "I") ∈ lw_all := lw_g (lw_at lw_m2 213 rfl) rfl
theorem q535 : (Jvm.Cond.soleField "DishLift$Reader" "from") ∈ lw_all := lw_g (lw_at lw_m2 214 rfl) rfl
theorem q536 : (Jvm.Cond.lays "DishLift$Reader" "DishLift$Reader" "value" "I") ∈ lw_all := lw_g (lw_at lw_m2 215 rfl) rfl
theorem q537 : (Jvm.Cond.soleField "DishLift$Reader" "value") ∈ lw_all := lw_g (lw_at lw_m2 216 rfl) rfl
theorem q538 : (Jvm.Cond.laysFinal "DishLift$Reader" "DishLift$Reader" "made" "LDishLift$House;") ∈ lw_all := lw_g (lw_at lw_m2 217 rfl) rfl
theorem q539 : (Jvm.Cond.soleField "DishLift$Reader" "made") ∈ lw_all := lw_g (lw_at lw_m2 218 rfl) rfl
theorem q540 : (Jvm.Cond.superclass "DishLift$Reader" "java/lang/Object") ∈ lw_all := lw_g (lw_at lw_m2 219 rfl) rfl
theorem q542 : (Jvm.Cond.instanceMethod ({ cls := "DishLift$Reader", name := "all", desc := "()V" } : Jvm.MethodName)) ∈ lw_all := lw_g (lw_at lw_m2 221 rfl) rfl
theorem q543 : (Jvm.Cond.selects "DishLift$Reader" ({ cls := "DishLift$Reader", name := "all", desc := "()V" } : Jvm.MethodName) ({ cls := "DishLift$Reader", name := "all", desc := "()V" } : Jvm.MethodName)) ∈ lw_all := lw_g (lw_at lw_m2 222 rfl) rfl
theorem q544 : (Jvm.Cond.code ({ cls := "DishLift$Reader", name := "all", desc := "()V" } : Jvm.MethodName) prog_10_method_12_code (2 : Nat) (Option.none : Option Jvm.ClassFile.FieldType)) ∈ lw_all := lw_g (lw_at lw_m2 223 rfl) rfl
theorem q545 : (Jvm.Cond.methodLink "DishLift$Reader" (64 : Nat) ({ cls := "DishLift$Reader", name := "next", desc := "()V" } : Jvm.MethodName)) ∈ lw_all := lw_g (lw_at lw_m2 224 rfl) rfl
theorem q546 : (Jvm.Cond.privateMethod ({ cls := "DishLift$Reader", name := "next", desc := "()V" } : Jvm.MethodName)) ∈ lw_tbl := lw_at lw_m2 225 rfl
theorem q547 : (Jvm.Cond.instanceMethod ({ cls := "DishLift$Reader", name := "next", desc := "()V" } : Jvm.MethodName)) ∈ lw_all := lw_g (lw_at lw_m2 226 rfl) rfl
theorem q548 : (Jvm.Cond.code ({ cls := "DishLift$Reader", name := "next", desc := "()V" } : Jvm.MethodName) prog_10_method_3_code (2 : Nat) (Option.none : Option Jvm.ClassFile.FieldType)) ∈ lw_all := lw_g (lw_at lw_m2 227 rfl) rfl
theorem q549 : (Jvm.Cond.methodLink "DishLift$Reader" (33 : Nat) ({ cls := "DishLift$Reader", name := "look", desc := "()I" } : Jvm.MethodName)) ∈ lw_all := lw_g (lw_at lw_m2 228 rfl) rfl
theorem q550 : (Jvm.Cond.privateMethod ({ cls := "DishLift$Reader", name := "look", desc := "()I" } : Jvm.MethodName)) ∈ lw_tbl := lw_at lw_m2 229 rfl
theorem q551 : (Jvm.Cond.instanceMethod ({ cls := "DishLift$Reader", name := "look", desc := "()I" } : Jvm.MethodName)) ∈ lw_all := lw_g (lw_at lw_m2 230 rfl) rfl
theorem q552 : (Jvm.Cond.code ({ cls := "DishLift$Reader", name := "look", desc := "()I" } : Jvm.MethodName) prog_10_method_2_code (1 : Nat) (Option.some Jvm.ClassFile.FieldType.int)) ∈ lw_all := lw_g (lw_at lw_m2 231 rfl) rfl
theorem q553 : (Jvm.Cond.constant "DishLift$Reader" (29 : Nat) (-1000000 : Int32)) ∈ lw_all := lw_g (lw_at lw_m2 232 rfl) rfl
theorem q554 : (Jvm.Cond.constantLong "DishLift$Reader" (43 : Nat) (48 : Int64)) ∈ lw_all := lw_g (lw_at lw_m2 233 rfl) rfl
theorem q555 : (Jvm.Cond.constantLong "DishLift$Reader" (45 : Nat) (57 : Int64)) ∈ lw_all := lw_g (lw_at lw_m2 234 rfl) rfl
theorem q556 : (Jvm.Cond.methodLinkNest "DishLift$Reader" (47 : Nat) ({ cls := "DishLift", name := "isIn", desc := "(JJJ)Z" } : Jvm.MethodName) "DishLift") ∈ lw_tbl := lw_at lw_m2 235 rfl
theorem q557 : (Jvm.Cond.constantLong "DishLift$Reader" (51 : Nat) (97 : Int64)) ∈ lw_all := lw_g (lw_at lw_m2 236 rfl) rfl
theorem q558 : (Jvm.Cond.constantLong "DishLift$Reader" (53 : Nat) (122 : Int64)) ∈ lw_all := lw_g (lw_at lw_m2 237 rfl) rfl
theorem q559 : (Jvm.Cond.methodLink "DishLift$Reader" (88 : Nat) ({ cls := "DishLift$Reader", name := "isLetter", desc := "(I)Z" } : Jvm.MethodName)) ∈ lw_all := lw_g (lw_at lw_m2 238 rfl) rfl
theorem q560 : (Jvm.Cond.privateMethod ({ cls := "DishLift$Reader", name := "isLetter", desc := "(I)Z" } : Jvm.MethodName)) ∈ lw_tbl := lw_at lw_m2 239 rfl
theorem q561 : (Jvm.Cond.instanceMethod ({ cls := "DishLift$Reader", name := "isLetter", desc := "(I)Z" } : Jvm.MethodName)) ∈ lw_all := lw_g (lw_at lw_m3 0 rfl) rfl
theorem q562 : (Jvm.Cond.code ({ cls := "DishLift$Reader", name := "isLetter", desc := "(I)Z" } : Jvm.MethodName) prog_10_method_5_code (2 : Nat) (Option.some Jvm.ClassFile.FieldType.boolean)) ∈ lw_all := lw_g (lw_at lw_m3 1 rfl) rfl
theorem q563 : (Jvm.Cond.methodLink "DishLift$Reader" (60 : Nat) ({ cls := "DishLift$Reader", name := "must", desc := "(ZI)V" } : Jvm.MethodName)) ∈ lw_all := lw_g (lw_at lw_m3 2 rfl) rfl
theorem q564 : (Jvm.Cond.privateMethod ({ cls := "DishLift$Reader", name := "must", desc := "(ZI)V" } : Jvm.MethodName)) ∈ lw_tbl := lw_at lw_m3 3 rfl
theorem q565 : (Jvm.Cond.instanceMethod ({ cls := "DishLift$Reader", name := "must", desc := "(ZI)V" } : Jvm.MethodName)) ∈ lw_all := lw_g (lw_at lw_m3 4 rfl) rfl
theorem q566 : (Jvm.Cond.code ({ cls := "DishLift$Reader", name := "must", desc := "(ZI)V" } : Jvm.MethodName) prog_10_method_4_code (3 : Nat) (Option.none : Option Jvm.ClassFile.FieldType)) ∈ lw_all := lw_g (lw_at lw_m3 5 rfl) rfl
theorem q567 : (Jvm.Cond.classLink "DishLift$Reader" (55 : Nat) "DishLift$Fault") ∈ lw_all := lw_g (lw_at lw_m3 6 rfl) rfl
theorem q576 : (Jvm.Cond.methodLink "DishLift$Reader" (57 : Nat) ({ cls := "DishLift$Fault", name := "<init>", desc := "(II)V" } : Jvm.MethodName)) ∈ lw_all := lw_g (lw_at lw_m3 15 rfl) rfl
theorem q590 : (Jvm.Cond.methodLink "DishLift$Reader" (71 : Nat) ({ cls := "DishLift$Reader", name := "figure", desc := "(II)I" } : Jvm.MethodName)) ∈ lw_all := lw_g (lw_at lw_m3 29 rfl) rfl
theorem q591 : (Jvm.Cond.privateMethod ({ cls := "DishLift$Reader", name := "figure", desc := "(II)I" } : Jvm.MethodName)) ∈ lw_tbl := lw_at lw_m3 30 rfl
theorem q592 : (Jvm.Cond.instanceMethod ({ cls := "DishLift$Reader", name := "figure", desc := "(II)I" } : Jvm.MethodName)) ∈ lw_all := lw_g (lw_at lw_m3 31 rfl) rfl
theorem q593 : (Jvm.Cond.code ({ cls := "DishLift$Reader", name := "figure", desc := "(II)I" } : Jvm.MethodName) prog_10_method_6_code (4 : Nat) (Option.some Jvm.ClassFile.FieldType.int)) ∈ lw_all := lw_g (lw_at lw_m3 32 rfl) rfl
theorem q594 : (Jvm.Cond.methodLink "DishLift$Reader" (92 : Nat) ({ cls := "DishLift$Reader", name := "more", desc := "(II)I" } : Jvm.MethodName)) ∈ lw_all := lw_g (lw_at lw_m3 33 rfl) rfl
theorem q595 : (Jvm.Cond.privateMethod ({ cls := "DishLift$Reader", name := "more", desc := "(II)I" } : Jvm.MethodName)) ∈ lw_tbl := lw_at lw_m3 34 rfl
theorem q596 : (Jvm.Cond.instanceMethod ({ cls := "DishLift$Reader", name := "more", desc := "(II)I" } : Jvm.MethodName)) ∈ lw_all := lw_g (lw_at lw_m3 35 rfl) rfl
theorem q597 : (Jvm.Cond.code ({ cls := "DishLift$Reader", name := "more", desc := "(II)I" } : Jvm.MethodName) prog_10_method_7_code (3 : Nat) (Option.some Jvm.ClassFile.FieldType.int)) ∈ lw_all := lw_g (lw_at lw_m3 36 rfl) rfl
theorem q598 : (Jvm.Cond.methodLink "DishLift$Reader" (67 : Nat) ({ cls := "DishLift$Reader", name := "sign", desc := "(I)V" } : Jvm.MethodName)) ∈ lw_all := lw_g (lw_at lw_m3 37 rfl) rfl
theorem q599 : (Jvm.Cond.privateMethod ({ cls := "DishLift$Reader", name := "sign", desc := "(I)V" } : Jvm.MethodName)) ∈ lw_tbl := lw_at lw_m3 38 rfl
theorem q600 : (Jvm.Cond.instanceMethod ({ cls := "DishLift$Reader", name := "sign", desc := "(I)V" } : Jvm.MethodName)) ∈ lw_all := lw_g (lw_at lw_m3 39 rfl) rfl
theorem q601 : (Jvm.Cond.code ({ cls := "DishLift$Reader", name := "sign", desc := "(I)V" } : Jvm.MethodName) prog_10_method_8_code (2 : Nat) (Option.none : Option Jvm.ClassFile.FieldType)) ∈ lw_all := lw_g (lw_at lw_m3 40 rfl) rfl
theorem q602 : (Jvm.Cond.stringRef "DishLift$Reader" (104 : Nat) "hsrci") ∈ lw_tbl := lw_at lw_m3 41 rfl
theorem q603 : (Jvm.Cond.methodLink "DishLift$Reader" (106 : Nat) ({ cls := "DishLift$Reader", name := "sortOf", desc := "(Ljava/lang/String;)I" } : Jvm.MethodName)) ∈ lw_all := lw_g (lw_at lw_m3 42 rfl) rfl
theorem q604 : (Jvm.Cond.privateMethod ({ cls := "DishLift$Reader", name := "sortOf", desc := "(Ljava/lang/String;)I" } : Jvm.MethodName)) ∈ lw_tbl := lw_at lw_m3 43 rfl
theorem q605 : (Jvm.Cond.instanceMethod ({ cls := "DishLift$Reader", name := "sortOf", desc := "(Ljava/lang/String;)I" } : Jvm.MethodName)) ∈ lw_all := lw_g (lw_at lw_m3 44 rfl) rfl
theorem q606 : (Jvm.Cond.code ({ cls := "DishLift$Reader", name := "sortOf", desc := "(Ljava/lang/String;)I" } : Jvm.MethodName) prog_10_method_11_code (2 : Nat) (Option.some Jvm.ClassFile.FieldType.int)) ∈ lw_all := lw_g (lw_at lw_m3 45 rfl) rfl
theorem q607 : (Jvm.Cond.methodLink "DishLift$Reader" (84 : Nat) ({ cls := "DishLift$Reader", name := "sortIn", desc := "(Ljava/lang/String;II)I" } : Jvm.MethodName)) ∈ lw_all := lw_g (lw_at lw_m3 46 rfl) rfl
theorem q608 : (Jvm.Cond.static ({ cls := "DishLift$Reader", name := "sortIn", desc := "(Ljava/lang/String;II)I" } : Jvm.MethodName)) ∈ lw_all := lw_g (lw_at lw_m3 47 rfl) rfl
theorem q609 : (Jvm.Cond.code ({ cls := "DishLift$Reader", name := "sortIn", desc := "(Ljava/lang/String;II)I" } : Jvm.MethodName) prog_10_method_10_code (4 : Nat) (Option.some Jvm.ClassFile.FieldType.int)) ∈ lw_all := lw_g (lw_at lw_m3 48 rfl) rfl
theorem q610 : (Jvm.Cond.methodLink "DishLift$Reader" (75 : Nat) ({ cls := "java/lang/String", name := "length", desc := "()I" } : Jvm.MethodName)) ∈ lw_all := lw_g (lw_at lw_m3 49 rfl) rfl
theorem q620 : (Jvm.Cond.methodLink "DishLift$Reader" (80 : Nat) ({ cls := "java/lang/String", name := "charAt", desc := "(I)C" } : Jvm.MethodName)) ∈ lw_all := lw_g (lw_at lw_m3 59 rfl) rfl
theorem q658 : (Jvm.Cond.methodLink "DishLift$Reader" (110 : Nat) ({ cls := "DishLift$Reader", name := "dish", desc := "()V" } : Jvm.MethodName)) ∈ lw_all := lw_g (lw_at lw_m3 97 rfl) rfl
theorem q659 : (Jvm.Cond.privateMethod ({ cls := "DishLift$Reader", name := "dish", desc := "()V" } : Jvm.MethodName)) ∈ lw_tbl := lw_at lw_m3 98 rfl
theorem q660 : (Jvm.Cond.instanceMethod ({ cls := "DishLift$Reader", name := "dish", desc := "()V" } : Jvm.MethodName)) ∈ lw_all := lw_g (lw_at lw_m3 99 rfl) rfl
theorem q661 : (Jvm.Cond.code ({ cls := "DishLift$Reader", name := "dish", desc := "()V" } : Jvm.MethodName) prog_10_method_13_code (3 : Nat) (Option.none : Option Jvm.ClassFile.FieldType)) ∈ lw_all := lw_g (lw_at lw_m3 100 rfl) rfl
theorem q662 : (Jvm.Cond.methodLink "DishLift$Reader" (113 : Nat) ({ cls := "DishLift$House", name := "many", desc := "()I" } : Jvm.MethodName)) ∈ lw_all := lw_g (lw_at lw_m3 101 rfl) rfl
theorem q676 : (Jvm.Cond.methodLink "DishLift$Reader" (116 : Nat) ({ cls := "DishLift$Reader", name := "begin", desc := "(II)V" } : Jvm.MethodName)) ∈ lw_all := lw_g (lw_at lw_m3 115 rfl) rfl
theorem q677 : (Jvm.Cond.privateMethod ({ cls := "DishLift$Reader", name := "begin", desc := "(II)V" } : Jvm.MethodName)) ∈ lw_tbl := lw_at lw_m3 116 rfl
theorem q678 : (Jvm.Cond.instanceMethod ({ cls := "DishLift$Reader", name := "begin", desc := "(II)V" } : Jvm.MethodName)) ∈ lw_all := lw_g (lw_at lw_m3 117 rfl) rfl
theorem q679 : (Jvm.Cond.code ({ cls := "DishLift$Reader", name := "begin", desc := "(II)V" } : Jvm.MethodName) prog_10_method_9_code (3 : Nat) (Option.none : Option Jvm.ClassFile.FieldType)) ∈ lw_all := lw_g (lw_at lw_m3 118 rfl) rfl
theorem q680 : (Jvm.Cond.methodLinkNest "DishLift$Reader" (135 : Nat) ({ cls := "DishLift", name := "dishBy", desc := "(II)LDishLift$Dish;" } : Jvm.MethodName) "DishLift") ∈ lw_tbl := lw_at lw_m3 119 rfl
theorem q683 : (Jvm.Cond.interfaceEntry "DishLift$Reader" (139 : Nat)) ∈ lw_tbl := lw_at lw_m3 122 rfl
theorem q684 : (Jvm.Cond.methodLink "DishLift$Reader" (139 : Nat) ({ cls := "java/util/List", name := "add", desc := "(Ljava/lang/Object;)Z" } : Jvm.MethodName)) ∈ lw_all := lw_g (lw_at lw_m3 123 rfl) rfl
theorem q727 : (Jvm.Cond.selects "DishLift$Reader" ({ cls := "java/lang/Object", name := "getClass", desc := "()Ljava/lang/Class;" } : Jvm.MethodName) ({ cls := "java/lang/Object", name := "getClass", desc := "()Ljava/lang/Class;" } : Jvm.MethodName)) ∈ lw_all := lw_g (lw_at lw_m3 166 rfl) rfl
theorem q1714 : (Jvm.Cond.castable "DishLift$Reader" "java/lang/Object") ∈ lw_tbl := lw_at lw_m7 193 rfl
theorem in_X12 : ∀ w ∈ wsX120, w ∈ lw_all := lw_in wsX120 [526, 528, 530, 532, 534, 536, 538] (by decide +kernel) (by decide +kernel)

/-! DishLift$Fault -/
set_option maxRecDepth 100000
def RX13 : String := "DishLift$Fault"
def TX13 : u_T := fun k => match k with
  | 0 => ("java/lang/Throwable", "cause", "Ljava/lang/Throwable;", false)
  | 1 => ("java/lang/Throwable", "stackTrace", "[Ljava/lang/StackTraceElement;", false)
  | 2 => ("java/lang/Throwable", "suppressedExceptions", "Ljava/util/List;", false)
  | 3 => ("java/lang/Throwable", "detailMessage", "Ljava/lang/String;", false)
  | 4 => ("java/lang/Throwable", "backtrace", "Ljava/lang/Object;", false)
  | 5 => ("java/lang/Throwable", "depth", "I", false)
  | 6 => ("DishLift$Fault", "kind", "I", true)
  | _ => ("DishLift$Fault", "place", "I", true)
def tyX13 : Nat → FieldType := fun k => match k with
  | 0 => .object "java/lang/Throwable"
  | 1 => .array (.object "java/lang/StackTraceElement")
  | 2 => .object "java/util/List"
  | 3 => .object "java/lang/String"
  | 4 => .object "java/lang/Object"
  | 5 => .int
  | 6 => .int
  | _ => .int
abbrev wsX130 : List Cond := u_ws RX13 TX13 8
theorem nmX13 : ∀ a, a < 8 → ∀ b, b < 8 → a ≠ b → (TX13 a).2.1 ≠ (TX13 b).2.1 := by decide +kernel
theorem tyX13_ok : ∀ k, k < 8 → parseFieldDescriptor (TX13 k).2.2.1 = some (tyX13 k) := by decide +kernel
abbrev cX13_init : ByteArray := prog_4_method_1_code
def yX13_init : MethodName := ⟨RX13, "<init>", "(II)V"⟩
def dkwX13_init_0 : List UInt8 := [42, 1, 1, 3, 3, 183, 0, 1, 42, 27, 181, 0, 7, 42, 28, 181, 0, 13, 177]
abbrev dktX13_init_0 : List UInt8 := dkwX13_init_0 ++ []
theorem dksX13_init_0 : cX13_init.data.toList.drop 0 = dktX13_init_0 := by decide +kernel
theorem dX13_init_0 : decode cX13_init 0 = .ok (.aload_n 0, 1) := dk_42 (dk_at dksX13_init_0 0 rfl rfl)
theorem dX13_init_1 : decode cX13_init 1 = .ok (.aconst_null, 1) := dk_1 (dk_at dksX13_init_0 1 rfl rfl)
theorem dX13_init_2 : decode cX13_init 2 = .ok (.aconst_null, 1) := dk_1 (dk_at dksX13_init_0 2 rfl rfl)
theorem dX13_init_3 : decode cX13_init 3 = .ok (.iconst 0, 1) := dk_3 (dk_at dksX13_init_0 3 rfl rfl)
theorem dX13_init_4 : decode cX13_init 4 = .ok (.iconst 0, 1) := dk_3 (dk_at dksX13_init_0 4 rfl rfl)
theorem dX13_init_5 : decode cX13_init 5 = .ok (.invokespecial 1, 3) := dk_183 0 1 (dk_at dksX13_init_0 5 rfl rfl)
theorem dX13_init_8 : decode cX13_init 8 = .ok (.aload_n 0, 1) := dk_42 (dk_at dksX13_init_0 8 rfl rfl)
theorem dX13_init_9 : decode cX13_init 9 = .ok (.iload_n 1, 1) := dk_27 (dk_at dksX13_init_0 9 rfl rfl)
theorem dX13_init_10 : decode cX13_init 10 = .ok (.putfield 7, 3) := dk_181 0 7 (dk_at dksX13_init_0 10 rfl rfl)
theorem dX13_init_13 : decode cX13_init 13 = .ok (.aload_n 0, 1) := dk_42 (dk_at dksX13_init_0 13 rfl rfl)
theorem dX13_init_14 : decode cX13_init 14 = .ok (.iload_n 2, 1) := dk_28 (dk_at dksX13_init_0 14 rfl rfl)
theorem dX13_init_15 : decode cX13_init 15 = .ok (.putfield 13, 3) := dk_181 0 13 (dk_at dksX13_init_0 15 rfl rfl)
theorem dX13_init_18 : decode cX13_init 18 = .ok (.return_, 1) := dk_177 (dk_at dksX13_init_0 18 rfl rfl)
theorem q105 : (Jvm.Cond.initialized "DishLift$Fault") ∈ lw_all := lw_g (lw_at lw_m1 24 rfl) rfl
theorem q384 : (Jvm.Cond.selects "DishLift$Fault" ({ cls := "java/lang/Throwable", name := "fillInStackTrace", desc := "()Ljava/lang/Throwable;" } : Jvm.MethodName) ({ cls := "java/lang/Throwable", name := "fillInStackTrace", desc := "()Ljava/lang/Throwable;" } : Jvm.MethodName)) ∈ lw_all := lw_g (lw_at lw_m2 63 rfl) rfl
theorem q568 : (Jvm.Cond.instantiable "DishLift$Fault" (8 : Nat)) ∈ lw_all := lw_g (lw_at lw_m3 7 rfl) rfl
theorem q569 : (Jvm.Cond.castable "DishLift$Fault" "DishLift$Fault") ∈ lw_tbl := lw_at lw_m3 8 rfl
theorem q570 : (Jvm.Cond.selects "DishLift$Fault" ({ cls := "java/lang/Throwable", name := "fillInStackTrace", desc := "(I)Ljava/lang/Throwable;" } : Jvm.MethodName) ({ cls := "java/lang/Throwable", name := "fillInStackTrace", desc := "(I)Ljava/lang/Throwable;" } : Jvm.MethodName)) ∈ lw_all := lw_g (lw_at lw_m3 9 rfl) rfl
theorem q571 : (Jvm.Cond.lays "DishLift$Fault" "java/lang/Throwable" "cause" "Ljava/lang/Throwable;") ∈ lw_all := lw_g (lw_at lw_m3 10 rfl) rfl
theorem q572 : (Jvm.Cond.lays "DishLift$Fault" "java/lang/Throwable" "stackTrace" "[Ljava/lang/StackTraceElement;") ∈ lw_all := lw_g (lw_at lw_m3 11 rfl) rfl
theorem q573 : (Jvm.Cond.lays "DishLift$Fault" "java/lang/Throwable" "suppressedExceptions" "Ljava/util/List;") ∈ lw_all := lw_g (lw_at lw_m3 12 rfl) rfl
theorem q574 : (Jvm.Cond.lays "DishLift$Fault" "java/lang/Throwable" "detailMessage" "Ljava/lang/String;") ∈ lw_all := lw_g (lw_at lw_m3 13 rfl) rfl
theorem q575 : (Jvm.Cond.lays "DishLift$Fault" "java/lang/Throwable" "backtrace" "Ljava/lang/Object;") ∈ lw_all := lw_g (lw_at lw_m3 14 rfl) rfl
theorem q577 : (Jvm.Cond.instanceMethod ({ cls := "DishLift$Fault", name := "<init>", desc := "(II)V" } : Jvm.MethodName)) ∈ lw_all := lw_g (lw_at lw_m3 16 rfl) rfl
theorem q578 : (Jvm.Cond.code ({ cls := "DishLift$Fault", name := "<init>", desc := "(II)V" } : Jvm.MethodName) prog_4_method_1_code (3 : Nat) (Option.none : Option Jvm.ClassFile.FieldType)) ∈ lw_all := lw_g (lw_at lw_m3 17 rfl) rfl
theorem q579 : (Jvm.Cond.methodLink "DishLift$Fault" (1 : Nat) ({ cls := "java/lang/Exception", name := "<init>", desc := "(Ljava/lang/String;Ljava/lang/Throwable;ZZ)V" } : Jvm.MethodName)) ∈ lw_all := lw_g (lw_at lw_m3 18 rfl) rfl
theorem q580 : (Jvm.Cond.fieldLink "DishLift$Fault" (7 : Nat) "DishLift$Fault" "kind" "I") ∈ lw_all := lw_g (lw_at lw_m3 19 rfl) rfl
theorem q582 : (Jvm.Cond.fieldLink "DishLift$Fault" (13 : Nat) "DishLift$Fault" "place" "I") ∈ lw_all := lw_g (lw_at lw_m3 21 rfl) rfl
theorem q584 : (Jvm.Cond.laysFinal "DishLift$Fault" "DishLift$Fault" "kind" "I") ∈ lw_all := lw_g (lw_at lw_m3 23 rfl) rfl
theorem q585 : (Jvm.Cond.soleField "DishLift$Fault" "kind") ∈ lw_all := lw_g (lw_at lw_m3 24 rfl) rfl
theorem q586 : (Jvm.Cond.laysFinal "DishLift$Fault" "DishLift$Fault" "place" "I") ∈ lw_all := lw_g (lw_at lw_m3 25 rfl) rfl
theorem q587 : (Jvm.Cond.soleField "DishLift$Fault" "place") ∈ lw_all := lw_g (lw_at lw_m3 26 rfl) rfl
theorem q588 : (Jvm.Cond.lays "DishLift$Fault" "java/lang/Throwable" "depth" "I") ∈ lw_all := lw_g (lw_at lw_m3 27 rfl) rfl
theorem q589 : (Jvm.Cond.superclass "DishLift$Fault" "java/lang/Exception") ∈ lw_all := lw_g (lw_at lw_m3 28 rfl) rfl
theorem q722 : (Jvm.Cond.selects "DishLift$Fault" ({ cls := "java/lang/Object", name := "getClass", desc := "()Ljava/lang/Class;" } : Jvm.MethodName) ({ cls := "java/lang/Object", name := "getClass", desc := "()Ljava/lang/Class;" } : Jvm.MethodName)) ∈ lw_all := lw_g (lw_at lw_m3 161 rfl) rfl
theorem q1715 : (Jvm.Cond.castable "DishLift$Fault" "java/lang/Object") ∈ lw_tbl := lw_at lw_m7 194 rfl
theorem in_X13 : ∀ w ∈ wsX130, w ∈ lw_all := lw_in wsX130 [571, 572, 573, 574, 575, 588, 584, 586] (by decide +kernel) (by decide +kernel)

/-! DishLift$Marked -/
set_option maxRecDepth 100000
def RX14 : String := "DishLift$Marked"
abbrev cX14_mark : ByteArray := prog_9_method_3_code
def yX14_mark : MethodName := ⟨RX14, "mark", "(LDishLift$Trail;LDishLift$House;)I"⟩
def dkwX14_mark_0 : List UInt8 := [43, 16, 20, 182, 0, 1, 42, 185, 0, 7, 1, 0, 172]
abbrev dktX14_mark_0 : List UInt8 := dkwX14_mark_0 ++ []
theorem dksX14_mark_0 : cX14_mark.data.toList.drop 0 = dktX14_mark_0 := by decide +kernel
theorem dX14_mark_0 : decode cX14_mark 0 = .ok (.aload_n 1, 1) := dk_43 (dk_at dksX14_mark_0 0 rfl rfl)
theorem dX14_mark_1 : decode cX14_mark 1 = .ok (.bipush 20, 2) := dk_16 20 (dk_at dksX14_mark_0 1 rfl rfl)
theorem dX14_mark_3 : decode cX14_mark 3 = .ok (.invokevirtual 1, 3) := dk_182 0 1 (dk_at dksX14_mark_0 3 rfl rfl)
theorem dX14_mark_6 : decode cX14_mark 6 = .ok (.aload_n 0, 1) := dk_42 (dk_at dksX14_mark_0 6 rfl rfl)
theorem dX14_mark_7 : decode cX14_mark 7 = .ok (.invokeinterface 7 1, 5) := by decide +kernel
theorem dX14_mark_12 : decode cX14_mark 12 = .ok (.ireturn, 1) := dk_172 (dk_at dksX14_mark_0 12 rfl rfl)
theorem q1177 : (Jvm.Cond.declares ({ cls := "DishLift$Marked", name := "mark", desc := "(LDishLift$Trail;LDishLift$House;)I" } : Jvm.MethodName)) ∈ lw_tbl := lw_at lw_m5 136 rfl
theorem q1178 : (Jvm.Cond.instanceMethod ({ cls := "DishLift$Marked", name := "mark", desc := "(LDishLift$Trail;LDishLift$House;)I" } : Jvm.MethodName)) ∈ lw_all := lw_g (lw_at lw_m5 137 rfl) rfl
theorem q1179 : (Jvm.Cond.code ({ cls := "DishLift$Marked", name := "mark", desc := "(LDishLift$Trail;LDishLift$House;)I" } : Jvm.MethodName) prog_9_method_3_code (3 : Nat) (Option.some Jvm.ClassFile.FieldType.int)) ∈ lw_all := lw_g (lw_at lw_m5 138 rfl) rfl
theorem q1180 : (Jvm.Cond.methodLink "DishLift$Marked" (1 : Nat) ({ cls := "DishLift$Trail", name := "begins", desc := "(I)V" } : Jvm.MethodName)) ∈ lw_all := lw_g (lw_at lw_m5 139 rfl) rfl
theorem q1181 : (Jvm.Cond.interfaceEntry "DishLift$Marked" (7 : Nat)) ∈ lw_tbl := lw_at lw_m5 140 rfl
theorem q1182 : (Jvm.Cond.methodLink "DishLift$Marked" (7 : Nat) ({ cls := "DishLift$Marked", name := "number", desc := "()I" } : Jvm.MethodName)) ∈ lw_all := lw_g (lw_at lw_m5 141 rfl) rfl
theorem q1183 : (Jvm.Cond.interfaceMethod "DishLift$Marked" "DishLift$Marked" "number" "()I") ∈ lw_tbl := lw_at lw_m5 142 rfl
theorem q1184 : (Jvm.Cond.declares ({ cls := "DishLift$Marked", name := "number", desc := "()I" } : Jvm.MethodName)) ∈ lw_tbl := lw_at lw_m5 143 rfl
theorem q1690 : (Jvm.Cond.initialized "DishLift$Marked") ∈ lw_all := lw_g (lw_at lw_m7 169 rfl) rfl

/-! DishLift$Trail -/
set_option maxRecDepth 100000
def RX2 : String := "DishLift$Trail"
def TX2 : u_T := fun k => match k with
  | 0 => ("DishLift$Trail", "body", "[I", true)
  | _ => ("DishLift$Trail", "many", "I", false)
def tyX2 : Nat → FieldType := fun k => match k with
  | 0 => .array .int
  | _ => .int
abbrev wsX20 : List Cond := u_ws RX2 TX2 2
theorem nmX2 : ∀ a, a < 2 → ∀ b, b < 2 → a ≠ b → (TX2 a).2.1 ≠ (TX2 b).2.1 := by decide +kernel
theorem tyX2_ok : ∀ k, k < 2 → parseFieldDescriptor (TX2 k).2.2.1 = some (tyX2 k) := by decide +kernel
abbrev cX2_init : ByteArray := prog_14_method_1_code
def yX2_init : MethodName := ⟨RX2, "<init>", "()V"⟩
def dkwX2_init_0 : List UInt8 := [42, 183, 0, 3, 42, 16, 16, 188, 10, 181, 0, 9, 177]
abbrev dktX2_init_0 : List UInt8 := dkwX2_init_0 ++ []
theorem dksX2_init_0 : cX2_init.data.toList.drop 0 = dktX2_init_0 := by decide +kernel
theorem dX2_init_0 : decode cX2_init 0 = .ok (.aload_n 0, 1) := dk_42 (dk_at dksX2_init_0 0 rfl rfl)
theorem dX2_init_1 : decode cX2_init 1 = .ok (.invokespecial 3, 3) := dk_183 0 3 (dk_at dksX2_init_0 1 rfl rfl)
theorem dX2_init_4 : decode cX2_init 4 = .ok (.aload_n 0, 1) := dk_42 (dk_at dksX2_init_0 4 rfl rfl)
theorem dX2_init_5 : decode cX2_init 5 = .ok (.bipush 16, 2) := dk_16 16 (dk_at dksX2_init_0 5 rfl rfl)
theorem dX2_init_7 : decode cX2_init 7 = .ok (.newarray .int, 2) := dk_188_10 (dk_at dksX2_init_0 7 rfl rfl)
theorem dX2_init_9 : decode cX2_init 9 = .ok (.putfield 9, 3) := dk_181 0 9 (dk_at dksX2_init_0 9 rfl rfl)
theorem dX2_init_12 : decode cX2_init 12 = .ok (.return_, 1) := dk_177 (dk_at dksX2_init_0 12 rfl rfl)
abbrev cX2_begins : ByteArray := prog_14_method_2_code
def yX2_begins : MethodName := ⟨RX2, "begins", "(I)V"⟩
def dkwX2_begins_1 : List UInt8 := [27, 79, 177]
abbrev dktX2_begins_1 : List UInt8 := dkwX2_begins_1 ++ []
def dkwX2_begins_0 : List UInt8 := [42, 180, 0, 15, 16, 16, 162, 0, 20, 42, 180, 0, 9, 42, 89, 180, 0, 15, 90, 4, 96, 181, 0, 15]
abbrev dktX2_begins_0 : List UInt8 := dkwX2_begins_0 ++ dktX2_begins_1
theorem dksX2_begins_0 : cX2_begins.data.toList.drop 0 = dktX2_begins_0 := by decide +kernel
theorem dksX2_begins_1 : cX2_begins.data.toList.drop 24 = dktX2_begins_1 := dk_seg dksX2_begins_0 24 rfl rfl
theorem dX2_begins_0 : decode cX2_begins 0 = .ok (.aload_n 0, 1) := dk_42 (dk_at dksX2_begins_0 0 rfl rfl)
theorem dX2_begins_1 : decode cX2_begins 1 = .ok (.getfield 15, 3) := dk_180 0 15 (dk_at dksX2_begins_0 1 rfl rfl)
theorem dX2_begins_4 : decode cX2_begins 4 = .ok (.bipush 16, 2) := dk_16 16 (dk_at dksX2_begins_0 4 rfl rfl)
theorem dX2_begins_6 : decode cX2_begins 6 = .ok (.if_icmp .ge 20, 3) := dk_162 0 20 (dk_at dksX2_begins_0 6 rfl rfl)
theorem dX2_begins_9 : decode cX2_begins 9 = .ok (.aload_n 0, 1) := dk_42 (dk_at dksX2_begins_0 9 rfl rfl)
theorem dX2_begins_10 : decode cX2_begins 10 = .ok (.getfield 9, 3) := dk_180 0 9 (dk_at dksX2_begins_0 10 rfl rfl)
theorem dX2_begins_13 : decode cX2_begins 13 = .ok (.aload_n 0, 1) := dk_42 (dk_at dksX2_begins_0 13 rfl rfl)
theorem dX2_begins_14 : decode cX2_begins 14 = .ok (.dup, 1) := dk_89 (dk_at dksX2_begins_0 14 rfl rfl)
theorem dX2_begins_15 : decode cX2_begins 15 = .ok (.getfield 15, 3) := dk_180 0 15 (dk_at dksX2_begins_0 15 rfl rfl)
theorem dX2_begins_18 : decode cX2_begins 18 = .ok (.dup_x1, 1) := dk_90 (dk_at dksX2_begins_0 18 rfl rfl)
theorem dX2_begins_19 : decode cX2_begins 19 = .ok (.iconst 1, 1) := dk_4 (dk_at dksX2_begins_0 19 rfl rfl)
theorem dX2_begins_20 : decode cX2_begins 20 = .ok (.iadd, 1) := dk_96 (dk_at dksX2_begins_0 20 rfl rfl)
theorem dX2_begins_21 : decode cX2_begins 21 = .ok (.putfield 15, 3) := dk_181 0 15 (dk_at dksX2_begins_0 21 rfl rfl)
theorem dX2_begins_24 : decode cX2_begins 24 = .ok (.iload_n 1, 1) := dk_27 (dk_at dksX2_begins_1 0 rfl rfl)
theorem dX2_begins_25 : decode cX2_begins 25 = .ok (.iastore, 1) := dk_79 (dk_at dksX2_begins_1 1 rfl rfl)
theorem dX2_begins_26 : decode cX2_begins 26 = .ok (.return_, 1) := dk_177 (dk_at dksX2_begins_1 2 rfl rfl)
theorem q87 : (Jvm.Cond.initialized "DishLift$Trail") ∈ lw_all := lw_g (lw_at lw_m1 6 rfl) rfl
theorem q233 : (Jvm.Cond.instantiable "DishLift$Trail" (2 : Nat)) ∈ lw_all := lw_g (lw_at lw_m1 152 rfl) rfl
theorem q235 : (Jvm.Cond.instanceMethod ({ cls := "DishLift$Trail", name := "<init>", desc := "()V" } : Jvm.MethodName)) ∈ lw_all := lw_g (lw_at lw_m1 154 rfl) rfl
theorem q236 : (Jvm.Cond.code ({ cls := "DishLift$Trail", name := "<init>", desc := "()V" } : Jvm.MethodName) prog_14_method_1_code (1 : Nat) (Option.none : Option Jvm.ClassFile.FieldType)) ∈ lw_all := lw_g (lw_at lw_m1 155 rfl) rfl
theorem q237 : (Jvm.Cond.methodLink "DishLift$Trail" (3 : Nat) ({ cls := "java/lang/Object", name := "<init>", desc := "()V" } : Jvm.MethodName)) ∈ lw_all := lw_g (lw_at lw_m1 156 rfl) rfl
theorem q238 : (Jvm.Cond.fieldLink "DishLift$Trail" (9 : Nat) "DishLift$Trail" "body" "[I") ∈ lw_all := lw_g (lw_at lw_m1 157 rfl) rfl
theorem q240 : (Jvm.Cond.fieldLink "DishLift$Trail" (15 : Nat) "DishLift$Trail" "many" "I") ∈ lw_all := lw_g (lw_at lw_m1 159 rfl) rfl
theorem q242 : (Jvm.Cond.laysFinal "DishLift$Trail" "DishLift$Trail" "body" "[I") ∈ lw_all := lw_g (lw_at lw_m1 161 rfl) rfl
theorem q243 : (Jvm.Cond.soleField "DishLift$Trail" "body") ∈ lw_all := lw_g (lw_at lw_m1 162 rfl) rfl
theorem q244 : (Jvm.Cond.lays "DishLift$Trail" "DishLift$Trail" "many" "I") ∈ lw_all := lw_g (lw_at lw_m1 163 rfl) rfl
theorem q245 : (Jvm.Cond.soleField "DishLift$Trail" "many") ∈ lw_all := lw_g (lw_at lw_m1 164 rfl) rfl
theorem q246 : (Jvm.Cond.superclass "DishLift$Trail" "java/lang/Object") ∈ lw_all := lw_g (lw_at lw_m1 165 rfl) rfl
theorem q731 : (Jvm.Cond.selects "DishLift$Trail" ({ cls := "java/lang/Object", name := "getClass", desc := "()Ljava/lang/Class;" } : Jvm.MethodName) ({ cls := "java/lang/Object", name := "getClass", desc := "()Ljava/lang/Class;" } : Jvm.MethodName)) ∈ lw_all := lw_g (lw_at lw_m3 170 rfl) rfl
theorem q1155 : (Jvm.Cond.instanceMethod ({ cls := "DishLift$Trail", name := "begins", desc := "(I)V" } : Jvm.MethodName)) ∈ lw_all := lw_g (lw_at lw_m5 114 rfl) rfl
theorem q1156 : (Jvm.Cond.selects "DishLift$Trail" ({ cls := "DishLift$Trail", name := "begins", desc := "(I)V" } : Jvm.MethodName) ({ cls := "DishLift$Trail", name := "begins", desc := "(I)V" } : Jvm.MethodName)) ∈ lw_all := lw_g (lw_at lw_m5 115 rfl) rfl
theorem q1157 : (Jvm.Cond.code ({ cls := "DishLift$Trail", name := "begins", desc := "(I)V" } : Jvm.MethodName) prog_14_method_2_code (2 : Nat) (Option.none : Option Jvm.ClassFile.FieldType)) ∈ lw_all := lw_g (lw_at lw_m5 116 rfl) rfl
theorem q1705 : (Jvm.Cond.castable "DishLift$Trail" "java/lang/Object") ∈ lw_tbl := lw_at lw_m7 184 rfl
theorem in_X2 : ∀ w ∈ wsX20, w ∈ lw_all := lw_in wsX20 [242, 244] (by decide +kernel) (by decide +kernel)

/-! DishLift$Dish -/
set_option maxRecDepth 100000
def RX3 : String := "DishLift$Dish"
abbrev cX3_init : ByteArray := prog_3_method_1_code
def yX3_init : MethodName := ⟨RX3, "<init>", "(I)V"⟩
def dkwX3_init_0 : List UInt8 := [42, 183, 0, 1, 42, 27, 181, 0, 7, 177]
abbrev dktX3_init_0 : List UInt8 := dkwX3_init_0 ++ []
theorem dksX3_init_0 : cX3_init.data.toList.drop 0 = dktX3_init_0 := by decide +kernel
theorem dX3_init_0 : decode cX3_init 0 = .ok (.aload_n 0, 1) := dk_42 (dk_at dksX3_init_0 0 rfl rfl)
theorem dX3_init_1 : decode cX3_init 1 = .ok (.invokespecial 1, 3) := dk_183 0 1 (dk_at dksX3_init_0 1 rfl rfl)
theorem dX3_init_4 : decode cX3_init 4 = .ok (.aload_n 0, 1) := dk_42 (dk_at dksX3_init_0 4 rfl rfl)
theorem dX3_init_5 : decode cX3_init 5 = .ok (.iload_n 1, 1) := dk_27 (dk_at dksX3_init_0 5 rfl rfl)
theorem dX3_init_6 : decode cX3_init 6 = .ok (.putfield 7, 3) := dk_181 0 7 (dk_at dksX3_init_0 6 rfl rfl)
theorem dX3_init_9 : decode cX3_init 9 = .ok (.return_, 1) := dk_177 (dk_at dksX3_init_0 9 rfl rfl)
abbrev cX3_weightBehind : ByteArray := prog_3_method_4_code
def yX3_weightBehind : MethodName := ⟨RX3, "weightBehind", "(IIZ)I"⟩
theorem dX3_weightBehind_0 : decode cX3_weightBehind 0 = .ok (.iload_n 1, 1) := by decide +kernel
theorem dX3_weightBehind_1 : decode cX3_weightBehind 1 = .ok (.ireturn, 1) := by decide +kernel
abbrev cX3_number : ByteArray := prog_3_method_6_code
def yX3_number : MethodName := ⟨RX3, "number", "()I"⟩
theorem dX3_number_0 : decode cX3_number 0 = .ok (.aload_n 0, 1) := by decide +kernel
theorem dX3_number_1 : decode cX3_number 1 = .ok (.getfield 7, 3) := by decide +kernel
theorem dX3_number_4 : decode cX3_number 4 = .ok (.ireturn, 1) := by decide +kernel
abbrev cX3_size : ByteArray := prog_3_method_7_code
def yX3_size : MethodName := ⟨RX3, "size", "(LDishLift$Trail;LDishLift$House;)I"⟩
def dkwX3_size_0 : List UInt8 := [43, 16, 10, 182, 0, 13, 44, 180, 0, 19, 42, 180, 0, 7, 46, 172]
abbrev dktX3_size_0 : List UInt8 := dkwX3_size_0 ++ []
theorem dksX3_size_0 : cX3_size.data.toList.drop 0 = dktX3_size_0 := by decide +kernel
theorem dX3_size_0 : decode cX3_size 0 = .ok (.aload_n 1, 1) := dk_43 (dk_at dksX3_size_0 0 rfl rfl)
theorem dX3_size_1 : decode cX3_size 1 = .ok (.bipush 10, 2) := dk_16 10 (dk_at dksX3_size_0 1 rfl rfl)
theorem dX3_size_3 : decode cX3_size 3 = .ok (.invokevirtual 13, 3) := dk_182 0 13 (dk_at dksX3_size_0 3 rfl rfl)
theorem dX3_size_6 : decode cX3_size 6 = .ok (.aload_n 2, 1) := dk_44 (dk_at dksX3_size_0 6 rfl rfl)
theorem dX3_size_7 : decode cX3_size 7 = .ok (.getfield 19, 3) := dk_180 0 19 (dk_at dksX3_size_0 7 rfl rfl)
theorem dX3_size_10 : decode cX3_size 10 = .ok (.aload_n 0, 1) := dk_42 (dk_at dksX3_size_0 10 rfl rfl)
theorem dX3_size_11 : decode cX3_size 11 = .ok (.getfield 7, 3) := dk_180 0 7 (dk_at dksX3_size_0 11 rfl rfl)
theorem dX3_size_14 : decode cX3_size 14 = .ok (.iaload, 1) := dk_46 (dk_at dksX3_size_0 14 rfl rfl)
theorem dX3_size_15 : decode cX3_size 15 = .ok (.ireturn, 1) := dk_172 (dk_at dksX3_size_0 15 rfl rfl)
theorem q88 : (Jvm.Cond.initialized "DishLift$Dish") ∈ lw_all := lw_g (lw_at lw_m1 7 rfl) rfl
theorem q184 : (Jvm.Cond.fieldLink "DishLift$Dish" (19 : Nat) "DishLift$House" "weight" "[I") ∈ lw_all := lw_g (lw_at lw_m1 103 rfl) rfl
theorem q255 : (Jvm.Cond.instanceMethod ({ cls := "DishLift$Dish", name := "<init>", desc := "(I)V" } : Jvm.MethodName)) ∈ lw_all := lw_g (lw_at lw_m1 174 rfl) rfl
theorem q256 : (Jvm.Cond.code ({ cls := "DishLift$Dish", name := "<init>", desc := "(I)V" } : Jvm.MethodName) prog_3_method_1_code (2 : Nat) (Option.none : Option Jvm.ClassFile.FieldType)) ∈ lw_all := lw_g (lw_at lw_m1 175 rfl) rfl
theorem q257 : (Jvm.Cond.methodLink "DishLift$Dish" (1 : Nat) ({ cls := "java/lang/Object", name := "<init>", desc := "()V" } : Jvm.MethodName)) ∈ lw_all := lw_g (lw_at lw_m1 176 rfl) rfl
theorem q258 : (Jvm.Cond.fieldLink "DishLift$Dish" (7 : Nat) "DishLift$Dish" "number" "I") ∈ lw_all := lw_g (lw_at lw_m1 177 rfl) rfl
theorem q260 : (Jvm.Cond.soleField "DishLift$Dish" "number") ∈ lw_all := lw_g (lw_at lw_m1 179 rfl) rfl
theorem q836 : (Jvm.Cond.declares ({ cls := "DishLift$Dish", name := "heatBehind", desc := "(II)I" } : Jvm.MethodName)) ∈ lw_tbl := lw_at lw_m4 35 rfl
theorem q837 : (Jvm.Cond.sameMethod "DishLift$Dish" "DishLift$Dish" "heatBehind" "(II)I") ∈ lw_all := lw_g (lw_at lw_m4 36 rfl) rfl
theorem q853 : (Jvm.Cond.instanceMethod ({ cls := "DishLift$Dish", name := "weightBehind", desc := "(IIZ)I" } : Jvm.MethodName)) ∈ lw_all := lw_g (lw_at lw_m4 52 rfl) rfl
theorem q854 : (Jvm.Cond.sameMethod "DishLift$Dish" "DishLift$Dish" "weightBehind" "(IIZ)I") ∈ lw_all := lw_g (lw_at lw_m4 53 rfl) rfl
theorem q866 : (Jvm.Cond.code ({ cls := "DishLift$Dish", name := "weightBehind", desc := "(IIZ)I" } : Jvm.MethodName) prog_3_method_4_code (4 : Nat) (Option.some Jvm.ClassFile.FieldType.int)) ∈ lw_all := lw_g (lw_at lw_m4 65 rfl) rfl
theorem q908 : (Jvm.Cond.declares ({ cls := "DishLift$Dish", name := "isGood", desc := "(I)Z" } : Jvm.MethodName)) ∈ lw_tbl := lw_at lw_m4 107 rfl
theorem q909 : (Jvm.Cond.sameMethod "DishLift$Dish" "DishLift$Dish" "isGood" "(I)Z") ∈ lw_all := lw_g (lw_at lw_m4 108 rfl) rfl
theorem q1100 : (Jvm.Cond.declares ({ cls := "DishLift$Dish", name := "kind", desc := "()I" } : Jvm.MethodName)) ∈ lw_tbl := lw_at lw_m5 59 rfl
theorem q1101 : (Jvm.Cond.sameMethod "DishLift$Dish" "DishLift$Dish" "kind" "()I") ∈ lw_all := lw_g (lw_at lw_m5 60 rfl) rfl
theorem q1136 : (Jvm.Cond.instanceMethod ({ cls := "DishLift$Dish", name := "number", desc := "()I" } : Jvm.MethodName)) ∈ lw_all := lw_g (lw_at lw_m5 95 rfl) rfl
theorem q1137 : (Jvm.Cond.sameMethod "DishLift$Dish" "DishLift$Dish" "number" "()I") ∈ lw_all := lw_g (lw_at lw_m5 96 rfl) rfl
theorem q1143 : (Jvm.Cond.code ({ cls := "DishLift$Dish", name := "number", desc := "()I" } : Jvm.MethodName) prog_3_method_6_code (1 : Nat) (Option.some Jvm.ClassFile.FieldType.int)) ∈ lw_all := lw_g (lw_at lw_m5 102 rfl) rfl
theorem q1149 : (Jvm.Cond.instanceMethod ({ cls := "DishLift$Dish", name := "size", desc := "(LDishLift$Trail;LDishLift$House;)I" } : Jvm.MethodName)) ∈ lw_all := lw_g (lw_at lw_m5 108 rfl) rfl
theorem q1150 : (Jvm.Cond.sameMethod "DishLift$Dish" "DishLift$Dish" "size" "(LDishLift$Trail;LDishLift$House;)I") ∈ lw_all := lw_g (lw_at lw_m5 109 rfl) rfl
theorem q1159 : (Jvm.Cond.code ({ cls := "DishLift$Dish", name := "size", desc := "(LDishLift$Trail;LDishLift$House;)I" } : Jvm.MethodName) prog_3_method_7_code (3 : Nat) (Option.some Jvm.ClassFile.FieldType.int)) ∈ lw_all := lw_g (lw_at lw_m5 118 rfl) rfl
theorem q1160 : (Jvm.Cond.methodLink "DishLift$Dish" (13 : Nat) ({ cls := "DishLift$Trail", name := "begins", desc := "(I)V" } : Jvm.MethodName)) ∈ lw_all := lw_g (lw_at lw_m5 119 rfl) rfl
theorem q1176 : (Jvm.Cond.superclass "DishLift$Dish" "java/lang/Object") ∈ lw_all := lw_g (lw_at lw_m5 135 rfl) rfl
theorem q1188 : (Jvm.Cond.publicMethod ({ cls := "DishLift$Dish", name := "number", desc := "()I" } : Jvm.MethodName)) ∈ lw_tbl := lw_at lw_m5 147 rfl
theorem q1203 : (Jvm.Cond.declares ({ cls := "DishLift$Dish", name := "number", desc := "()I" } : Jvm.MethodName)) ∈ lw_tbl := lw_at lw_m5 162 rfl
theorem q1702 : (Jvm.Cond.castable "DishLift$Dish" "java/lang/Object") ∈ lw_tbl := lw_at lw_m7 181 rfl

/-! DishLift$Hot -/
set_option maxRecDepth 100000
def RX4 : String := "DishLift$Hot"
def TX4 : u_T := fun k => match k with
  | _ => ("DishLift$Dish", "number", "I", true)
def tyX4 : Nat → FieldType := fun k => match k with
  | _ => .int
abbrev wsX40 : List Cond := u_ws RX4 TX4 1
theorem nmX4 : ∀ a, a < 1 → ∀ b, b < 1 → a ≠ b → (TX4 a).2.1 ≠ (TX4 b).2.1 := by decide +kernel
theorem tyX4_ok : ∀ k, k < 1 → parseFieldDescriptor (TX4 k).2.2.1 = some (tyX4 k) := by decide +kernel
abbrev cX4_init : ByteArray := prog_6_method_1_code
def yX4_init : MethodName := ⟨RX4, "<init>", "(I)V"⟩
def dkwX4_init_0 : List UInt8 := [42, 27, 183, 0, 3, 177]
abbrev dktX4_init_0 : List UInt8 := dkwX4_init_0 ++ []
theorem dksX4_init_0 : cX4_init.data.toList.drop 0 = dktX4_init_0 := by decide +kernel
theorem dX4_init_0 : decode cX4_init 0 = .ok (.aload_n 0, 1) := dk_42 (dk_at dksX4_init_0 0 rfl rfl)
theorem dX4_init_1 : decode cX4_init 1 = .ok (.iload_n 1, 1) := dk_27 (dk_at dksX4_init_0 1 rfl rfl)
theorem dX4_init_2 : decode cX4_init 2 = .ok (.invokespecial 3, 3) := dk_183 0 3 (dk_at dksX4_init_0 2 rfl rfl)
theorem dX4_init_5 : decode cX4_init 5 = .ok (.return_, 1) := dk_177 (dk_at dksX4_init_0 5 rfl rfl)
abbrev cX4_heatBehind : ByteArray := prog_6_method_3_code
def yX4_heatBehind : MethodName := ⟨RX4, "heatBehind", "(II)I"⟩
def dkwX4_heatBehind_0 : List UInt8 := [3, 27, 4, 100, 184, 0, 9, 172]
abbrev dktX4_heatBehind_0 : List UInt8 := dkwX4_heatBehind_0 ++ []
theorem dksX4_heatBehind_0 : cX4_heatBehind.data.toList.drop 0 = dktX4_heatBehind_0 := by decide +kernel
theorem dX4_heatBehind_0 : decode cX4_heatBehind 0 = .ok (.iconst 0, 1) := dk_3 (dk_at dksX4_heatBehind_0 0 rfl rfl)
theorem dX4_heatBehind_1 : decode cX4_heatBehind 1 = .ok (.iload_n 1, 1) := dk_27 (dk_at dksX4_heatBehind_0 1 rfl rfl)
theorem dX4_heatBehind_2 : decode cX4_heatBehind 2 = .ok (.iconst 1, 1) := dk_4 (dk_at dksX4_heatBehind_0 2 rfl rfl)
theorem dX4_heatBehind_3 : decode cX4_heatBehind 3 = .ok (.isub, 1) := dk_100 (dk_at dksX4_heatBehind_0 3 rfl rfl)
theorem dX4_heatBehind_4 : decode cX4_heatBehind 4 = .ok (.invokestatic 9, 3) := dk_184 0 9 (dk_at dksX4_heatBehind_0 4 rfl rfl)
theorem dX4_heatBehind_7 : decode cX4_heatBehind 7 = .ok (.ireturn, 1) := dk_172 (dk_at dksX4_heatBehind_0 7 rfl rfl)
abbrev cX4_isGood : ByteArray := prog_6_method_4_code
def yX4_isGood : MethodName := ⟨RX4, "isGood", "(I)Z"⟩
def dkwX4_isGood_0 : List UInt8 := [27, 16, 20, 161, 0, 7, 4, 167, 0, 4, 3, 172]
abbrev dktX4_isGood_0 : List UInt8 := dkwX4_isGood_0 ++ []
theorem dksX4_isGood_0 : cX4_isGood.data.toList.drop 0 = dktX4_isGood_0 := by decide +kernel
theorem dX4_isGood_0 : decode cX4_isGood 0 = .ok (.iload_n 1, 1) := dk_27 (dk_at dksX4_isGood_0 0 rfl rfl)
theorem dX4_isGood_1 : decode cX4_isGood 1 = .ok (.bipush 20, 2) := dk_16 20 (dk_at dksX4_isGood_0 1 rfl rfl)
theorem dX4_isGood_3 : decode cX4_isGood 3 = .ok (.if_icmp .lt 7, 3) := dk_161 0 7 (dk_at dksX4_isGood_0 3 rfl rfl)
theorem dX4_isGood_6 : decode cX4_isGood 6 = .ok (.iconst 1, 1) := dk_4 (dk_at dksX4_isGood_0 6 rfl rfl)
theorem dX4_isGood_7 : decode cX4_isGood 7 = .ok (.goto 4, 3) := dk_167 0 4 (dk_at dksX4_isGood_0 7 rfl rfl)
theorem dX4_isGood_10 : decode cX4_isGood 10 = .ok (.iconst 0, 1) := dk_3 (dk_at dksX4_isGood_0 10 rfl rfl)
theorem dX4_isGood_11 : decode cX4_isGood 11 = .ok (.ireturn, 1) := dk_172 (dk_at dksX4_isGood_0 11 rfl rfl)
abbrev cX4_kind : ByteArray := prog_6_method_2_code
def yX4_kind : MethodName := ⟨RX4, "kind", "()I"⟩
theorem dX4_kind_0 : decode cX4_kind 0 = .ok (.iconst 1, 1) := by decide +kernel
theorem dX4_kind_1 : decode cX4_kind 1 = .ok (.ireturn, 1) := by decide +kernel
abbrev cX4_size : ByteArray := prog_6_method_5_code
def yX4_size : MethodName := ⟨RX4, "size", "(LDishLift$Trail;LDishLift$House;)I"⟩
def dkwX4_size_0 : List UInt8 := [43, 16, 11, 182, 0, 15, 42, 43, 44, 183, 0, 20, 42, 43, 44, 182, 0, 24, 96, 172]
abbrev dktX4_size_0 : List UInt8 := dkwX4_size_0 ++ []
theorem dksX4_size_0 : cX4_size.data.toList.drop 0 = dktX4_size_0 := by decide +kernel
theorem dX4_size_0 : decode cX4_size 0 = .ok (.aload_n 1, 1) := dk_43 (dk_at dksX4_size_0 0 rfl rfl)
theorem dX4_size_1 : decode cX4_size 1 = .ok (.bipush 11, 2) := dk_16 11 (dk_at dksX4_size_0 1 rfl rfl)
theorem dX4_size_3 : decode cX4_size 3 = .ok (.invokevirtual 15, 3) := dk_182 0 15 (dk_at dksX4_size_0 3 rfl rfl)
theorem dX4_size_6 : decode cX4_size 6 = .ok (.aload_n 0, 1) := dk_42 (dk_at dksX4_size_0 6 rfl rfl)
theorem dX4_size_7 : decode cX4_size 7 = .ok (.aload_n 1, 1) := dk_43 (dk_at dksX4_size_0 7 rfl rfl)
theorem dX4_size_8 : decode cX4_size 8 = .ok (.aload_n 2, 1) := dk_44 (dk_at dksX4_size_0 8 rfl rfl)
theorem dX4_size_9 : decode cX4_size 9 = .ok (.invokespecial 20, 3) := dk_183 0 20 (dk_at dksX4_size_0 9 rfl rfl)
theorem dX4_size_12 : decode cX4_size 12 = .ok (.aload_n 0, 1) := dk_42 (dk_at dksX4_size_0 12 rfl rfl)
theorem dX4_size_13 : decode cX4_size 13 = .ok (.aload_n 1, 1) := dk_43 (dk_at dksX4_size_0 13 rfl rfl)
theorem dX4_size_14 : decode cX4_size 14 = .ok (.aload_n 2, 1) := dk_44 (dk_at dksX4_size_0 14 rfl rfl)
theorem dX4_size_15 : decode cX4_size 15 = .ok (.invokevirtual 24, 3) := dk_182 0 24 (dk_at dksX4_size_0 15 rfl rfl)
theorem dX4_size_18 : decode cX4_size 18 = .ok (.iadd, 1) := dk_96 (dk_at dksX4_size_0 18 rfl rfl)
theorem dX4_size_19 : decode cX4_size 19 = .ok (.ireturn, 1) := dk_172 (dk_at dksX4_size_0 19 rfl rfl)
abbrev cX4_mark : ByteArray := prog_6_method_6_code
def yX4_mark : MethodName := ⟨RX4, "mark", "(LDishLift$Trail;LDishLift$House;)I"⟩
def dkwX4_mark_0 : List UInt8 := [43, 16, 21, 182, 0, 15, 42, 43, 44, 183, 0, 29, 44, 180, 0, 30, 42, 182, 0, 36, 46, 96, 172]
abbrev dktX4_mark_0 : List UInt8 := dkwX4_mark_0 ++ []
theorem dksX4_mark_0 : cX4_mark.data.toList.drop 0 = dktX4_mark_0 := by decide +kernel
theorem dX4_mark_0 : decode cX4_mark 0 = .ok (.aload_n 1, 1) := dk_43 (dk_at dksX4_mark_0 0 rfl rfl)
theorem dX4_mark_1 : decode cX4_mark 1 = .ok (.bipush 21, 2) := dk_16 21 (dk_at dksX4_mark_0 1 rfl rfl)
theorem dX4_mark_3 : decode cX4_mark 3 = .ok (.invokevirtual 15, 3) := dk_182 0 15 (dk_at dksX4_mark_0 3 rfl rfl)
theorem dX4_mark_6 : decode cX4_mark 6 = .ok (.aload_n 0, 1) := dk_42 (dk_at dksX4_mark_0 6 rfl rfl)
theorem dX4_mark_7 : decode cX4_mark 7 = .ok (.aload_n 1, 1) := dk_43 (dk_at dksX4_mark_0 7 rfl rfl)
theorem dX4_mark_8 : decode cX4_mark 8 = .ok (.aload_n 2, 1) := dk_44 (dk_at dksX4_mark_0 8 rfl rfl)
theorem dX4_mark_9 : decode cX4_mark 9 = .ok (.invokespecial 29, 3) := dk_183 0 29 (dk_at dksX4_mark_0 9 rfl rfl)
theorem dX4_mark_12 : decode cX4_mark 12 = .ok (.aload_n 2, 1) := dk_44 (dk_at dksX4_mark_0 12 rfl rfl)
theorem dX4_mark_13 : decode cX4_mark 13 = .ok (.getfield 30, 3) := dk_180 0 30 (dk_at dksX4_mark_0 13 rfl rfl)
theorem dX4_mark_16 : decode cX4_mark 16 = .ok (.aload_n 0, 1) := dk_42 (dk_at dksX4_mark_0 16 rfl rfl)
theorem dX4_mark_17 : decode cX4_mark 17 = .ok (.invokevirtual 36, 3) := dk_182 0 36 (dk_at dksX4_mark_0 17 rfl rfl)
theorem dX4_mark_20 : decode cX4_mark 20 = .ok (.iaload, 1) := dk_46 (dk_at dksX4_mark_0 20 rfl rfl)
theorem dX4_mark_21 : decode cX4_mark 21 = .ok (.iadd, 1) := dk_96 (dk_at dksX4_mark_0 21 rfl rfl)
theorem dX4_mark_22 : decode cX4_mark 22 = .ok (.ireturn, 1) := dk_172 (dk_at dksX4_mark_0 22 rfl rfl)
theorem q89 : (Jvm.Cond.initialized "DishLift$Hot") ∈ lw_all := lw_g (lw_at lw_m1 8 rfl) rfl
theorem q188 : (Jvm.Cond.fieldLink "DishLift$Hot" (30 : Nat) "DishLift$House" "heat" "[I") ∈ lw_all := lw_g (lw_at lw_m1 107 rfl) rfl
theorem q250 : (Jvm.Cond.instantiable "DishLift$Hot" (1 : Nat)) ∈ lw_all := lw_g (lw_at lw_m1 169 rfl) rfl
theorem q252 : (Jvm.Cond.instanceMethod ({ cls := "DishLift$Hot", name := "<init>", desc := "(I)V" } : Jvm.MethodName)) ∈ lw_all := lw_g (lw_at lw_m1 171 rfl) rfl
theorem q253 : (Jvm.Cond.code ({ cls := "DishLift$Hot", name := "<init>", desc := "(I)V" } : Jvm.MethodName) prog_6_method_1_code (2 : Nat) (Option.none : Option Jvm.ClassFile.FieldType)) ∈ lw_all := lw_g (lw_at lw_m1 172 rfl) rfl
theorem q254 : (Jvm.Cond.methodLink "DishLift$Hot" (3 : Nat) ({ cls := "DishLift$Dish", name := "<init>", desc := "(I)V" } : Jvm.MethodName)) ∈ lw_all := lw_g (lw_at lw_m1 173 rfl) rfl
theorem q259 : (Jvm.Cond.laysFinal "DishLift$Hot" "DishLift$Dish" "number" "I") ∈ lw_all := lw_g (lw_at lw_m1 178 rfl) rfl
theorem q261 : (Jvm.Cond.superclass "DishLift$Hot" "DishLift$Dish") ∈ lw_all := lw_g (lw_at lw_m1 180 rfl) rfl
theorem q724 : (Jvm.Cond.selects "DishLift$Hot" ({ cls := "java/lang/Object", name := "getClass", desc := "()Ljava/lang/Class;" } : Jvm.MethodName) ({ cls := "java/lang/Object", name := "getClass", desc := "()Ljava/lang/Class;" } : Jvm.MethodName)) ∈ lw_all := lw_g (lw_at lw_m3 163 rfl) rfl
theorem q842 : (Jvm.Cond.selects "DishLift$Hot" ({ cls := "DishLift$Dish", name := "heatBehind", desc := "(II)I" } : Jvm.MethodName) ({ cls := "DishLift$Hot", name := "heatBehind", desc := "(II)I" } : Jvm.MethodName)) ∈ lw_all := lw_g (lw_at lw_m4 41 rfl) rfl
theorem q843 : (Jvm.Cond.instanceMethod ({ cls := "DishLift$Hot", name := "heatBehind", desc := "(II)I" } : Jvm.MethodName)) ∈ lw_all := lw_g (lw_at lw_m4 42 rfl) rfl
theorem q844 : (Jvm.Cond.code ({ cls := "DishLift$Hot", name := "heatBehind", desc := "(II)I" } : Jvm.MethodName) prog_6_method_3_code (3 : Nat) (Option.some Jvm.ClassFile.FieldType.int)) ∈ lw_all := lw_g (lw_at lw_m4 43 rfl) rfl
theorem q845 : (Jvm.Cond.methodLink "DishLift$Hot" (9 : Nat) ({ cls := "java/lang/Math", name := "max", desc := "(II)I" } : Jvm.MethodName)) ∈ lw_all := lw_g (lw_at lw_m4 44 rfl) rfl
theorem q856 : (Jvm.Cond.selects "DishLift$Hot" ({ cls := "DishLift$Dish", name := "weightBehind", desc := "(IIZ)I" } : Jvm.MethodName) ({ cls := "DishLift$Dish", name := "weightBehind", desc := "(IIZ)I" } : Jvm.MethodName)) ∈ lw_all := lw_g (lw_at lw_m4 55 rfl) rfl
theorem q913 : (Jvm.Cond.selects "DishLift$Hot" ({ cls := "DishLift$Dish", name := "isGood", desc := "(I)Z" } : Jvm.MethodName) ({ cls := "DishLift$Hot", name := "isGood", desc := "(I)Z" } : Jvm.MethodName)) ∈ lw_all := lw_g (lw_at lw_m4 112 rfl) rfl
theorem q914 : (Jvm.Cond.instanceMethod ({ cls := "DishLift$Hot", name := "isGood", desc := "(I)Z" } : Jvm.MethodName)) ∈ lw_all := lw_g (lw_at lw_m4 113 rfl) rfl
theorem q915 : (Jvm.Cond.code ({ cls := "DishLift$Hot", name := "isGood", desc := "(I)Z" } : Jvm.MethodName) prog_6_method_4_code (2 : Nat) (Option.some Jvm.ClassFile.FieldType.boolean)) ∈ lw_all := lw_g (lw_at lw_m4 114 rfl) rfl
theorem q1105 : (Jvm.Cond.selects "DishLift$Hot" ({ cls := "DishLift$Dish", name := "kind", desc := "()I" } : Jvm.MethodName) ({ cls := "DishLift$Hot", name := "kind", desc := "()I" } : Jvm.MethodName)) ∈ lw_all := lw_g (lw_at lw_m5 64 rfl) rfl
theorem q1106 : (Jvm.Cond.instanceMethod ({ cls := "DishLift$Hot", name := "kind", desc := "()I" } : Jvm.MethodName)) ∈ lw_all := lw_g (lw_at lw_m5 65 rfl) rfl
theorem q1107 : (Jvm.Cond.code ({ cls := "DishLift$Hot", name := "kind", desc := "()I" } : Jvm.MethodName) prog_6_method_2_code (1 : Nat) (Option.some Jvm.ClassFile.FieldType.int)) ∈ lw_all := lw_g (lw_at lw_m5 66 rfl) rfl
theorem q1139 : (Jvm.Cond.selects "DishLift$Hot" ({ cls := "DishLift$Dish", name := "number", desc := "()I" } : Jvm.MethodName) ({ cls := "DishLift$Dish", name := "number", desc := "()I" } : Jvm.MethodName)) ∈ lw_all := lw_g (lw_at lw_m5 98 rfl) rfl
theorem q1161 : (Jvm.Cond.selects "DishLift$Hot" ({ cls := "DishLift$Dish", name := "size", desc := "(LDishLift$Trail;LDishLift$House;)I" } : Jvm.MethodName) ({ cls := "DishLift$Hot", name := "size", desc := "(LDishLift$Trail;LDishLift$House;)I" } : Jvm.MethodName)) ∈ lw_all := lw_g (lw_at lw_m5 120 rfl) rfl
theorem q1162 : (Jvm.Cond.instanceMethod ({ cls := "DishLift$Hot", name := "size", desc := "(LDishLift$Trail;LDishLift$House;)I" } : Jvm.MethodName)) ∈ lw_all := lw_g (lw_at lw_m5 121 rfl) rfl
theorem q1163 : (Jvm.Cond.code ({ cls := "DishLift$Hot", name := "size", desc := "(LDishLift$Trail;LDishLift$House;)I" } : Jvm.MethodName) prog_6_method_5_code (3 : Nat) (Option.some Jvm.ClassFile.FieldType.int)) ∈ lw_all := lw_g (lw_at lw_m5 122 rfl) rfl
theorem q1164 : (Jvm.Cond.methodLink "DishLift$Hot" (15 : Nat) ({ cls := "DishLift$Trail", name := "begins", desc := "(I)V" } : Jvm.MethodName)) ∈ lw_all := lw_g (lw_at lw_m5 123 rfl) rfl
theorem q1165 : (Jvm.Cond.methodLink "DishLift$Hot" (20 : Nat) ({ cls := "DishLift$Dish", name := "size", desc := "(LDishLift$Trail;LDishLift$House;)I" } : Jvm.MethodName)) ∈ lw_all := lw_g (lw_at lw_m5 124 rfl) rfl
theorem q1166 : (Jvm.Cond.methodLink "DishLift$Hot" (24 : Nat) ({ cls := "DishLift$Hot", name := "mark", desc := "(LDishLift$Trail;LDishLift$House;)I" } : Jvm.MethodName)) ∈ lw_all := lw_g (lw_at lw_m5 125 rfl) rfl
theorem q1167 : (Jvm.Cond.instanceMethod ({ cls := "DishLift$Hot", name := "mark", desc := "(LDishLift$Trail;LDishLift$House;)I" } : Jvm.MethodName)) ∈ lw_all := lw_g (lw_at lw_m5 126 rfl) rfl
theorem q1168 : (Jvm.Cond.selects "DishLift$Hot" ({ cls := "DishLift$Hot", name := "mark", desc := "(LDishLift$Trail;LDishLift$House;)I" } : Jvm.MethodName) ({ cls := "DishLift$Hot", name := "mark", desc := "(LDishLift$Trail;LDishLift$House;)I" } : Jvm.MethodName)) ∈ lw_all := lw_g (lw_at lw_m5 127 rfl) rfl
theorem q1169 : (Jvm.Cond.sameMethod "DishLift$Hot" "DishLift$Hot" "mark" "(LDishLift$Trail;LDishLift$House;)I") ∈ lw_all := lw_g (lw_at lw_m5 128 rfl) rfl
theorem q1175 : (Jvm.Cond.code ({ cls := "DishLift$Hot", name := "mark", desc := "(LDishLift$Trail;LDishLift$House;)I" } : Jvm.MethodName) prog_6_method_6_code (3 : Nat) (Option.some Jvm.ClassFile.FieldType.int)) ∈ lw_all := lw_g (lw_at lw_m5 134 rfl) rfl
theorem q1189 : (Jvm.Cond.castable "DishLift$Hot" "DishLift$Marked") ∈ lw_tbl := lw_at lw_m5 148 rfl
theorem q1190 : (Jvm.Cond.selects "DishLift$Hot" ({ cls := "DishLift$Marked", name := "number", desc := "()I" } : Jvm.MethodName) ({ cls := "DishLift$Dish", name := "number", desc := "()I" } : Jvm.MethodName)) ∈ lw_all := lw_g (lw_at lw_m5 149 rfl) rfl
theorem q1191 : (Jvm.Cond.unhidden "DishLift$Hot" "number" "()I") ∈ lw_tbl := lw_at lw_m5 150 rfl
theorem q1201 : (Jvm.Cond.methodLink "DishLift$Hot" (36 : Nat) ({ cls := "DishLift$Hot", name := "number", desc := "()I" } : Jvm.MethodName)) ∈ lw_all := lw_g (lw_at lw_m5 160 rfl) rfl
theorem q1202 : (Jvm.Cond.sameMethod "DishLift$Hot" "DishLift$Dish" "number" "()I") ∈ lw_all := lw_g (lw_at lw_m5 161 rfl) rfl
theorem q1204 : (Jvm.Cond.selects "DishLift$Hot" ({ cls := "DishLift$Hot", name := "number", desc := "()I" } : Jvm.MethodName) ({ cls := "DishLift$Dish", name := "number", desc := "()I" } : Jvm.MethodName)) ∈ lw_all := lw_g (lw_at lw_m5 163 rfl) rfl
theorem q1226 : (Jvm.Cond.selects "DishLift$Hot" ({ cls := "DishLift$Marked", name := "mark", desc := "(LDishLift$Trail;LDishLift$House;)I" } : Jvm.MethodName) ({ cls := "DishLift$Hot", name := "mark", desc := "(LDishLift$Trail;LDishLift$House;)I" } : Jvm.MethodName)) ∈ lw_all := lw_g (lw_at lw_m5 185 rfl) rfl
theorem q1684 : (Jvm.Cond.sameMethod "DishLift$Hot" "DishLift$Hot" "heatBehind" "(II)I") ∈ lw_all := lw_g (lw_at lw_m7 163 rfl) rfl
theorem q1686 : (Jvm.Cond.sameMethod "DishLift$Hot" "DishLift$Hot" "size" "(LDishLift$Trail;LDishLift$House;)I") ∈ lw_all := lw_g (lw_at lw_m7 165 rfl) rfl
theorem q1693 : (Jvm.Cond.castable "DishLift$Hot" "DishLift$Dish") ∈ lw_tbl := lw_at lw_m7 172 rfl
theorem q1706 : (Jvm.Cond.castable "DishLift$Hot" "java/lang/Object") ∈ lw_tbl := lw_at lw_m7 185 rfl
theorem in_X4 : ∀ w ∈ wsX40, w ∈ lw_all := lw_in wsX40 [259] (by decide +kernel) (by decide +kernel)

/-! DishLift$Soup -/
set_option maxRecDepth 100000
def RX5 : String := "DishLift$Soup"
def TX5 : u_T := fun k => match k with
  | _ => ("DishLift$Dish", "number", "I", true)
def tyX5 : Nat → FieldType := fun k => match k with
  | _ => .int
abbrev wsX50 : List Cond := u_ws RX5 TX5 1
theorem nmX5 : ∀ a, a < 1 → ∀ b, b < 1 → a ≠ b → (TX5 a).2.1 ≠ (TX5 b).2.1 := by decide +kernel
theorem tyX5_ok : ∀ k, k < 1 → parseFieldDescriptor (TX5 k).2.2.1 = some (tyX5 k) := by decide +kernel
abbrev cX5_init : ByteArray := prog_13_method_1_code
def yX5_init : MethodName := ⟨RX5, "<init>", "(I)V"⟩
def dkwX5_init_0 : List UInt8 := [42, 27, 183, 0, 3, 177]
abbrev dktX5_init_0 : List UInt8 := dkwX5_init_0 ++ []
theorem dksX5_init_0 : cX5_init.data.toList.drop 0 = dktX5_init_0 := by decide +kernel
theorem dX5_init_0 : decode cX5_init 0 = .ok (.aload_n 0, 1) := dk_42 (dk_at dksX5_init_0 0 rfl rfl)
theorem dX5_init_1 : decode cX5_init 1 = .ok (.iload_n 1, 1) := dk_27 (dk_at dksX5_init_0 1 rfl rfl)
theorem dX5_init_2 : decode cX5_init 2 = .ok (.invokespecial 3, 3) := dk_183 0 3 (dk_at dksX5_init_0 2 rfl rfl)
theorem dX5_init_5 : decode cX5_init 5 = .ok (.return_, 1) := dk_177 (dk_at dksX5_init_0 5 rfl rfl)
abbrev cX5_weightBehind : ByteArray := prog_13_method_3_code
def yX5_weightBehind : MethodName := ⟨RX5, "weightBehind", "(IIZ)I"⟩
def dkwX5_weightBehind_0 : List UInt8 := [29, 153, 0, 13, 4, 27, 4, 100, 184, 0, 9, 167, 0, 4, 27, 172]
abbrev dktX5_weightBehind_0 : List UInt8 := dkwX5_weightBehind_0 ++ []
theorem dksX5_weightBehind_0 : cX5_weightBehind.data.toList.drop 0 = dktX5_weightBehind_0 := by decide +kernel
theorem dX5_weightBehind_0 : decode cX5_weightBehind 0 = .ok (.iload_n 3, 1) := dk_29 (dk_at dksX5_weightBehind_0 0 rfl rfl)
theorem dX5_weightBehind_1 : decode cX5_weightBehind 1 = .ok (.ifCond .eq 13, 3) := dk_153 0 13 (dk_at dksX5_weightBehind_0 1 rfl rfl)
theorem dX5_weightBehind_4 : decode cX5_weightBehind 4 = .ok (.iconst 1, 1) := dk_4 (dk_at dksX5_weightBehind_0 4 rfl rfl)
theorem dX5_weightBehind_5 : decode cX5_weightBehind 5 = .ok (.iload_n 1, 1) := dk_27 (dk_at dksX5_weightBehind_0 5 rfl rfl)
theorem dX5_weightBehind_6 : decode cX5_weightBehind 6 = .ok (.iconst 1, 1) := dk_4 (dk_at dksX5_weightBehind_0 6 rfl rfl)
theorem dX5_weightBehind_7 : decode cX5_weightBehind 7 = .ok (.isub, 1) := dk_100 (dk_at dksX5_weightBehind_0 7 rfl rfl)
theorem dX5_weightBehind_8 : decode cX5_weightBehind 8 = .ok (.invokestatic 9, 3) := dk_184 0 9 (dk_at dksX5_weightBehind_0 8 rfl rfl)
theorem dX5_weightBehind_11 : decode cX5_weightBehind 11 = .ok (.goto 4, 3) := dk_167 0 4 (dk_at dksX5_weightBehind_0 11 rfl rfl)
theorem dX5_weightBehind_14 : decode cX5_weightBehind 14 = .ok (.iload_n 1, 1) := dk_27 (dk_at dksX5_weightBehind_0 14 rfl rfl)
theorem dX5_weightBehind_15 : decode cX5_weightBehind 15 = .ok (.ireturn, 1) := dk_172 (dk_at dksX5_weightBehind_0 15 rfl rfl)
abbrev cX5_kind : ByteArray := prog_13_method_2_code
def yX5_kind : MethodName := ⟨RX5, "kind", "()I"⟩
theorem dX5_kind_0 : decode cX5_kind 0 = .ok (.iconst 2, 1) := by decide +kernel
theorem dX5_kind_1 : decode cX5_kind 1 = .ok (.ireturn, 1) := by decide +kernel
abbrev cX5_mark : ByteArray := prog_13_method_5_code
def yX5_mark : MethodName := ⟨RX5, "mark", "(LDishLift$Trail;LDishLift$House;)I"⟩
def dkwX5_mark_0 : List UInt8 := [43, 16, 24, 182, 0, 15, 5, 42, 43, 44, 183, 0, 24, 104, 172]
abbrev dktX5_mark_0 : List UInt8 := dkwX5_mark_0 ++ []
theorem dksX5_mark_0 : cX5_mark.data.toList.drop 0 = dktX5_mark_0 := by decide +kernel
theorem dX5_mark_0 : decode cX5_mark 0 = .ok (.aload_n 1, 1) := dk_43 (dk_at dksX5_mark_0 0 rfl rfl)
theorem dX5_mark_1 : decode cX5_mark 1 = .ok (.bipush 24, 2) := dk_16 24 (dk_at dksX5_mark_0 1 rfl rfl)
theorem dX5_mark_3 : decode cX5_mark 3 = .ok (.invokevirtual 15, 3) := dk_182 0 15 (dk_at dksX5_mark_0 3 rfl rfl)
theorem dX5_mark_6 : decode cX5_mark 6 = .ok (.iconst 2, 1) := dk_5 (dk_at dksX5_mark_0 6 rfl rfl)
theorem dX5_mark_7 : decode cX5_mark 7 = .ok (.aload_n 0, 1) := dk_42 (dk_at dksX5_mark_0 7 rfl rfl)
theorem dX5_mark_8 : decode cX5_mark 8 = .ok (.aload_n 1, 1) := dk_43 (dk_at dksX5_mark_0 8 rfl rfl)
theorem dX5_mark_9 : decode cX5_mark 9 = .ok (.aload_n 2, 1) := dk_44 (dk_at dksX5_mark_0 9 rfl rfl)
theorem dX5_mark_10 : decode cX5_mark 10 = .ok (.invokespecial 24, 3) := dk_183 0 24 (dk_at dksX5_mark_0 10 rfl rfl)
theorem dX5_mark_13 : decode cX5_mark 13 = .ok (.imul, 1) := dk_104 (dk_at dksX5_mark_0 13 rfl rfl)
theorem dX5_mark_14 : decode cX5_mark 14 = .ok (.ireturn, 1) := dk_172 (dk_at dksX5_mark_0 14 rfl rfl)
abbrev cX5_size : ByteArray := prog_13_method_4_code
def yX5_size : MethodName := ⟨RX5, "size", "(LDishLift$Trail;LDishLift$House;)I"⟩
def dkwX5_size_0 : List UInt8 := [43, 16, 12, 182, 0, 15, 42, 43, 44, 183, 0, 20, 116, 172]
abbrev dktX5_size_0 : List UInt8 := dkwX5_size_0 ++ []
theorem dksX5_size_0 : cX5_size.data.toList.drop 0 = dktX5_size_0 := by decide +kernel
theorem dX5_size_0 : decode cX5_size 0 = .ok (.aload_n 1, 1) := dk_43 (dk_at dksX5_size_0 0 rfl rfl)
theorem dX5_size_1 : decode cX5_size 1 = .ok (.bipush 12, 2) := dk_16 12 (dk_at dksX5_size_0 1 rfl rfl)
theorem dX5_size_3 : decode cX5_size 3 = .ok (.invokevirtual 15, 3) := dk_182 0 15 (dk_at dksX5_size_0 3 rfl rfl)
theorem dX5_size_6 : decode cX5_size 6 = .ok (.aload_n 0, 1) := dk_42 (dk_at dksX5_size_0 6 rfl rfl)
theorem dX5_size_7 : decode cX5_size 7 = .ok (.aload_n 1, 1) := dk_43 (dk_at dksX5_size_0 7 rfl rfl)
theorem dX5_size_8 : decode cX5_size 8 = .ok (.aload_n 2, 1) := dk_44 (dk_at dksX5_size_0 8 rfl rfl)
theorem dX5_size_9 : decode cX5_size 9 = .ok (.invokespecial 20, 3) := dk_183 0 20 (dk_at dksX5_size_0 9 rfl rfl)
theorem dX5_size_12 : decode cX5_size 12 = .ok (.ineg, 1) := dk_116 (dk_at dksX5_size_0 12 rfl rfl)
theorem dX5_size_13 : decode cX5_size 13 = .ok (.ireturn, 1) := dk_172 (dk_at dksX5_size_0 13 rfl rfl)
theorem q90 : (Jvm.Cond.initialized "DishLift$Soup") ∈ lw_all := lw_g (lw_at lw_m1 9 rfl) rfl
theorem q263 : (Jvm.Cond.instantiable "DishLift$Soup" (1 : Nat)) ∈ lw_all := lw_g (lw_at lw_m1 182 rfl) rfl
theorem q265 : (Jvm.Cond.instanceMethod ({ cls := "DishLift$Soup", name := "<init>", desc := "(I)V" } : Jvm.MethodName)) ∈ lw_all := lw_g (lw_at lw_m1 184 rfl) rfl
theorem q266 : (Jvm.Cond.code ({ cls := "DishLift$Soup", name := "<init>", desc := "(I)V" } : Jvm.MethodName) prog_13_method_1_code (2 : Nat) (Option.none : Option Jvm.ClassFile.FieldType)) ∈ lw_all := lw_g (lw_at lw_m1 185 rfl) rfl
theorem q267 : (Jvm.Cond.methodLink "DishLift$Soup" (3 : Nat) ({ cls := "DishLift$Hot", name := "<init>", desc := "(I)V" } : Jvm.MethodName)) ∈ lw_all := lw_g (lw_at lw_m1 186 rfl) rfl
theorem q268 : (Jvm.Cond.laysFinal "DishLift$Soup" "DishLift$Dish" "number" "I") ∈ lw_all := lw_g (lw_at lw_m1 187 rfl) rfl
theorem q269 : (Jvm.Cond.superclass "DishLift$Soup" "DishLift$Hot") ∈ lw_all := lw_g (lw_at lw_m1 188 rfl) rfl
theorem q730 : (Jvm.Cond.selects "DishLift$Soup" ({ cls := "java/lang/Object", name := "getClass", desc := "()Ljava/lang/Class;" } : Jvm.MethodName) ({ cls := "java/lang/Object", name := "getClass", desc := "()Ljava/lang/Class;" } : Jvm.MethodName)) ∈ lw_all := lw_g (lw_at lw_m3 169 rfl) rfl
theorem q851 : (Jvm.Cond.selects "DishLift$Soup" ({ cls := "DishLift$Dish", name := "heatBehind", desc := "(II)I" } : Jvm.MethodName) ({ cls := "DishLift$Hot", name := "heatBehind", desc := "(II)I" } : Jvm.MethodName)) ∈ lw_all := lw_g (lw_at lw_m4 50 rfl) rfl
theorem q862 : (Jvm.Cond.selects "DishLift$Soup" ({ cls := "DishLift$Dish", name := "weightBehind", desc := "(IIZ)I" } : Jvm.MethodName) ({ cls := "DishLift$Soup", name := "weightBehind", desc := "(IIZ)I" } : Jvm.MethodName)) ∈ lw_all := lw_g (lw_at lw_m4 61 rfl) rfl
theorem q863 : (Jvm.Cond.instanceMethod ({ cls := "DishLift$Soup", name := "weightBehind", desc := "(IIZ)I" } : Jvm.MethodName)) ∈ lw_all := lw_g (lw_at lw_m4 62 rfl) rfl
theorem q864 : (Jvm.Cond.code ({ cls := "DishLift$Soup", name := "weightBehind", desc := "(IIZ)I" } : Jvm.MethodName) prog_13_method_3_code (4 : Nat) (Option.some Jvm.ClassFile.FieldType.int)) ∈ lw_all := lw_g (lw_at lw_m4 63 rfl) rfl
theorem q865 : (Jvm.Cond.methodLink "DishLift$Soup" (9 : Nat) ({ cls := "java/lang/Math", name := "max", desc := "(II)I" } : Jvm.MethodName)) ∈ lw_all := lw_g (lw_at lw_m4 64 rfl) rfl
theorem q918 : (Jvm.Cond.selects "DishLift$Soup" ({ cls := "DishLift$Dish", name := "isGood", desc := "(I)Z" } : Jvm.MethodName) ({ cls := "DishLift$Hot", name := "isGood", desc := "(I)Z" } : Jvm.MethodName)) ∈ lw_all := lw_g (lw_at lw_m4 117 rfl) rfl
theorem q1114 : (Jvm.Cond.selects "DishLift$Soup" ({ cls := "DishLift$Dish", name := "kind", desc := "()I" } : Jvm.MethodName) ({ cls := "DishLift$Soup", name := "kind", desc := "()I" } : Jvm.MethodName)) ∈ lw_all := lw_g (lw_at lw_m5 73 rfl) rfl
theorem q1115 : (Jvm.Cond.instanceMethod ({ cls := "DishLift$Soup", name := "kind", desc := "()I" } : Jvm.MethodName)) ∈ lw_all := lw_g (lw_at lw_m5 74 rfl) rfl
theorem q1116 : (Jvm.Cond.code ({ cls := "DishLift$Soup", name := "kind", desc := "()I" } : Jvm.MethodName) prog_13_method_2_code (1 : Nat) (Option.some Jvm.ClassFile.FieldType.int)) ∈ lw_all := lw_g (lw_at lw_m5 75 rfl) rfl
theorem q1142 : (Jvm.Cond.selects "DishLift$Soup" ({ cls := "DishLift$Dish", name := "number", desc := "()I" } : Jvm.MethodName) ({ cls := "DishLift$Dish", name := "number", desc := "()I" } : Jvm.MethodName)) ∈ lw_all := lw_g (lw_at lw_m5 101 rfl) rfl
theorem q1198 : (Jvm.Cond.castable "DishLift$Soup" "DishLift$Marked") ∈ lw_tbl := lw_at lw_m5 157 rfl
theorem q1199 : (Jvm.Cond.selects "DishLift$Soup" ({ cls := "DishLift$Marked", name := "number", desc := "()I" } : Jvm.MethodName) ({ cls := "DishLift$Dish", name := "number", desc := "()I" } : Jvm.MethodName)) ∈ lw_all := lw_g (lw_at lw_m5 158 rfl) rfl
theorem q1200 : (Jvm.Cond.unhidden "DishLift$Soup" "number" "()I") ∈ lw_tbl := lw_at lw_m5 159 rfl
theorem q1206 : (Jvm.Cond.selects "DishLift$Soup" ({ cls := "DishLift$Hot", name := "number", desc := "()I" } : Jvm.MethodName) ({ cls := "DishLift$Dish", name := "number", desc := "()I" } : Jvm.MethodName)) ∈ lw_all := lw_g (lw_at lw_m5 165 rfl) rfl
theorem q1207 : (Jvm.Cond.selects "DishLift$Soup" ({ cls := "DishLift$Hot", name := "mark", desc := "(LDishLift$Trail;LDishLift$House;)I" } : Jvm.MethodName) ({ cls := "DishLift$Soup", name := "mark", desc := "(LDishLift$Trail;LDishLift$House;)I" } : Jvm.MethodName)) ∈ lw_all := lw_g (lw_at lw_m5 166 rfl) rfl
theorem q1208 : (Jvm.Cond.instanceMethod ({ cls := "DishLift$Soup", name := "mark", desc := "(LDishLift$Trail;LDishLift$House;)I" } : Jvm.MethodName)) ∈ lw_all := lw_g (lw_at lw_m5 167 rfl) rfl
theorem q1209 : (Jvm.Cond.code ({ cls := "DishLift$Soup", name := "mark", desc := "(LDishLift$Trail;LDishLift$House;)I" } : Jvm.MethodName) prog_13_method_5_code (3 : Nat) (Option.some Jvm.ClassFile.FieldType.int)) ∈ lw_all := lw_g (lw_at lw_m5 168 rfl) rfl
theorem q1210 : (Jvm.Cond.methodLink "DishLift$Soup" (15 : Nat) ({ cls := "DishLift$Trail", name := "begins", desc := "(I)V" } : Jvm.MethodName)) ∈ lw_all := lw_g (lw_at lw_m5 169 rfl) rfl
theorem q1211 : (Jvm.Cond.methodLink "DishLift$Soup" (24 : Nat) ({ cls := "DishLift$Hot", name := "mark", desc := "(LDishLift$Trail;LDishLift$House;)I" } : Jvm.MethodName)) ∈ lw_all := lw_g (lw_at lw_m5 170 rfl) rfl
theorem q1218 : (Jvm.Cond.selects "DishLift$Soup" ({ cls := "DishLift$Dish", name := "size", desc := "(LDishLift$Trail;LDishLift$House;)I" } : Jvm.MethodName) ({ cls := "DishLift$Soup", name := "size", desc := "(LDishLift$Trail;LDishLift$House;)I" } : Jvm.MethodName)) ∈ lw_all := lw_g (lw_at lw_m5 177 rfl) rfl
theorem q1219 : (Jvm.Cond.instanceMethod ({ cls := "DishLift$Soup", name := "size", desc := "(LDishLift$Trail;LDishLift$House;)I" } : Jvm.MethodName)) ∈ lw_all := lw_g (lw_at lw_m5 178 rfl) rfl
theorem q1220 : (Jvm.Cond.code ({ cls := "DishLift$Soup", name := "size", desc := "(LDishLift$Trail;LDishLift$House;)I" } : Jvm.MethodName) prog_13_method_4_code (3 : Nat) (Option.some Jvm.ClassFile.FieldType.int)) ∈ lw_all := lw_g (lw_at lw_m5 179 rfl) rfl
theorem q1221 : (Jvm.Cond.methodLink "DishLift$Soup" (20 : Nat) ({ cls := "DishLift$Hot", name := "size", desc := "(LDishLift$Trail;LDishLift$House;)I" } : Jvm.MethodName)) ∈ lw_all := lw_g (lw_at lw_m5 180 rfl) rfl
theorem q1229 : (Jvm.Cond.selects "DishLift$Soup" ({ cls := "DishLift$Marked", name := "mark", desc := "(LDishLift$Trail;LDishLift$House;)I" } : Jvm.MethodName) ({ cls := "DishLift$Soup", name := "mark", desc := "(LDishLift$Trail;LDishLift$House;)I" } : Jvm.MethodName)) ∈ lw_all := lw_g (lw_at lw_m5 188 rfl) rfl
theorem q1696 : (Jvm.Cond.castable "DishLift$Soup" "DishLift$Dish") ∈ lw_tbl := lw_at lw_m7 175 rfl
theorem q1698 : (Jvm.Cond.castable "DishLift$Soup" "DishLift$Hot") ∈ lw_tbl := lw_at lw_m7 177 rfl
theorem q1707 : (Jvm.Cond.castable "DishLift$Soup" "java/lang/Object") ∈ lw_tbl := lw_at lw_m7 186 rfl
theorem in_X5 : ∀ w ∈ wsX50, w ∈ lw_all := lw_in wsX50 [268] (by decide +kernel) (by decide +kernel)

/-! DishLift$Roast -/
set_option maxRecDepth 100000
def RX6 : String := "DishLift$Roast"
def TX6 : u_T := fun k => match k with
  | _ => ("DishLift$Dish", "number", "I", true)
def tyX6 : Nat → FieldType := fun k => match k with
  | _ => .int
abbrev wsX60 : List Cond := u_ws RX6 TX6 1
theorem nmX6 : ∀ a, a < 1 → ∀ b, b < 1 → a ≠ b → (TX6 a).2.1 ≠ (TX6 b).2.1 := by decide +kernel
theorem tyX6_ok : ∀ k, k < 1 → parseFieldDescriptor (TX6 k).2.2.1 = some (tyX6 k) := by decide +kernel
abbrev cX6_init : ByteArray := prog_11_method_1_code
def yX6_init : MethodName := ⟨RX6, "<init>", "(I)V"⟩
def dkwX6_init_0 : List UInt8 := [42, 27, 183, 0, 3, 177]
abbrev dktX6_init_0 : List UInt8 := dkwX6_init_0 ++ []
theorem dksX6_init_0 : cX6_init.data.toList.drop 0 = dktX6_init_0 := by decide +kernel
theorem dX6_init_0 : decode cX6_init 0 = .ok (.aload_n 0, 1) := dk_42 (dk_at dksX6_init_0 0 rfl rfl)
theorem dX6_init_1 : decode cX6_init 1 = .ok (.iload_n 1, 1) := dk_27 (dk_at dksX6_init_0 1 rfl rfl)
theorem dX6_init_2 : decode cX6_init 2 = .ok (.invokespecial 3, 3) := dk_183 0 3 (dk_at dksX6_init_0 2 rfl rfl)
theorem dX6_init_5 : decode cX6_init 5 = .ok (.return_, 1) := dk_177 (dk_at dksX6_init_0 5 rfl rfl)
abbrev cX6_heatBehind : ByteArray := prog_11_method_3_code
def yX6_heatBehind : MethodName := ⟨RX6, "heatBehind", "(II)I"⟩
def dkwX6_heatBehind_0 : List UInt8 := [28, 5, 112, 154, 0, 7, 27, 167, 0, 9, 42, 27, 28, 183, 0, 9, 172]
abbrev dktX6_heatBehind_0 : List UInt8 := dkwX6_heatBehind_0 ++ []
theorem dksX6_heatBehind_0 : cX6_heatBehind.data.toList.drop 0 = dktX6_heatBehind_0 := by decide +kernel
theorem dX6_heatBehind_0 : decode cX6_heatBehind 0 = .ok (.iload_n 2, 1) := dk_28 (dk_at dksX6_heatBehind_0 0 rfl rfl)
theorem dX6_heatBehind_1 : decode cX6_heatBehind 1 = .ok (.iconst 2, 1) := dk_5 (dk_at dksX6_heatBehind_0 1 rfl rfl)
theorem dX6_heatBehind_2 : decode cX6_heatBehind 2 = .ok (.irem, 1) := dk_112 (dk_at dksX6_heatBehind_0 2 rfl rfl)
theorem dX6_heatBehind_3 : decode cX6_heatBehind 3 = .ok (.ifCond .ne 7, 3) := dk_154 0 7 (dk_at dksX6_heatBehind_0 3 rfl rfl)
theorem dX6_heatBehind_6 : decode cX6_heatBehind 6 = .ok (.iload_n 1, 1) := dk_27 (dk_at dksX6_heatBehind_0 6 rfl rfl)
theorem dX6_heatBehind_7 : decode cX6_heatBehind 7 = .ok (.goto 9, 3) := dk_167 0 9 (dk_at dksX6_heatBehind_0 7 rfl rfl)
theorem dX6_heatBehind_10 : decode cX6_heatBehind 10 = .ok (.aload_n 0, 1) := dk_42 (dk_at dksX6_heatBehind_0 10 rfl rfl)
theorem dX6_heatBehind_11 : decode cX6_heatBehind 11 = .ok (.iload_n 1, 1) := dk_27 (dk_at dksX6_heatBehind_0 11 rfl rfl)
theorem dX6_heatBehind_12 : decode cX6_heatBehind 12 = .ok (.iload_n 2, 1) := dk_28 (dk_at dksX6_heatBehind_0 12 rfl rfl)
theorem dX6_heatBehind_13 : decode cX6_heatBehind 13 = .ok (.invokespecial 9, 3) := dk_183 0 9 (dk_at dksX6_heatBehind_0 13 rfl rfl)
theorem dX6_heatBehind_16 : decode cX6_heatBehind 16 = .ok (.ireturn, 1) := dk_172 (dk_at dksX6_heatBehind_0 16 rfl rfl)
abbrev cX6_kind : ByteArray := prog_11_method_2_code
def yX6_kind : MethodName := ⟨RX6, "kind", "()I"⟩
theorem dX6_kind_0 : decode cX6_kind 0 = .ok (.iconst 3, 1) := by decide +kernel
theorem dX6_kind_1 : decode cX6_kind 1 = .ok (.ireturn, 1) := by decide +kernel
abbrev cX6_mark : ByteArray := prog_11_method_4_code
def yX6_mark : MethodName := ⟨RX6, "mark", "(LDishLift$Trail;LDishLift$House;)I"⟩
def dkwX6_mark_0 : List UInt8 := [43, 16, 22, 182, 0, 13, 42, 43, 44, 183, 0, 18, 17, 3, 232, 100, 172]
abbrev dktX6_mark_0 : List UInt8 := dkwX6_mark_0 ++ []
theorem dksX6_mark_0 : cX6_mark.data.toList.drop 0 = dktX6_mark_0 := by decide +kernel
theorem dX6_mark_0 : decode cX6_mark 0 = .ok (.aload_n 1, 1) := dk_43 (dk_at dksX6_mark_0 0 rfl rfl)
theorem dX6_mark_1 : decode cX6_mark 1 = .ok (.bipush 22, 2) := dk_16 22 (dk_at dksX6_mark_0 1 rfl rfl)
theorem dX6_mark_3 : decode cX6_mark 3 = .ok (.invokevirtual 13, 3) := dk_182 0 13 (dk_at dksX6_mark_0 3 rfl rfl)
theorem dX6_mark_6 : decode cX6_mark 6 = .ok (.aload_n 0, 1) := dk_42 (dk_at dksX6_mark_0 6 rfl rfl)
theorem dX6_mark_7 : decode cX6_mark 7 = .ok (.aload_n 1, 1) := dk_43 (dk_at dksX6_mark_0 7 rfl rfl)
theorem dX6_mark_8 : decode cX6_mark 8 = .ok (.aload_n 2, 1) := dk_44 (dk_at dksX6_mark_0 8 rfl rfl)
theorem dX6_mark_9 : decode cX6_mark 9 = .ok (.invokespecial 18, 3) := dk_183 0 18 (dk_at dksX6_mark_0 9 rfl rfl)
theorem dX6_mark_12 : decode cX6_mark 12 = .ok (.sipush 1000, 3) := dk_17 3 232 (dk_at dksX6_mark_0 12 rfl rfl)
theorem dX6_mark_15 : decode cX6_mark 15 = .ok (.isub, 1) := dk_100 (dk_at dksX6_mark_0 15 rfl rfl)
theorem dX6_mark_16 : decode cX6_mark 16 = .ok (.ireturn, 1) := dk_172 (dk_at dksX6_mark_0 16 rfl rfl)
theorem q91 : (Jvm.Cond.initialized "DishLift$Roast") ∈ lw_all := lw_g (lw_at lw_m1 10 rfl) rfl
theorem q271 : (Jvm.Cond.instantiable "DishLift$Roast" (1 : Nat)) ∈ lw_all := lw_g (lw_at lw_m1 190 rfl) rfl
theorem q273 : (Jvm.Cond.instanceMethod ({ cls := "DishLift$Roast", name := "<init>", desc := "(I)V" } : Jvm.MethodName)) ∈ lw_all := lw_g (lw_at lw_m1 192 rfl) rfl
theorem q274 : (Jvm.Cond.code ({ cls := "DishLift$Roast", name := "<init>", desc := "(I)V" } : Jvm.MethodName) prog_11_method_1_code (2 : Nat) (Option.none : Option Jvm.ClassFile.FieldType)) ∈ lw_all := lw_g (lw_at lw_m1 193 rfl) rfl
theorem q275 : (Jvm.Cond.methodLink "DishLift$Roast" (3 : Nat) ({ cls := "DishLift$Hot", name := "<init>", desc := "(I)V" } : Jvm.MethodName)) ∈ lw_all := lw_g (lw_at lw_m1 194 rfl) rfl
theorem q276 : (Jvm.Cond.laysFinal "DishLift$Roast" "DishLift$Dish" "number" "I") ∈ lw_all := lw_g (lw_at lw_m1 195 rfl) rfl
theorem q277 : (Jvm.Cond.superclass "DishLift$Roast" "DishLift$Hot") ∈ lw_all := lw_g (lw_at lw_m1 196 rfl) rfl
theorem q728 : (Jvm.Cond.selects "DishLift$Roast" ({ cls := "java/lang/Object", name := "getClass", desc := "()Ljava/lang/Class;" } : Jvm.MethodName) ({ cls := "java/lang/Object", name := "getClass", desc := "()Ljava/lang/Class;" } : Jvm.MethodName)) ∈ lw_all := lw_g (lw_at lw_m3 167 rfl) rfl
theorem q847 : (Jvm.Cond.selects "DishLift$Roast" ({ cls := "DishLift$Dish", name := "heatBehind", desc := "(II)I" } : Jvm.MethodName) ({ cls := "DishLift$Roast", name := "heatBehind", desc := "(II)I" } : Jvm.MethodName)) ∈ lw_all := lw_g (lw_at lw_m4 46 rfl) rfl
theorem q848 : (Jvm.Cond.instanceMethod ({ cls := "DishLift$Roast", name := "heatBehind", desc := "(II)I" } : Jvm.MethodName)) ∈ lw_all := lw_g (lw_at lw_m4 47 rfl) rfl
theorem q849 : (Jvm.Cond.code ({ cls := "DishLift$Roast", name := "heatBehind", desc := "(II)I" } : Jvm.MethodName) prog_11_method_3_code (3 : Nat) (Option.some Jvm.ClassFile.FieldType.int)) ∈ lw_all := lw_g (lw_at lw_m4 48 rfl) rfl
theorem q850 : (Jvm.Cond.methodLink "DishLift$Roast" (9 : Nat) ({ cls := "DishLift$Hot", name := "heatBehind", desc := "(II)I" } : Jvm.MethodName)) ∈ lw_all := lw_g (lw_at lw_m4 49 rfl) rfl
theorem q861 : (Jvm.Cond.selects "DishLift$Roast" ({ cls := "DishLift$Dish", name := "weightBehind", desc := "(IIZ)I" } : Jvm.MethodName) ({ cls := "DishLift$Dish", name := "weightBehind", desc := "(IIZ)I" } : Jvm.MethodName)) ∈ lw_all := lw_g (lw_at lw_m4 60 rfl) rfl
theorem q917 : (Jvm.Cond.selects "DishLift$Roast" ({ cls := "DishLift$Dish", name := "isGood", desc := "(I)Z" } : Jvm.MethodName) ({ cls := "DishLift$Hot", name := "isGood", desc := "(I)Z" } : Jvm.MethodName)) ∈ lw_all := lw_g (lw_at lw_m4 116 rfl) rfl
theorem q1111 : (Jvm.Cond.selects "DishLift$Roast" ({ cls := "DishLift$Dish", name := "kind", desc := "()I" } : Jvm.MethodName) ({ cls := "DishLift$Roast", name := "kind", desc := "()I" } : Jvm.MethodName)) ∈ lw_all := lw_g (lw_at lw_m5 70 rfl) rfl
theorem q1112 : (Jvm.Cond.instanceMethod ({ cls := "DishLift$Roast", name := "kind", desc := "()I" } : Jvm.MethodName)) ∈ lw_all := lw_g (lw_at lw_m5 71 rfl) rfl
theorem q1113 : (Jvm.Cond.code ({ cls := "DishLift$Roast", name := "kind", desc := "()I" } : Jvm.MethodName) prog_11_method_2_code (1 : Nat) (Option.some Jvm.ClassFile.FieldType.int)) ∈ lw_all := lw_g (lw_at lw_m5 72 rfl) rfl
theorem q1141 : (Jvm.Cond.selects "DishLift$Roast" ({ cls := "DishLift$Dish", name := "number", desc := "()I" } : Jvm.MethodName) ({ cls := "DishLift$Dish", name := "number", desc := "()I" } : Jvm.MethodName)) ∈ lw_all := lw_g (lw_at lw_m5 100 rfl) rfl
theorem q1170 : (Jvm.Cond.selects "DishLift$Roast" ({ cls := "DishLift$Hot", name := "mark", desc := "(LDishLift$Trail;LDishLift$House;)I" } : Jvm.MethodName) ({ cls := "DishLift$Roast", name := "mark", desc := "(LDishLift$Trail;LDishLift$House;)I" } : Jvm.MethodName)) ∈ lw_all := lw_g (lw_at lw_m5 129 rfl) rfl
theorem q1171 : (Jvm.Cond.instanceMethod ({ cls := "DishLift$Roast", name := "mark", desc := "(LDishLift$Trail;LDishLift$House;)I" } : Jvm.MethodName)) ∈ lw_all := lw_g (lw_at lw_m5 130 rfl) rfl
theorem q1172 : (Jvm.Cond.code ({ cls := "DishLift$Roast", name := "mark", desc := "(LDishLift$Trail;LDishLift$House;)I" } : Jvm.MethodName) prog_11_method_4_code (3 : Nat) (Option.some Jvm.ClassFile.FieldType.int)) ∈ lw_all := lw_g (lw_at lw_m5 131 rfl) rfl
theorem q1173 : (Jvm.Cond.methodLink "DishLift$Roast" (13 : Nat) ({ cls := "DishLift$Trail", name := "begins", desc := "(I)V" } : Jvm.MethodName)) ∈ lw_all := lw_g (lw_at lw_m5 132 rfl) rfl
theorem q1174 : (Jvm.Cond.methodLink "DishLift$Roast" (18 : Nat) ({ cls := "DishLift$Hot", name := "mark", desc := "(LDishLift$Trail;LDishLift$House;)I" } : Jvm.MethodName)) ∈ lw_all := lw_g (lw_at lw_m5 133 rfl) rfl
theorem q1195 : (Jvm.Cond.castable "DishLift$Roast" "DishLift$Marked") ∈ lw_tbl := lw_at lw_m5 154 rfl
theorem q1196 : (Jvm.Cond.selects "DishLift$Roast" ({ cls := "DishLift$Marked", name := "number", desc := "()I" } : Jvm.MethodName) ({ cls := "DishLift$Dish", name := "number", desc := "()I" } : Jvm.MethodName)) ∈ lw_all := lw_g (lw_at lw_m5 155 rfl) rfl
theorem q1197 : (Jvm.Cond.unhidden "DishLift$Roast" "number" "()I") ∈ lw_tbl := lw_at lw_m5 156 rfl
theorem q1205 : (Jvm.Cond.selects "DishLift$Roast" ({ cls := "DishLift$Hot", name := "number", desc := "()I" } : Jvm.MethodName) ({ cls := "DishLift$Dish", name := "number", desc := "()I" } : Jvm.MethodName)) ∈ lw_all := lw_g (lw_at lw_m5 164 rfl) rfl
theorem q1217 : (Jvm.Cond.selects "DishLift$Roast" ({ cls := "DishLift$Dish", name := "size", desc := "(LDishLift$Trail;LDishLift$House;)I" } : Jvm.MethodName) ({ cls := "DishLift$Hot", name := "size", desc := "(LDishLift$Trail;LDishLift$House;)I" } : Jvm.MethodName)) ∈ lw_all := lw_g (lw_at lw_m5 176 rfl) rfl
theorem q1228 : (Jvm.Cond.selects "DishLift$Roast" ({ cls := "DishLift$Marked", name := "mark", desc := "(LDishLift$Trail;LDishLift$House;)I" } : Jvm.MethodName) ({ cls := "DishLift$Roast", name := "mark", desc := "(LDishLift$Trail;LDishLift$House;)I" } : Jvm.MethodName)) ∈ lw_all := lw_g (lw_at lw_m5 187 rfl) rfl
theorem q1695 : (Jvm.Cond.castable "DishLift$Roast" "DishLift$Dish") ∈ lw_tbl := lw_at lw_m7 174 rfl
theorem q1697 : (Jvm.Cond.castable "DishLift$Roast" "DishLift$Hot") ∈ lw_tbl := lw_at lw_m7 176 rfl
theorem q1708 : (Jvm.Cond.castable "DishLift$Roast" "java/lang/Object") ∈ lw_tbl := lw_at lw_m7 187 rfl
theorem in_X6 : ∀ w ∈ wsX60, w ∈ lw_all := lw_in wsX60 [276] (by decide +kernel) (by decide +kernel)

/-! DishLift$Cold -/
set_option maxRecDepth 100000
def RX7 : String := "DishLift$Cold"
def TX7 : u_T := fun k => match k with
  | _ => ("DishLift$Dish", "number", "I", true)
def tyX7 : Nat → FieldType := fun k => match k with
  | _ => .int
abbrev wsX70 : List Cond := u_ws RX7 TX7 1
theorem nmX7 : ∀ a, a < 1 → ∀ b, b < 1 → a ≠ b → (TX7 a).2.1 ≠ (TX7 b).2.1 := by decide +kernel
theorem tyX7_ok : ∀ k, k < 1 → parseFieldDescriptor (TX7 k).2.2.1 = some (tyX7 k) := by decide +kernel
abbrev cX7_init : ByteArray := prog_2_method_1_code
def yX7_init : MethodName := ⟨RX7, "<init>", "(I)V"⟩
def dkwX7_init_0 : List UInt8 := [42, 27, 183, 0, 3, 177]
abbrev dktX7_init_0 : List UInt8 := dkwX7_init_0 ++ []
theorem dksX7_init_0 : cX7_init.data.toList.drop 0 = dktX7_init_0 := by decide +kernel
theorem dX7_init_0 : decode cX7_init 0 = .ok (.aload_n 0, 1) := dk_42 (dk_at dksX7_init_0 0 rfl rfl)
theorem dX7_init_1 : decode cX7_init 1 = .ok (.iload_n 1, 1) := dk_27 (dk_at dksX7_init_0 1 rfl rfl)
theorem dX7_init_2 : decode cX7_init 2 = .ok (.invokespecial 3, 3) := dk_183 0 3 (dk_at dksX7_init_0 2 rfl rfl)
theorem dX7_init_5 : decode cX7_init 5 = .ok (.return_, 1) := dk_177 (dk_at dksX7_init_0 5 rfl rfl)
abbrev cX7_heatBehind : ByteArray := prog_2_method_3_code
def yX7_heatBehind : MethodName := ⟨RX7, "heatBehind", "(II)I"⟩
def dkwX7_heatBehind_0 : List UInt8 := [16, 60, 27, 4, 96, 184, 0, 9, 172]
abbrev dktX7_heatBehind_0 : List UInt8 := dkwX7_heatBehind_0 ++ []
theorem dksX7_heatBehind_0 : cX7_heatBehind.data.toList.drop 0 = dktX7_heatBehind_0 := by decide +kernel
theorem dX7_heatBehind_0 : decode cX7_heatBehind 0 = .ok (.bipush 60, 2) := dk_16 60 (dk_at dksX7_heatBehind_0 0 rfl rfl)
theorem dX7_heatBehind_2 : decode cX7_heatBehind 2 = .ok (.iload_n 1, 1) := dk_27 (dk_at dksX7_heatBehind_0 2 rfl rfl)
theorem dX7_heatBehind_3 : decode cX7_heatBehind 3 = .ok (.iconst 1, 1) := dk_4 (dk_at dksX7_heatBehind_0 3 rfl rfl)
theorem dX7_heatBehind_4 : decode cX7_heatBehind 4 = .ok (.iadd, 1) := dk_96 (dk_at dksX7_heatBehind_0 4 rfl rfl)
theorem dX7_heatBehind_5 : decode cX7_heatBehind 5 = .ok (.invokestatic 9, 3) := dk_184 0 9 (dk_at dksX7_heatBehind_0 5 rfl rfl)
theorem dX7_heatBehind_8 : decode cX7_heatBehind 8 = .ok (.ireturn, 1) := dk_172 (dk_at dksX7_heatBehind_0 8 rfl rfl)
abbrev cX7_isGood : ByteArray := prog_2_method_4_code
def yX7_isGood : MethodName := ⟨RX7, "isGood", "(I)Z"⟩
def dkwX7_isGood_0 : List UInt8 := [27, 16, 10, 163, 0, 7, 4, 167, 0, 4, 3, 172]
abbrev dktX7_isGood_0 : List UInt8 := dkwX7_isGood_0 ++ []
theorem dksX7_isGood_0 : cX7_isGood.data.toList.drop 0 = dktX7_isGood_0 := by decide +kernel
theorem dX7_isGood_0 : decode cX7_isGood 0 = .ok (.iload_n 1, 1) := dk_27 (dk_at dksX7_isGood_0 0 rfl rfl)
theorem dX7_isGood_1 : decode cX7_isGood 1 = .ok (.bipush 10, 2) := dk_16 10 (dk_at dksX7_isGood_0 1 rfl rfl)
theorem dX7_isGood_3 : decode cX7_isGood 3 = .ok (.if_icmp .gt 7, 3) := dk_163 0 7 (dk_at dksX7_isGood_0 3 rfl rfl)
theorem dX7_isGood_6 : decode cX7_isGood 6 = .ok (.iconst 1, 1) := dk_4 (dk_at dksX7_isGood_0 6 rfl rfl)
theorem dX7_isGood_7 : decode cX7_isGood 7 = .ok (.goto 4, 3) := dk_167 0 4 (dk_at dksX7_isGood_0 7 rfl rfl)
theorem dX7_isGood_10 : decode cX7_isGood 10 = .ok (.iconst 0, 1) := dk_3 (dk_at dksX7_isGood_0 10 rfl rfl)
theorem dX7_isGood_11 : decode cX7_isGood 11 = .ok (.ireturn, 1) := dk_172 (dk_at dksX7_isGood_0 11 rfl rfl)
abbrev cX7_kind : ByteArray := prog_2_method_2_code
def yX7_kind : MethodName := ⟨RX7, "kind", "()I"⟩
theorem dX7_kind_0 : decode cX7_kind 0 = .ok (.iconst 4, 1) := by decide +kernel
theorem dX7_kind_1 : decode cX7_kind 1 = .ok (.ireturn, 1) := by decide +kernel
abbrev cX7_size : ByteArray := prog_2_method_5_code
def yX7_size : MethodName := ⟨RX7, "size", "(LDishLift$Trail;LDishLift$House;)I"⟩
def dkwX7_size_0 : List UInt8 := [43, 16, 13, 182, 0, 15, 42, 43, 44, 183, 0, 20, 16, 100, 100, 172]
abbrev dktX7_size_0 : List UInt8 := dkwX7_size_0 ++ []
theorem dksX7_size_0 : cX7_size.data.toList.drop 0 = dktX7_size_0 := by decide +kernel
theorem dX7_size_0 : decode cX7_size 0 = .ok (.aload_n 1, 1) := dk_43 (dk_at dksX7_size_0 0 rfl rfl)
theorem dX7_size_1 : decode cX7_size 1 = .ok (.bipush 13, 2) := dk_16 13 (dk_at dksX7_size_0 1 rfl rfl)
theorem dX7_size_3 : decode cX7_size 3 = .ok (.invokevirtual 15, 3) := dk_182 0 15 (dk_at dksX7_size_0 3 rfl rfl)
theorem dX7_size_6 : decode cX7_size 6 = .ok (.aload_n 0, 1) := dk_42 (dk_at dksX7_size_0 6 rfl rfl)
theorem dX7_size_7 : decode cX7_size 7 = .ok (.aload_n 1, 1) := dk_43 (dk_at dksX7_size_0 7 rfl rfl)
theorem dX7_size_8 : decode cX7_size 8 = .ok (.aload_n 2, 1) := dk_44 (dk_at dksX7_size_0 8 rfl rfl)
theorem dX7_size_9 : decode cX7_size 9 = .ok (.invokespecial 20, 3) := dk_183 0 20 (dk_at dksX7_size_0 9 rfl rfl)
theorem dX7_size_12 : decode cX7_size 12 = .ok (.bipush 100, 2) := dk_16 100 (dk_at dksX7_size_0 12 rfl rfl)
theorem dX7_size_14 : decode cX7_size 14 = .ok (.isub, 1) := dk_100 (dk_at dksX7_size_0 14 rfl rfl)
theorem dX7_size_15 : decode cX7_size 15 = .ok (.ireturn, 1) := dk_172 (dk_at dksX7_size_0 15 rfl rfl)
abbrev cX7_mark : ByteArray := prog_2_method_6_code
def yX7_mark : MethodName := ⟨RX7, "mark", "(LDishLift$Trail;LDishLift$House;)I"⟩
def dkwX7_mark_0 : List UInt8 := [43, 16, 23, 182, 0, 15, 42, 43, 44, 183, 0, 24, 42, 43, 44, 182, 0, 27, 100, 172]
abbrev dktX7_mark_0 : List UInt8 := dkwX7_mark_0 ++ []
theorem dksX7_mark_0 : cX7_mark.data.toList.drop 0 = dktX7_mark_0 := by decide +kernel
theorem dX7_mark_0 : decode cX7_mark 0 = .ok (.aload_n 1, 1) := dk_43 (dk_at dksX7_mark_0 0 rfl rfl)
theorem dX7_mark_1 : decode cX7_mark 1 = .ok (.bipush 23, 2) := dk_16 23 (dk_at dksX7_mark_0 1 rfl rfl)
theorem dX7_mark_3 : decode cX7_mark 3 = .ok (.invokevirtual 15, 3) := dk_182 0 15 (dk_at dksX7_mark_0 3 rfl rfl)
theorem dX7_mark_6 : decode cX7_mark 6 = .ok (.aload_n 0, 1) := dk_42 (dk_at dksX7_mark_0 6 rfl rfl)
theorem dX7_mark_7 : decode cX7_mark 7 = .ok (.aload_n 1, 1) := dk_43 (dk_at dksX7_mark_0 7 rfl rfl)
theorem dX7_mark_8 : decode cX7_mark 8 = .ok (.aload_n 2, 1) := dk_44 (dk_at dksX7_mark_0 8 rfl rfl)
theorem dX7_mark_9 : decode cX7_mark 9 = .ok (.invokespecial 24, 3) := dk_183 0 24 (dk_at dksX7_mark_0 9 rfl rfl)
theorem dX7_mark_12 : decode cX7_mark 12 = .ok (.aload_n 0, 1) := dk_42 (dk_at dksX7_mark_0 12 rfl rfl)
theorem dX7_mark_13 : decode cX7_mark 13 = .ok (.aload_n 1, 1) := dk_43 (dk_at dksX7_mark_0 13 rfl rfl)
theorem dX7_mark_14 : decode cX7_mark 14 = .ok (.aload_n 2, 1) := dk_44 (dk_at dksX7_mark_0 14 rfl rfl)
theorem dX7_mark_15 : decode cX7_mark 15 = .ok (.invokevirtual 27, 3) := dk_182 0 27 (dk_at dksX7_mark_0 15 rfl rfl)
theorem dX7_mark_18 : decode cX7_mark 18 = .ok (.isub, 1) := dk_100 (dk_at dksX7_mark_0 18 rfl rfl)
theorem dX7_mark_19 : decode cX7_mark 19 = .ok (.ireturn, 1) := dk_172 (dk_at dksX7_mark_0 19 rfl rfl)
theorem q92 : (Jvm.Cond.initialized "DishLift$Cold") ∈ lw_all := lw_g (lw_at lw_m1 11 rfl) rfl
theorem q279 : (Jvm.Cond.instantiable "DishLift$Cold" (1 : Nat)) ∈ lw_all := lw_g (lw_at lw_m1 198 rfl) rfl
theorem q281 : (Jvm.Cond.instanceMethod ({ cls := "DishLift$Cold", name := "<init>", desc := "(I)V" } : Jvm.MethodName)) ∈ lw_all := lw_g (lw_at lw_m1 200 rfl) rfl
theorem q282 : (Jvm.Cond.code ({ cls := "DishLift$Cold", name := "<init>", desc := "(I)V" } : Jvm.MethodName) prog_2_method_1_code (2 : Nat) (Option.none : Option Jvm.ClassFile.FieldType)) ∈ lw_all := lw_g (lw_at lw_m1 201 rfl) rfl
theorem q283 : (Jvm.Cond.methodLink "DishLift$Cold" (3 : Nat) ({ cls := "DishLift$Dish", name := "<init>", desc := "(I)V" } : Jvm.MethodName)) ∈ lw_all := lw_g (lw_at lw_m1 202 rfl) rfl
theorem q284 : (Jvm.Cond.laysFinal "DishLift$Cold" "DishLift$Dish" "number" "I") ∈ lw_all := lw_g (lw_at lw_m1 203 rfl) rfl
theorem q285 : (Jvm.Cond.superclass "DishLift$Cold" "DishLift$Dish") ∈ lw_all := lw_g (lw_at lw_m1 204 rfl) rfl
theorem q721 : (Jvm.Cond.selects "DishLift$Cold" ({ cls := "java/lang/Object", name := "getClass", desc := "()Ljava/lang/Class;" } : Jvm.MethodName) ({ cls := "java/lang/Object", name := "getClass", desc := "()Ljava/lang/Class;" } : Jvm.MethodName)) ∈ lw_all := lw_g (lw_at lw_m3 160 rfl) rfl
theorem q838 : (Jvm.Cond.selects "DishLift$Cold" ({ cls := "DishLift$Dish", name := "heatBehind", desc := "(II)I" } : Jvm.MethodName) ({ cls := "DishLift$Cold", name := "heatBehind", desc := "(II)I" } : Jvm.MethodName)) ∈ lw_all := lw_g (lw_at lw_m4 37 rfl) rfl
theorem q839 : (Jvm.Cond.instanceMethod ({ cls := "DishLift$Cold", name := "heatBehind", desc := "(II)I" } : Jvm.MethodName)) ∈ lw_all := lw_g (lw_at lw_m4 38 rfl) rfl
theorem q840 : (Jvm.Cond.code ({ cls := "DishLift$Cold", name := "heatBehind", desc := "(II)I" } : Jvm.MethodName) prog_2_method_3_code (3 : Nat) (Option.some Jvm.ClassFile.FieldType.int)) ∈ lw_all := lw_g (lw_at lw_m4 39 rfl) rfl
theorem q841 : (Jvm.Cond.methodLink "DishLift$Cold" (9 : Nat) ({ cls := "java/lang/Math", name := "min", desc := "(II)I" } : Jvm.MethodName)) ∈ lw_all := lw_g (lw_at lw_m4 40 rfl) rfl
theorem q855 : (Jvm.Cond.selects "DishLift$Cold" ({ cls := "DishLift$Dish", name := "weightBehind", desc := "(IIZ)I" } : Jvm.MethodName) ({ cls := "DishLift$Dish", name := "weightBehind", desc := "(IIZ)I" } : Jvm.MethodName)) ∈ lw_all := lw_g (lw_at lw_m4 54 rfl) rfl
theorem q910 : (Jvm.Cond.selects "DishLift$Cold" ({ cls := "DishLift$Dish", name := "isGood", desc := "(I)Z" } : Jvm.MethodName) ({ cls := "DishLift$Cold", name := "isGood", desc := "(I)Z" } : Jvm.MethodName)) ∈ lw_all := lw_g (lw_at lw_m4 109 rfl) rfl
theorem q911 : (Jvm.Cond.instanceMethod ({ cls := "DishLift$Cold", name := "isGood", desc := "(I)Z" } : Jvm.MethodName)) ∈ lw_all := lw_g (lw_at lw_m4 110 rfl) rfl
theorem q912 : (Jvm.Cond.code ({ cls := "DishLift$Cold", name := "isGood", desc := "(I)Z" } : Jvm.MethodName) prog_2_method_4_code (2 : Nat) (Option.some Jvm.ClassFile.FieldType.boolean)) ∈ lw_all := lw_g (lw_at lw_m4 111 rfl) rfl
theorem q1102 : (Jvm.Cond.selects "DishLift$Cold" ({ cls := "DishLift$Dish", name := "kind", desc := "()I" } : Jvm.MethodName) ({ cls := "DishLift$Cold", name := "kind", desc := "()I" } : Jvm.MethodName)) ∈ lw_all := lw_g (lw_at lw_m5 61 rfl) rfl
theorem q1103 : (Jvm.Cond.instanceMethod ({ cls := "DishLift$Cold", name := "kind", desc := "()I" } : Jvm.MethodName)) ∈ lw_all := lw_g (lw_at lw_m5 62 rfl) rfl
theorem q1104 : (Jvm.Cond.code ({ cls := "DishLift$Cold", name := "kind", desc := "()I" } : Jvm.MethodName) prog_2_method_2_code (1 : Nat) (Option.some Jvm.ClassFile.FieldType.int)) ∈ lw_all := lw_g (lw_at lw_m5 63 rfl) rfl
theorem q1138 : (Jvm.Cond.selects "DishLift$Cold" ({ cls := "DishLift$Dish", name := "number", desc := "()I" } : Jvm.MethodName) ({ cls := "DishLift$Dish", name := "number", desc := "()I" } : Jvm.MethodName)) ∈ lw_all := lw_g (lw_at lw_m5 97 rfl) rfl
theorem q1151 : (Jvm.Cond.selects "DishLift$Cold" ({ cls := "DishLift$Dish", name := "size", desc := "(LDishLift$Trail;LDishLift$House;)I" } : Jvm.MethodName) ({ cls := "DishLift$Cold", name := "size", desc := "(LDishLift$Trail;LDishLift$House;)I" } : Jvm.MethodName)) ∈ lw_all := lw_g (lw_at lw_m5 110 rfl) rfl
theorem q1152 : (Jvm.Cond.instanceMethod ({ cls := "DishLift$Cold", name := "size", desc := "(LDishLift$Trail;LDishLift$House;)I" } : Jvm.MethodName)) ∈ lw_all := lw_g (lw_at lw_m5 111 rfl) rfl
theorem q1153 : (Jvm.Cond.code ({ cls := "DishLift$Cold", name := "size", desc := "(LDishLift$Trail;LDishLift$House;)I" } : Jvm.MethodName) prog_2_method_5_code (3 : Nat) (Option.some Jvm.ClassFile.FieldType.int)) ∈ lw_all := lw_g (lw_at lw_m5 112 rfl) rfl
theorem q1154 : (Jvm.Cond.methodLink "DishLift$Cold" (15 : Nat) ({ cls := "DishLift$Trail", name := "begins", desc := "(I)V" } : Jvm.MethodName)) ∈ lw_all := lw_g (lw_at lw_m5 113 rfl) rfl
theorem q1158 : (Jvm.Cond.methodLink "DishLift$Cold" (20 : Nat) ({ cls := "DishLift$Dish", name := "size", desc := "(LDishLift$Trail;LDishLift$House;)I" } : Jvm.MethodName)) ∈ lw_all := lw_g (lw_at lw_m5 117 rfl) rfl
theorem q1185 : (Jvm.Cond.castable "DishLift$Cold" "DishLift$Marked") ∈ lw_tbl := lw_at lw_m5 144 rfl
theorem q1186 : (Jvm.Cond.selects "DishLift$Cold" ({ cls := "DishLift$Marked", name := "number", desc := "()I" } : Jvm.MethodName) ({ cls := "DishLift$Dish", name := "number", desc := "()I" } : Jvm.MethodName)) ∈ lw_all := lw_g (lw_at lw_m5 145 rfl) rfl
theorem q1187 : (Jvm.Cond.unhidden "DishLift$Cold" "number" "()I") ∈ lw_tbl := lw_at lw_m5 146 rfl
theorem q1222 : (Jvm.Cond.selects "DishLift$Cold" ({ cls := "DishLift$Marked", name := "mark", desc := "(LDishLift$Trail;LDishLift$House;)I" } : Jvm.MethodName) ({ cls := "DishLift$Cold", name := "mark", desc := "(LDishLift$Trail;LDishLift$House;)I" } : Jvm.MethodName)) ∈ lw_all := lw_g (lw_at lw_m5 181 rfl) rfl
theorem q1223 : (Jvm.Cond.instanceMethod ({ cls := "DishLift$Cold", name := "mark", desc := "(LDishLift$Trail;LDishLift$House;)I" } : Jvm.MethodName)) ∈ lw_all := lw_g (lw_at lw_m5 182 rfl) rfl
theorem q1224 : (Jvm.Cond.code ({ cls := "DishLift$Cold", name := "mark", desc := "(LDishLift$Trail;LDishLift$House;)I" } : Jvm.MethodName) prog_2_method_6_code (3 : Nat) (Option.some Jvm.ClassFile.FieldType.int)) ∈ lw_all := lw_g (lw_at lw_m5 183 rfl) rfl
theorem q1225 : (Jvm.Cond.methodLink "DishLift$Cold" (27 : Nat) ({ cls := "DishLift$Cold", name := "size", desc := "(LDishLift$Trail;LDishLift$House;)I" } : Jvm.MethodName)) ∈ lw_all := lw_g (lw_at lw_m5 184 rfl) rfl
theorem q1685 : (Jvm.Cond.sameMethod "DishLift$Cold" "DishLift$Cold" "size" "(LDishLift$Trail;LDishLift$House;)I") ∈ lw_all := lw_g (lw_at lw_m7 164 rfl) rfl
theorem q1687 : (Jvm.Cond.selects "DishLift$Cold" ({ cls := "DishLift$Cold", name := "size", desc := "(LDishLift$Trail;LDishLift$House;)I" } : Jvm.MethodName) ({ cls := "DishLift$Cold", name := "size", desc := "(LDishLift$Trail;LDishLift$House;)I" } : Jvm.MethodName)) ∈ lw_all := lw_g (lw_at lw_m7 166 rfl) rfl
theorem q1692 : (Jvm.Cond.castable "DishLift$Cold" "DishLift$Dish") ∈ lw_tbl := lw_at lw_m7 171 rfl
theorem q1709 : (Jvm.Cond.castable "DishLift$Cold" "java/lang/Object") ∈ lw_tbl := lw_at lw_m7 188 rfl
theorem in_X7 : ∀ w ∈ wsX70, w ∈ lw_all := lw_in wsX70 [284] (by decide +kernel) (by decide +kernel)

/-! DishLift$Ice -/
set_option maxRecDepth 100000
def RX8 : String := "DishLift$Ice"
def TX8 : u_T := fun k => match k with
  | _ => ("DishLift$Dish", "number", "I", true)
def tyX8 : Nat → FieldType := fun k => match k with
  | _ => .int
abbrev wsX80 : List Cond := u_ws RX8 TX8 1
theorem nmX8 : ∀ a, a < 1 → ∀ b, b < 1 → a ≠ b → (TX8 a).2.1 ≠ (TX8 b).2.1 := by decide +kernel
theorem tyX8_ok : ∀ k, k < 1 → parseFieldDescriptor (TX8 k).2.2.1 = some (tyX8 k) := by decide +kernel
abbrev cX8_init : ByteArray := prog_8_method_1_code
def yX8_init : MethodName := ⟨RX8, "<init>", "(I)V"⟩
def dkwX8_init_0 : List UInt8 := [42, 27, 183, 0, 3, 177]
abbrev dktX8_init_0 : List UInt8 := dkwX8_init_0 ++ []
theorem dksX8_init_0 : cX8_init.data.toList.drop 0 = dktX8_init_0 := by decide +kernel
theorem dX8_init_0 : decode cX8_init 0 = .ok (.aload_n 0, 1) := dk_42 (dk_at dksX8_init_0 0 rfl rfl)
theorem dX8_init_1 : decode cX8_init 1 = .ok (.iload_n 1, 1) := dk_27 (dk_at dksX8_init_0 1 rfl rfl)
theorem dX8_init_2 : decode cX8_init 2 = .ok (.invokespecial 3, 3) := dk_183 0 3 (dk_at dksX8_init_0 2 rfl rfl)
theorem dX8_init_5 : decode cX8_init 5 = .ok (.return_, 1) := dk_177 (dk_at dksX8_init_0 5 rfl rfl)
abbrev cX8_weightBehind : ByteArray := prog_8_method_3_code
def yX8_weightBehind : MethodName := ⟨RX8, "weightBehind", "(IIZ)I"⟩
def dkwX8_weightBehind_0 : List UInt8 := [28, 16, 10, 161, 0, 13, 4, 27, 4, 100, 184, 0, 9, 167, 0, 4, 27, 172]
abbrev dktX8_weightBehind_0 : List UInt8 := dkwX8_weightBehind_0 ++ []
theorem dksX8_weightBehind_0 : cX8_weightBehind.data.toList.drop 0 = dktX8_weightBehind_0 := by decide +kernel
theorem dX8_weightBehind_0 : decode cX8_weightBehind 0 = .ok (.iload_n 2, 1) := dk_28 (dk_at dksX8_weightBehind_0 0 rfl rfl)
theorem dX8_weightBehind_1 : decode cX8_weightBehind 1 = .ok (.bipush 10, 2) := dk_16 10 (dk_at dksX8_weightBehind_0 1 rfl rfl)
theorem dX8_weightBehind_3 : decode cX8_weightBehind 3 = .ok (.if_icmp .lt 13, 3) := dk_161 0 13 (dk_at dksX8_weightBehind_0 3 rfl rfl)
theorem dX8_weightBehind_6 : decode cX8_weightBehind 6 = .ok (.iconst 1, 1) := dk_4 (dk_at dksX8_weightBehind_0 6 rfl rfl)
theorem dX8_weightBehind_7 : decode cX8_weightBehind 7 = .ok (.iload_n 1, 1) := dk_27 (dk_at dksX8_weightBehind_0 7 rfl rfl)
theorem dX8_weightBehind_8 : decode cX8_weightBehind 8 = .ok (.iconst 1, 1) := dk_4 (dk_at dksX8_weightBehind_0 8 rfl rfl)
theorem dX8_weightBehind_9 : decode cX8_weightBehind 9 = .ok (.isub, 1) := dk_100 (dk_at dksX8_weightBehind_0 9 rfl rfl)
theorem dX8_weightBehind_10 : decode cX8_weightBehind 10 = .ok (.invokestatic 9, 3) := dk_184 0 9 (dk_at dksX8_weightBehind_0 10 rfl rfl)
theorem dX8_weightBehind_13 : decode cX8_weightBehind 13 = .ok (.goto 4, 3) := dk_167 0 4 (dk_at dksX8_weightBehind_0 13 rfl rfl)
theorem dX8_weightBehind_16 : decode cX8_weightBehind 16 = .ok (.iload_n 1, 1) := dk_27 (dk_at dksX8_weightBehind_0 16 rfl rfl)
theorem dX8_weightBehind_17 : decode cX8_weightBehind 17 = .ok (.ireturn, 1) := dk_172 (dk_at dksX8_weightBehind_0 17 rfl rfl)
abbrev cX8_kind : ByteArray := prog_8_method_2_code
def yX8_kind : MethodName := ⟨RX8, "kind", "()I"⟩
theorem dX8_kind_0 : decode cX8_kind 0 = .ok (.iconst 5, 1) := by decide +kernel
theorem dX8_kind_1 : decode cX8_kind 1 = .ok (.ireturn, 1) := by decide +kernel
abbrev cX8_size : ByteArray := prog_8_method_4_code
def yX8_size : MethodName := ⟨RX8, "size", "(LDishLift$Trail;LDishLift$House;)I"⟩
def dkwX8_size_0 : List UInt8 := [43, 16, 14, 182, 0, 15, 5, 42, 43, 44, 183, 0, 20, 104, 172]
abbrev dktX8_size_0 : List UInt8 := dkwX8_size_0 ++ []
theorem dksX8_size_0 : cX8_size.data.toList.drop 0 = dktX8_size_0 := by decide +kernel
theorem dX8_size_0 : decode cX8_size 0 = .ok (.aload_n 1, 1) := dk_43 (dk_at dksX8_size_0 0 rfl rfl)
theorem dX8_size_1 : decode cX8_size 1 = .ok (.bipush 14, 2) := dk_16 14 (dk_at dksX8_size_0 1 rfl rfl)
theorem dX8_size_3 : decode cX8_size 3 = .ok (.invokevirtual 15, 3) := dk_182 0 15 (dk_at dksX8_size_0 3 rfl rfl)
theorem dX8_size_6 : decode cX8_size 6 = .ok (.iconst 2, 1) := dk_5 (dk_at dksX8_size_0 6 rfl rfl)
theorem dX8_size_7 : decode cX8_size 7 = .ok (.aload_n 0, 1) := dk_42 (dk_at dksX8_size_0 7 rfl rfl)
theorem dX8_size_8 : decode cX8_size 8 = .ok (.aload_n 1, 1) := dk_43 (dk_at dksX8_size_0 8 rfl rfl)
theorem dX8_size_9 : decode cX8_size 9 = .ok (.aload_n 2, 1) := dk_44 (dk_at dksX8_size_0 9 rfl rfl)
theorem dX8_size_10 : decode cX8_size 10 = .ok (.invokespecial 20, 3) := dk_183 0 20 (dk_at dksX8_size_0 10 rfl rfl)
theorem dX8_size_13 : decode cX8_size 13 = .ok (.imul, 1) := dk_104 (dk_at dksX8_size_0 13 rfl rfl)
theorem dX8_size_14 : decode cX8_size 14 = .ok (.ireturn, 1) := dk_172 (dk_at dksX8_size_0 14 rfl rfl)
theorem q93 : (Jvm.Cond.initialized "DishLift$Ice") ∈ lw_all := lw_g (lw_at lw_m1 12 rfl) rfl
theorem q287 : (Jvm.Cond.instantiable "DishLift$Ice" (1 : Nat)) ∈ lw_all := lw_g (lw_at lw_m1 206 rfl) rfl
theorem q289 : (Jvm.Cond.instanceMethod ({ cls := "DishLift$Ice", name := "<init>", desc := "(I)V" } : Jvm.MethodName)) ∈ lw_all := lw_g (lw_at lw_m1 208 rfl) rfl
theorem q290 : (Jvm.Cond.code ({ cls := "DishLift$Ice", name := "<init>", desc := "(I)V" } : Jvm.MethodName) prog_8_method_1_code (2 : Nat) (Option.none : Option Jvm.ClassFile.FieldType)) ∈ lw_all := lw_g (lw_at lw_m1 209 rfl) rfl
theorem q291 : (Jvm.Cond.methodLink "DishLift$Ice" (3 : Nat) ({ cls := "DishLift$Cold", name := "<init>", desc := "(I)V" } : Jvm.MethodName)) ∈ lw_all := lw_g (lw_at lw_m1 210 rfl) rfl
theorem q292 : (Jvm.Cond.laysFinal "DishLift$Ice" "DishLift$Dish" "number" "I") ∈ lw_all := lw_g (lw_at lw_m1 211 rfl) rfl
theorem q293 : (Jvm.Cond.superclass "DishLift$Ice" "DishLift$Cold") ∈ lw_all := lw_g (lw_at lw_m1 212 rfl) rfl
theorem q726 : (Jvm.Cond.selects "DishLift$Ice" ({ cls := "java/lang/Object", name := "getClass", desc := "()Ljava/lang/Class;" } : Jvm.MethodName) ({ cls := "java/lang/Object", name := "getClass", desc := "()Ljava/lang/Class;" } : Jvm.MethodName)) ∈ lw_all := lw_g (lw_at lw_m3 165 rfl) rfl
theorem q846 : (Jvm.Cond.selects "DishLift$Ice" ({ cls := "DishLift$Dish", name := "heatBehind", desc := "(II)I" } : Jvm.MethodName) ({ cls := "DishLift$Cold", name := "heatBehind", desc := "(II)I" } : Jvm.MethodName)) ∈ lw_all := lw_g (lw_at lw_m4 45 rfl) rfl
theorem q857 : (Jvm.Cond.selects "DishLift$Ice" ({ cls := "DishLift$Dish", name := "weightBehind", desc := "(IIZ)I" } : Jvm.MethodName) ({ cls := "DishLift$Ice", name := "weightBehind", desc := "(IIZ)I" } : Jvm.MethodName)) ∈ lw_all := lw_g (lw_at lw_m4 56 rfl) rfl
theorem q858 : (Jvm.Cond.instanceMethod ({ cls := "DishLift$Ice", name := "weightBehind", desc := "(IIZ)I" } : Jvm.MethodName)) ∈ lw_all := lw_g (lw_at lw_m4 57 rfl) rfl
theorem q859 : (Jvm.Cond.code ({ cls := "DishLift$Ice", name := "weightBehind", desc := "(IIZ)I" } : Jvm.MethodName) prog_8_method_3_code (4 : Nat) (Option.some Jvm.ClassFile.FieldType.int)) ∈ lw_all := lw_g (lw_at lw_m4 58 rfl) rfl
theorem q860 : (Jvm.Cond.methodLink "DishLift$Ice" (9 : Nat) ({ cls := "java/lang/Math", name := "max", desc := "(II)I" } : Jvm.MethodName)) ∈ lw_all := lw_g (lw_at lw_m4 59 rfl) rfl
theorem q916 : (Jvm.Cond.selects "DishLift$Ice" ({ cls := "DishLift$Dish", name := "isGood", desc := "(I)Z" } : Jvm.MethodName) ({ cls := "DishLift$Cold", name := "isGood", desc := "(I)Z" } : Jvm.MethodName)) ∈ lw_all := lw_g (lw_at lw_m4 115 rfl) rfl
theorem q1108 : (Jvm.Cond.selects "DishLift$Ice" ({ cls := "DishLift$Dish", name := "kind", desc := "()I" } : Jvm.MethodName) ({ cls := "DishLift$Ice", name := "kind", desc := "()I" } : Jvm.MethodName)) ∈ lw_all := lw_g (lw_at lw_m5 67 rfl) rfl
theorem q1109 : (Jvm.Cond.instanceMethod ({ cls := "DishLift$Ice", name := "kind", desc := "()I" } : Jvm.MethodName)) ∈ lw_all := lw_g (lw_at lw_m5 68 rfl) rfl
theorem q1110 : (Jvm.Cond.code ({ cls := "DishLift$Ice", name := "kind", desc := "()I" } : Jvm.MethodName) prog_8_method_2_code (1 : Nat) (Option.some Jvm.ClassFile.FieldType.int)) ∈ lw_all := lw_g (lw_at lw_m5 69 rfl) rfl
theorem q1140 : (Jvm.Cond.selects "DishLift$Ice" ({ cls := "DishLift$Dish", name := "number", desc := "()I" } : Jvm.MethodName) ({ cls := "DishLift$Dish", name := "number", desc := "()I" } : Jvm.MethodName)) ∈ lw_all := lw_g (lw_at lw_m5 99 rfl) rfl
theorem q1192 : (Jvm.Cond.castable "DishLift$Ice" "DishLift$Marked") ∈ lw_tbl := lw_at lw_m5 151 rfl
theorem q1193 : (Jvm.Cond.selects "DishLift$Ice" ({ cls := "DishLift$Marked", name := "number", desc := "()I" } : Jvm.MethodName) ({ cls := "DishLift$Dish", name := "number", desc := "()I" } : Jvm.MethodName)) ∈ lw_all := lw_g (lw_at lw_m5 152 rfl) rfl
theorem q1194 : (Jvm.Cond.unhidden "DishLift$Ice" "number" "()I") ∈ lw_tbl := lw_at lw_m5 153 rfl
theorem q1212 : (Jvm.Cond.selects "DishLift$Ice" ({ cls := "DishLift$Dish", name := "size", desc := "(LDishLift$Trail;LDishLift$House;)I" } : Jvm.MethodName) ({ cls := "DishLift$Ice", name := "size", desc := "(LDishLift$Trail;LDishLift$House;)I" } : Jvm.MethodName)) ∈ lw_all := lw_g (lw_at lw_m5 171 rfl) rfl
theorem q1213 : (Jvm.Cond.instanceMethod ({ cls := "DishLift$Ice", name := "size", desc := "(LDishLift$Trail;LDishLift$House;)I" } : Jvm.MethodName)) ∈ lw_all := lw_g (lw_at lw_m5 172 rfl) rfl
theorem q1214 : (Jvm.Cond.code ({ cls := "DishLift$Ice", name := "size", desc := "(LDishLift$Trail;LDishLift$House;)I" } : Jvm.MethodName) prog_8_method_4_code (3 : Nat) (Option.some Jvm.ClassFile.FieldType.int)) ∈ lw_all := lw_g (lw_at lw_m5 173 rfl) rfl
theorem q1215 : (Jvm.Cond.methodLink "DishLift$Ice" (15 : Nat) ({ cls := "DishLift$Trail", name := "begins", desc := "(I)V" } : Jvm.MethodName)) ∈ lw_all := lw_g (lw_at lw_m5 174 rfl) rfl
theorem q1216 : (Jvm.Cond.methodLink "DishLift$Ice" (20 : Nat) ({ cls := "DishLift$Cold", name := "size", desc := "(LDishLift$Trail;LDishLift$House;)I" } : Jvm.MethodName)) ∈ lw_all := lw_g (lw_at lw_m5 175 rfl) rfl
theorem q1227 : (Jvm.Cond.selects "DishLift$Ice" ({ cls := "DishLift$Marked", name := "mark", desc := "(LDishLift$Trail;LDishLift$House;)I" } : Jvm.MethodName) ({ cls := "DishLift$Cold", name := "mark", desc := "(LDishLift$Trail;LDishLift$House;)I" } : Jvm.MethodName)) ∈ lw_all := lw_g (lw_at lw_m5 186 rfl) rfl
theorem q1688 : (Jvm.Cond.selects "DishLift$Ice" ({ cls := "DishLift$Cold", name := "size", desc := "(LDishLift$Trail;LDishLift$House;)I" } : Jvm.MethodName) ({ cls := "DishLift$Ice", name := "size", desc := "(LDishLift$Trail;LDishLift$House;)I" } : Jvm.MethodName)) ∈ lw_all := lw_g (lw_at lw_m7 167 rfl) rfl
theorem q1694 : (Jvm.Cond.castable "DishLift$Ice" "DishLift$Dish") ∈ lw_tbl := lw_at lw_m7 173 rfl
theorem q1699 : (Jvm.Cond.castable "DishLift$Ice" "DishLift$Cold") ∈ lw_tbl := lw_at lw_m7 178 rfl
theorem q1710 : (Jvm.Cond.castable "DishLift$Ice" "java/lang/Object") ∈ lw_tbl := lw_at lw_m7 189 rfl
theorem in_X8 : ∀ w ∈ wsX80, w ∈ lw_all := lw_in wsX80 [292] (by decide +kernel) (by decide +kernel)

theorem q81 : (Jvm.Cond.initialized "DishLiftLaw") ∈ lw_all := lw_g (lw_at lw_m1 0 rfl) rfl
set_option maxRecDepth 100000
theorem q115 : (Jvm.Cond.classLink "DishLiftLaw" (7 : Nat) "DishLift") ∈ lw_all := lw_g (lw_at lw_m1 34 rfl) rfl
theorem q117 : (Jvm.Cond.methodLink "DishLiftLaw" (9 : Nat) ({ cls := "DishLift", name := "<init>", desc := "()V" } : Jvm.MethodName)) ∈ lw_all := lw_g (lw_at lw_m1 36 rfl) rfl
theorem q337 : (Jvm.Cond.methodLink "DishLiftLaw" (13 : Nat) ({ cls := "DishLift", name := "row", desc := "(III)I" } : Jvm.MethodName)) ∈ lw_all := lw_g (lw_at lw_m2 16 rfl) rfl
theorem q442 : (Jvm.Cond.methodLink "DishLiftLaw" (18 : Nat) ({ cls := "DishLift", name := "set", desc := "(III)I" } : Jvm.MethodName)) ∈ lw_all := lw_g (lw_at lw_m2 121 rfl) rfl
theorem q454 : (Jvm.Cond.methodLink "DishLiftLaw" (22 : Nat) ({ cls := "DishLift", name := "copy", desc := "(IIIII)I" } : Jvm.MethodName)) ∈ lw_all := lw_g (lw_at lw_m2 133 rfl) rfl
theorem q495 : (Jvm.Cond.methodLink "DishLiftLaw" (27 : Nat) ({ cls := "DishLift", name := "drop", desc := "(I)I" } : Jvm.MethodName)) ∈ lw_all := lw_g (lw_at lw_m2 174 rfl) rfl
theorem q499 : (Jvm.Cond.methodLink "DishLiftLaw" (32 : Nat) ({ cls := "DishLift", name := "feed", desc := "(I)I" } : Jvm.MethodName)) ∈ lw_all := lw_g (lw_at lw_m2 178 rfl) rfl
theorem q505 : (Jvm.Cond.methodLink "DishLiftLaw" (36 : Nat) ({ cls := "DishLift", name := "house", desc := "()I" } : Jvm.MethodName)) ∈ lw_all := lw_g (lw_at lw_m2 184 rfl) rfl
theorem q756 : (Jvm.Cond.methodLink "DishLiftLaw" (41 : Nat) ({ cls := "DishLift", name := "fault", desc := "()I" } : Jvm.MethodName)) ∈ lw_all := lw_g (lw_at lw_m3 195 rfl) rfl
theorem q760 : (Jvm.Cond.methodLink "DishLiftLaw" (45 : Nat) ({ cls := "DishLift", name := "undo", desc := "()I" } : Jvm.MethodName)) ∈ lw_all := lw_g (lw_at lw_m3 199 rfl) rfl
theorem q765 : (Jvm.Cond.methodLink "DishLiftLaw" (49 : Nat) ({ cls := "DishLift", name := "minutes", desc := "(I)I" } : Jvm.MethodName)) ∈ lw_all := lw_g (lw_at lw_m3 204 rfl) rfl
theorem q868 : (Jvm.Cond.methodLink "DishLiftLaw" (53 : Nat) ({ cls := "DishLift", name := "pull", desc := "(I)I" } : Jvm.MethodName)) ∈ lw_all := lw_g (lw_at lw_m4 67 rfl) rfl
theorem q876 : (Jvm.Cond.methodLink "DishLiftLaw" (57 : Nat) ({ cls := "DishLift", name := "rope", desc := "(I)I" } : Jvm.MethodName)) ∈ lw_all := lw_g (lw_at lw_m4 75 rfl) rfl
theorem q881 : (Jvm.Cond.methodLink "DishLiftLaw" (61 : Nat) ({ cls := "DishLift", name := "room", desc := "(I)I" } : Jvm.MethodName)) ∈ lw_all := lw_g (lw_at lw_m4 80 rfl) rfl
theorem q886 : (Jvm.Cond.methodLink "DishLiftLaw" (65 : Nat) ({ cls := "DishLift", name := "send", desc := "(III)I" } : Jvm.MethodName)) ∈ lw_all := lw_g (lw_at lw_m4 85 rfl) rfl
theorem q899 : (Jvm.Cond.methodLink "DishLiftLaw" (69 : Nat) ({ cls := "DishLift", name := "dish", desc := "(II)I" } : Jvm.MethodName)) ∈ lw_all := lw_g (lw_at lw_m4 98 rfl) rfl
theorem q919 : (Jvm.Cond.methodLink "DishLiftLaw" (74 : Nat) ({ cls := "DishLift", name := "car", desc := "(I)I" } : Jvm.MethodName)) ∈ lw_all := lw_g (lw_at lw_m4 118 rfl) rfl
theorem q925 : (Jvm.Cond.methodLink "DishLiftLaw" (78 : Nat) ({ cls := "DishLift", name := "ahead", desc := "(III)I" } : Jvm.MethodName)) ∈ lw_all := lw_g (lw_at lw_m4 124 rfl) rfl
theorem q940 : (Jvm.Cond.methodLink "DishLiftLaw" (82 : Nat) ({ cls := "DishLift", name := "later", desc := "(I)I" } : Jvm.MethodName)) ∈ lw_all := lw_g (lw_at lw_m4 139 rfl) rfl
theorem q944 : (Jvm.Cond.methodLink "DishLiftLaw" (86 : Nat) ({ cls := "DishLift", name := "when", desc := "(I)I" } : Jvm.MethodName)) ∈ lw_all := lw_g (lw_at lw_m4 143 rfl) rfl
theorem q949 : (Jvm.Cond.methodLink "DishLiftLaw" (90 : Nat) ({ cls := "DishLift", name := "done", desc := "()I" } : Jvm.MethodName)) ∈ lw_all := lw_g (lw_at lw_m4 148 rfl) rfl
theorem q957 : (Jvm.Cond.methodLink "DishLiftLaw" (94 : Nat) ({ cls := "DishLift", name := "fine", desc := "(I)I" } : Jvm.MethodName)) ∈ lw_all := lw_g (lw_at lw_m4 156 rfl) rfl
theorem q966 : (Jvm.Cond.methodLink "DishLiftLaw" (98 : Nat) ({ cls := "DishLift", name := "site", desc := "(II)I" } : Jvm.MethodName)) ∈ lw_all := lw_g (lw_at lw_m4 165 rfl) rfl
theorem q978 : (Jvm.Cond.methodLink "DishLiftLaw" (102 : Nat) ({ cls := "DishLift", name := "need", desc := "(II)I" } : Jvm.MethodName)) ∈ lw_all := lw_g (lw_at lw_m4 177 rfl) rfl
theorem q982 : (Jvm.Cond.methodLink "DishLiftLaw" (106 : Nat) ({ cls := "DishLift", name := "ranks", desc := "(II)I" } : Jvm.MethodName)) ∈ lw_all := lw_g (lw_at lw_m4 181 rfl) rfl
theorem q998 : (Jvm.Cond.methodLink "DishLiftLaw" (110 : Nat) ({ cls := "DishLift", name := "holds", desc := "(I)I" } : Jvm.MethodName)) ∈ lw_all := lw_g (lw_at lw_m4 197 rfl) rfl
theorem q1009 : (Jvm.Cond.methodLink "DishLiftLaw" (114 : Nat) ({ cls := "DishLift", name := "share", desc := "(II)I" } : Jvm.MethodName)) ∈ lw_all := lw_g (lw_at lw_m4 208 rfl) rfl
theorem q1018 : (Jvm.Cond.methodLink "DishLiftLaw" (118 : Nat) ({ cls := "DishLift", name := "byTurns", desc := "(II)I" } : Jvm.MethodName)) ∈ lw_all := lw_g (lw_at lw_m4 217 rfl) rfl
theorem q1032 : (Jvm.Cond.methodLink "DishLiftLaw" (122 : Nat) ({ cls := "DishLift", name := "who", desc := "(IIIII)I" } : Jvm.MethodName)) ∈ lw_all := lw_g (lw_at lw_m4 231 rfl) rfl
theorem q1063 : (Jvm.Cond.methodLink "DishLiftLaw" (126 : Nat) ({ cls := "DishLift", name := "stuck", desc := "(IIII)J" } : Jvm.MethodName)) ∈ lw_all := lw_g (lw_at lw_m5 22 rfl) rfl
theorem q1077 : (Jvm.Cond.methodLink "DishLiftLaw" (131 : Nat) ({ cls := "DishLift", name := "drawn", desc := "(III)I" } : Jvm.MethodName)) ∈ lw_all := lw_g (lw_at lw_m5 36 rfl) rfl
theorem q1085 : (Jvm.Cond.methodLink "DishLiftLaw" (135 : Nat) ({ cls := "DishLift", name := "image", desc := "(I)I" } : Jvm.MethodName)) ∈ lw_all := lw_g (lw_at lw_m5 44 rfl) rfl
theorem q1089 : (Jvm.Cond.methodLink "DishLiftLaw" (139 : Nat) ({ cls := "DishLift", name := "restore", desc := "(I)I" } : Jvm.MethodName)) ∈ lw_all := lw_g (lw_at lw_m5 48 rfl) rfl
theorem q1093 : (Jvm.Cond.methodLink "DishLiftLaw" (143 : Nat) ({ cls := "DishLift", name := "kind", desc := "(I)I" } : Jvm.MethodName)) ∈ lw_all := lw_g (lw_at lw_m5 52 rfl) rfl
theorem q1117 : (Jvm.Cond.methodLink "DishLiftLaw" (147 : Nat) ({ cls := "DishLift", name := "as", desc := "(II)I" } : Jvm.MethodName)) ∈ lw_all := lw_g (lw_at lw_m5 76 rfl) rfl
theorem q1144 : (Jvm.Cond.methodLink "DishLiftLaw" (151 : Nat) ({ cls := "DishLift", name := "ask", desc := "(II)I" } : Jvm.MethodName)) ∈ lw_all := lw_g (lw_at lw_m5 103 rfl) rfl
theorem q1230 : (Jvm.Cond.methodLink "DishLiftLaw" (155 : Nat) ({ cls := "DishLift", name := "trace", desc := "(I)I" } : Jvm.MethodName)) ∈ lw_all := lw_g (lw_at lw_m5 189 rfl) rfl
theorem q1234 : (Jvm.Cond.methodLink "DishLiftLaw" (159 : Nat) ({ cls := "DishLift", name := "count", desc := "(I)I" } : Jvm.MethodName)) ∈ lw_all := lw_g (lw_at lw_m5 193 rfl) rfl
theorem q1238 : (Jvm.Cond.methodLink "DishLiftLaw" (163 : Nat) ({ cls := "DishLift", name := "status", desc := "()I" } : Jvm.MethodName)) ∈ lw_all := lw_g (lw_at lw_m5 197 rfl) rfl
theorem q1242 : (Jvm.Cond.classLink "DishLiftLaw" (10 : Nat) "DishLiftModel") ∈ lw_all := lw_g (lw_at lw_m5 201 rfl) rfl
theorem q1244 : (Jvm.Cond.methodLink "DishLiftLaw" (12 : Nat) ({ cls := "DishLiftModel", name := "<init>", desc := "()V" } : Jvm.MethodName)) ∈ lw_all := lw_g (lw_at lw_m5 203 rfl) rfl
theorem q1307 : (Jvm.Cond.methodLink "DishLiftLaw" (17 : Nat) ({ cls := "DishLiftModel", name := "row", desc := "(III)I" } : Jvm.MethodName)) ∈ lw_all := lw_g (lw_at lw_m6 26 rfl) rfl
theorem q1325 : (Jvm.Cond.methodLink "DishLiftLaw" (21 : Nat) ({ cls := "DishLiftModel", name := "set", desc := "(III)I" } : Jvm.MethodName)) ∈ lw_all := lw_g (lw_at lw_m6 44 rfl) rfl
theorem q1333 : (Jvm.Cond.methodLink "DishLiftLaw" (26 : Nat) ({ cls := "DishLiftModel", name := "copy", desc := "(IIIII)I" } : Jvm.MethodName)) ∈ lw_all := lw_g (lw_at lw_m6 52 rfl) rfl
theorem q1337 : (Jvm.Cond.methodLink "DishLiftLaw" (31 : Nat) ({ cls := "DishLiftModel", name := "drop", desc := "(I)I" } : Jvm.MethodName)) ∈ lw_all := lw_g (lw_at lw_m6 56 rfl) rfl
theorem q1341 : (Jvm.Cond.methodLink "DishLiftLaw" (35 : Nat) ({ cls := "DishLiftModel", name := "feed", desc := "(I)I" } : Jvm.MethodName)) ∈ lw_all := lw_g (lw_at lw_m6 60 rfl) rfl
theorem q1347 : (Jvm.Cond.methodLink "DishLiftLaw" (40 : Nat) ({ cls := "DishLiftModel", name := "house", desc := "()I" } : Jvm.MethodName)) ∈ lw_all := lw_g (lw_at lw_m6 66 rfl) rfl
theorem q1389 : (Jvm.Cond.methodLink "DishLiftLaw" (44 : Nat) ({ cls := "DishLiftModel", name := "fault", desc := "()I" } : Jvm.MethodName)) ∈ lw_all := lw_g (lw_at lw_m6 108 rfl) rfl
theorem q1393 : (Jvm.Cond.methodLink "DishLiftLaw" (48 : Nat) ({ cls := "DishLiftModel", name := "undo", desc := "()I" } : Jvm.MethodName)) ∈ lw_all := lw_g (lw_at lw_m6 112 rfl) rfl
theorem q1398 : (Jvm.Cond.methodLink "DishLiftLaw" (52 : Nat) ({ cls := "DishLiftModel", name := "minutes", desc := "(I)I" } : Jvm.MethodName)) ∈ lw_all := lw_g (lw_at lw_m6 117 rfl) rfl
theorem q1453 : (Jvm.Cond.methodLink "DishLiftLaw" (56 : Nat) ({ cls := "DishLiftModel", name := "pull", desc := "(I)I" } : Jvm.MethodName)) ∈ lw_all := lw_g (lw_at lw_m6 172 rfl) rfl
theorem q1461 : (Jvm.Cond.methodLink "DishLiftLaw" (60 : Nat) ({ cls := "DishLiftModel", name := "rope", desc := "(I)I" } : Jvm.MethodName)) ∈ lw_all := lw_g (lw_at lw_m6 180 rfl) rfl
theorem q1466 : (Jvm.Cond.methodLink "DishLiftLaw" (64 : Nat) ({ cls := "DishLiftModel", name := "room", desc := "(I)I" } : Jvm.MethodName)) ∈ lw_all := lw_g (lw_at lw_m6 185 rfl) rfl
theorem q1471 : (Jvm.Cond.methodLink "DishLiftLaw" (68 : Nat) ({ cls := "DishLiftModel", name := "send", desc := "(III)I" } : Jvm.MethodName)) ∈ lw_all := lw_g (lw_at lw_m6 190 rfl) rfl
theorem q1484 : (Jvm.Cond.methodLink "DishLiftLaw" (73 : Nat) ({ cls := "DishLiftModel", name := "dish", desc := "(II)I" } : Jvm.MethodName)) ∈ lw_all := lw_g (lw_at lw_m6 203 rfl) rfl
theorem q1491 : (Jvm.Cond.methodLink "DishLiftLaw" (77 : Nat) ({ cls := "DishLiftModel", name := "car", desc := "(I)I" } : Jvm.MethodName)) ∈ lw_all := lw_g (lw_at lw_m6 210 rfl) rfl
theorem q1495 : (Jvm.Cond.methodLink "DishLiftLaw" (81 : Nat) ({ cls := "DishLiftModel", name := "ahead", desc := "(III)I" } : Jvm.MethodName)) ∈ lw_all := lw_g (lw_at lw_m6 214 rfl) rfl
theorem q1507 : (Jvm.Cond.methodLink "DishLiftLaw" (85 : Nat) ({ cls := "DishLiftModel", name := "later", desc := "(I)I" } : Jvm.MethodName)) ∈ lw_all := lw_g (lw_at lw_m6 226 rfl) rfl
theorem q1511 : (Jvm.Cond.methodLink "DishLiftLaw" (89 : Nat) ({ cls := "DishLiftModel", name := "when", desc := "(I)I" } : Jvm.MethodName)) ∈ lw_all := lw_g (lw_at lw_m6 230 rfl) rfl
theorem q1520 : (Jvm.Cond.methodLink "DishLiftLaw" (93 : Nat) ({ cls := "DishLiftModel", name := "done", desc := "()I" } : Jvm.MethodName)) ∈ lw_all := lw_g (lw_at lw_m6 239 rfl) rfl
theorem q1524 : (Jvm.Cond.methodLink "DishLiftLaw" (97 : Nat) ({ cls := "DishLiftModel", name := "fine", desc := "(I)I" } : Jvm.MethodName)) ∈ lw_all := lw_g (lw_at lw_m7 3 rfl) rfl
theorem q1532 : (Jvm.Cond.methodLink "DishLiftLaw" (101 : Nat) ({ cls := "DishLiftModel", name := "site", desc := "(II)I" } : Jvm.MethodName)) ∈ lw_all := lw_g (lw_at lw_m7 11 rfl) rfl
theorem q1536 : (Jvm.Cond.methodLink "DishLiftLaw" (105 : Nat) ({ cls := "DishLiftModel", name := "need", desc := "(II)I" } : Jvm.MethodName)) ∈ lw_all := lw_g (lw_at lw_m7 15 rfl) rfl
theorem q1540 : (Jvm.Cond.methodLink "DishLiftLaw" (109 : Nat) ({ cls := "DishLiftModel", name := "ranks", desc := "(II)I" } : Jvm.MethodName)) ∈ lw_all := lw_g (lw_at lw_m7 19 rfl) rfl
theorem q1553 : (Jvm.Cond.methodLink "DishLiftLaw" (113 : Nat) ({ cls := "DishLiftModel", name := "holds", desc := "(I)I" } : Jvm.MethodName)) ∈ lw_all := lw_g (lw_at lw_m7 32 rfl) rfl
theorem q1557 : (Jvm.Cond.methodLink "DishLiftLaw" (117 : Nat) ({ cls := "DishLiftModel", name := "share", desc := "(II)I" } : Jvm.MethodName)) ∈ lw_all := lw_g (lw_at lw_m7 36 rfl) rfl
theorem q1570 : (Jvm.Cond.methodLink "DishLiftLaw" (121 : Nat) ({ cls := "DishLiftModel", name := "byTurns", desc := "(II)I" } : Jvm.MethodName)) ∈ lw_all := lw_g (lw_at lw_m7 49 rfl) rfl
theorem q1579 : (Jvm.Cond.methodLink "DishLiftLaw" (125 : Nat) ({ cls := "DishLiftModel", name := "who", desc := "(IIIII)I" } : Jvm.MethodName)) ∈ lw_all := lw_g (lw_at lw_m7 58 rfl) rfl
theorem q1589 : (Jvm.Cond.methodLink "DishLiftLaw" (130 : Nat) ({ cls := "DishLiftModel", name := "stuck", desc := "(IIII)J" } : Jvm.MethodName)) ∈ lw_all := lw_g (lw_at lw_m7 68 rfl) rfl
theorem q1596 : (Jvm.Cond.methodLink "DishLiftLaw" (134 : Nat) ({ cls := "DishLiftModel", name := "drawn", desc := "(III)I" } : Jvm.MethodName)) ∈ lw_all := lw_g (lw_at lw_m7 75 rfl) rfl
theorem q1604 : (Jvm.Cond.methodLink "DishLiftLaw" (138 : Nat) ({ cls := "DishLiftModel", name := "image", desc := "(I)I" } : Jvm.MethodName)) ∈ lw_all := lw_g (lw_at lw_m7 83 rfl) rfl
theorem q1608 : (Jvm.Cond.methodLink "DishLiftLaw" (142 : Nat) ({ cls := "DishLiftModel", name := "restore", desc := "(I)I" } : Jvm.MethodName)) ∈ lw_all := lw_g (lw_at lw_m7 87 rfl) rfl
theorem q1612 : (Jvm.Cond.methodLink "DishLiftLaw" (146 : Nat) ({ cls := "DishLiftModel", name := "kind", desc := "(I)I" } : Jvm.MethodName)) ∈ lw_all := lw_g (lw_at lw_m7 91 rfl) rfl
theorem q1616 : (Jvm.Cond.methodLink "DishLiftLaw" (150 : Nat) ({ cls := "DishLiftModel", name := "as", desc := "(II)I" } : Jvm.MethodName)) ∈ lw_all := lw_g (lw_at lw_m7 95 rfl) rfl
theorem q1623 : (Jvm.Cond.methodLink "DishLiftLaw" (154 : Nat) ({ cls := "DishLiftModel", name := "ask", desc := "(II)I" } : Jvm.MethodName)) ∈ lw_all := lw_g (lw_at lw_m7 102 rfl) rfl
theorem q1663 : (Jvm.Cond.methodLink "DishLiftLaw" (158 : Nat) ({ cls := "DishLiftModel", name := "trace", desc := "(I)I" } : Jvm.MethodName)) ∈ lw_all := lw_g (lw_at lw_m7 142 rfl) rfl
theorem q1667 : (Jvm.Cond.methodLink "DishLiftLaw" (162 : Nat) ({ cls := "DishLiftModel", name := "count", desc := "(I)I" } : Jvm.MethodName)) ∈ lw_all := lw_g (lw_at lw_m7 146 rfl) rfl
theorem q1679 : (Jvm.Cond.methodLink "DishLiftLaw" (166 : Nat) ({ cls := "DishLiftModel", name := "status", desc := "()I" } : Jvm.MethodName)) ∈ lw_all := lw_g (lw_at lw_m7 158 rfl) rfl

theorem q1723 : (Jvm.Cond.castable "[B" "java/lang/Object") ∈ lw_tbl := lw_at lw_m7 202 rfl
set_option maxRecDepth 100000

theorem q1724 : (Jvm.Cond.castable "[I" "java/lang/Object") ∈ lw_tbl := lw_at lw_m7 203 rfl
set_option maxRecDepth 100000

theorem q1726 : (Jvm.Cond.castable "[LDishLift$Dish;" "java/lang/Object") ∈ lw_tbl := lw_at lw_m7 205 rfl
set_option maxRecDepth 100000

theorem q1725 : (Jvm.Cond.castable "[LDishLift$House;" "java/lang/Object") ∈ lw_tbl := lw_at lw_m7 204 rfl
set_option maxRecDepth 100000

theorem q1722 : (Jvm.Cond.castable "[LDishLift$Row;" "java/lang/Object") ∈ lw_tbl := lw_at lw_m7 201 rfl
set_option maxRecDepth 100000

theorem q1719 : (Jvm.Cond.sameMethod "[Ljava/lang/Object;" "java/lang/Object" "getClass" "()Ljava/lang/Class;") ∈ lw_all := lw_g (lw_at lw_m7 198 rfl) rfl
set_option maxRecDepth 100000
theorem q1720 : (Jvm.Cond.selects "[Ljava/lang/Object;" ({ cls := "java/lang/Object", name := "getClass", desc := "()Ljava/lang/Class;" } : Jvm.MethodName) ({ cls := "java/lang/Object", name := "getClass", desc := "()Ljava/lang/Class;" } : Jvm.MethodName)) ∈ lw_all := lw_g (lw_at lw_m7 199 rfl) rfl
theorem q1727 : (Jvm.Cond.castable "[Ljava/lang/Object;" "java/lang/Object") ∈ lw_tbl := lw_at lw_m7 206 rfl

theorem q1728 : (Jvm.Cond.castable "[Z" "java/lang/Object") ∈ lw_tbl := lw_at lw_m7 207 rfl
set_option maxRecDepth 100000

theorem q103 : (Jvm.Cond.initialized "java/lang/System") ∈ lw_all := lw_g (lw_at lw_m1 22 rfl) rfl
set_option maxRecDepth 100000
theorem q493 : (Jvm.Cond.static ({ cls := "java/lang/System", name := "arraycopy", desc := "(Ljava/lang/Object;ILjava/lang/Object;II)V" } : Jvm.MethodName)) ∈ lw_all := lw_g (lw_at lw_m2 172 rfl) rfl
theorem q494 : (Jvm.Cond.native ({ cls := "java/lang/System", name := "arraycopy", desc := "(Ljava/lang/Object;ILjava/lang/Object;II)V" } : Jvm.MethodName)) ∈ lw_all := lw_g (lw_at lw_m2 173 rfl) rfl

theorem q668 : (Jvm.Cond.interfaceMethod "java/util/List" "java/util/List" "size" "()I") ∈ lw_tbl := lw_at lw_m3 107 rfl
set_option maxRecDepth 100000
theorem q669 : (Jvm.Cond.declares ({ cls := "java/util/List", name := "size", desc := "()I" } : Jvm.MethodName)) ∈ lw_tbl := lw_at lw_m3 108 rfl
theorem q685 : (Jvm.Cond.interfaceMethod "java/util/List" "java/util/List" "add" "(Ljava/lang/Object;)Z") ∈ lw_tbl := lw_at lw_m3 124 rfl
theorem q686 : (Jvm.Cond.declares ({ cls := "java/util/List", name := "add", desc := "(Ljava/lang/Object;)Z" } : Jvm.MethodName)) ∈ lw_tbl := lw_at lw_m3 125 rfl
theorem q819 : (Jvm.Cond.interfaceMethod "java/util/List" "java/util/List" "get" "(I)Ljava/lang/Object;") ∈ lw_tbl := lw_at lw_m4 18 rfl
theorem q820 : (Jvm.Cond.declares ({ cls := "java/util/List", name := "get", desc := "(I)Ljava/lang/Object;" } : Jvm.MethodName)) ∈ lw_tbl := lw_at lw_m4 19 rfl

theorem q124 : (Jvm.Cond.arrayOver (Jvm.ClassFile.FieldType.object "DishLift$Row")) ∈ lw_tbl := lw_at lw_m1 43 rfl
set_option maxRecDepth 100000
theorem q157 : (Jvm.Cond.arrayClass Jvm.ClassFile.FieldType.byte) ∈ lw_all := lw_g (lw_at lw_m1 76 rfl) rfl
theorem q230 : (Jvm.Cond.arrayClass Jvm.ClassFile.FieldType.int) ∈ lw_all := lw_g (lw_at lw_m1 149 rfl) rfl
theorem q231 : (Jvm.Cond.arrayOver (Jvm.ClassFile.FieldType.object "DishLift$House")) ∈ lw_tbl := lw_at lw_m1 150 rfl
theorem q248 : (Jvm.Cond.arrayOver (Jvm.ClassFile.FieldType.object "DishLift$Dish")) ∈ lw_tbl := lw_at lw_m1 167 rfl
theorem q741 : (Jvm.Cond.arrayOver (Jvm.ClassFile.FieldType.object "java/lang/Object")) ∈ lw_tbl := lw_at lw_m3 180 rfl
theorem q1306 : (Jvm.Cond.arrayClass Jvm.ClassFile.FieldType.boolean) ∈ lw_all := lw_g (lw_at lw_m6 25 rfl) rfl

