/-! java/util/AbstractCollection -/
set_option maxRecDepth 100000
def RJ0 : String := "java/util/AbstractCollection"
abbrev cJ0_init : ByteArray := prog_32_method_1_code
def yJ0_init : MethodName := ⟨RJ0, "<init>", "()V"⟩
theorem dJ0_init_0 : decode cJ0_init 0 = .ok (.aload_n 0, 1) := by decide +kernel
theorem dJ0_init_1 : decode cJ0_init 1 = .ok (.invokespecial 1, 3) := by decide +kernel
theorem dJ0_init_4 : decode cJ0_init 4 = .ok (.return_, 1) := by decide +kernel
theorem q70 : (Jvm.Cond.initialized "java/util/AbstractCollection") ∈ lw_all := lw_g (lw_at lw_m1 3 rfl) rfl
theorem q126 : (Jvm.Cond.instanceMethod ({ cls := "java/util/AbstractCollection", name := "<init>", desc := "()V" } : Jvm.MethodName)) ∈ lw_all := lw_g (lw_at lw_m1 59 rfl) rfl
theorem q127 : (Jvm.Cond.code ({ cls := "java/util/AbstractCollection", name := "<init>", desc := "()V" } : Jvm.MethodName) prog_32_method_1_code (1 : Nat) (Option.none : Option Jvm.ClassFile.FieldType)) ∈ lw_all := lw_g (lw_at lw_m1 60 rfl) rfl
theorem q128 : (Jvm.Cond.methodLink "java/util/AbstractCollection" (1 : Nat) ({ cls := "java/lang/Object", name := "<init>", desc := "()V" } : Jvm.MethodName)) ∈ lw_all := lw_g (lw_at lw_m1 61 rfl) rfl

/-! java/util/AbstractList -/
set_option maxRecDepth 100000
def RJ1 : String := "java/util/AbstractList"
abbrev cJ1_init : ByteArray := prog_33_method_1_code
def yJ1_init : MethodName := ⟨RJ1, "<init>", "()V"⟩
def dkwJ1_init_0 : List UInt8 := [42, 183, 0, 1, 42, 3, 181, 0, 7, 177]
abbrev dktJ1_init_0 : List UInt8 := dkwJ1_init_0 ++ []
theorem dksJ1_init_0 : cJ1_init.data.toList.drop 0 = dktJ1_init_0 := by decide +kernel
theorem dJ1_init_0 : decode cJ1_init 0 = .ok (.aload_n 0, 1) := dk_42 (dk_at dksJ1_init_0 0 rfl rfl)
theorem dJ1_init_1 : decode cJ1_init 1 = .ok (.invokespecial 1, 3) := dk_183 0 1 (dk_at dksJ1_init_0 1 rfl rfl)
theorem dJ1_init_4 : decode cJ1_init 4 = .ok (.aload_n 0, 1) := dk_42 (dk_at dksJ1_init_0 4 rfl rfl)
theorem dJ1_init_5 : decode cJ1_init 5 = .ok (.iconst 0, 1) := dk_3 (dk_at dksJ1_init_0 5 rfl rfl)
theorem dJ1_init_6 : decode cJ1_init 6 = .ok (.putfield 7, 3) := dk_181 0 7 (dk_at dksJ1_init_0 6 rfl rfl)
theorem dJ1_init_9 : decode cJ1_init 9 = .ok (.return_, 1) := dk_177 (dk_at dksJ1_init_0 9 rfl rfl)
theorem q71 : (Jvm.Cond.initialized "java/util/AbstractList") ∈ lw_all := lw_g (lw_at lw_m1 4 rfl) rfl
theorem q123 : (Jvm.Cond.instanceMethod ({ cls := "java/util/AbstractList", name := "<init>", desc := "()V" } : Jvm.MethodName)) ∈ lw_all := lw_g (lw_at lw_m1 56 rfl) rfl
theorem q124 : (Jvm.Cond.code ({ cls := "java/util/AbstractList", name := "<init>", desc := "()V" } : Jvm.MethodName) prog_33_method_1_code (1 : Nat) (Option.none : Option Jvm.ClassFile.FieldType)) ∈ lw_all := lw_g (lw_at lw_m1 57 rfl) rfl
theorem q125 : (Jvm.Cond.methodLink "java/util/AbstractList" (1 : Nat) ({ cls := "java/util/AbstractCollection", name := "<init>", desc := "()V" } : Jvm.MethodName)) ∈ lw_all := lw_g (lw_at lw_m1 58 rfl) rfl
theorem q133 : (Jvm.Cond.fieldLink "java/util/AbstractList" (7 : Nat) "java/util/AbstractList" "modCount" "I") ∈ lw_all := lw_g (lw_at lw_m1 66 rfl) rfl
theorem q141 : (Jvm.Cond.soleField "java/util/AbstractList" "modCount") ∈ lw_all := lw_g (lw_at lw_m1 74 rfl) rfl

/-! jdk/internal/util/Preconditions -/
set_option maxRecDepth 100000
def RJ10 : String := "jdk/internal/util/Preconditions"
abbrev cJ10_checkIndex : ByteArray := prog_42_method_11_code
def yJ10_checkIndex : MethodName := ⟨RJ10, "checkIndex", "(IILjava/util/function/BiFunction;)I"⟩
def dkwJ10_checkIndex_0 : List UInt8 := [26, 155, 0, 8, 26, 27, 161, 0, 10, 44, 26, 27, 184, 0, 95, 191, 26, 172]
abbrev dktJ10_checkIndex_0 : List UInt8 := dkwJ10_checkIndex_0 ++ []
theorem dksJ10_checkIndex_0 : cJ10_checkIndex.data.toList.drop 0 = dktJ10_checkIndex_0 := by decide +kernel
theorem dJ10_checkIndex_0 : decode cJ10_checkIndex 0 = .ok (.iload_n 0, 1) := dk_26 (dk_at dksJ10_checkIndex_0 0 rfl rfl)
theorem dJ10_checkIndex_1 : decode cJ10_checkIndex 1 = .ok (.ifCond .lt 8, 3) := dk_155 0 8 (dk_at dksJ10_checkIndex_0 1 rfl rfl)
theorem dJ10_checkIndex_4 : decode cJ10_checkIndex 4 = .ok (.iload_n 0, 1) := dk_26 (dk_at dksJ10_checkIndex_0 4 rfl rfl)
theorem dJ10_checkIndex_5 : decode cJ10_checkIndex 5 = .ok (.iload_n 1, 1) := dk_27 (dk_at dksJ10_checkIndex_0 5 rfl rfl)
theorem dJ10_checkIndex_6 : decode cJ10_checkIndex 6 = .ok (.if_icmp .lt 10, 3) := dk_161 0 10 (dk_at dksJ10_checkIndex_0 6 rfl rfl)
theorem dJ10_checkIndex_9 : decode cJ10_checkIndex 9 = .ok (.aload_n 2, 1) := dk_44 (dk_at dksJ10_checkIndex_0 9 rfl rfl)
theorem dJ10_checkIndex_10 : decode cJ10_checkIndex 10 = .ok (.iload_n 0, 1) := dk_26 (dk_at dksJ10_checkIndex_0 10 rfl rfl)
theorem dJ10_checkIndex_11 : decode cJ10_checkIndex 11 = .ok (.iload_n 1, 1) := dk_27 (dk_at dksJ10_checkIndex_0 11 rfl rfl)
theorem dJ10_checkIndex_12 : decode cJ10_checkIndex 12 = .ok (.invokestatic 95, 3) := dk_184 0 95 (dk_at dksJ10_checkIndex_0 12 rfl rfl)
theorem dJ10_checkIndex_15 : decode cJ10_checkIndex 15 = .ok (.athrow, 1) := dk_191 (dk_at dksJ10_checkIndex_0 15 rfl rfl)
theorem dJ10_checkIndex_16 : decode cJ10_checkIndex 16 = .ok (.iload_n 0, 1) := dk_26 (dk_at dksJ10_checkIndex_0 16 rfl rfl)
theorem dJ10_checkIndex_17 : decode cJ10_checkIndex 17 = .ok (.ireturn, 1) := dk_172 (dk_at dksJ10_checkIndex_0 17 rfl rfl)
theorem q93 : (Jvm.Cond.initialized "jdk/internal/util/Preconditions") ∈ lw_all := lw_g (lw_at lw_m1 26 rfl) rfl
theorem q604 : (Jvm.Cond.laysStatic "jdk/internal/util/Preconditions" "SIOOBE_FORMATTER" "Ljava/util/function/BiFunction;") ∈ lw_tbl := lw_at lw_m3 57 rfl
theorem q606 : (Jvm.Cond.static ({ cls := "jdk/internal/util/Preconditions", name := "checkIndex", desc := "(IILjava/util/function/BiFunction;)I" } : Jvm.MethodName)) ∈ lw_all := lw_g (lw_at lw_m3 59 rfl) rfl
theorem q607 : (Jvm.Cond.code ({ cls := "jdk/internal/util/Preconditions", name := "checkIndex", desc := "(IILjava/util/function/BiFunction;)I" } : Jvm.MethodName) prog_42_method_11_code (3 : Nat) (Option.some Jvm.ClassFile.FieldType.int)) ∈ lw_all := lw_g (lw_at lw_m3 60 rfl) rfl

/-! java/lang/StringUTF16 -/
set_option maxRecDepth 100000
def RJ11 : String := "java/lang/StringUTF16"
abbrev cJ11_charAt : ByteArray := prog_29_method_83_code
def yJ11_charAt : MethodName := ⟨RJ11, "charAt", "([BI)C"⟩
def dkwJ11_charAt_0 : List UInt8 := [27, 42, 184, 0, 67, 42, 27, 184, 0, 71, 172]
abbrev dktJ11_charAt_0 : List UInt8 := dkwJ11_charAt_0 ++ []
theorem dksJ11_charAt_0 : cJ11_charAt.data.toList.drop 0 = dktJ11_charAt_0 := by decide +kernel
theorem dJ11_charAt_0 : decode cJ11_charAt 0 = .ok (.iload_n 1, 1) := dk_27 (dk_at dksJ11_charAt_0 0 rfl rfl)
theorem dJ11_charAt_1 : decode cJ11_charAt 1 = .ok (.aload_n 0, 1) := dk_42 (dk_at dksJ11_charAt_0 1 rfl rfl)
theorem dJ11_charAt_2 : decode cJ11_charAt 2 = .ok (.invokestatic 67, 3) := dk_184 0 67 (dk_at dksJ11_charAt_0 2 rfl rfl)
theorem dJ11_charAt_5 : decode cJ11_charAt 5 = .ok (.aload_n 0, 1) := dk_42 (dk_at dksJ11_charAt_0 5 rfl rfl)
theorem dJ11_charAt_6 : decode cJ11_charAt 6 = .ok (.iload_n 1, 1) := dk_27 (dk_at dksJ11_charAt_0 6 rfl rfl)
theorem dJ11_charAt_7 : decode cJ11_charAt 7 = .ok (.invokestatic 71, 3) := dk_184 0 71 (dk_at dksJ11_charAt_0 7 rfl rfl)
theorem dJ11_charAt_10 : decode cJ11_charAt 10 = .ok (.ireturn, 1) := dk_172 (dk_at dksJ11_charAt_0 10 rfl rfl)
abbrev cJ11_checkIndex : ByteArray := prog_29_method_91_code
def yJ11_checkIndex : MethodName := ⟨RJ11, "checkIndex", "(I[B)V"⟩
def dkwJ11_checkIndex_0 : List UInt8 := [26, 43, 184, 0, 48, 184, 1, 158, 177]
abbrev dktJ11_checkIndex_0 : List UInt8 := dkwJ11_checkIndex_0 ++ []
theorem dksJ11_checkIndex_0 : cJ11_checkIndex.data.toList.drop 0 = dktJ11_checkIndex_0 := by decide +kernel
theorem dJ11_checkIndex_0 : decode cJ11_checkIndex 0 = .ok (.iload_n 0, 1) := dk_26 (dk_at dksJ11_checkIndex_0 0 rfl rfl)
theorem dJ11_checkIndex_1 : decode cJ11_checkIndex 1 = .ok (.aload_n 1, 1) := dk_43 (dk_at dksJ11_checkIndex_0 1 rfl rfl)
theorem dJ11_checkIndex_2 : decode cJ11_checkIndex 2 = .ok (.invokestatic 48, 3) := dk_184 0 48 (dk_at dksJ11_checkIndex_0 2 rfl rfl)
theorem dJ11_checkIndex_5 : decode cJ11_checkIndex 5 = .ok (.invokestatic 414, 3) := dk_184 1 158 (dk_at dksJ11_checkIndex_0 5 rfl rfl)
theorem dJ11_checkIndex_8 : decode cJ11_checkIndex 8 = .ok (.return_, 1) := dk_177 (dk_at dksJ11_checkIndex_0 8 rfl rfl)
abbrev cJ11_length : ByteArray := prog_29_method_6_code
def yJ11_length : MethodName := ⟨RJ11, "length", "([B)I"⟩
def dkwJ11_length_0 : List UInt8 := [42, 190, 4, 122, 172]
abbrev dktJ11_length_0 : List UInt8 := dkwJ11_length_0 ++ []
theorem dksJ11_length_0 : cJ11_length.data.toList.drop 0 = dktJ11_length_0 := by decide +kernel
theorem dJ11_length_0 : decode cJ11_length 0 = .ok (.aload_n 0, 1) := dk_42 (dk_at dksJ11_length_0 0 rfl rfl)
theorem dJ11_length_1 : decode cJ11_length 1 = .ok (.arraylength, 1) := dk_190 (dk_at dksJ11_length_0 1 rfl rfl)
theorem dJ11_length_2 : decode cJ11_length 2 = .ok (.iconst 1, 1) := dk_4 (dk_at dksJ11_length_0 2 rfl rfl)
theorem dJ11_length_3 : decode cJ11_length 3 = .ok (.ishr, 1) := dk_122 (dk_at dksJ11_length_0 3 rfl rfl)
theorem dJ11_length_4 : decode cJ11_length 4 = .ok (.ireturn, 1) := dk_172 (dk_at dksJ11_length_0 4 rfl rfl)
abbrev cJ11_getChar : ByteArray := prog_29_method_5_code
def yJ11_getChar : MethodName := ⟨RJ11, "getChar", "([BI)C"⟩
def dkwJ11_getChar_2 : List UInt8 := [51, 17, 0, 255, 126, 178, 0, 63, 120, 128, 146, 172]
abbrev dktJ11_getChar_2 : List UInt8 := dkwJ11_getChar_2 ++ []
def dkwJ11_getChar_1 : List UInt8 := [183, 0, 56, 191, 27, 4, 120, 60, 42, 27, 132, 1, 1, 51, 17, 0, 255, 126, 178, 0, 59, 120, 42, 27]
abbrev dktJ11_getChar_1 : List UInt8 := dkwJ11_getChar_1 ++ dktJ11_getChar_2
def dkwJ11_getChar_0 : List UInt8 := [178, 0, 44, 154, 0, 25, 27, 155, 0, 11, 27, 42, 184, 0, 48, 161, 0, 13, 187, 0, 52, 89, 18, 54]
abbrev dktJ11_getChar_0 : List UInt8 := dkwJ11_getChar_0 ++ dktJ11_getChar_1
theorem dksJ11_getChar_0 : cJ11_getChar.data.toList.drop 0 = dktJ11_getChar_0 := by decide +kernel
theorem dksJ11_getChar_1 : cJ11_getChar.data.toList.drop 24 = dktJ11_getChar_1 := dk_seg dksJ11_getChar_0 24 rfl rfl
theorem dksJ11_getChar_2 : cJ11_getChar.data.toList.drop 48 = dktJ11_getChar_2 := dk_seg dksJ11_getChar_1 24 rfl rfl
theorem dJ11_getChar_0 : decode cJ11_getChar 0 = .ok (.getstatic 44, 3) := dk_178 0 44 (dk_at dksJ11_getChar_0 0 rfl rfl)
theorem dJ11_getChar_3 : decode cJ11_getChar 3 = .ok (.ifCond .ne 25, 3) := dk_154 0 25 (dk_at dksJ11_getChar_0 3 rfl rfl)
theorem dJ11_getChar_6 : decode cJ11_getChar 6 = .ok (.iload_n 1, 1) := dk_27 (dk_at dksJ11_getChar_0 6 rfl rfl)
theorem dJ11_getChar_7 : decode cJ11_getChar 7 = .ok (.ifCond .lt 11, 3) := dk_155 0 11 (dk_at dksJ11_getChar_0 7 rfl rfl)
theorem dJ11_getChar_10 : decode cJ11_getChar 10 = .ok (.iload_n 1, 1) := dk_27 (dk_at dksJ11_getChar_0 10 rfl rfl)
theorem dJ11_getChar_11 : decode cJ11_getChar 11 = .ok (.aload_n 0, 1) := dk_42 (dk_at dksJ11_getChar_0 11 rfl rfl)
theorem dJ11_getChar_12 : decode cJ11_getChar 12 = .ok (.invokestatic 48, 3) := dk_184 0 48 (dk_at dksJ11_getChar_0 12 rfl rfl)
theorem dJ11_getChar_15 : decode cJ11_getChar 15 = .ok (.if_icmp .lt 13, 3) := dk_161 0 13 (dk_at dksJ11_getChar_0 15 rfl rfl)
theorem dJ11_getChar_18 : decode cJ11_getChar 18 = .ok (.new 52, 3) := dk_187 0 52 (dk_at dksJ11_getChar_0 18 rfl rfl)
theorem dJ11_getChar_21 : decode cJ11_getChar 21 = .ok (.dup, 1) := dk_89 (dk_at dksJ11_getChar_0 21 rfl rfl)
theorem dJ11_getChar_22 : decode cJ11_getChar 22 = .ok (.ldc 54, 2) := dk_18 54 (dk_at dksJ11_getChar_0 22 rfl rfl)
theorem dJ11_getChar_24 : decode cJ11_getChar 24 = .ok (.invokespecial 56, 3) := dk_183 0 56 (dk_at dksJ11_getChar_1 0 rfl rfl)
theorem dJ11_getChar_27 : decode cJ11_getChar 27 = .ok (.athrow, 1) := dk_191 (dk_at dksJ11_getChar_1 3 rfl rfl)
theorem dJ11_getChar_28 : decode cJ11_getChar 28 = .ok (.iload_n 1, 1) := dk_27 (dk_at dksJ11_getChar_1 4 rfl rfl)
theorem dJ11_getChar_29 : decode cJ11_getChar 29 = .ok (.iconst 1, 1) := dk_4 (dk_at dksJ11_getChar_1 5 rfl rfl)
theorem dJ11_getChar_30 : decode cJ11_getChar 30 = .ok (.ishl, 1) := dk_120 (dk_at dksJ11_getChar_1 6 rfl rfl)
theorem dJ11_getChar_31 : decode cJ11_getChar 31 = .ok (.istore_n 1, 1) := dk_60 (dk_at dksJ11_getChar_1 7 rfl rfl)
theorem dJ11_getChar_32 : decode cJ11_getChar 32 = .ok (.aload_n 0, 1) := dk_42 (dk_at dksJ11_getChar_1 8 rfl rfl)
theorem dJ11_getChar_33 : decode cJ11_getChar 33 = .ok (.iload_n 1, 1) := dk_27 (dk_at dksJ11_getChar_1 9 rfl rfl)
theorem dJ11_getChar_34 : decode cJ11_getChar 34 = .ok (.iinc 1 1, 3) := dk_132 1 1 (dk_at dksJ11_getChar_1 10 rfl rfl)
theorem dJ11_getChar_37 : decode cJ11_getChar 37 = .ok (.baload, 1) := dk_51 (dk_at dksJ11_getChar_1 13 rfl rfl)
theorem dJ11_getChar_38 : decode cJ11_getChar 38 = .ok (.sipush 255, 3) := dk_17 0 255 (dk_at dksJ11_getChar_1 14 rfl rfl)
theorem dJ11_getChar_41 : decode cJ11_getChar 41 = .ok (.iand, 1) := dk_126 (dk_at dksJ11_getChar_1 17 rfl rfl)
theorem dJ11_getChar_42 : decode cJ11_getChar 42 = .ok (.getstatic 59, 3) := dk_178 0 59 (dk_at dksJ11_getChar_1 18 rfl rfl)
theorem dJ11_getChar_45 : decode cJ11_getChar 45 = .ok (.ishl, 1) := dk_120 (dk_at dksJ11_getChar_1 21 rfl rfl)
theorem dJ11_getChar_46 : decode cJ11_getChar 46 = .ok (.aload_n 0, 1) := dk_42 (dk_at dksJ11_getChar_1 22 rfl rfl)
theorem dJ11_getChar_47 : decode cJ11_getChar 47 = .ok (.iload_n 1, 1) := dk_27 (dk_at dksJ11_getChar_1 23 rfl rfl)
theorem dJ11_getChar_48 : decode cJ11_getChar 48 = .ok (.baload, 1) := dk_51 (dk_at dksJ11_getChar_2 0 rfl rfl)
theorem dJ11_getChar_49 : decode cJ11_getChar 49 = .ok (.sipush 255, 3) := dk_17 0 255 (dk_at dksJ11_getChar_2 1 rfl rfl)
theorem dJ11_getChar_52 : decode cJ11_getChar 52 = .ok (.iand, 1) := dk_126 (dk_at dksJ11_getChar_2 4 rfl rfl)
theorem dJ11_getChar_53 : decode cJ11_getChar 53 = .ok (.getstatic 63, 3) := dk_178 0 63 (dk_at dksJ11_getChar_2 5 rfl rfl)
theorem dJ11_getChar_56 : decode cJ11_getChar 56 = .ok (.ishl, 1) := dk_120 (dk_at dksJ11_getChar_2 8 rfl rfl)
theorem dJ11_getChar_57 : decode cJ11_getChar 57 = .ok (.ior, 1) := dk_128 (dk_at dksJ11_getChar_2 9 rfl rfl)
theorem dJ11_getChar_58 : decode cJ11_getChar 58 = .ok (.i2c, 1) := dk_146 (dk_at dksJ11_getChar_2 10 rfl rfl)
theorem dJ11_getChar_59 : decode cJ11_getChar 59 = .ok (.ireturn, 1) := dk_172 (dk_at dksJ11_getChar_2 11 rfl rfl)
theorem q94 : (Jvm.Cond.initialized "java/lang/StringUTF16") ∈ lw_all := lw_g (lw_at lw_m1 27 rfl) rfl
theorem q609 : (Jvm.Cond.static ({ cls := "java/lang/StringUTF16", name := "charAt", desc := "([BI)C" } : Jvm.MethodName)) ∈ lw_all := lw_g (lw_at lw_m3 62 rfl) rfl
theorem q610 : (Jvm.Cond.code ({ cls := "java/lang/StringUTF16", name := "charAt", desc := "([BI)C" } : Jvm.MethodName) prog_29_method_83_code (2 : Nat) (Option.some Jvm.ClassFile.FieldType.char)) ∈ lw_all := lw_g (lw_at lw_m3 63 rfl) rfl
theorem q611 : (Jvm.Cond.methodLink "java/lang/StringUTF16" (67 : Nat) ({ cls := "java/lang/StringUTF16", name := "checkIndex", desc := "(I[B)V" } : Jvm.MethodName)) ∈ lw_all := lw_g (lw_at lw_m3 64 rfl) rfl
theorem q612 : (Jvm.Cond.static ({ cls := "java/lang/StringUTF16", name := "checkIndex", desc := "(I[B)V" } : Jvm.MethodName)) ∈ lw_all := lw_g (lw_at lw_m3 65 rfl) rfl
theorem q613 : (Jvm.Cond.code ({ cls := "java/lang/StringUTF16", name := "checkIndex", desc := "(I[B)V" } : Jvm.MethodName) prog_29_method_91_code (2 : Nat) (Option.none : Option Jvm.ClassFile.FieldType)) ∈ lw_all := lw_g (lw_at lw_m3 66 rfl) rfl
theorem q614 : (Jvm.Cond.methodLink "java/lang/StringUTF16" (48 : Nat) ({ cls := "java/lang/StringUTF16", name := "length", desc := "([B)I" } : Jvm.MethodName)) ∈ lw_all := lw_g (lw_at lw_m3 67 rfl) rfl
theorem q615 : (Jvm.Cond.static ({ cls := "java/lang/StringUTF16", name := "length", desc := "([B)I" } : Jvm.MethodName)) ∈ lw_all := lw_g (lw_at lw_m3 68 rfl) rfl
theorem q616 : (Jvm.Cond.code ({ cls := "java/lang/StringUTF16", name := "length", desc := "([B)I" } : Jvm.MethodName) prog_29_method_6_code (1 : Nat) (Option.some Jvm.ClassFile.FieldType.int)) ∈ lw_all := lw_g (lw_at lw_m3 69 rfl) rfl
theorem q617 : (Jvm.Cond.methodLink "java/lang/StringUTF16" (414 : Nat) ({ cls := "java/lang/String", name := "checkIndex", desc := "(II)V" } : Jvm.MethodName)) ∈ lw_all := lw_g (lw_at lw_m3 70 rfl) rfl
theorem q618 : (Jvm.Cond.methodLink "java/lang/StringUTF16" (71 : Nat) ({ cls := "java/lang/StringUTF16", name := "getChar", desc := "([BI)C" } : Jvm.MethodName)) ∈ lw_all := lw_g (lw_at lw_m3 71 rfl) rfl
theorem q619 : (Jvm.Cond.static ({ cls := "java/lang/StringUTF16", name := "getChar", desc := "([BI)C" } : Jvm.MethodName)) ∈ lw_all := lw_g (lw_at lw_m3 72 rfl) rfl
theorem q620 : (Jvm.Cond.code ({ cls := "java/lang/StringUTF16", name := "getChar", desc := "([BI)C" } : Jvm.MethodName) prog_29_method_5_code (2 : Nat) (Option.some Jvm.ClassFile.FieldType.char)) ∈ lw_all := lw_g (lw_at lw_m3 73 rfl) rfl
theorem q621 : (Jvm.Cond.fieldLink "java/lang/StringUTF16" (44 : Nat) "java/lang/StringUTF16" "$assertionsDisabled" "Z") ∈ lw_all := lw_g (lw_at lw_m3 74 rfl) rfl
theorem q622 : (Jvm.Cond.laysStatic "java/lang/StringUTF16" "$assertionsDisabled" "Z") ∈ lw_tbl := lw_at lw_m3 75 rfl
theorem q623 : (Jvm.Cond.fieldLink "java/lang/StringUTF16" (59 : Nat) "java/lang/StringUTF16" "HI_BYTE_SHIFT" "I") ∈ lw_all := lw_g (lw_at lw_m3 76 rfl) rfl
theorem q624 : (Jvm.Cond.laysStatic "java/lang/StringUTF16" "HI_BYTE_SHIFT" "I") ∈ lw_tbl := lw_at lw_m3 77 rfl
theorem q625 : (Jvm.Cond.fieldLink "java/lang/StringUTF16" (63 : Nat) "java/lang/StringUTF16" "LO_BYTE_SHIFT" "I") ∈ lw_all := lw_g (lw_at lw_m3 78 rfl) rfl
theorem q626 : (Jvm.Cond.laysStatic "java/lang/StringUTF16" "LO_BYTE_SHIFT" "I") ∈ lw_tbl := lw_at lw_m3 79 rfl

/-! jdk/internal/util/ArraysSupport -/
set_option maxRecDepth 100000
def RJ12 : String := "jdk/internal/util/ArraysSupport"
abbrev cJ12_newLength : ByteArray := prog_41_method_27_code
def yJ12_newLength : MethodName := ⟨RJ12, "newLength", "(III)I"⟩
def dkwJ12_newLength_1 : List UInt8 := [184, 0, 201, 172]
abbrev dktJ12_newLength_1 : List UInt8 := dkwJ12_newLength_1 ++ []
def dkwJ12_newLength_0 : List UInt8 := [26, 27, 28, 184, 0, 194, 96, 62, 3, 29, 162, 0, 11, 29, 18, 200, 163, 0, 5, 29, 172, 26, 27]
abbrev dktJ12_newLength_0 : List UInt8 := dkwJ12_newLength_0 ++ dktJ12_newLength_1
theorem dksJ12_newLength_0 : cJ12_newLength.data.toList.drop 0 = dktJ12_newLength_0 := by decide +kernel
theorem dksJ12_newLength_1 : cJ12_newLength.data.toList.drop 23 = dktJ12_newLength_1 := dk_seg dksJ12_newLength_0 23 rfl rfl
theorem dJ12_newLength_0 : decode cJ12_newLength 0 = .ok (.iload_n 0, 1) := dk_26 (dk_at dksJ12_newLength_0 0 rfl rfl)
theorem dJ12_newLength_1 : decode cJ12_newLength 1 = .ok (.iload_n 1, 1) := dk_27 (dk_at dksJ12_newLength_0 1 rfl rfl)
theorem dJ12_newLength_2 : decode cJ12_newLength 2 = .ok (.iload_n 2, 1) := dk_28 (dk_at dksJ12_newLength_0 2 rfl rfl)
theorem dJ12_newLength_3 : decode cJ12_newLength 3 = .ok (.invokestatic 194, 3) := dk_184 0 194 (dk_at dksJ12_newLength_0 3 rfl rfl)
theorem dJ12_newLength_6 : decode cJ12_newLength 6 = .ok (.iadd, 1) := dk_96 (dk_at dksJ12_newLength_0 6 rfl rfl)
theorem dJ12_newLength_7 : decode cJ12_newLength 7 = .ok (.istore_n 3, 1) := dk_62 (dk_at dksJ12_newLength_0 7 rfl rfl)
theorem dJ12_newLength_8 : decode cJ12_newLength 8 = .ok (.iconst 0, 1) := dk_3 (dk_at dksJ12_newLength_0 8 rfl rfl)
theorem dJ12_newLength_9 : decode cJ12_newLength 9 = .ok (.iload_n 3, 1) := dk_29 (dk_at dksJ12_newLength_0 9 rfl rfl)
theorem dJ12_newLength_10 : decode cJ12_newLength 10 = .ok (.if_icmp .ge 11, 3) := dk_162 0 11 (dk_at dksJ12_newLength_0 10 rfl rfl)
theorem dJ12_newLength_13 : decode cJ12_newLength 13 = .ok (.iload_n 3, 1) := dk_29 (dk_at dksJ12_newLength_0 13 rfl rfl)
theorem dJ12_newLength_14 : decode cJ12_newLength 14 = .ok (.ldc 200, 2) := dk_18 200 (dk_at dksJ12_newLength_0 14 rfl rfl)
theorem dJ12_newLength_16 : decode cJ12_newLength 16 = .ok (.if_icmp .gt 5, 3) := dk_163 0 5 (dk_at dksJ12_newLength_0 16 rfl rfl)
theorem dJ12_newLength_19 : decode cJ12_newLength 19 = .ok (.iload_n 3, 1) := dk_29 (dk_at dksJ12_newLength_0 19 rfl rfl)
theorem dJ12_newLength_20 : decode cJ12_newLength 20 = .ok (.ireturn, 1) := dk_172 (dk_at dksJ12_newLength_0 20 rfl rfl)
theorem dJ12_newLength_21 : decode cJ12_newLength 21 = .ok (.iload_n 0, 1) := dk_26 (dk_at dksJ12_newLength_0 21 rfl rfl)
theorem dJ12_newLength_22 : decode cJ12_newLength 22 = .ok (.iload_n 1, 1) := dk_27 (dk_at dksJ12_newLength_0 22 rfl rfl)
theorem dJ12_newLength_23 : decode cJ12_newLength 23 = .ok (.invokestatic 201, 3) := dk_184 0 201 (dk_at dksJ12_newLength_1 0 rfl rfl)
theorem dJ12_newLength_26 : decode cJ12_newLength 26 = .ok (.ireturn, 1) := dk_172 (dk_at dksJ12_newLength_1 3 rfl rfl)
abbrev cJ12_hugeLength : ByteArray := prog_41_method_28_code
def yJ12_hugeLength : MethodName := ⟨RJ12, "hugeLength", "(II)I"⟩
def dkwJ12_hugeLength_2 : List UInt8 := [191, 28, 18, 200, 163, 0, 6, 18, 200, 172, 28, 172]
abbrev dktJ12_hugeLength_2 : List UInt8 := dkwJ12_hugeLength_2 ++ []
def dkwJ12_hugeLength_1 : List UInt8 := [26, 182, 0, 98, 18, 208, 182, 0, 94, 27, 182, 0, 98, 18, 210, 182, 0, 94, 182, 0, 101, 183, 0, 212]
abbrev dktJ12_hugeLength_1 : List UInt8 := dkwJ12_hugeLength_1 ++ dktJ12_hugeLength_2
def dkwJ12_hugeLength_0 : List UInt8 := [26, 27, 96, 61, 28, 156, 0, 44, 187, 0, 204, 89, 187, 0, 89, 89, 183, 0, 91, 18, 206, 182, 0, 94]
abbrev dktJ12_hugeLength_0 : List UInt8 := dkwJ12_hugeLength_0 ++ dktJ12_hugeLength_1
theorem dksJ12_hugeLength_0 : cJ12_hugeLength.data.toList.drop 0 = dktJ12_hugeLength_0 := by decide +kernel
theorem dksJ12_hugeLength_1 : cJ12_hugeLength.data.toList.drop 24 = dktJ12_hugeLength_1 := dk_seg dksJ12_hugeLength_0 24 rfl rfl
theorem dksJ12_hugeLength_2 : cJ12_hugeLength.data.toList.drop 48 = dktJ12_hugeLength_2 := dk_seg dksJ12_hugeLength_1 24 rfl rfl
theorem dJ12_hugeLength_0 : decode cJ12_hugeLength 0 = .ok (.iload_n 0, 1) := dk_26 (dk_at dksJ12_hugeLength_0 0 rfl rfl)
theorem dJ12_hugeLength_1 : decode cJ12_hugeLength 1 = .ok (.iload_n 1, 1) := dk_27 (dk_at dksJ12_hugeLength_0 1 rfl rfl)
theorem dJ12_hugeLength_2 : decode cJ12_hugeLength 2 = .ok (.iadd, 1) := dk_96 (dk_at dksJ12_hugeLength_0 2 rfl rfl)
theorem dJ12_hugeLength_3 : decode cJ12_hugeLength 3 = .ok (.istore_n 2, 1) := dk_61 (dk_at dksJ12_hugeLength_0 3 rfl rfl)
theorem dJ12_hugeLength_4 : decode cJ12_hugeLength 4 = .ok (.iload_n 2, 1) := dk_28 (dk_at dksJ12_hugeLength_0 4 rfl rfl)
theorem dJ12_hugeLength_5 : decode cJ12_hugeLength 5 = .ok (.ifCond .ge 44, 3) := dk_156 0 44 (dk_at dksJ12_hugeLength_0 5 rfl rfl)
theorem dJ12_hugeLength_8 : decode cJ12_hugeLength 8 = .ok (.new 204, 3) := dk_187 0 204 (dk_at dksJ12_hugeLength_0 8 rfl rfl)
theorem dJ12_hugeLength_11 : decode cJ12_hugeLength 11 = .ok (.dup, 1) := dk_89 (dk_at dksJ12_hugeLength_0 11 rfl rfl)
theorem dJ12_hugeLength_12 : decode cJ12_hugeLength 12 = .ok (.new 89, 3) := dk_187 0 89 (dk_at dksJ12_hugeLength_0 12 rfl rfl)
theorem dJ12_hugeLength_15 : decode cJ12_hugeLength 15 = .ok (.dup, 1) := dk_89 (dk_at dksJ12_hugeLength_0 15 rfl rfl)
theorem dJ12_hugeLength_16 : decode cJ12_hugeLength 16 = .ok (.invokespecial 91, 3) := dk_183 0 91 (dk_at dksJ12_hugeLength_0 16 rfl rfl)
theorem dJ12_hugeLength_19 : decode cJ12_hugeLength 19 = .ok (.ldc 206, 2) := dk_18 206 (dk_at dksJ12_hugeLength_0 19 rfl rfl)
theorem dJ12_hugeLength_21 : decode cJ12_hugeLength 21 = .ok (.invokevirtual 94, 3) := dk_182 0 94 (dk_at dksJ12_hugeLength_0 21 rfl rfl)
theorem dJ12_hugeLength_24 : decode cJ12_hugeLength 24 = .ok (.iload_n 0, 1) := dk_26 (dk_at dksJ12_hugeLength_1 0 rfl rfl)
theorem dJ12_hugeLength_25 : decode cJ12_hugeLength 25 = .ok (.invokevirtual 98, 3) := dk_182 0 98 (dk_at dksJ12_hugeLength_1 1 rfl rfl)
theorem dJ12_hugeLength_28 : decode cJ12_hugeLength 28 = .ok (.ldc 208, 2) := dk_18 208 (dk_at dksJ12_hugeLength_1 4 rfl rfl)
theorem dJ12_hugeLength_30 : decode cJ12_hugeLength 30 = .ok (.invokevirtual 94, 3) := dk_182 0 94 (dk_at dksJ12_hugeLength_1 6 rfl rfl)
theorem dJ12_hugeLength_33 : decode cJ12_hugeLength 33 = .ok (.iload_n 1, 1) := dk_27 (dk_at dksJ12_hugeLength_1 9 rfl rfl)
theorem dJ12_hugeLength_34 : decode cJ12_hugeLength 34 = .ok (.invokevirtual 98, 3) := dk_182 0 98 (dk_at dksJ12_hugeLength_1 10 rfl rfl)
theorem dJ12_hugeLength_37 : decode cJ12_hugeLength 37 = .ok (.ldc 210, 2) := dk_18 210 (dk_at dksJ12_hugeLength_1 13 rfl rfl)
theorem dJ12_hugeLength_39 : decode cJ12_hugeLength 39 = .ok (.invokevirtual 94, 3) := dk_182 0 94 (dk_at dksJ12_hugeLength_1 15 rfl rfl)
theorem dJ12_hugeLength_42 : decode cJ12_hugeLength 42 = .ok (.invokevirtual 101, 3) := dk_182 0 101 (dk_at dksJ12_hugeLength_1 18 rfl rfl)
theorem dJ12_hugeLength_45 : decode cJ12_hugeLength 45 = .ok (.invokespecial 212, 3) := dk_183 0 212 (dk_at dksJ12_hugeLength_1 21 rfl rfl)
theorem dJ12_hugeLength_48 : decode cJ12_hugeLength 48 = .ok (.athrow, 1) := dk_191 (dk_at dksJ12_hugeLength_2 0 rfl rfl)
theorem dJ12_hugeLength_49 : decode cJ12_hugeLength 49 = .ok (.iload_n 2, 1) := dk_28 (dk_at dksJ12_hugeLength_2 1 rfl rfl)
theorem dJ12_hugeLength_50 : decode cJ12_hugeLength 50 = .ok (.ldc 200, 2) := dk_18 200 (dk_at dksJ12_hugeLength_2 2 rfl rfl)
theorem dJ12_hugeLength_52 : decode cJ12_hugeLength 52 = .ok (.if_icmp .gt 6, 3) := dk_163 0 6 (dk_at dksJ12_hugeLength_2 4 rfl rfl)
theorem dJ12_hugeLength_55 : decode cJ12_hugeLength 55 = .ok (.ldc 200, 2) := dk_18 200 (dk_at dksJ12_hugeLength_2 7 rfl rfl)
theorem dJ12_hugeLength_57 : decode cJ12_hugeLength 57 = .ok (.ireturn, 1) := dk_172 (dk_at dksJ12_hugeLength_2 9 rfl rfl)
theorem dJ12_hugeLength_58 : decode cJ12_hugeLength 58 = .ok (.iload_n 2, 1) := dk_28 (dk_at dksJ12_hugeLength_2 10 rfl rfl)
theorem dJ12_hugeLength_59 : decode cJ12_hugeLength 59 = .ok (.ireturn, 1) := dk_172 (dk_at dksJ12_hugeLength_2 11 rfl rfl)
theorem q95 : (Jvm.Cond.initialized "jdk/internal/util/ArraysSupport") ∈ lw_all := lw_g (lw_at lw_m1 28 rfl) rfl
theorem q674 : (Jvm.Cond.static ({ cls := "jdk/internal/util/ArraysSupport", name := "newLength", desc := "(III)I" } : Jvm.MethodName)) ∈ lw_all := lw_g (lw_at lw_m3 127 rfl) rfl
theorem q675 : (Jvm.Cond.code ({ cls := "jdk/internal/util/ArraysSupport", name := "newLength", desc := "(III)I" } : Jvm.MethodName) prog_41_method_27_code (4 : Nat) (Option.some Jvm.ClassFile.FieldType.int)) ∈ lw_all := lw_g (lw_at lw_m3 128 rfl) rfl
theorem q676 : (Jvm.Cond.methodLink "jdk/internal/util/ArraysSupport" (194 : Nat) ({ cls := "java/lang/Math", name := "max", desc := "(II)I" } : Jvm.MethodName)) ∈ lw_all := lw_g (lw_at lw_m3 129 rfl) rfl
theorem q679 : (Jvm.Cond.constant "jdk/internal/util/ArraysSupport" (200 : Nat) (2147483639 : Int32)) ∈ lw_all := lw_g (lw_at lw_m3 132 rfl) rfl
theorem q680 : (Jvm.Cond.methodLink "jdk/internal/util/ArraysSupport" (201 : Nat) ({ cls := "jdk/internal/util/ArraysSupport", name := "hugeLength", desc := "(II)I" } : Jvm.MethodName)) ∈ lw_all := lw_g (lw_at lw_m3 133 rfl) rfl
theorem q681 : (Jvm.Cond.static ({ cls := "jdk/internal/util/ArraysSupport", name := "hugeLength", desc := "(II)I" } : Jvm.MethodName)) ∈ lw_all := lw_g (lw_at lw_m3 134 rfl) rfl
theorem q682 : (Jvm.Cond.code ({ cls := "jdk/internal/util/ArraysSupport", name := "hugeLength", desc := "(II)I" } : Jvm.MethodName) prog_41_method_28_code (3 : Nat) (Option.some Jvm.ClassFile.FieldType.int)) ∈ lw_all := lw_g (lw_at lw_m3 135 rfl) rfl

/-! java/lang/Math -/
set_option maxRecDepth 100000
def RJ13 : String := "java/lang/Math"
abbrev cJ13_max : ByteArray := prog_25_method_65_code
def yJ13_max : MethodName := ⟨RJ13, "max", "(II)I"⟩
def dkwJ13_max_0 : List UInt8 := [26, 27, 161, 0, 7, 26, 167, 0, 4, 27, 172]
abbrev dktJ13_max_0 : List UInt8 := dkwJ13_max_0 ++ []
theorem dksJ13_max_0 : cJ13_max.data.toList.drop 0 = dktJ13_max_0 := by decide +kernel
theorem dJ13_max_0 : decode cJ13_max 0 = .ok (.iload_n 0, 1) := dk_26 (dk_at dksJ13_max_0 0 rfl rfl)
theorem dJ13_max_1 : decode cJ13_max 1 = .ok (.iload_n 1, 1) := dk_27 (dk_at dksJ13_max_0 1 rfl rfl)
theorem dJ13_max_2 : decode cJ13_max 2 = .ok (.if_icmp .lt 7, 3) := dk_161 0 7 (dk_at dksJ13_max_0 2 rfl rfl)
theorem dJ13_max_5 : decode cJ13_max 5 = .ok (.iload_n 0, 1) := dk_26 (dk_at dksJ13_max_0 5 rfl rfl)
theorem dJ13_max_6 : decode cJ13_max 6 = .ok (.goto 4, 3) := dk_167 0 4 (dk_at dksJ13_max_0 6 rfl rfl)
theorem dJ13_max_9 : decode cJ13_max 9 = .ok (.iload_n 1, 1) := dk_27 (dk_at dksJ13_max_0 9 rfl rfl)
theorem dJ13_max_10 : decode cJ13_max 10 = .ok (.ireturn, 1) := dk_172 (dk_at dksJ13_max_0 10 rfl rfl)
abbrev cJ13_min : ByteArray := prog_25_method_69_code
def yJ13_min : MethodName := ⟨RJ13, "min", "(II)I"⟩
def dkwJ13_min_0 : List UInt8 := [26, 27, 163, 0, 7, 26, 167, 0, 4, 27, 172]
abbrev dktJ13_min_0 : List UInt8 := dkwJ13_min_0 ++ []
theorem dksJ13_min_0 : cJ13_min.data.toList.drop 0 = dktJ13_min_0 := by decide +kernel
theorem dJ13_min_0 : decode cJ13_min 0 = .ok (.iload_n 0, 1) := dk_26 (dk_at dksJ13_min_0 0 rfl rfl)
theorem dJ13_min_1 : decode cJ13_min 1 = .ok (.iload_n 1, 1) := dk_27 (dk_at dksJ13_min_0 1 rfl rfl)
theorem dJ13_min_2 : decode cJ13_min 2 = .ok (.if_icmp .gt 7, 3) := dk_163 0 7 (dk_at dksJ13_min_0 2 rfl rfl)
theorem dJ13_min_5 : decode cJ13_min 5 = .ok (.iload_n 0, 1) := dk_26 (dk_at dksJ13_min_0 5 rfl rfl)
theorem dJ13_min_6 : decode cJ13_min 6 = .ok (.goto 4, 3) := dk_167 0 4 (dk_at dksJ13_min_0 6 rfl rfl)
theorem dJ13_min_9 : decode cJ13_min 9 = .ok (.iload_n 1, 1) := dk_27 (dk_at dksJ13_min_0 9 rfl rfl)
theorem dJ13_min_10 : decode cJ13_min 10 = .ok (.ireturn, 1) := dk_172 (dk_at dksJ13_min_0 10 rfl rfl)
theorem q96 : (Jvm.Cond.initialized "java/lang/Math") ∈ lw_all := lw_g (lw_at lw_m1 29 rfl) rfl
theorem q677 : (Jvm.Cond.static ({ cls := "java/lang/Math", name := "max", desc := "(II)I" } : Jvm.MethodName)) ∈ lw_all := lw_g (lw_at lw_m3 130 rfl) rfl
theorem q678 : (Jvm.Cond.code ({ cls := "java/lang/Math", name := "max", desc := "(II)I" } : Jvm.MethodName) prog_25_method_65_code (2 : Nat) (Option.some Jvm.ClassFile.FieldType.int)) ∈ lw_all := lw_g (lw_at lw_m3 131 rfl) rfl
theorem q713 : (Jvm.Cond.static ({ cls := "java/lang/Math", name := "min", desc := "(II)I" } : Jvm.MethodName)) ∈ lw_all := lw_g (lw_at lw_m3 166 rfl) rfl
theorem q714 : (Jvm.Cond.code ({ cls := "java/lang/Math", name := "min", desc := "(II)I" } : Jvm.MethodName) prog_25_method_69_code (2 : Nat) (Option.some Jvm.ClassFile.FieldType.int)) ∈ lw_all := lw_g (lw_at lw_m3 167 rfl) rfl

/-! java/util/Arrays -/
set_option maxRecDepth 100000
def RJ14 : String := "java/util/Arrays"
abbrev cJ14_copyOf : ByteArray := prog_35_method_119_code
def yJ14_copyOf : MethodName := ⟨RJ14, "copyOf", "([Ljava/lang/Object;I)[Ljava/lang/Object;"⟩
def dkwJ14_copyOf_0 : List UInt8 := [42, 27, 42, 182, 0, 86, 184, 1, 44, 176]
abbrev dktJ14_copyOf_0 : List UInt8 := dkwJ14_copyOf_0 ++ []
theorem dksJ14_copyOf_0 : cJ14_copyOf.data.toList.drop 0 = dktJ14_copyOf_0 := by decide +kernel
theorem dJ14_copyOf_0 : decode cJ14_copyOf 0 = .ok (.aload_n 0, 1) := dk_42 (dk_at dksJ14_copyOf_0 0 rfl rfl)
theorem dJ14_copyOf_1 : decode cJ14_copyOf 1 = .ok (.iload_n 1, 1) := dk_27 (dk_at dksJ14_copyOf_0 1 rfl rfl)
theorem dJ14_copyOf_2 : decode cJ14_copyOf 2 = .ok (.aload_n 0, 1) := dk_42 (dk_at dksJ14_copyOf_0 2 rfl rfl)
theorem dJ14_copyOf_3 : decode cJ14_copyOf 3 = .ok (.invokevirtual 86, 3) := dk_182 0 86 (dk_at dksJ14_copyOf_0 3 rfl rfl)
theorem dJ14_copyOf_6 : decode cJ14_copyOf 6 = .ok (.invokestatic 300, 3) := dk_184 1 44 (dk_at dksJ14_copyOf_0 6 rfl rfl)
theorem dJ14_copyOf_9 : decode cJ14_copyOf 9 = .ok (.areturn, 1) := dk_176 (dk_at dksJ14_copyOf_0 9 rfl rfl)
abbrev cJ14_copyOf_2 : ByteArray := prog_35_method_120_code
def yJ14_copyOf_2 : MethodName := ⟨RJ14, "copyOf", "([Ljava/lang/Object;ILjava/lang/Class;)[Ljava/lang/Object;"⟩
def dkwJ14_copyOf_2_1 : List UInt8 := [78, 42, 3, 45, 3, 42, 190, 27, 184, 1, 48, 184, 0, 150, 45, 176]
abbrev dktJ14_copyOf_2_1 : List UInt8 := dkwJ14_copyOf_2_1 ++ []
def dkwJ14_copyOf_2_0 : List UInt8 := [44, 18, 110, 166, 0, 10, 27, 189, 0, 2, 167, 0, 14, 44, 182, 0, 90, 27, 184, 0, 95, 192, 0, 110]
abbrev dktJ14_copyOf_2_0 : List UInt8 := dkwJ14_copyOf_2_0 ++ dktJ14_copyOf_2_1
theorem dksJ14_copyOf_2_0 : cJ14_copyOf_2.data.toList.drop 0 = dktJ14_copyOf_2_0 := by decide +kernel
theorem dksJ14_copyOf_2_1 : cJ14_copyOf_2.data.toList.drop 24 = dktJ14_copyOf_2_1 := dk_seg dksJ14_copyOf_2_0 24 rfl rfl
theorem dJ14_copyOf_2_0 : decode cJ14_copyOf_2 0 = .ok (.aload_n 2, 1) := dk_44 (dk_at dksJ14_copyOf_2_0 0 rfl rfl)
theorem dJ14_copyOf_2_1 : decode cJ14_copyOf_2 1 = .ok (.ldc 110, 2) := dk_18 110 (dk_at dksJ14_copyOf_2_0 1 rfl rfl)
theorem dJ14_copyOf_2_3 : decode cJ14_copyOf_2 3 = .ok (.if_acmp .ne 10, 3) := dk_166 0 10 (dk_at dksJ14_copyOf_2_0 3 rfl rfl)
theorem dJ14_copyOf_2_6 : decode cJ14_copyOf_2 6 = .ok (.iload_n 1, 1) := dk_27 (dk_at dksJ14_copyOf_2_0 6 rfl rfl)
theorem dJ14_copyOf_2_7 : decode cJ14_copyOf_2 7 = .ok (.anewarray 2, 3) := dk_189 0 2 (dk_at dksJ14_copyOf_2_0 7 rfl rfl)
theorem dJ14_copyOf_2_10 : decode cJ14_copyOf_2 10 = .ok (.goto 14, 3) := dk_167 0 14 (dk_at dksJ14_copyOf_2_0 10 rfl rfl)
theorem dJ14_copyOf_2_13 : decode cJ14_copyOf_2 13 = .ok (.aload_n 2, 1) := dk_44 (dk_at dksJ14_copyOf_2_0 13 rfl rfl)
theorem dJ14_copyOf_2_14 : decode cJ14_copyOf_2 14 = .ok (.invokevirtual 90, 3) := dk_182 0 90 (dk_at dksJ14_copyOf_2_0 14 rfl rfl)
theorem dJ14_copyOf_2_17 : decode cJ14_copyOf_2 17 = .ok (.iload_n 1, 1) := dk_27 (dk_at dksJ14_copyOf_2_0 17 rfl rfl)
theorem dJ14_copyOf_2_18 : decode cJ14_copyOf_2 18 = .ok (.invokestatic 95, 3) := dk_184 0 95 (dk_at dksJ14_copyOf_2_0 18 rfl rfl)
theorem dJ14_copyOf_2_21 : decode cJ14_copyOf_2 21 = .ok (.checkcast 110, 3) := dk_192 0 110 (dk_at dksJ14_copyOf_2_0 21 rfl rfl)
theorem dJ14_copyOf_2_24 : decode cJ14_copyOf_2 24 = .ok (.astore_n 3, 1) := dk_78 (dk_at dksJ14_copyOf_2_1 0 rfl rfl)
theorem dJ14_copyOf_2_25 : decode cJ14_copyOf_2 25 = .ok (.aload_n 0, 1) := dk_42 (dk_at dksJ14_copyOf_2_1 1 rfl rfl)
theorem dJ14_copyOf_2_26 : decode cJ14_copyOf_2 26 = .ok (.iconst 0, 1) := dk_3 (dk_at dksJ14_copyOf_2_1 2 rfl rfl)
theorem dJ14_copyOf_2_27 : decode cJ14_copyOf_2 27 = .ok (.aload_n 3, 1) := dk_45 (dk_at dksJ14_copyOf_2_1 3 rfl rfl)
theorem dJ14_copyOf_2_28 : decode cJ14_copyOf_2 28 = .ok (.iconst 0, 1) := dk_3 (dk_at dksJ14_copyOf_2_1 4 rfl rfl)
theorem dJ14_copyOf_2_29 : decode cJ14_copyOf_2 29 = .ok (.aload_n 0, 1) := dk_42 (dk_at dksJ14_copyOf_2_1 5 rfl rfl)
theorem dJ14_copyOf_2_30 : decode cJ14_copyOf_2 30 = .ok (.arraylength, 1) := dk_190 (dk_at dksJ14_copyOf_2_1 6 rfl rfl)
theorem dJ14_copyOf_2_31 : decode cJ14_copyOf_2 31 = .ok (.iload_n 1, 1) := dk_27 (dk_at dksJ14_copyOf_2_1 7 rfl rfl)
theorem dJ14_copyOf_2_32 : decode cJ14_copyOf_2 32 = .ok (.invokestatic 304, 3) := dk_184 1 48 (dk_at dksJ14_copyOf_2_1 8 rfl rfl)
theorem dJ14_copyOf_2_35 : decode cJ14_copyOf_2 35 = .ok (.invokestatic 150, 3) := dk_184 0 150 (dk_at dksJ14_copyOf_2_1 11 rfl rfl)
theorem dJ14_copyOf_2_38 : decode cJ14_copyOf_2 38 = .ok (.aload_n 3, 1) := dk_45 (dk_at dksJ14_copyOf_2_1 14 rfl rfl)
theorem dJ14_copyOf_2_39 : decode cJ14_copyOf_2 39 = .ok (.areturn, 1) := dk_176 (dk_at dksJ14_copyOf_2_1 15 rfl rfl)
theorem q97 : (Jvm.Cond.initialized "java/util/Arrays") ∈ lw_all := lw_g (lw_at lw_m1 30 rfl) rfl
theorem q684 : (Jvm.Cond.static ({ cls := "java/util/Arrays", name := "copyOf", desc := "([Ljava/lang/Object;I)[Ljava/lang/Object;" } : Jvm.MethodName)) ∈ lw_all := lw_g (lw_at lw_m3 137 rfl) rfl
theorem q685 : (Jvm.Cond.code ({ cls := "java/util/Arrays", name := "copyOf", desc := "([Ljava/lang/Object;I)[Ljava/lang/Object;" } : Jvm.MethodName) prog_35_method_119_code (2 : Nat) (Option.some (Jvm.ClassFile.FieldType.array (Jvm.ClassFile.FieldType.object "java/lang/Object")))) ∈ lw_all := lw_g (lw_at lw_m3 138 rfl) rfl
theorem q686 : (Jvm.Cond.methodLink "java/util/Arrays" (86 : Nat) ({ cls := "java/lang/Object", name := "getClass", desc := "()Ljava/lang/Class;" } : Jvm.MethodName)) ∈ lw_all := lw_g (lw_at lw_m3 139 rfl) rfl
theorem q706 : (Jvm.Cond.methodLink "java/util/Arrays" (300 : Nat) ({ cls := "java/util/Arrays", name := "copyOf", desc := "([Ljava/lang/Object;ILjava/lang/Class;)[Ljava/lang/Object;" } : Jvm.MethodName)) ∈ lw_all := lw_g (lw_at lw_m3 159 rfl) rfl
theorem q707 : (Jvm.Cond.static ({ cls := "java/util/Arrays", name := "copyOf", desc := "([Ljava/lang/Object;ILjava/lang/Class;)[Ljava/lang/Object;" } : Jvm.MethodName)) ∈ lw_all := lw_g (lw_at lw_m3 160 rfl) rfl
theorem q708 : (Jvm.Cond.code ({ cls := "java/util/Arrays", name := "copyOf", desc := "([Ljava/lang/Object;ILjava/lang/Class;)[Ljava/lang/Object;" } : Jvm.MethodName) prog_35_method_120_code (4 : Nat) (Option.some (Jvm.ClassFile.FieldType.array (Jvm.ClassFile.FieldType.object "java/lang/Object")))) ∈ lw_all := lw_g (lw_at lw_m3 161 rfl) rfl
theorem q709 : (Jvm.Cond.classLink "java/util/Arrays" (110 : Nat) "[Ljava/lang/Object;") ∈ lw_all := lw_g (lw_at lw_m3 162 rfl) rfl
theorem q711 : (Jvm.Cond.classLink "java/util/Arrays" (2 : Nat) "java/lang/Object") ∈ lw_all := lw_g (lw_at lw_m3 164 rfl) rfl
theorem q712 : (Jvm.Cond.methodLink "java/util/Arrays" (304 : Nat) ({ cls := "java/lang/Math", name := "min", desc := "(II)I" } : Jvm.MethodName)) ∈ lw_all := lw_g (lw_at lw_m3 165 rfl) rfl
theorem q715 : (Jvm.Cond.methodLink "java/util/Arrays" (150 : Nat) ({ cls := "java/lang/System", name := "arraycopy", desc := "(Ljava/lang/Object;ILjava/lang/Object;II)V" } : Jvm.MethodName)) ∈ lw_all := lw_g (lw_at lw_m3 168 rfl) rfl

/-! java/util/Objects -/
set_option maxRecDepth 100000
def RJ15 : String := "java/util/Objects"
abbrev cJ15_checkIndex : ByteArray := prog_38_method_17_code
def yJ15_checkIndex : MethodName := ⟨RJ15, "checkIndex", "(II)I"⟩
def dkwJ15_checkIndex_0 : List UInt8 := [26, 27, 1, 184, 0, 105, 172]
abbrev dktJ15_checkIndex_0 : List UInt8 := dkwJ15_checkIndex_0 ++ []
theorem dksJ15_checkIndex_0 : cJ15_checkIndex.data.toList.drop 0 = dktJ15_checkIndex_0 := by decide +kernel
theorem dJ15_checkIndex_0 : decode cJ15_checkIndex 0 = .ok (.iload_n 0, 1) := dk_26 (dk_at dksJ15_checkIndex_0 0 rfl rfl)
theorem dJ15_checkIndex_1 : decode cJ15_checkIndex 1 = .ok (.iload_n 1, 1) := dk_27 (dk_at dksJ15_checkIndex_0 1 rfl rfl)
theorem dJ15_checkIndex_2 : decode cJ15_checkIndex 2 = .ok (.aconst_null, 1) := dk_1 (dk_at dksJ15_checkIndex_0 2 rfl rfl)
theorem dJ15_checkIndex_3 : decode cJ15_checkIndex 3 = .ok (.invokestatic 105, 3) := dk_184 0 105 (dk_at dksJ15_checkIndex_0 3 rfl rfl)
theorem dJ15_checkIndex_6 : decode cJ15_checkIndex 6 = .ok (.ireturn, 1) := dk_172 (dk_at dksJ15_checkIndex_0 6 rfl rfl)
theorem q98 : (Jvm.Cond.initialized "java/util/Objects") ∈ lw_all := lw_g (lw_at lw_m1 31 rfl) rfl
theorem q786 : (Jvm.Cond.static ({ cls := "java/util/Objects", name := "checkIndex", desc := "(II)I" } : Jvm.MethodName)) ∈ lw_all := lw_g (lw_at lw_m3 239 rfl) rfl
theorem q787 : (Jvm.Cond.code ({ cls := "java/util/Objects", name := "checkIndex", desc := "(II)I" } : Jvm.MethodName) prog_38_method_17_code (2 : Nat) (Option.some Jvm.ClassFile.FieldType.int)) ∈ lw_all := lw_g (lw_at lw_m4 0 rfl) rfl
theorem q788 : (Jvm.Cond.methodLink "java/util/Objects" (105 : Nat) ({ cls := "jdk/internal/util/Preconditions", name := "checkIndex", desc := "(IILjava/util/function/BiFunction;)I" } : Jvm.MethodName)) ∈ lw_all := lw_g (lw_at lw_m4 1 rfl) rfl

/-! java/lang/Integer -/
set_option maxRecDepth 100000
def RJ16 : String := "java/lang/Integer"
abbrev cJ16_bitCount : ByteArray := prog_23_method_49_code
def yJ16_bitCount : MethodName := ⟨RJ16, "bitCount", "(I)I"⟩
def dkwJ16_bitCount_2 : List UInt8 := [26, 16, 63, 126, 172]
abbrev dktJ16_bitCount_2 : List UInt8 := dkwJ16_bitCount_2 ++ []
def dkwJ16_bitCount_1 : List UInt8 := [26, 26, 7, 124, 96, 19, 1, 11, 126, 59, 26, 26, 16, 8, 124, 96, 59, 26, 26, 16, 16, 124, 96, 59]
abbrev dktJ16_bitCount_1 : List UInt8 := dkwJ16_bitCount_1 ++ dktJ16_bitCount_2
def dkwJ16_bitCount_0 : List UInt8 := [26, 26, 4, 124, 19, 1, 9, 126, 100, 59, 26, 19, 1, 10, 126, 26, 5, 124, 19, 1, 10, 126, 96, 59]
abbrev dktJ16_bitCount_0 : List UInt8 := dkwJ16_bitCount_0 ++ dktJ16_bitCount_1
theorem dksJ16_bitCount_0 : cJ16_bitCount.data.toList.drop 0 = dktJ16_bitCount_0 := by decide +kernel
theorem dksJ16_bitCount_1 : cJ16_bitCount.data.toList.drop 24 = dktJ16_bitCount_1 := dk_seg dksJ16_bitCount_0 24 rfl rfl
theorem dksJ16_bitCount_2 : cJ16_bitCount.data.toList.drop 48 = dktJ16_bitCount_2 := dk_seg dksJ16_bitCount_1 24 rfl rfl
theorem dJ16_bitCount_0 : decode cJ16_bitCount 0 = .ok (.iload_n 0, 1) := dk_26 (dk_at dksJ16_bitCount_0 0 rfl rfl)
theorem dJ16_bitCount_1 : decode cJ16_bitCount 1 = .ok (.iload_n 0, 1) := dk_26 (dk_at dksJ16_bitCount_0 1 rfl rfl)
theorem dJ16_bitCount_2 : decode cJ16_bitCount 2 = .ok (.iconst 1, 1) := dk_4 (dk_at dksJ16_bitCount_0 2 rfl rfl)
theorem dJ16_bitCount_3 : decode cJ16_bitCount 3 = .ok (.iushr, 1) := dk_124 (dk_at dksJ16_bitCount_0 3 rfl rfl)
theorem dJ16_bitCount_4 : decode cJ16_bitCount 4 = .ok (.ldc_w 265, 3) := dk_19 1 9 (dk_at dksJ16_bitCount_0 4 rfl rfl)
theorem dJ16_bitCount_7 : decode cJ16_bitCount 7 = .ok (.iand, 1) := dk_126 (dk_at dksJ16_bitCount_0 7 rfl rfl)
theorem dJ16_bitCount_8 : decode cJ16_bitCount 8 = .ok (.isub, 1) := dk_100 (dk_at dksJ16_bitCount_0 8 rfl rfl)
theorem dJ16_bitCount_9 : decode cJ16_bitCount 9 = .ok (.istore_n 0, 1) := dk_59 (dk_at dksJ16_bitCount_0 9 rfl rfl)
theorem dJ16_bitCount_10 : decode cJ16_bitCount 10 = .ok (.iload_n 0, 1) := dk_26 (dk_at dksJ16_bitCount_0 10 rfl rfl)
theorem dJ16_bitCount_11 : decode cJ16_bitCount 11 = .ok (.ldc_w 266, 3) := dk_19 1 10 (dk_at dksJ16_bitCount_0 11 rfl rfl)
theorem dJ16_bitCount_14 : decode cJ16_bitCount 14 = .ok (.iand, 1) := dk_126 (dk_at dksJ16_bitCount_0 14 rfl rfl)
theorem dJ16_bitCount_15 : decode cJ16_bitCount 15 = .ok (.iload_n 0, 1) := dk_26 (dk_at dksJ16_bitCount_0 15 rfl rfl)
theorem dJ16_bitCount_16 : decode cJ16_bitCount 16 = .ok (.iconst 2, 1) := dk_5 (dk_at dksJ16_bitCount_0 16 rfl rfl)
theorem dJ16_bitCount_17 : decode cJ16_bitCount 17 = .ok (.iushr, 1) := dk_124 (dk_at dksJ16_bitCount_0 17 rfl rfl)
theorem dJ16_bitCount_18 : decode cJ16_bitCount 18 = .ok (.ldc_w 266, 3) := dk_19 1 10 (dk_at dksJ16_bitCount_0 18 rfl rfl)
theorem dJ16_bitCount_21 : decode cJ16_bitCount 21 = .ok (.iand, 1) := dk_126 (dk_at dksJ16_bitCount_0 21 rfl rfl)
theorem dJ16_bitCount_22 : decode cJ16_bitCount 22 = .ok (.iadd, 1) := dk_96 (dk_at dksJ16_bitCount_0 22 rfl rfl)
theorem dJ16_bitCount_23 : decode cJ16_bitCount 23 = .ok (.istore_n 0, 1) := dk_59 (dk_at dksJ16_bitCount_0 23 rfl rfl)
theorem dJ16_bitCount_24 : decode cJ16_bitCount 24 = .ok (.iload_n 0, 1) := dk_26 (dk_at dksJ16_bitCount_1 0 rfl rfl)
theorem dJ16_bitCount_25 : decode cJ16_bitCount 25 = .ok (.iload_n 0, 1) := dk_26 (dk_at dksJ16_bitCount_1 1 rfl rfl)
theorem dJ16_bitCount_26 : decode cJ16_bitCount 26 = .ok (.iconst 4, 1) := dk_7 (dk_at dksJ16_bitCount_1 2 rfl rfl)
theorem dJ16_bitCount_27 : decode cJ16_bitCount 27 = .ok (.iushr, 1) := dk_124 (dk_at dksJ16_bitCount_1 3 rfl rfl)
theorem dJ16_bitCount_28 : decode cJ16_bitCount 28 = .ok (.iadd, 1) := dk_96 (dk_at dksJ16_bitCount_1 4 rfl rfl)
theorem dJ16_bitCount_29 : decode cJ16_bitCount 29 = .ok (.ldc_w 267, 3) := dk_19 1 11 (dk_at dksJ16_bitCount_1 5 rfl rfl)
theorem dJ16_bitCount_32 : decode cJ16_bitCount 32 = .ok (.iand, 1) := dk_126 (dk_at dksJ16_bitCount_1 8 rfl rfl)
theorem dJ16_bitCount_33 : decode cJ16_bitCount 33 = .ok (.istore_n 0, 1) := dk_59 (dk_at dksJ16_bitCount_1 9 rfl rfl)
theorem dJ16_bitCount_34 : decode cJ16_bitCount 34 = .ok (.iload_n 0, 1) := dk_26 (dk_at dksJ16_bitCount_1 10 rfl rfl)
theorem dJ16_bitCount_35 : decode cJ16_bitCount 35 = .ok (.iload_n 0, 1) := dk_26 (dk_at dksJ16_bitCount_1 11 rfl rfl)
theorem dJ16_bitCount_36 : decode cJ16_bitCount 36 = .ok (.bipush 8, 2) := dk_16 8 (dk_at dksJ16_bitCount_1 12 rfl rfl)
theorem dJ16_bitCount_38 : decode cJ16_bitCount 38 = .ok (.iushr, 1) := dk_124 (dk_at dksJ16_bitCount_1 14 rfl rfl)
theorem dJ16_bitCount_39 : decode cJ16_bitCount 39 = .ok (.iadd, 1) := dk_96 (dk_at dksJ16_bitCount_1 15 rfl rfl)
theorem dJ16_bitCount_40 : decode cJ16_bitCount 40 = .ok (.istore_n 0, 1) := dk_59 (dk_at dksJ16_bitCount_1 16 rfl rfl)
theorem dJ16_bitCount_41 : decode cJ16_bitCount 41 = .ok (.iload_n 0, 1) := dk_26 (dk_at dksJ16_bitCount_1 17 rfl rfl)
theorem dJ16_bitCount_42 : decode cJ16_bitCount 42 = .ok (.iload_n 0, 1) := dk_26 (dk_at dksJ16_bitCount_1 18 rfl rfl)
theorem dJ16_bitCount_43 : decode cJ16_bitCount 43 = .ok (.bipush 16, 2) := dk_16 16 (dk_at dksJ16_bitCount_1 19 rfl rfl)
theorem dJ16_bitCount_45 : decode cJ16_bitCount 45 = .ok (.iushr, 1) := dk_124 (dk_at dksJ16_bitCount_1 21 rfl rfl)
theorem dJ16_bitCount_46 : decode cJ16_bitCount 46 = .ok (.iadd, 1) := dk_96 (dk_at dksJ16_bitCount_1 22 rfl rfl)
theorem dJ16_bitCount_47 : decode cJ16_bitCount 47 = .ok (.istore_n 0, 1) := dk_59 (dk_at dksJ16_bitCount_1 23 rfl rfl)
theorem dJ16_bitCount_48 : decode cJ16_bitCount 48 = .ok (.iload_n 0, 1) := dk_26 (dk_at dksJ16_bitCount_2 0 rfl rfl)
theorem dJ16_bitCount_49 : decode cJ16_bitCount 49 = .ok (.bipush 63, 2) := dk_16 63 (dk_at dksJ16_bitCount_2 1 rfl rfl)
theorem dJ16_bitCount_51 : decode cJ16_bitCount 51 = .ok (.iand, 1) := dk_126 (dk_at dksJ16_bitCount_2 3 rfl rfl)
theorem dJ16_bitCount_52 : decode cJ16_bitCount 52 = .ok (.ireturn, 1) := dk_172 (dk_at dksJ16_bitCount_2 4 rfl rfl)
theorem q99 : (Jvm.Cond.initialized "java/lang/Integer") ∈ lw_all := lw_g (lw_at lw_m1 32 rfl) rfl
theorem q867 : (Jvm.Cond.static ({ cls := "java/lang/Integer", name := "bitCount", desc := "(I)I" } : Jvm.MethodName)) ∈ lw_all := lw_g (lw_at lw_m4 80 rfl) rfl
theorem q868 : (Jvm.Cond.code ({ cls := "java/lang/Integer", name := "bitCount", desc := "(I)I" } : Jvm.MethodName) prog_23_method_49_code (1 : Nat) (Option.some Jvm.ClassFile.FieldType.int)) ∈ lw_all := lw_g (lw_at lw_m4 81 rfl) rfl
theorem q869 : (Jvm.Cond.constant "java/lang/Integer" (265 : Nat) (1431655765 : Int32)) ∈ lw_all := lw_g (lw_at lw_m4 82 rfl) rfl
theorem q870 : (Jvm.Cond.constant "java/lang/Integer" (266 : Nat) (858993459 : Int32)) ∈ lw_all := lw_g (lw_at lw_m4 83 rfl) rfl
theorem q871 : (Jvm.Cond.constant "java/lang/Integer" (267 : Nat) (252645135 : Int32)) ∈ lw_all := lw_g (lw_at lw_m4 84 rfl) rfl

/-! java/lang/ClassCastException -/
set_option maxRecDepth 100000
def RJ17 : String := "java/lang/ClassCastException"
def TJ17 : u_T := fun k => match k with
  | 0 => ("java/lang/Throwable", "backtrace", "Ljava/lang/Object;", false)
  | 1 => ("java/lang/Throwable", "detailMessage", "Ljava/lang/String;", false)
  | 2 => ("java/lang/Throwable", "cause", "Ljava/lang/Throwable;", false)
  | 3 => ("java/lang/Throwable", "stackTrace", "[Ljava/lang/StackTraceElement;", false)
  | 4 => ("java/lang/Throwable", "depth", "I", false)
  | _ => ("java/lang/Throwable", "suppressedExceptions", "Ljava/util/List;", false)
def tyJ17 : Nat → FieldType := fun k => match k with
  | 0 => .object "java/lang/Object"
  | 1 => .object "java/lang/String"
  | 2 => .object "java/lang/Throwable"
  | 3 => .array (.object "java/lang/StackTraceElement")
  | 4 => .int
  | _ => .object "java/util/List"
abbrev wsJ170 : List Cond := u_ws RJ17 TJ17 6
theorem nmJ17 : ∀ a, a < 6 → ∀ b, b < 6 → a ≠ b → (TJ17 a).2.1 ≠ (TJ17 b).2.1 := by decide +kernel
theorem tyJ17_ok : ∀ k, k < 6 → parseFieldDescriptor (TJ17 k).2.2.1 = some (tyJ17 k) := by decide +kernel
abbrev cJ17_init : ByteArray := prog_19_method_2_code
def yJ17_init : MethodName := ⟨RJ17, "<init>", "(Ljava/lang/String;)V"⟩
def dkwJ17_init_0 : List UInt8 := [42, 43, 183, 0, 7, 177]
abbrev dktJ17_init_0 : List UInt8 := dkwJ17_init_0 ++ []
theorem dksJ17_init_0 : cJ17_init.data.toList.drop 0 = dktJ17_init_0 := by decide +kernel
theorem dJ17_init_0 : decode cJ17_init 0 = .ok (.aload_n 0, 1) := dk_42 (dk_at dksJ17_init_0 0 rfl rfl)
theorem dJ17_init_1 : decode cJ17_init 1 = .ok (.aload_n 1, 1) := dk_43 (dk_at dksJ17_init_0 1 rfl rfl)
theorem dJ17_init_2 : decode cJ17_init 2 = .ok (.invokespecial 7, 3) := dk_183 0 7 (dk_at dksJ17_init_0 2 rfl rfl)
theorem dJ17_init_5 : decode cJ17_init 5 = .ok (.return_, 1) := dk_177 (dk_at dksJ17_init_0 5 rfl rfl)
theorem q100 : (Jvm.Cond.initialized "java/lang/ClassCastException") ∈ lw_all := lw_g (lw_at lw_m1 33 rfl) rfl
theorem q355 : (Jvm.Cond.selects "java/lang/ClassCastException" ({ cls := "java/lang/Throwable", name := "fillInStackTrace", desc := "()Ljava/lang/Throwable;" } : Jvm.MethodName) ({ cls := "java/lang/Throwable", name := "fillInStackTrace", desc := "()Ljava/lang/Throwable;" } : Jvm.MethodName)) ∈ lw_all := lw_g (lw_at lw_m2 48 rfl) rfl
theorem q703 : (Jvm.Cond.selects "java/lang/ClassCastException" ({ cls := "java/lang/Object", name := "getClass", desc := "()Ljava/lang/Class;" } : Jvm.MethodName) ({ cls := "java/lang/Object", name := "getClass", desc := "()Ljava/lang/Class;" } : Jvm.MethodName)) ∈ lw_all := lw_g (lw_at lw_m3 156 rfl) rfl
theorem q1100 : (Jvm.Cond.instantiable "java/lang/ClassCastException" (6 : Nat)) ∈ lw_all := lw_g (lw_at lw_m5 73 rfl) rfl
theorem q1101 : (Jvm.Cond.instanceMethod ({ cls := "java/lang/ClassCastException", name := "<init>", desc := "(Ljava/lang/String;)V" } : Jvm.MethodName)) ∈ lw_all := lw_g (lw_at lw_m5 74 rfl) rfl
theorem q1102 : (Jvm.Cond.code ({ cls := "java/lang/ClassCastException", name := "<init>", desc := "(Ljava/lang/String;)V" } : Jvm.MethodName) prog_19_method_2_code (2 : Nat) (Option.none : Option Jvm.ClassFile.FieldType)) ∈ lw_all := lw_g (lw_at lw_m5 75 rfl) rfl
theorem q1103 : (Jvm.Cond.methodLink "java/lang/ClassCastException" (7 : Nat) ({ cls := "java/lang/RuntimeException", name := "<init>", desc := "(Ljava/lang/String;)V" } : Jvm.MethodName)) ∈ lw_all := lw_g (lw_at lw_m5 76 rfl) rfl
theorem q1104 : (Jvm.Cond.lays "java/lang/ClassCastException" "java/lang/Throwable" "backtrace" "Ljava/lang/Object;") ∈ lw_all := lw_g (lw_at lw_m5 77 rfl) rfl
theorem q1105 : (Jvm.Cond.lays "java/lang/ClassCastException" "java/lang/Throwable" "detailMessage" "Ljava/lang/String;") ∈ lw_all := lw_g (lw_at lw_m5 78 rfl) rfl
theorem q1106 : (Jvm.Cond.lays "java/lang/ClassCastException" "java/lang/Throwable" "cause" "Ljava/lang/Throwable;") ∈ lw_all := lw_g (lw_at lw_m5 79 rfl) rfl
theorem q1107 : (Jvm.Cond.lays "java/lang/ClassCastException" "java/lang/Throwable" "stackTrace" "[Ljava/lang/StackTraceElement;") ∈ lw_all := lw_g (lw_at lw_m5 80 rfl) rfl
theorem q1108 : (Jvm.Cond.lays "java/lang/ClassCastException" "java/lang/Throwable" "depth" "I") ∈ lw_all := lw_g (lw_at lw_m5 81 rfl) rfl
theorem q1109 : (Jvm.Cond.lays "java/lang/ClassCastException" "java/lang/Throwable" "suppressedExceptions" "Ljava/util/List;") ∈ lw_all := lw_g (lw_at lw_m5 82 rfl) rfl
theorem q1110 : (Jvm.Cond.superclass "java/lang/ClassCastException" "java/lang/RuntimeException") ∈ lw_all := lw_g (lw_at lw_m5 83 rfl) rfl
theorem q1111 : (Jvm.Cond.castable "java/lang/ClassCastException" "java/lang/ClassCastException") ∈ lw_tbl := lw_at lw_m5 84 rfl
theorem q1112 : (Jvm.Cond.selects "java/lang/ClassCastException" ({ cls := "java/lang/Throwable", name := "fillInStackTrace", desc := "(I)Ljava/lang/Throwable;" } : Jvm.MethodName) ({ cls := "java/lang/Throwable", name := "fillInStackTrace", desc := "(I)Ljava/lang/Throwable;" } : Jvm.MethodName)) ∈ lw_all := lw_g (lw_at lw_m5 85 rfl) rfl
theorem q1703 : (Jvm.Cond.castable "java/lang/ClassCastException" "java/lang/Object") ∈ lw_tbl := lw_at lw_m7 196 rfl
theorem in_J17 : ∀ w ∈ wsJ170, w ∈ lw_all := lw_in wsJ170 [1104, 1105, 1106, 1107, 1108, 1109] (by decide +kernel) (by decide +kernel)

/-! java/util/ArrayList -/
set_option maxRecDepth 100000
def RJ2 : String := "java/util/ArrayList"
def TJ2 : u_T := fun k => match k with
  | 0 => ("java/util/AbstractList", "modCount", "I", false)
  | 1 => ("java/util/ArrayList", "elementData", "[Ljava/lang/Object;", false)
  | _ => ("java/util/ArrayList", "size", "I", false)
def tyJ2 : Nat → FieldType := fun k => match k with
  | 0 => .int
  | 1 => .array (.object "java/lang/Object")
  | _ => .int
abbrev wsJ20 : List Cond := u_ws RJ2 TJ2 3
theorem nmJ2 : ∀ a, a < 3 → ∀ b, b < 3 → a ≠ b → (TJ2 a).2.1 ≠ (TJ2 b).2.1 := by decide +kernel
theorem tyJ2_ok : ∀ k, k < 3 → parseFieldDescriptor (TJ2 k).2.2.1 = some (tyJ2 k) := by decide +kernel
abbrev cJ2_init : ByteArray := prog_34_method_2_code
def yJ2_init : MethodName := ⟨RJ2, "<init>", "()V"⟩
def dkwJ2_init_0 : List UInt8 := [42, 183, 0, 1, 42, 178, 0, 39, 181, 0, 9, 177]
abbrev dktJ2_init_0 : List UInt8 := dkwJ2_init_0 ++ []
theorem dksJ2_init_0 : cJ2_init.data.toList.drop 0 = dktJ2_init_0 := by decide +kernel
theorem dJ2_init_0 : decode cJ2_init 0 = .ok (.aload_n 0, 1) := dk_42 (dk_at dksJ2_init_0 0 rfl rfl)
theorem dJ2_init_1 : decode cJ2_init 1 = .ok (.invokespecial 1, 3) := dk_183 0 1 (dk_at dksJ2_init_0 1 rfl rfl)
theorem dJ2_init_4 : decode cJ2_init 4 = .ok (.aload_n 0, 1) := dk_42 (dk_at dksJ2_init_0 4 rfl rfl)
theorem dJ2_init_5 : decode cJ2_init 5 = .ok (.getstatic 39, 3) := dk_178 0 39 (dk_at dksJ2_init_0 5 rfl rfl)
theorem dJ2_init_8 : decode cJ2_init 8 = .ok (.putfield 9, 3) := dk_181 0 9 (dk_at dksJ2_init_0 8 rfl rfl)
theorem dJ2_init_11 : decode cJ2_init 11 = .ok (.return_, 1) := dk_177 (dk_at dksJ2_init_0 11 rfl rfl)
abbrev cJ2_size : ByteArray := prog_34_method_8_code
def yJ2_size : MethodName := ⟨RJ2, "size", "()I"⟩
theorem dJ2_size_0 : decode cJ2_size 0 = .ok (.aload_n 0, 1) := by decide +kernel
theorem dJ2_size_1 : decode cJ2_size 1 = .ok (.getfield 48, 3) := by decide +kernel
theorem dJ2_size_4 : decode cJ2_size 4 = .ok (.ireturn, 1) := by decide +kernel
abbrev cJ2_add : ByteArray := prog_34_method_25_code
def yJ2_add : MethodName := ⟨RJ2, "add", "(Ljava/lang/Object;)Z"⟩
def dkwJ2_add_1 : List UInt8 := [172]
abbrev dktJ2_add_1 : List UInt8 := dkwJ2_add_1 ++ []
def dkwJ2_add_0 : List UInt8 := [42, 89, 180, 0, 63, 4, 96, 181, 0, 63, 42, 43, 42, 180, 0, 9, 42, 180, 0, 48, 182, 0, 131, 4]
abbrev dktJ2_add_0 : List UInt8 := dkwJ2_add_0 ++ dktJ2_add_1
theorem dksJ2_add_0 : cJ2_add.data.toList.drop 0 = dktJ2_add_0 := by decide +kernel
theorem dksJ2_add_1 : cJ2_add.data.toList.drop 24 = dktJ2_add_1 := dk_seg dksJ2_add_0 24 rfl rfl
theorem dJ2_add_0 : decode cJ2_add 0 = .ok (.aload_n 0, 1) := dk_42 (dk_at dksJ2_add_0 0 rfl rfl)
theorem dJ2_add_1 : decode cJ2_add 1 = .ok (.dup, 1) := dk_89 (dk_at dksJ2_add_0 1 rfl rfl)
theorem dJ2_add_2 : decode cJ2_add 2 = .ok (.getfield 63, 3) := dk_180 0 63 (dk_at dksJ2_add_0 2 rfl rfl)
theorem dJ2_add_5 : decode cJ2_add 5 = .ok (.iconst 1, 1) := dk_4 (dk_at dksJ2_add_0 5 rfl rfl)
theorem dJ2_add_6 : decode cJ2_add 6 = .ok (.iadd, 1) := dk_96 (dk_at dksJ2_add_0 6 rfl rfl)
theorem dJ2_add_7 : decode cJ2_add 7 = .ok (.putfield 63, 3) := dk_181 0 63 (dk_at dksJ2_add_0 7 rfl rfl)
theorem dJ2_add_10 : decode cJ2_add 10 = .ok (.aload_n 0, 1) := dk_42 (dk_at dksJ2_add_0 10 rfl rfl)
theorem dJ2_add_11 : decode cJ2_add 11 = .ok (.aload_n 1, 1) := dk_43 (dk_at dksJ2_add_0 11 rfl rfl)
theorem dJ2_add_12 : decode cJ2_add 12 = .ok (.aload_n 0, 1) := dk_42 (dk_at dksJ2_add_0 12 rfl rfl)
theorem dJ2_add_13 : decode cJ2_add 13 = .ok (.getfield 9, 3) := dk_180 0 9 (dk_at dksJ2_add_0 13 rfl rfl)
theorem dJ2_add_16 : decode cJ2_add 16 = .ok (.aload_n 0, 1) := dk_42 (dk_at dksJ2_add_0 16 rfl rfl)
theorem dJ2_add_17 : decode cJ2_add 17 = .ok (.getfield 48, 3) := dk_180 0 48 (dk_at dksJ2_add_0 17 rfl rfl)
theorem dJ2_add_20 : decode cJ2_add 20 = .ok (.invokevirtual 131, 3) := dk_182 0 131 (dk_at dksJ2_add_0 20 rfl rfl)
theorem dJ2_add_23 : decode cJ2_add 23 = .ok (.iconst 1, 1) := dk_4 (dk_at dksJ2_add_0 23 rfl rfl)
theorem dJ2_add_24 : decode cJ2_add 24 = .ok (.ireturn, 1) := dk_172 (dk_at dksJ2_add_1 0 rfl rfl)
abbrev cJ2_add_2 : ByteArray := prog_34_method_24_code
def yJ2_add_2 : MethodName := ⟨RJ2, "add", "(Ljava/lang/Object;[Ljava/lang/Object;I)V"⟩
def dkwJ2_add_2_0 : List UInt8 := [29, 44, 190, 160, 0, 8, 42, 182, 0, 129, 77, 44, 29, 43, 83, 42, 29, 4, 96, 181, 0, 48, 177]
abbrev dktJ2_add_2_0 : List UInt8 := dkwJ2_add_2_0 ++ []
theorem dksJ2_add_2_0 : cJ2_add_2.data.toList.drop 0 = dktJ2_add_2_0 := by decide +kernel
theorem dJ2_add_2_0 : decode cJ2_add_2 0 = .ok (.iload_n 3, 1) := dk_29 (dk_at dksJ2_add_2_0 0 rfl rfl)
theorem dJ2_add_2_1 : decode cJ2_add_2 1 = .ok (.aload_n 2, 1) := dk_44 (dk_at dksJ2_add_2_0 1 rfl rfl)
theorem dJ2_add_2_2 : decode cJ2_add_2 2 = .ok (.arraylength, 1) := dk_190 (dk_at dksJ2_add_2_0 2 rfl rfl)
theorem dJ2_add_2_3 : decode cJ2_add_2 3 = .ok (.if_icmp .ne 8, 3) := dk_160 0 8 (dk_at dksJ2_add_2_0 3 rfl rfl)
theorem dJ2_add_2_6 : decode cJ2_add_2 6 = .ok (.aload_n 0, 1) := dk_42 (dk_at dksJ2_add_2_0 6 rfl rfl)
theorem dJ2_add_2_7 : decode cJ2_add_2 7 = .ok (.invokevirtual 129, 3) := dk_182 0 129 (dk_at dksJ2_add_2_0 7 rfl rfl)
theorem dJ2_add_2_10 : decode cJ2_add_2 10 = .ok (.astore_n 2, 1) := dk_77 (dk_at dksJ2_add_2_0 10 rfl rfl)
theorem dJ2_add_2_11 : decode cJ2_add_2 11 = .ok (.aload_n 2, 1) := dk_44 (dk_at dksJ2_add_2_0 11 rfl rfl)
theorem dJ2_add_2_12 : decode cJ2_add_2 12 = .ok (.iload_n 3, 1) := dk_29 (dk_at dksJ2_add_2_0 12 rfl rfl)
theorem dJ2_add_2_13 : decode cJ2_add_2 13 = .ok (.aload_n 1, 1) := dk_43 (dk_at dksJ2_add_2_0 13 rfl rfl)
theorem dJ2_add_2_14 : decode cJ2_add_2 14 = .ok (.aastore, 1) := dk_83 (dk_at dksJ2_add_2_0 14 rfl rfl)
theorem dJ2_add_2_15 : decode cJ2_add_2 15 = .ok (.aload_n 0, 1) := dk_42 (dk_at dksJ2_add_2_0 15 rfl rfl)
theorem dJ2_add_2_16 : decode cJ2_add_2 16 = .ok (.iload_n 3, 1) := dk_29 (dk_at dksJ2_add_2_0 16 rfl rfl)
theorem dJ2_add_2_17 : decode cJ2_add_2 17 = .ok (.iconst 1, 1) := dk_4 (dk_at dksJ2_add_2_0 17 rfl rfl)
theorem dJ2_add_2_18 : decode cJ2_add_2 18 = .ok (.iadd, 1) := dk_96 (dk_at dksJ2_add_2_0 18 rfl rfl)
theorem dJ2_add_2_19 : decode cJ2_add_2 19 = .ok (.putfield 48, 3) := dk_181 0 48 (dk_at dksJ2_add_2_0 19 rfl rfl)
theorem dJ2_add_2_22 : decode cJ2_add_2 22 = .ok (.return_, 1) := dk_177 (dk_at dksJ2_add_2_0 22 rfl rfl)
abbrev cJ2_grow : ByteArray := prog_34_method_7_code
def yJ2_grow : MethodName := ⟨RJ2, "grow", "()[Ljava/lang/Object;"⟩
def dkwJ2_grow_0 : List UInt8 := [42, 42, 180, 0, 48, 4, 96, 182, 0, 69, 176]
abbrev dktJ2_grow_0 : List UInt8 := dkwJ2_grow_0 ++ []
theorem dksJ2_grow_0 : cJ2_grow.data.toList.drop 0 = dktJ2_grow_0 := by decide +kernel
theorem dJ2_grow_0 : decode cJ2_grow 0 = .ok (.aload_n 0, 1) := dk_42 (dk_at dksJ2_grow_0 0 rfl rfl)
theorem dJ2_grow_1 : decode cJ2_grow 1 = .ok (.aload_n 0, 1) := dk_42 (dk_at dksJ2_grow_0 1 rfl rfl)
theorem dJ2_grow_2 : decode cJ2_grow 2 = .ok (.getfield 48, 3) := dk_180 0 48 (dk_at dksJ2_grow_0 2 rfl rfl)
theorem dJ2_grow_5 : decode cJ2_grow 5 = .ok (.iconst 1, 1) := dk_4 (dk_at dksJ2_grow_0 5 rfl rfl)
theorem dJ2_grow_6 : decode cJ2_grow 6 = .ok (.iadd, 1) := dk_96 (dk_at dksJ2_grow_0 6 rfl rfl)
theorem dJ2_grow_7 : decode cJ2_grow 7 = .ok (.invokevirtual 69, 3) := dk_182 0 69 (dk_at dksJ2_grow_0 7 rfl rfl)
theorem dJ2_grow_10 : decode cJ2_grow 10 = .ok (.areturn, 1) := dk_176 (dk_at dksJ2_grow_0 10 rfl rfl)
abbrev cJ2_grow_2 : ByteArray := prog_34_method_6_code
def yJ2_grow_2 : MethodName := ⟨RJ2, "grow", "(I)[Ljava/lang/Object;"⟩
def dkwJ2_grow_2_2 : List UInt8 := [27, 184, 0, 79, 189, 0, 7, 90, 181, 0, 9, 176]
abbrev dktJ2_grow_2_2 : List UInt8 := dkwJ2_grow_2_2 ++ []
def dkwJ2_grow_2_1 : List UInt8 := [28, 4, 122, 184, 0, 73, 62, 42, 42, 180, 0, 9, 29, 184, 0, 66, 90, 181, 0, 9, 176, 42, 16, 10]
abbrev dktJ2_grow_2_1 : List UInt8 := dkwJ2_grow_2_1 ++ dktJ2_grow_2_2
def dkwJ2_grow_2_0 : List UInt8 := [42, 180, 0, 9, 190, 61, 28, 157, 0, 13, 42, 180, 0, 9, 178, 0, 39, 165, 0, 28, 28, 27, 28, 100]
abbrev dktJ2_grow_2_0 : List UInt8 := dkwJ2_grow_2_0 ++ dktJ2_grow_2_1
theorem dksJ2_grow_2_0 : cJ2_grow_2.data.toList.drop 0 = dktJ2_grow_2_0 := by decide +kernel
theorem dksJ2_grow_2_1 : cJ2_grow_2.data.toList.drop 24 = dktJ2_grow_2_1 := dk_seg dksJ2_grow_2_0 24 rfl rfl
theorem dksJ2_grow_2_2 : cJ2_grow_2.data.toList.drop 48 = dktJ2_grow_2_2 := dk_seg dksJ2_grow_2_1 24 rfl rfl
theorem dJ2_grow_2_0 : decode cJ2_grow_2 0 = .ok (.aload_n 0, 1) := dk_42 (dk_at dksJ2_grow_2_0 0 rfl rfl)
theorem dJ2_grow_2_1 : decode cJ2_grow_2 1 = .ok (.getfield 9, 3) := dk_180 0 9 (dk_at dksJ2_grow_2_0 1 rfl rfl)
theorem dJ2_grow_2_4 : decode cJ2_grow_2 4 = .ok (.arraylength, 1) := dk_190 (dk_at dksJ2_grow_2_0 4 rfl rfl)
theorem dJ2_grow_2_5 : decode cJ2_grow_2 5 = .ok (.istore_n 2, 1) := dk_61 (dk_at dksJ2_grow_2_0 5 rfl rfl)
theorem dJ2_grow_2_6 : decode cJ2_grow_2 6 = .ok (.iload_n 2, 1) := dk_28 (dk_at dksJ2_grow_2_0 6 rfl rfl)
theorem dJ2_grow_2_7 : decode cJ2_grow_2 7 = .ok (.ifCond .gt 13, 3) := dk_157 0 13 (dk_at dksJ2_grow_2_0 7 rfl rfl)
theorem dJ2_grow_2_10 : decode cJ2_grow_2 10 = .ok (.aload_n 0, 1) := dk_42 (dk_at dksJ2_grow_2_0 10 rfl rfl)
theorem dJ2_grow_2_11 : decode cJ2_grow_2 11 = .ok (.getfield 9, 3) := dk_180 0 9 (dk_at dksJ2_grow_2_0 11 rfl rfl)
theorem dJ2_grow_2_14 : decode cJ2_grow_2 14 = .ok (.getstatic 39, 3) := dk_178 0 39 (dk_at dksJ2_grow_2_0 14 rfl rfl)
theorem dJ2_grow_2_17 : decode cJ2_grow_2 17 = .ok (.if_acmp .eq 28, 3) := dk_165 0 28 (dk_at dksJ2_grow_2_0 17 rfl rfl)
theorem dJ2_grow_2_20 : decode cJ2_grow_2 20 = .ok (.iload_n 2, 1) := dk_28 (dk_at dksJ2_grow_2_0 20 rfl rfl)
theorem dJ2_grow_2_21 : decode cJ2_grow_2 21 = .ok (.iload_n 1, 1) := dk_27 (dk_at dksJ2_grow_2_0 21 rfl rfl)
theorem dJ2_grow_2_22 : decode cJ2_grow_2 22 = .ok (.iload_n 2, 1) := dk_28 (dk_at dksJ2_grow_2_0 22 rfl rfl)
theorem dJ2_grow_2_23 : decode cJ2_grow_2 23 = .ok (.isub, 1) := dk_100 (dk_at dksJ2_grow_2_0 23 rfl rfl)
theorem dJ2_grow_2_24 : decode cJ2_grow_2 24 = .ok (.iload_n 2, 1) := dk_28 (dk_at dksJ2_grow_2_1 0 rfl rfl)
theorem dJ2_grow_2_25 : decode cJ2_grow_2 25 = .ok (.iconst 1, 1) := dk_4 (dk_at dksJ2_grow_2_1 1 rfl rfl)
theorem dJ2_grow_2_26 : decode cJ2_grow_2 26 = .ok (.ishr, 1) := dk_122 (dk_at dksJ2_grow_2_1 2 rfl rfl)
theorem dJ2_grow_2_27 : decode cJ2_grow_2 27 = .ok (.invokestatic 73, 3) := dk_184 0 73 (dk_at dksJ2_grow_2_1 3 rfl rfl)
theorem dJ2_grow_2_30 : decode cJ2_grow_2 30 = .ok (.istore_n 3, 1) := dk_62 (dk_at dksJ2_grow_2_1 6 rfl rfl)
theorem dJ2_grow_2_31 : decode cJ2_grow_2 31 = .ok (.aload_n 0, 1) := dk_42 (dk_at dksJ2_grow_2_1 7 rfl rfl)
theorem dJ2_grow_2_32 : decode cJ2_grow_2 32 = .ok (.aload_n 0, 1) := dk_42 (dk_at dksJ2_grow_2_1 8 rfl rfl)
theorem dJ2_grow_2_33 : decode cJ2_grow_2 33 = .ok (.getfield 9, 3) := dk_180 0 9 (dk_at dksJ2_grow_2_1 9 rfl rfl)
theorem dJ2_grow_2_36 : decode cJ2_grow_2 36 = .ok (.iload_n 3, 1) := dk_29 (dk_at dksJ2_grow_2_1 12 rfl rfl)
theorem dJ2_grow_2_37 : decode cJ2_grow_2 37 = .ok (.invokestatic 66, 3) := dk_184 0 66 (dk_at dksJ2_grow_2_1 13 rfl rfl)
theorem dJ2_grow_2_40 : decode cJ2_grow_2 40 = .ok (.dup_x1, 1) := dk_90 (dk_at dksJ2_grow_2_1 16 rfl rfl)
theorem dJ2_grow_2_41 : decode cJ2_grow_2 41 = .ok (.putfield 9, 3) := dk_181 0 9 (dk_at dksJ2_grow_2_1 17 rfl rfl)
theorem dJ2_grow_2_44 : decode cJ2_grow_2 44 = .ok (.areturn, 1) := dk_176 (dk_at dksJ2_grow_2_1 20 rfl rfl)
theorem dJ2_grow_2_45 : decode cJ2_grow_2 45 = .ok (.aload_n 0, 1) := dk_42 (dk_at dksJ2_grow_2_1 21 rfl rfl)
theorem dJ2_grow_2_46 : decode cJ2_grow_2 46 = .ok (.bipush 10, 2) := dk_16 10 (dk_at dksJ2_grow_2_1 22 rfl rfl)
theorem dJ2_grow_2_48 : decode cJ2_grow_2 48 = .ok (.iload_n 1, 1) := dk_27 (dk_at dksJ2_grow_2_2 0 rfl rfl)
theorem dJ2_grow_2_49 : decode cJ2_grow_2 49 = .ok (.invokestatic 79, 3) := dk_184 0 79 (dk_at dksJ2_grow_2_2 1 rfl rfl)
theorem dJ2_grow_2_52 : decode cJ2_grow_2 52 = .ok (.anewarray 7, 3) := dk_189 0 7 (dk_at dksJ2_grow_2_2 4 rfl rfl)
theorem dJ2_grow_2_55 : decode cJ2_grow_2 55 = .ok (.dup_x1, 1) := dk_90 (dk_at dksJ2_grow_2_2 7 rfl rfl)
theorem dJ2_grow_2_56 : decode cJ2_grow_2 56 = .ok (.putfield 9, 3) := dk_181 0 9 (dk_at dksJ2_grow_2_2 8 rfl rfl)
theorem dJ2_grow_2_59 : decode cJ2_grow_2 59 = .ok (.areturn, 1) := dk_176 (dk_at dksJ2_grow_2_2 11 rfl rfl)
abbrev cJ2_get : ByteArray := prog_34_method_20_code
def yJ2_get : MethodName := ⟨RJ2, "get", "(I)Ljava/lang/Object;"⟩
def dkwJ2_get_0 : List UInt8 := [27, 42, 180, 0, 48, 184, 0, 118, 87, 42, 27, 182, 0, 123, 176]
abbrev dktJ2_get_0 : List UInt8 := dkwJ2_get_0 ++ []
theorem dksJ2_get_0 : cJ2_get.data.toList.drop 0 = dktJ2_get_0 := by decide +kernel
theorem dJ2_get_0 : decode cJ2_get 0 = .ok (.iload_n 1, 1) := dk_27 (dk_at dksJ2_get_0 0 rfl rfl)
theorem dJ2_get_1 : decode cJ2_get 1 = .ok (.aload_n 0, 1) := dk_42 (dk_at dksJ2_get_0 1 rfl rfl)
theorem dJ2_get_2 : decode cJ2_get 2 = .ok (.getfield 48, 3) := dk_180 0 48 (dk_at dksJ2_get_0 2 rfl rfl)
theorem dJ2_get_5 : decode cJ2_get 5 = .ok (.invokestatic 118, 3) := dk_184 0 118 (dk_at dksJ2_get_0 5 rfl rfl)
theorem dJ2_get_8 : decode cJ2_get 8 = .ok (.pop, 1) := dk_87 (dk_at dksJ2_get_0 8 rfl rfl)
theorem dJ2_get_9 : decode cJ2_get 9 = .ok (.aload_n 0, 1) := dk_42 (dk_at dksJ2_get_0 9 rfl rfl)
theorem dJ2_get_10 : decode cJ2_get 10 = .ok (.iload_n 1, 1) := dk_27 (dk_at dksJ2_get_0 10 rfl rfl)
theorem dJ2_get_11 : decode cJ2_get 11 = .ok (.invokevirtual 123, 3) := dk_182 0 123 (dk_at dksJ2_get_0 11 rfl rfl)
theorem dJ2_get_14 : decode cJ2_get 14 = .ok (.areturn, 1) := dk_176 (dk_at dksJ2_get_0 14 rfl rfl)
abbrev cJ2_elementData : ByteArray := prog_34_method_18_code
def yJ2_elementData : MethodName := ⟨RJ2, "elementData", "(I)Ljava/lang/Object;"⟩
def dkwJ2_elementData_0 : List UInt8 := [42, 180, 0, 9, 27, 50, 176]
abbrev dktJ2_elementData_0 : List UInt8 := dkwJ2_elementData_0 ++ []
theorem dksJ2_elementData_0 : cJ2_elementData.data.toList.drop 0 = dktJ2_elementData_0 := by decide +kernel
theorem dJ2_elementData_0 : decode cJ2_elementData 0 = .ok (.aload_n 0, 1) := dk_42 (dk_at dksJ2_elementData_0 0 rfl rfl)
theorem dJ2_elementData_1 : decode cJ2_elementData 1 = .ok (.getfield 9, 3) := dk_180 0 9 (dk_at dksJ2_elementData_0 1 rfl rfl)
theorem dJ2_elementData_4 : decode cJ2_elementData 4 = .ok (.iload_n 1, 1) := dk_27 (dk_at dksJ2_elementData_0 4 rfl rfl)
theorem dJ2_elementData_5 : decode cJ2_elementData 5 = .ok (.aaload, 1) := dk_50 (dk_at dksJ2_elementData_0 5 rfl rfl)
theorem dJ2_elementData_6 : decode cJ2_elementData 6 = .ok (.areturn, 1) := dk_176 (dk_at dksJ2_elementData_0 6 rfl rfl)
theorem q72 : (Jvm.Cond.initialized "java/util/ArrayList") ∈ lw_all := lw_g (lw_at lw_m1 5 rfl) rfl
theorem q118 : (Jvm.Cond.instantiable "java/util/ArrayList" (3 : Nat)) ∈ lw_all := lw_g (lw_at lw_m1 51 rfl) rfl
theorem q120 : (Jvm.Cond.instanceMethod ({ cls := "java/util/ArrayList", name := "<init>", desc := "()V" } : Jvm.MethodName)) ∈ lw_all := lw_g (lw_at lw_m1 53 rfl) rfl
theorem q121 : (Jvm.Cond.code ({ cls := "java/util/ArrayList", name := "<init>", desc := "()V" } : Jvm.MethodName) prog_34_method_2_code (1 : Nat) (Option.none : Option Jvm.ClassFile.FieldType)) ∈ lw_all := lw_g (lw_at lw_m1 54 rfl) rfl
theorem q122 : (Jvm.Cond.methodLink "java/util/ArrayList" (1 : Nat) ({ cls := "java/util/AbstractList", name := "<init>", desc := "()V" } : Jvm.MethodName)) ∈ lw_all := lw_g (lw_at lw_m1 55 rfl) rfl
theorem q129 : (Jvm.Cond.fieldLink "java/util/ArrayList" (39 : Nat) "java/util/ArrayList" "DEFAULTCAPACITY_EMPTY_ELEMENTDATA" "[Ljava/lang/Object;") ∈ lw_all := lw_g (lw_at lw_m1 62 rfl) rfl
theorem q130 : (Jvm.Cond.laysStatic "java/util/ArrayList" "DEFAULTCAPACITY_EMPTY_ELEMENTDATA" "[Ljava/lang/Object;") ∈ lw_tbl := lw_at lw_m1 63 rfl
theorem q131 : (Jvm.Cond.fieldLink "java/util/ArrayList" (9 : Nat) "java/util/ArrayList" "elementData" "[Ljava/lang/Object;") ∈ lw_all := lw_g (lw_at lw_m1 64 rfl) rfl
theorem q132 : (Jvm.Cond.fieldLink "java/util/ArrayList" (48 : Nat) "java/util/ArrayList" "size" "I") ∈ lw_all := lw_g (lw_at lw_m1 65 rfl) rfl
theorem q134 : (Jvm.Cond.fieldLink "java/util/ArrayList" (63 : Nat) "java/util/ArrayList" "modCount" "I") ∈ lw_all := lw_g (lw_at lw_m1 67 rfl) rfl
theorem q135 : (Jvm.Cond.sameField "java/util/ArrayList" "java/util/AbstractList" "modCount" "I") ∈ lw_all := lw_g (lw_at lw_m1 68 rfl) rfl
theorem q136 : (Jvm.Cond.lays "java/util/ArrayList" "java/util/ArrayList" "elementData" "[Ljava/lang/Object;") ∈ lw_all := lw_g (lw_at lw_m1 69 rfl) rfl
theorem q137 : (Jvm.Cond.soleField "java/util/ArrayList" "elementData") ∈ lw_all := lw_g (lw_at lw_m1 70 rfl) rfl
theorem q138 : (Jvm.Cond.lays "java/util/ArrayList" "java/util/ArrayList" "size" "I") ∈ lw_all := lw_g (lw_at lw_m1 71 rfl) rfl
theorem q139 : (Jvm.Cond.soleField "java/util/ArrayList" "size") ∈ lw_all := lw_g (lw_at lw_m1 72 rfl) rfl
theorem q140 : (Jvm.Cond.lays "java/util/ArrayList" "java/util/AbstractList" "modCount" "I") ∈ lw_all := lw_g (lw_at lw_m1 73 rfl) rfl
theorem q142 : (Jvm.Cond.superclass "java/util/ArrayList" "java/util/AbstractList") ∈ lw_all := lw_g (lw_at lw_m1 75 rfl) rfl
theorem q639 : (Jvm.Cond.castable "java/util/ArrayList" "java/util/List") ∈ lw_tbl := lw_at lw_m3 92 rfl
theorem q640 : (Jvm.Cond.selects "java/util/ArrayList" ({ cls := "java/util/List", name := "size", desc := "()I" } : Jvm.MethodName) ({ cls := "java/util/ArrayList", name := "size", desc := "()I" } : Jvm.MethodName)) ∈ lw_all := lw_g (lw_at lw_m3 93 rfl) rfl
theorem q641 : (Jvm.Cond.unhidden "java/util/ArrayList" "size" "()I") ∈ lw_tbl := lw_at lw_m3 94 rfl
theorem q642 : (Jvm.Cond.instanceMethod ({ cls := "java/util/ArrayList", name := "size", desc := "()I" } : Jvm.MethodName)) ∈ lw_all := lw_g (lw_at lw_m3 95 rfl) rfl
theorem q643 : (Jvm.Cond.publicMethod ({ cls := "java/util/ArrayList", name := "size", desc := "()I" } : Jvm.MethodName)) ∈ lw_tbl := lw_at lw_m3 96 rfl
theorem q644 : (Jvm.Cond.code ({ cls := "java/util/ArrayList", name := "size", desc := "()I" } : Jvm.MethodName) prog_34_method_8_code (1 : Nat) (Option.some Jvm.ClassFile.FieldType.int)) ∈ lw_all := lw_g (lw_at lw_m3 97 rfl) rfl
theorem q656 : (Jvm.Cond.selects "java/util/ArrayList" ({ cls := "java/util/List", name := "add", desc := "(Ljava/lang/Object;)Z" } : Jvm.MethodName) ({ cls := "java/util/ArrayList", name := "add", desc := "(Ljava/lang/Object;)Z" } : Jvm.MethodName)) ∈ lw_all := lw_g (lw_at lw_m3 109 rfl) rfl
theorem q657 : (Jvm.Cond.unhidden "java/util/ArrayList" "add" "(Ljava/lang/Object;)Z") ∈ lw_tbl := lw_at lw_m3 110 rfl
theorem q658 : (Jvm.Cond.instanceMethod ({ cls := "java/util/ArrayList", name := "add", desc := "(Ljava/lang/Object;)Z" } : Jvm.MethodName)) ∈ lw_all := lw_g (lw_at lw_m3 111 rfl) rfl
theorem q659 : (Jvm.Cond.publicMethod ({ cls := "java/util/ArrayList", name := "add", desc := "(Ljava/lang/Object;)Z" } : Jvm.MethodName)) ∈ lw_tbl := lw_at lw_m3 112 rfl
theorem q660 : (Jvm.Cond.code ({ cls := "java/util/ArrayList", name := "add", desc := "(Ljava/lang/Object;)Z" } : Jvm.MethodName) prog_34_method_25_code (2 : Nat) (Option.some Jvm.ClassFile.FieldType.boolean)) ∈ lw_all := lw_g (lw_at lw_m3 113 rfl) rfl
theorem q661 : (Jvm.Cond.methodLink "java/util/ArrayList" (131 : Nat) ({ cls := "java/util/ArrayList", name := "add", desc := "(Ljava/lang/Object;[Ljava/lang/Object;I)V" } : Jvm.MethodName)) ∈ lw_all := lw_g (lw_at lw_m3 114 rfl) rfl
theorem q662 : (Jvm.Cond.privateMethod ({ cls := "java/util/ArrayList", name := "add", desc := "(Ljava/lang/Object;[Ljava/lang/Object;I)V" } : Jvm.MethodName)) ∈ lw_tbl := lw_at lw_m3 115 rfl
theorem q663 : (Jvm.Cond.instanceMethod ({ cls := "java/util/ArrayList", name := "add", desc := "(Ljava/lang/Object;[Ljava/lang/Object;I)V" } : Jvm.MethodName)) ∈ lw_all := lw_g (lw_at lw_m3 116 rfl) rfl
theorem q664 : (Jvm.Cond.code ({ cls := "java/util/ArrayList", name := "add", desc := "(Ljava/lang/Object;[Ljava/lang/Object;I)V" } : Jvm.MethodName) prog_34_method_24_code (4 : Nat) (Option.none : Option Jvm.ClassFile.FieldType)) ∈ lw_all := lw_g (lw_at lw_m3 117 rfl) rfl
theorem q665 : (Jvm.Cond.methodLink "java/util/ArrayList" (129 : Nat) ({ cls := "java/util/ArrayList", name := "grow", desc := "()[Ljava/lang/Object;" } : Jvm.MethodName)) ∈ lw_all := lw_g (lw_at lw_m3 118 rfl) rfl
theorem q666 : (Jvm.Cond.privateMethod ({ cls := "java/util/ArrayList", name := "grow", desc := "()[Ljava/lang/Object;" } : Jvm.MethodName)) ∈ lw_tbl := lw_at lw_m3 119 rfl
theorem q667 : (Jvm.Cond.instanceMethod ({ cls := "java/util/ArrayList", name := "grow", desc := "()[Ljava/lang/Object;" } : Jvm.MethodName)) ∈ lw_all := lw_g (lw_at lw_m3 120 rfl) rfl
theorem q668 : (Jvm.Cond.code ({ cls := "java/util/ArrayList", name := "grow", desc := "()[Ljava/lang/Object;" } : Jvm.MethodName) prog_34_method_7_code (1 : Nat) (Option.some (Jvm.ClassFile.FieldType.array (Jvm.ClassFile.FieldType.object "java/lang/Object")))) ∈ lw_all := lw_g (lw_at lw_m3 121 rfl) rfl
theorem q669 : (Jvm.Cond.methodLink "java/util/ArrayList" (69 : Nat) ({ cls := "java/util/ArrayList", name := "grow", desc := "(I)[Ljava/lang/Object;" } : Jvm.MethodName)) ∈ lw_all := lw_g (lw_at lw_m3 122 rfl) rfl
theorem q670 : (Jvm.Cond.privateMethod ({ cls := "java/util/ArrayList", name := "grow", desc := "(I)[Ljava/lang/Object;" } : Jvm.MethodName)) ∈ lw_tbl := lw_at lw_m3 123 rfl
theorem q671 : (Jvm.Cond.instanceMethod ({ cls := "java/util/ArrayList", name := "grow", desc := "(I)[Ljava/lang/Object;" } : Jvm.MethodName)) ∈ lw_all := lw_g (lw_at lw_m3 124 rfl) rfl
theorem q672 : (Jvm.Cond.code ({ cls := "java/util/ArrayList", name := "grow", desc := "(I)[Ljava/lang/Object;" } : Jvm.MethodName) prog_34_method_6_code (4 : Nat) (Option.some (Jvm.ClassFile.FieldType.array (Jvm.ClassFile.FieldType.object "java/lang/Object")))) ∈ lw_all := lw_g (lw_at lw_m3 125 rfl) rfl
theorem q673 : (Jvm.Cond.methodLink "java/util/ArrayList" (73 : Nat) ({ cls := "jdk/internal/util/ArraysSupport", name := "newLength", desc := "(III)I" } : Jvm.MethodName)) ∈ lw_all := lw_g (lw_at lw_m3 126 rfl) rfl
theorem q683 : (Jvm.Cond.methodLink "java/util/ArrayList" (66 : Nat) ({ cls := "java/util/Arrays", name := "copyOf", desc := "([Ljava/lang/Object;I)[Ljava/lang/Object;" } : Jvm.MethodName)) ∈ lw_all := lw_g (lw_at lw_m3 136 rfl) rfl
theorem q704 : (Jvm.Cond.selects "java/util/ArrayList" ({ cls := "java/lang/Object", name := "getClass", desc := "()Ljava/lang/Class;" } : Jvm.MethodName) ({ cls := "java/lang/Object", name := "getClass", desc := "()Ljava/lang/Class;" } : Jvm.MethodName)) ∈ lw_all := lw_g (lw_at lw_m3 157 rfl) rfl
theorem q716 : (Jvm.Cond.methodLink "java/util/ArrayList" (79 : Nat) ({ cls := "java/lang/Math", name := "max", desc := "(II)I" } : Jvm.MethodName)) ∈ lw_all := lw_g (lw_at lw_m3 169 rfl) rfl
theorem q717 : (Jvm.Cond.classLink "java/util/ArrayList" (7 : Nat) "java/lang/Object") ∈ lw_all := lw_g (lw_at lw_m3 170 rfl) rfl
theorem q780 : (Jvm.Cond.selects "java/util/ArrayList" ({ cls := "java/util/List", name := "get", desc := "(I)Ljava/lang/Object;" } : Jvm.MethodName) ({ cls := "java/util/ArrayList", name := "get", desc := "(I)Ljava/lang/Object;" } : Jvm.MethodName)) ∈ lw_all := lw_g (lw_at lw_m3 233 rfl) rfl
theorem q781 : (Jvm.Cond.unhidden "java/util/ArrayList" "get" "(I)Ljava/lang/Object;") ∈ lw_tbl := lw_at lw_m3 234 rfl
theorem q782 : (Jvm.Cond.instanceMethod ({ cls := "java/util/ArrayList", name := "get", desc := "(I)Ljava/lang/Object;" } : Jvm.MethodName)) ∈ lw_all := lw_g (lw_at lw_m3 235 rfl) rfl
theorem q783 : (Jvm.Cond.publicMethod ({ cls := "java/util/ArrayList", name := "get", desc := "(I)Ljava/lang/Object;" } : Jvm.MethodName)) ∈ lw_tbl := lw_at lw_m3 236 rfl
theorem q784 : (Jvm.Cond.code ({ cls := "java/util/ArrayList", name := "get", desc := "(I)Ljava/lang/Object;" } : Jvm.MethodName) prog_34_method_20_code (2 : Nat) (Option.some (Jvm.ClassFile.FieldType.object "java/lang/Object"))) ∈ lw_all := lw_g (lw_at lw_m3 237 rfl) rfl
theorem q785 : (Jvm.Cond.methodLink "java/util/ArrayList" (118 : Nat) ({ cls := "java/util/Objects", name := "checkIndex", desc := "(II)I" } : Jvm.MethodName)) ∈ lw_all := lw_g (lw_at lw_m3 238 rfl) rfl
theorem q789 : (Jvm.Cond.methodLink "java/util/ArrayList" (123 : Nat) ({ cls := "java/util/ArrayList", name := "elementData", desc := "(I)Ljava/lang/Object;" } : Jvm.MethodName)) ∈ lw_all := lw_g (lw_at lw_m4 2 rfl) rfl
theorem q790 : (Jvm.Cond.instanceMethod ({ cls := "java/util/ArrayList", name := "elementData", desc := "(I)Ljava/lang/Object;" } : Jvm.MethodName)) ∈ lw_all := lw_g (lw_at lw_m4 3 rfl) rfl
theorem q791 : (Jvm.Cond.selects "java/util/ArrayList" ({ cls := "java/util/ArrayList", name := "elementData", desc := "(I)Ljava/lang/Object;" } : Jvm.MethodName) ({ cls := "java/util/ArrayList", name := "elementData", desc := "(I)Ljava/lang/Object;" } : Jvm.MethodName)) ∈ lw_all := lw_g (lw_at lw_m4 4 rfl) rfl
theorem q792 : (Jvm.Cond.code ({ cls := "java/util/ArrayList", name := "elementData", desc := "(I)Ljava/lang/Object;" } : Jvm.MethodName) prog_34_method_18_code (2 : Nat) (Option.some (Jvm.ClassFile.FieldType.object "java/lang/Object"))) ∈ lw_all := lw_g (lw_at lw_m4 5 rfl) rfl
theorem q1691 : (Jvm.Cond.castable "java/util/ArrayList" "java/lang/Object") ∈ lw_tbl := lw_at lw_m7 184 rfl
theorem in_J2 : ∀ w ∈ wsJ20, w ∈ lw_all := lw_in wsJ20 [140, 136, 138] (by decide +kernel) (by decide +kernel)

/-! java/lang/Throwable -/
set_option maxRecDepth 100000
def RJ3 : String := "java/lang/Throwable"
def TJ3 : u_T := fun k => match k with
  | 0 => ("java/lang/Throwable", "cause", "Ljava/lang/Throwable;", false)
  | 1 => ("java/lang/Throwable", "stackTrace", "[Ljava/lang/StackTraceElement;", false)
  | 2 => ("java/lang/Throwable", "suppressedExceptions", "Ljava/util/List;", false)
  | 3 => ("java/lang/Throwable", "detailMessage", "Ljava/lang/String;", false)
  | _ => ("java/lang/Throwable", "backtrace", "Ljava/lang/Object;", false)
def tyJ3 : Nat → FieldType := fun k => match k with
  | 0 => .object "java/lang/Throwable"
  | 1 => .array (.object "java/lang/StackTraceElement")
  | 2 => .object "java/util/List"
  | 3 => .object "java/lang/String"
  | _ => .object "java/lang/Object"
abbrev wsJ30 : List Cond := u_ws RJ3 TJ3 5
theorem nmJ3 : ∀ a, a < 5 → ∀ b, b < 5 → a ≠ b → (TJ3 a).2.1 ≠ (TJ3 b).2.1 := by decide +kernel
theorem tyJ3_ok : ∀ k, k < 5 → parseFieldDescriptor (TJ3 k).2.2.1 = some (tyJ3 k) := by decide +kernel
abbrev cJ3_init : ByteArray := prog_31_method_1_code
def yJ3_init : MethodName := ⟨RJ3, "<init>", "()V"⟩
def dkwJ3_init_1 : List UInt8 := [182, 0, 27, 87, 177]
abbrev dktJ3_init_1 : List UInt8 := dkwJ3_init_1 ++ []
def dkwJ3_init_0 : List UInt8 := [42, 183, 0, 1, 42, 42, 181, 0, 7, 42, 178, 0, 13, 181, 0, 17, 42, 178, 0, 20, 181, 0, 24, 42]
abbrev dktJ3_init_0 : List UInt8 := dkwJ3_init_0 ++ dktJ3_init_1
theorem dksJ3_init_0 : cJ3_init.data.toList.drop 0 = dktJ3_init_0 := by decide +kernel
theorem dksJ3_init_1 : cJ3_init.data.toList.drop 24 = dktJ3_init_1 := dk_seg dksJ3_init_0 24 rfl rfl
theorem dJ3_init_0 : decode cJ3_init 0 = .ok (.aload_n 0, 1) := dk_42 (dk_at dksJ3_init_0 0 rfl rfl)
theorem dJ3_init_1 : decode cJ3_init 1 = .ok (.invokespecial 1, 3) := dk_183 0 1 (dk_at dksJ3_init_0 1 rfl rfl)
theorem dJ3_init_4 : decode cJ3_init 4 = .ok (.aload_n 0, 1) := dk_42 (dk_at dksJ3_init_0 4 rfl rfl)
theorem dJ3_init_5 : decode cJ3_init 5 = .ok (.aload_n 0, 1) := dk_42 (dk_at dksJ3_init_0 5 rfl rfl)
theorem dJ3_init_6 : decode cJ3_init 6 = .ok (.putfield 7, 3) := dk_181 0 7 (dk_at dksJ3_init_0 6 rfl rfl)
theorem dJ3_init_9 : decode cJ3_init 9 = .ok (.aload_n 0, 1) := dk_42 (dk_at dksJ3_init_0 9 rfl rfl)
theorem dJ3_init_10 : decode cJ3_init 10 = .ok (.getstatic 13, 3) := dk_178 0 13 (dk_at dksJ3_init_0 10 rfl rfl)
theorem dJ3_init_13 : decode cJ3_init 13 = .ok (.putfield 17, 3) := dk_181 0 17 (dk_at dksJ3_init_0 13 rfl rfl)
theorem dJ3_init_16 : decode cJ3_init 16 = .ok (.aload_n 0, 1) := dk_42 (dk_at dksJ3_init_0 16 rfl rfl)
theorem dJ3_init_17 : decode cJ3_init 17 = .ok (.getstatic 20, 3) := dk_178 0 20 (dk_at dksJ3_init_0 17 rfl rfl)
theorem dJ3_init_20 : decode cJ3_init 20 = .ok (.putfield 24, 3) := dk_181 0 24 (dk_at dksJ3_init_0 20 rfl rfl)
theorem dJ3_init_23 : decode cJ3_init 23 = .ok (.aload_n 0, 1) := dk_42 (dk_at dksJ3_init_0 23 rfl rfl)
theorem dJ3_init_24 : decode cJ3_init 24 = .ok (.invokevirtual 27, 3) := dk_182 0 27 (dk_at dksJ3_init_1 0 rfl rfl)
theorem dJ3_init_27 : decode cJ3_init 27 = .ok (.pop, 1) := dk_87 (dk_at dksJ3_init_1 3 rfl rfl)
theorem dJ3_init_28 : decode cJ3_init 28 = .ok (.return_, 1) := dk_177 (dk_at dksJ3_init_1 4 rfl rfl)
abbrev cJ3_init_2 : ByteArray := prog_31_method_5_code
def yJ3_init_2 : MethodName := ⟨RJ3, "<init>", "(Ljava/lang/String;Ljava/lang/Throwable;ZZ)V"⟩
def dkwJ3_init_2_2 : List UInt8 := [44, 181, 0, 7, 29, 154, 0, 8, 42, 1, 181, 0, 24, 177]
abbrev dktJ3_init_2_2 : List UInt8 := dkwJ3_init_2_2 ++ []
def dkwJ3_init_2_1 : List UInt8 := [21, 4, 153, 0, 11, 42, 182, 0, 27, 87, 167, 0, 8, 42, 1, 181, 0, 17, 42, 43, 181, 0, 31, 42]
abbrev dktJ3_init_2_1 : List UInt8 := dkwJ3_init_2_1 ++ dktJ3_init_2_2
def dkwJ3_init_2_0 : List UInt8 := [42, 183, 0, 1, 42, 42, 181, 0, 7, 42, 178, 0, 13, 181, 0, 17, 42, 178, 0, 20, 181, 0, 24]
abbrev dktJ3_init_2_0 : List UInt8 := dkwJ3_init_2_0 ++ dktJ3_init_2_1
theorem dksJ3_init_2_0 : cJ3_init_2.data.toList.drop 0 = dktJ3_init_2_0 := by decide +kernel
theorem dksJ3_init_2_1 : cJ3_init_2.data.toList.drop 23 = dktJ3_init_2_1 := dk_seg dksJ3_init_2_0 23 rfl rfl
theorem dksJ3_init_2_2 : cJ3_init_2.data.toList.drop 47 = dktJ3_init_2_2 := dk_seg dksJ3_init_2_1 24 rfl rfl
theorem dJ3_init_2_0 : decode cJ3_init_2 0 = .ok (.aload_n 0, 1) := dk_42 (dk_at dksJ3_init_2_0 0 rfl rfl)
theorem dJ3_init_2_1 : decode cJ3_init_2 1 = .ok (.invokespecial 1, 3) := dk_183 0 1 (dk_at dksJ3_init_2_0 1 rfl rfl)
theorem dJ3_init_2_4 : decode cJ3_init_2 4 = .ok (.aload_n 0, 1) := dk_42 (dk_at dksJ3_init_2_0 4 rfl rfl)
theorem dJ3_init_2_5 : decode cJ3_init_2 5 = .ok (.aload_n 0, 1) := dk_42 (dk_at dksJ3_init_2_0 5 rfl rfl)
theorem dJ3_init_2_6 : decode cJ3_init_2 6 = .ok (.putfield 7, 3) := dk_181 0 7 (dk_at dksJ3_init_2_0 6 rfl rfl)
theorem dJ3_init_2_9 : decode cJ3_init_2 9 = .ok (.aload_n 0, 1) := dk_42 (dk_at dksJ3_init_2_0 9 rfl rfl)
theorem dJ3_init_2_10 : decode cJ3_init_2 10 = .ok (.getstatic 13, 3) := dk_178 0 13 (dk_at dksJ3_init_2_0 10 rfl rfl)
theorem dJ3_init_2_13 : decode cJ3_init_2 13 = .ok (.putfield 17, 3) := dk_181 0 17 (dk_at dksJ3_init_2_0 13 rfl rfl)
theorem dJ3_init_2_16 : decode cJ3_init_2 16 = .ok (.aload_n 0, 1) := dk_42 (dk_at dksJ3_init_2_0 16 rfl rfl)
theorem dJ3_init_2_17 : decode cJ3_init_2 17 = .ok (.getstatic 20, 3) := dk_178 0 20 (dk_at dksJ3_init_2_0 17 rfl rfl)
theorem dJ3_init_2_20 : decode cJ3_init_2 20 = .ok (.putfield 24, 3) := dk_181 0 24 (dk_at dksJ3_init_2_0 20 rfl rfl)
theorem dJ3_init_2_23 : decode cJ3_init_2 23 = .ok (.iload 4, 2) := dk_21 4 (dk_at dksJ3_init_2_1 0 rfl rfl)
theorem dJ3_init_2_25 : decode cJ3_init_2 25 = .ok (.ifCond .eq 11, 3) := dk_153 0 11 (dk_at dksJ3_init_2_1 2 rfl rfl)
theorem dJ3_init_2_28 : decode cJ3_init_2 28 = .ok (.aload_n 0, 1) := dk_42 (dk_at dksJ3_init_2_1 5 rfl rfl)
theorem dJ3_init_2_29 : decode cJ3_init_2 29 = .ok (.invokevirtual 27, 3) := dk_182 0 27 (dk_at dksJ3_init_2_1 6 rfl rfl)
theorem dJ3_init_2_32 : decode cJ3_init_2 32 = .ok (.pop, 1) := dk_87 (dk_at dksJ3_init_2_1 9 rfl rfl)
theorem dJ3_init_2_33 : decode cJ3_init_2 33 = .ok (.goto 8, 3) := dk_167 0 8 (dk_at dksJ3_init_2_1 10 rfl rfl)
theorem dJ3_init_2_36 : decode cJ3_init_2 36 = .ok (.aload_n 0, 1) := dk_42 (dk_at dksJ3_init_2_1 13 rfl rfl)
theorem dJ3_init_2_37 : decode cJ3_init_2 37 = .ok (.aconst_null, 1) := dk_1 (dk_at dksJ3_init_2_1 14 rfl rfl)
theorem dJ3_init_2_38 : decode cJ3_init_2 38 = .ok (.putfield 17, 3) := dk_181 0 17 (dk_at dksJ3_init_2_1 15 rfl rfl)
theorem dJ3_init_2_41 : decode cJ3_init_2 41 = .ok (.aload_n 0, 1) := dk_42 (dk_at dksJ3_init_2_1 18 rfl rfl)
theorem dJ3_init_2_42 : decode cJ3_init_2 42 = .ok (.aload_n 1, 1) := dk_43 (dk_at dksJ3_init_2_1 19 rfl rfl)
theorem dJ3_init_2_43 : decode cJ3_init_2 43 = .ok (.putfield 31, 3) := dk_181 0 31 (dk_at dksJ3_init_2_1 20 rfl rfl)
theorem dJ3_init_2_46 : decode cJ3_init_2 46 = .ok (.aload_n 0, 1) := dk_42 (dk_at dksJ3_init_2_1 23 rfl rfl)
theorem dJ3_init_2_47 : decode cJ3_init_2 47 = .ok (.aload_n 2, 1) := dk_44 (dk_at dksJ3_init_2_2 0 rfl rfl)
theorem dJ3_init_2_48 : decode cJ3_init_2 48 = .ok (.putfield 7, 3) := dk_181 0 7 (dk_at dksJ3_init_2_2 1 rfl rfl)
theorem dJ3_init_2_51 : decode cJ3_init_2 51 = .ok (.iload_n 3, 1) := dk_29 (dk_at dksJ3_init_2_2 4 rfl rfl)
theorem dJ3_init_2_52 : decode cJ3_init_2 52 = .ok (.ifCond .ne 8, 3) := dk_154 0 8 (dk_at dksJ3_init_2_2 5 rfl rfl)
theorem dJ3_init_2_55 : decode cJ3_init_2 55 = .ok (.aload_n 0, 1) := dk_42 (dk_at dksJ3_init_2_2 8 rfl rfl)
theorem dJ3_init_2_56 : decode cJ3_init_2 56 = .ok (.aconst_null, 1) := dk_1 (dk_at dksJ3_init_2_2 9 rfl rfl)
theorem dJ3_init_2_57 : decode cJ3_init_2 57 = .ok (.putfield 24, 3) := dk_181 0 24 (dk_at dksJ3_init_2_2 10 rfl rfl)
theorem dJ3_init_2_60 : decode cJ3_init_2 60 = .ok (.return_, 1) := dk_177 (dk_at dksJ3_init_2_2 13 rfl rfl)
abbrev cJ3_init_3 : ByteArray := prog_31_method_2_code
def yJ3_init_3 : MethodName := ⟨RJ3, "<init>", "(Ljava/lang/String;)V"⟩
def dkwJ3_init_3_1 : List UInt8 := [182, 0, 27, 87, 42, 43, 181, 0, 31, 177]
abbrev dktJ3_init_3_1 : List UInt8 := dkwJ3_init_3_1 ++ []
def dkwJ3_init_3_0 : List UInt8 := [42, 183, 0, 1, 42, 42, 181, 0, 7, 42, 178, 0, 13, 181, 0, 17, 42, 178, 0, 20, 181, 0, 24, 42]
abbrev dktJ3_init_3_0 : List UInt8 := dkwJ3_init_3_0 ++ dktJ3_init_3_1
theorem dksJ3_init_3_0 : cJ3_init_3.data.toList.drop 0 = dktJ3_init_3_0 := by decide +kernel
theorem dksJ3_init_3_1 : cJ3_init_3.data.toList.drop 24 = dktJ3_init_3_1 := dk_seg dksJ3_init_3_0 24 rfl rfl
theorem dJ3_init_3_0 : decode cJ3_init_3 0 = .ok (.aload_n 0, 1) := dk_42 (dk_at dksJ3_init_3_0 0 rfl rfl)
theorem dJ3_init_3_1 : decode cJ3_init_3 1 = .ok (.invokespecial 1, 3) := dk_183 0 1 (dk_at dksJ3_init_3_0 1 rfl rfl)
theorem dJ3_init_3_4 : decode cJ3_init_3 4 = .ok (.aload_n 0, 1) := dk_42 (dk_at dksJ3_init_3_0 4 rfl rfl)
theorem dJ3_init_3_5 : decode cJ3_init_3 5 = .ok (.aload_n 0, 1) := dk_42 (dk_at dksJ3_init_3_0 5 rfl rfl)
theorem dJ3_init_3_6 : decode cJ3_init_3 6 = .ok (.putfield 7, 3) := dk_181 0 7 (dk_at dksJ3_init_3_0 6 rfl rfl)
theorem dJ3_init_3_9 : decode cJ3_init_3 9 = .ok (.aload_n 0, 1) := dk_42 (dk_at dksJ3_init_3_0 9 rfl rfl)
theorem dJ3_init_3_10 : decode cJ3_init_3 10 = .ok (.getstatic 13, 3) := dk_178 0 13 (dk_at dksJ3_init_3_0 10 rfl rfl)
theorem dJ3_init_3_13 : decode cJ3_init_3 13 = .ok (.putfield 17, 3) := dk_181 0 17 (dk_at dksJ3_init_3_0 13 rfl rfl)
theorem dJ3_init_3_16 : decode cJ3_init_3 16 = .ok (.aload_n 0, 1) := dk_42 (dk_at dksJ3_init_3_0 16 rfl rfl)
theorem dJ3_init_3_17 : decode cJ3_init_3 17 = .ok (.getstatic 20, 3) := dk_178 0 20 (dk_at dksJ3_init_3_0 17 rfl rfl)
theorem dJ3_init_3_20 : decode cJ3_init_3 20 = .ok (.putfield 24, 3) := dk_181 0 24 (dk_at dksJ3_init_3_0 20 rfl rfl)
theorem dJ3_init_3_23 : decode cJ3_init_3 23 = .ok (.aload_n 0, 1) := dk_42 (dk_at dksJ3_init_3_0 23 rfl rfl)
theorem dJ3_init_3_24 : decode cJ3_init_3 24 = .ok (.invokevirtual 27, 3) := dk_182 0 27 (dk_at dksJ3_init_3_1 0 rfl rfl)
theorem dJ3_init_3_27 : decode cJ3_init_3 27 = .ok (.pop, 1) := dk_87 (dk_at dksJ3_init_3_1 3 rfl rfl)
theorem dJ3_init_3_28 : decode cJ3_init_3 28 = .ok (.aload_n 0, 1) := dk_42 (dk_at dksJ3_init_3_1 4 rfl rfl)
theorem dJ3_init_3_29 : decode cJ3_init_3 29 = .ok (.aload_n 1, 1) := dk_43 (dk_at dksJ3_init_3_1 5 rfl rfl)
theorem dJ3_init_3_30 : decode cJ3_init_3 30 = .ok (.putfield 31, 3) := dk_181 0 31 (dk_at dksJ3_init_3_1 6 rfl rfl)
theorem dJ3_init_3_33 : decode cJ3_init_3 33 = .ok (.return_, 1) := dk_177 (dk_at dksJ3_init_3_1 9 rfl rfl)
theorem q81 : (Jvm.Cond.initialized "java/lang/Throwable") ∈ lw_all := lw_g (lw_at lw_m1 14 rfl) rfl
theorem q327 : (Jvm.Cond.declares ({ cls := "java/lang/Throwable", name := "<init>", desc := "()V" } : Jvm.MethodName)) ∈ lw_tbl := lw_at lw_m2 20 rfl
theorem q328 : (Jvm.Cond.declares ({ cls := "java/lang/Throwable", name := "<init>", desc := "(Ljava/lang/String;)V" } : Jvm.MethodName)) ∈ lw_tbl := lw_at lw_m2 21 rfl
theorem q332 : (Jvm.Cond.lays "java/lang/Throwable" "java/lang/Throwable" "cause" "Ljava/lang/Throwable;") ∈ lw_all := lw_g (lw_at lw_m2 25 rfl) rfl
theorem q334 : (Jvm.Cond.lays "java/lang/Throwable" "java/lang/Throwable" "stackTrace" "[Ljava/lang/StackTraceElement;") ∈ lw_all := lw_g (lw_at lw_m2 27 rfl) rfl
theorem q336 : (Jvm.Cond.lays "java/lang/Throwable" "java/lang/Throwable" "suppressedExceptions" "Ljava/util/List;") ∈ lw_all := lw_g (lw_at lw_m2 29 rfl) rfl
theorem q338 : (Jvm.Cond.lays "java/lang/Throwable" "java/lang/Throwable" "detailMessage" "Ljava/lang/String;") ∈ lw_all := lw_g (lw_at lw_m2 31 rfl) rfl
theorem q340 : (Jvm.Cond.lays "java/lang/Throwable" "java/lang/Throwable" "backtrace" "Ljava/lang/Object;") ∈ lw_all := lw_g (lw_at lw_m2 33 rfl) rfl
theorem q341 : (Jvm.Cond.fieldLink "java/lang/Throwable" (198 : Nat) "java/lang/Throwable" "backtrace" "Ljava/lang/Object;") ∈ lw_all := lw_g (lw_at lw_m2 34 rfl) rfl
theorem q342 : (Jvm.Cond.superclass "java/lang/Throwable" "java/lang/Object") ∈ lw_all := lw_g (lw_at lw_m2 35 rfl) rfl
theorem q343 : (Jvm.Cond.instanceMethod ({ cls := "java/lang/Throwable", name := "<init>", desc := "()V" } : Jvm.MethodName)) ∈ lw_all := lw_g (lw_at lw_m2 36 rfl) rfl
theorem q344 : (Jvm.Cond.code ({ cls := "java/lang/Throwable", name := "<init>", desc := "()V" } : Jvm.MethodName) prog_31_method_1_code (1 : Nat) (Option.none : Option Jvm.ClassFile.FieldType)) ∈ lw_all := lw_g (lw_at lw_m2 37 rfl) rfl
theorem q345 : (Jvm.Cond.methodLink "java/lang/Throwable" (1 : Nat) ({ cls := "java/lang/Object", name := "<init>", desc := "()V" } : Jvm.MethodName)) ∈ lw_all := lw_g (lw_at lw_m2 38 rfl) rfl
theorem q346 : (Jvm.Cond.fieldLink "java/lang/Throwable" (13 : Nat) "java/lang/Throwable" "UNASSIGNED_STACK" "[Ljava/lang/StackTraceElement;") ∈ lw_all := lw_g (lw_at lw_m2 39 rfl) rfl
theorem q347 : (Jvm.Cond.laysStatic "java/lang/Throwable" "UNASSIGNED_STACK" "[Ljava/lang/StackTraceElement;") ∈ lw_tbl := lw_at lw_m2 40 rfl
theorem q348 : (Jvm.Cond.fieldLink "java/lang/Throwable" (20 : Nat) "java/lang/Throwable" "SUPPRESSED_SENTINEL" "Ljava/util/List;") ∈ lw_all := lw_g (lw_at lw_m2 41 rfl) rfl
theorem q349 : (Jvm.Cond.laysStatic "java/lang/Throwable" "SUPPRESSED_SENTINEL" "Ljava/util/List;") ∈ lw_tbl := lw_at lw_m2 42 rfl
theorem q350 : (Jvm.Cond.methodLink "java/lang/Throwable" (27 : Nat) ({ cls := "java/lang/Throwable", name := "fillInStackTrace", desc := "()Ljava/lang/Throwable;" } : Jvm.MethodName)) ∈ lw_all := lw_g (lw_at lw_m2 43 rfl) rfl
theorem q351 : (Jvm.Cond.instanceMethod ({ cls := "java/lang/Throwable", name := "fillInStackTrace", desc := "()Ljava/lang/Throwable;" } : Jvm.MethodName)) ∈ lw_all := lw_g (lw_at lw_m2 44 rfl) rfl
theorem q352 : (Jvm.Cond.sameMethod "java/lang/Throwable" "java/lang/Throwable" "fillInStackTrace" "()Ljava/lang/Throwable;") ∈ lw_all := lw_g (lw_at lw_m2 45 rfl) rfl
theorem q356 : (Jvm.Cond.codeSync ({ cls := "java/lang/Throwable", name := "fillInStackTrace", desc := "()Ljava/lang/Throwable;" } : Jvm.MethodName) prog_31_method_18_code (1 : Nat) (Option.some (Jvm.ClassFile.FieldType.object "java/lang/Throwable"))) ∈ lw_all := lw_g (lw_at lw_m2 49 rfl) rfl
theorem q357 : (Jvm.Cond.methodLink "java/lang/Throwable" (202 : Nat) ({ cls := "java/lang/Throwable", name := "fillInStackTrace", desc := "(I)Ljava/lang/Throwable;" } : Jvm.MethodName)) ∈ lw_all := lw_g (lw_at lw_m2 50 rfl) rfl
theorem q358 : (Jvm.Cond.privateMethod ({ cls := "java/lang/Throwable", name := "fillInStackTrace", desc := "(I)Ljava/lang/Throwable;" } : Jvm.MethodName)) ∈ lw_tbl := lw_at lw_m2 51 rfl
theorem q359 : (Jvm.Cond.instanceMethod ({ cls := "java/lang/Throwable", name := "fillInStackTrace", desc := "(I)Ljava/lang/Throwable;" } : Jvm.MethodName)) ∈ lw_all := lw_g (lw_at lw_m2 52 rfl) rfl
theorem q360 : (Jvm.Cond.instantiable "java/lang/Throwable" (6 : Nat)) ∈ lw_all := lw_g (lw_at lw_m2 53 rfl) rfl
theorem q361 : (Jvm.Cond.native ({ cls := "java/lang/Throwable", name := "fillInStackTrace", desc := "(I)Ljava/lang/Throwable;" } : Jvm.MethodName)) ∈ lw_all := lw_g (lw_at lw_m2 54 rfl) rfl
theorem q369 : (Jvm.Cond.instanceMethod ({ cls := "java/lang/Throwable", name := "<init>", desc := "(Ljava/lang/String;Ljava/lang/Throwable;ZZ)V" } : Jvm.MethodName)) ∈ lw_all := lw_g (lw_at lw_m2 62 rfl) rfl
theorem q370 : (Jvm.Cond.code ({ cls := "java/lang/Throwable", name := "<init>", desc := "(Ljava/lang/String;Ljava/lang/Throwable;ZZ)V" } : Jvm.MethodName) prog_31_method_5_code (5 : Nat) (Option.none : Option Jvm.ClassFile.FieldType)) ∈ lw_all := lw_g (lw_at lw_m2 63 rfl) rfl
theorem q373 : (Jvm.Cond.fieldLink "java/lang/Throwable" (198 : Nat) "java/lang/Throwable" "backtrace" "Ljava/lang/Object;") ∈ lw_all := lw_g (lw_at lw_m2 66 rfl) rfl
theorem q374 : (Jvm.Cond.fieldLink "java/lang/Throwable" (31 : Nat) "java/lang/Throwable" "detailMessage" "Ljava/lang/String;") ∈ lw_all := lw_g (lw_at lw_m2 67 rfl) rfl
theorem q375 : (Jvm.Cond.fieldLink "java/lang/Throwable" (7 : Nat) "java/lang/Throwable" "cause" "Ljava/lang/Throwable;") ∈ lw_all := lw_g (lw_at lw_m2 68 rfl) rfl
theorem q376 : (Jvm.Cond.fieldLink "java/lang/Throwable" (17 : Nat) "java/lang/Throwable" "stackTrace" "[Ljava/lang/StackTraceElement;") ∈ lw_all := lw_g (lw_at lw_m2 69 rfl) rfl
theorem q377 : (Jvm.Cond.fieldLink "java/lang/Throwable" (24 : Nat) "java/lang/Throwable" "suppressedExceptions" "Ljava/util/List;") ∈ lw_all := lw_g (lw_at lw_m2 70 rfl) rfl
theorem q380 : (Jvm.Cond.soleField "java/lang/Throwable" "backtrace") ∈ lw_all := lw_g (lw_at lw_m2 73 rfl) rfl
theorem q381 : (Jvm.Cond.soleField "java/lang/Throwable" "detailMessage") ∈ lw_all := lw_g (lw_at lw_m2 74 rfl) rfl
theorem q382 : (Jvm.Cond.soleField "java/lang/Throwable" "cause") ∈ lw_all := lw_g (lw_at lw_m2 75 rfl) rfl
theorem q383 : (Jvm.Cond.soleField "java/lang/Throwable" "stackTrace") ∈ lw_all := lw_g (lw_at lw_m2 76 rfl) rfl
theorem q385 : (Jvm.Cond.soleField "java/lang/Throwable" "depth") ∈ lw_all := lw_g (lw_at lw_m2 78 rfl) rfl
theorem q386 : (Jvm.Cond.soleField "java/lang/Throwable" "suppressedExceptions") ∈ lw_all := lw_g (lw_at lw_m2 79 rfl) rfl
theorem q441 : (Jvm.Cond.instanceMethod ({ cls := "java/lang/Throwable", name := "<init>", desc := "(Ljava/lang/String;)V" } : Jvm.MethodName)) ∈ lw_all := lw_g (lw_at lw_m2 134 rfl) rfl
theorem q442 : (Jvm.Cond.code ({ cls := "java/lang/Throwable", name := "<init>", desc := "(Ljava/lang/String;)V" } : Jvm.MethodName) prog_31_method_2_code (2 : Nat) (Option.none : Option Jvm.ClassFile.FieldType)) ∈ lw_all := lw_g (lw_at lw_m2 135 rfl) rfl
theorem q1671 : (Jvm.Cond.sameMethod "java/lang/Throwable" "java/lang/Throwable" "fillInStackTrace" "(I)Ljava/lang/Throwable;") ∈ lw_all := lw_g (lw_at lw_m7 164 rfl) rfl
theorem q1704 : (Jvm.Cond.castable "java/lang/Throwable" "java/lang/Object") ∈ lw_tbl := lw_at lw_m7 197 rfl
theorem in_J3 : ∀ w ∈ wsJ30, w ∈ lw_all := lw_in wsJ30 [332, 334, 336, 338, 340] (by decide +kernel) (by decide +kernel)

/-! java/lang/Exception -/
set_option maxRecDepth 100000
def RJ4 : String := "java/lang/Exception"
abbrev cJ4_init : ByteArray := prog_21_method_5_code
def yJ4_init : MethodName := ⟨RJ4, "<init>", "(Ljava/lang/String;Ljava/lang/Throwable;ZZ)V"⟩
def dkwJ4_init_0 : List UInt8 := [42, 43, 44, 29, 21, 4, 183, 0, 16, 177]
abbrev dktJ4_init_0 : List UInt8 := dkwJ4_init_0 ++ []
theorem dksJ4_init_0 : cJ4_init.data.toList.drop 0 = dktJ4_init_0 := by decide +kernel
theorem dJ4_init_0 : decode cJ4_init 0 = .ok (.aload_n 0, 1) := dk_42 (dk_at dksJ4_init_0 0 rfl rfl)
theorem dJ4_init_1 : decode cJ4_init 1 = .ok (.aload_n 1, 1) := dk_43 (dk_at dksJ4_init_0 1 rfl rfl)
theorem dJ4_init_2 : decode cJ4_init 2 = .ok (.aload_n 2, 1) := dk_44 (dk_at dksJ4_init_0 2 rfl rfl)
theorem dJ4_init_3 : decode cJ4_init 3 = .ok (.iload_n 3, 1) := dk_29 (dk_at dksJ4_init_0 3 rfl rfl)
theorem dJ4_init_4 : decode cJ4_init 4 = .ok (.iload 4, 2) := dk_21 4 (dk_at dksJ4_init_0 4 rfl rfl)
theorem dJ4_init_6 : decode cJ4_init 6 = .ok (.invokespecial 16, 3) := dk_183 0 16 (dk_at dksJ4_init_0 6 rfl rfl)
theorem dJ4_init_9 : decode cJ4_init 9 = .ok (.return_, 1) := dk_177 (dk_at dksJ4_init_0 9 rfl rfl)
abbrev cJ4_init_2 : ByteArray := prog_21_method_2_code
def yJ4_init_2 : MethodName := ⟨RJ4, "<init>", "(Ljava/lang/String;)V"⟩
def dkwJ4_init_2_0 : List UInt8 := [42, 43, 183, 0, 7, 177]
abbrev dktJ4_init_2_0 : List UInt8 := dkwJ4_init_2_0 ++ []
theorem dksJ4_init_2_0 : cJ4_init_2.data.toList.drop 0 = dktJ4_init_2_0 := by decide +kernel
theorem dJ4_init_2_0 : decode cJ4_init_2 0 = .ok (.aload_n 0, 1) := dk_42 (dk_at dksJ4_init_2_0 0 rfl rfl)
theorem dJ4_init_2_1 : decode cJ4_init_2 1 = .ok (.aload_n 1, 1) := dk_43 (dk_at dksJ4_init_2_0 1 rfl rfl)
theorem dJ4_init_2_2 : decode cJ4_init_2 2 = .ok (.invokespecial 7, 3) := dk_183 0 7 (dk_at dksJ4_init_2_0 2 rfl rfl)
theorem dJ4_init_2_5 : decode cJ4_init_2 5 = .ok (.return_, 1) := dk_177 (dk_at dksJ4_init_2_0 5 rfl rfl)
theorem q82 : (Jvm.Cond.initialized "java/lang/Exception") ∈ lw_all := lw_g (lw_at lw_m1 15 rfl) rfl
theorem q325 : (Jvm.Cond.declares ({ cls := "java/lang/Exception", name := "<init>", desc := "()V" } : Jvm.MethodName)) ∈ lw_tbl := lw_at lw_m2 18 rfl
theorem q326 : (Jvm.Cond.declares ({ cls := "java/lang/Exception", name := "<init>", desc := "(Ljava/lang/String;)V" } : Jvm.MethodName)) ∈ lw_tbl := lw_at lw_m2 19 rfl
theorem q366 : (Jvm.Cond.instanceMethod ({ cls := "java/lang/Exception", name := "<init>", desc := "(Ljava/lang/String;Ljava/lang/Throwable;ZZ)V" } : Jvm.MethodName)) ∈ lw_all := lw_g (lw_at lw_m2 59 rfl) rfl
theorem q367 : (Jvm.Cond.code ({ cls := "java/lang/Exception", name := "<init>", desc := "(Ljava/lang/String;Ljava/lang/Throwable;ZZ)V" } : Jvm.MethodName) prog_21_method_5_code (5 : Nat) (Option.none : Option Jvm.ClassFile.FieldType)) ∈ lw_all := lw_g (lw_at lw_m2 60 rfl) rfl
theorem q368 : (Jvm.Cond.methodLink "java/lang/Exception" (16 : Nat) ({ cls := "java/lang/Throwable", name := "<init>", desc := "(Ljava/lang/String;Ljava/lang/Throwable;ZZ)V" } : Jvm.MethodName)) ∈ lw_all := lw_g (lw_at lw_m2 61 rfl) rfl
theorem q438 : (Jvm.Cond.instanceMethod ({ cls := "java/lang/Exception", name := "<init>", desc := "(Ljava/lang/String;)V" } : Jvm.MethodName)) ∈ lw_all := lw_g (lw_at lw_m2 131 rfl) rfl
theorem q439 : (Jvm.Cond.code ({ cls := "java/lang/Exception", name := "<init>", desc := "(Ljava/lang/String;)V" } : Jvm.MethodName) prog_21_method_2_code (2 : Nat) (Option.none : Option Jvm.ClassFile.FieldType)) ∈ lw_all := lw_g (lw_at lw_m2 132 rfl) rfl
theorem q440 : (Jvm.Cond.methodLink "java/lang/Exception" (7 : Nat) ({ cls := "java/lang/Throwable", name := "<init>", desc := "(Ljava/lang/String;)V" } : Jvm.MethodName)) ∈ lw_all := lw_g (lw_at lw_m2 133 rfl) rfl

/-! java/lang/RuntimeException -/
set_option maxRecDepth 100000
def RJ5 : String := "java/lang/RuntimeException"
abbrev cJ5_init : ByteArray := prog_26_method_2_code
def yJ5_init : MethodName := ⟨RJ5, "<init>", "(Ljava/lang/String;)V"⟩
def dkwJ5_init_0 : List UInt8 := [42, 43, 183, 0, 7, 177]
abbrev dktJ5_init_0 : List UInt8 := dkwJ5_init_0 ++ []
theorem dksJ5_init_0 : cJ5_init.data.toList.drop 0 = dktJ5_init_0 := by decide +kernel
theorem dJ5_init_0 : decode cJ5_init 0 = .ok (.aload_n 0, 1) := dk_42 (dk_at dksJ5_init_0 0 rfl rfl)
theorem dJ5_init_1 : decode cJ5_init 1 = .ok (.aload_n 1, 1) := dk_43 (dk_at dksJ5_init_0 1 rfl rfl)
theorem dJ5_init_2 : decode cJ5_init 2 = .ok (.invokespecial 7, 3) := dk_183 0 7 (dk_at dksJ5_init_0 2 rfl rfl)
theorem dJ5_init_5 : decode cJ5_init 5 = .ok (.return_, 1) := dk_177 (dk_at dksJ5_init_0 5 rfl rfl)
theorem q85 : (Jvm.Cond.initialized "java/lang/RuntimeException") ∈ lw_all := lw_g (lw_at lw_m1 18 rfl) rfl
theorem q435 : (Jvm.Cond.instanceMethod ({ cls := "java/lang/RuntimeException", name := "<init>", desc := "(Ljava/lang/String;)V" } : Jvm.MethodName)) ∈ lw_all := lw_g (lw_at lw_m2 128 rfl) rfl
theorem q436 : (Jvm.Cond.code ({ cls := "java/lang/RuntimeException", name := "<init>", desc := "(Ljava/lang/String;)V" } : Jvm.MethodName) prog_26_method_2_code (2 : Nat) (Option.none : Option Jvm.ClassFile.FieldType)) ∈ lw_all := lw_g (lw_at lw_m2 129 rfl) rfl
theorem q437 : (Jvm.Cond.methodLink "java/lang/RuntimeException" (7 : Nat) ({ cls := "java/lang/Exception", name := "<init>", desc := "(Ljava/lang/String;)V" } : Jvm.MethodName)) ∈ lw_all := lw_g (lw_at lw_m2 130 rfl) rfl
theorem q453 : (Jvm.Cond.declares ({ cls := "java/lang/RuntimeException", name := "<init>", desc := "()V" } : Jvm.MethodName)) ∈ lw_tbl := lw_at lw_m2 146 rfl
theorem q454 : (Jvm.Cond.declares ({ cls := "java/lang/RuntimeException", name := "<init>", desc := "(Ljava/lang/String;)V" } : Jvm.MethodName)) ∈ lw_tbl := lw_at lw_m2 147 rfl

/-! java/lang/IndexOutOfBoundsException -/
set_option maxRecDepth 100000
def RJ6 : String := "java/lang/IndexOutOfBoundsException"
abbrev cJ6_init : ByteArray := prog_22_method_2_code
def yJ6_init : MethodName := ⟨RJ6, "<init>", "(Ljava/lang/String;)V"⟩
def dkwJ6_init_0 : List UInt8 := [42, 43, 183, 0, 7, 177]
abbrev dktJ6_init_0 : List UInt8 := dkwJ6_init_0 ++ []
theorem dksJ6_init_0 : cJ6_init.data.toList.drop 0 = dktJ6_init_0 := by decide +kernel
theorem dJ6_init_0 : decode cJ6_init 0 = .ok (.aload_n 0, 1) := dk_42 (dk_at dksJ6_init_0 0 rfl rfl)
theorem dJ6_init_1 : decode cJ6_init 1 = .ok (.aload_n 1, 1) := dk_43 (dk_at dksJ6_init_0 1 rfl rfl)
theorem dJ6_init_2 : decode cJ6_init 2 = .ok (.invokespecial 7, 3) := dk_183 0 7 (dk_at dksJ6_init_0 2 rfl rfl)
theorem dJ6_init_5 : decode cJ6_init 5 = .ok (.return_, 1) := dk_177 (dk_at dksJ6_init_0 5 rfl rfl)
theorem q86 : (Jvm.Cond.initialized "java/lang/IndexOutOfBoundsException") ∈ lw_all := lw_g (lw_at lw_m1 19 rfl) rfl
theorem q432 : (Jvm.Cond.instanceMethod ({ cls := "java/lang/IndexOutOfBoundsException", name := "<init>", desc := "(Ljava/lang/String;)V" } : Jvm.MethodName)) ∈ lw_all := lw_g (lw_at lw_m2 125 rfl) rfl
theorem q433 : (Jvm.Cond.code ({ cls := "java/lang/IndexOutOfBoundsException", name := "<init>", desc := "(Ljava/lang/String;)V" } : Jvm.MethodName) prog_22_method_2_code (2 : Nat) (Option.none : Option Jvm.ClassFile.FieldType)) ∈ lw_all := lw_g (lw_at lw_m2 126 rfl) rfl
theorem q434 : (Jvm.Cond.methodLink "java/lang/IndexOutOfBoundsException" (7 : Nat) ({ cls := "java/lang/RuntimeException", name := "<init>", desc := "(Ljava/lang/String;)V" } : Jvm.MethodName)) ∈ lw_all := lw_g (lw_at lw_m2 127 rfl) rfl
theorem q451 : (Jvm.Cond.declares ({ cls := "java/lang/IndexOutOfBoundsException", name := "<init>", desc := "()V" } : Jvm.MethodName)) ∈ lw_tbl := lw_at lw_m2 144 rfl
theorem q452 : (Jvm.Cond.declares ({ cls := "java/lang/IndexOutOfBoundsException", name := "<init>", desc := "(Ljava/lang/String;)V" } : Jvm.MethodName)) ∈ lw_tbl := lw_at lw_m2 145 rfl

/-! java/lang/ArrayIndexOutOfBoundsException -/
set_option maxRecDepth 100000
def RJ7 : String := "java/lang/ArrayIndexOutOfBoundsException"
def TJ7 : u_T := fun k => match k with
  | 0 => ("java/lang/Throwable", "backtrace", "Ljava/lang/Object;", false)
  | 1 => ("java/lang/Throwable", "detailMessage", "Ljava/lang/String;", false)
  | 2 => ("java/lang/Throwable", "cause", "Ljava/lang/Throwable;", false)
  | 3 => ("java/lang/Throwable", "stackTrace", "[Ljava/lang/StackTraceElement;", false)
  | 4 => ("java/lang/Throwable", "depth", "I", false)
  | _ => ("java/lang/Throwable", "suppressedExceptions", "Ljava/util/List;", false)
def tyJ7 : Nat → FieldType := fun k => match k with
  | 0 => .object "java/lang/Object"
  | 1 => .object "java/lang/String"
  | 2 => .object "java/lang/Throwable"
  | 3 => .array (.object "java/lang/StackTraceElement")
  | 4 => .int
  | _ => .object "java/util/List"
abbrev wsJ70 : List Cond := u_ws RJ7 TJ7 6
theorem nmJ7 : ∀ a, a < 6 → ∀ b, b < 6 → a ≠ b → (TJ7 a).2.1 ≠ (TJ7 b).2.1 := by decide +kernel
theorem tyJ7_ok : ∀ k, k < 6 → parseFieldDescriptor (TJ7 k).2.2.1 = some (tyJ7 k) := by decide +kernel
abbrev cJ7_init : ByteArray := prog_18_method_2_code
def yJ7_init : MethodName := ⟨RJ7, "<init>", "(Ljava/lang/String;)V"⟩
def dkwJ7_init_0 : List UInt8 := [42, 43, 183, 0, 7, 177]
abbrev dktJ7_init_0 : List UInt8 := dkwJ7_init_0 ++ []
theorem dksJ7_init_0 : cJ7_init.data.toList.drop 0 = dktJ7_init_0 := by decide +kernel
theorem dJ7_init_0 : decode cJ7_init 0 = .ok (.aload_n 0, 1) := dk_42 (dk_at dksJ7_init_0 0 rfl rfl)
theorem dJ7_init_1 : decode cJ7_init 1 = .ok (.aload_n 1, 1) := dk_43 (dk_at dksJ7_init_0 1 rfl rfl)
theorem dJ7_init_2 : decode cJ7_init 2 = .ok (.invokespecial 7, 3) := dk_183 0 7 (dk_at dksJ7_init_0 2 rfl rfl)
theorem dJ7_init_5 : decode cJ7_init 5 = .ok (.return_, 1) := dk_177 (dk_at dksJ7_init_0 5 rfl rfl)
theorem q87 : (Jvm.Cond.initialized "java/lang/ArrayIndexOutOfBoundsException") ∈ lw_all := lw_g (lw_at lw_m1 20 rfl) rfl
theorem q354 : (Jvm.Cond.selects "java/lang/ArrayIndexOutOfBoundsException" ({ cls := "java/lang/Throwable", name := "fillInStackTrace", desc := "()Ljava/lang/Throwable;" } : Jvm.MethodName) ({ cls := "java/lang/Throwable", name := "fillInStackTrace", desc := "()Ljava/lang/Throwable;" } : Jvm.MethodName)) ∈ lw_all := lw_g (lw_at lw_m2 47 rfl) rfl
theorem q428 : (Jvm.Cond.instantiable "java/lang/ArrayIndexOutOfBoundsException" (6 : Nat)) ∈ lw_all := lw_g (lw_at lw_m2 121 rfl) rfl
theorem q429 : (Jvm.Cond.instanceMethod ({ cls := "java/lang/ArrayIndexOutOfBoundsException", name := "<init>", desc := "(Ljava/lang/String;)V" } : Jvm.MethodName)) ∈ lw_all := lw_g (lw_at lw_m2 122 rfl) rfl
theorem q430 : (Jvm.Cond.code ({ cls := "java/lang/ArrayIndexOutOfBoundsException", name := "<init>", desc := "(Ljava/lang/String;)V" } : Jvm.MethodName) prog_18_method_2_code (2 : Nat) (Option.none : Option Jvm.ClassFile.FieldType)) ∈ lw_all := lw_g (lw_at lw_m2 123 rfl) rfl
theorem q431 : (Jvm.Cond.methodLink "java/lang/ArrayIndexOutOfBoundsException" (7 : Nat) ({ cls := "java/lang/IndexOutOfBoundsException", name := "<init>", desc := "(Ljava/lang/String;)V" } : Jvm.MethodName)) ∈ lw_all := lw_g (lw_at lw_m2 124 rfl) rfl
theorem q443 : (Jvm.Cond.lays "java/lang/ArrayIndexOutOfBoundsException" "java/lang/Throwable" "backtrace" "Ljava/lang/Object;") ∈ lw_all := lw_g (lw_at lw_m2 136 rfl) rfl
theorem q444 : (Jvm.Cond.lays "java/lang/ArrayIndexOutOfBoundsException" "java/lang/Throwable" "detailMessage" "Ljava/lang/String;") ∈ lw_all := lw_g (lw_at lw_m2 137 rfl) rfl
theorem q445 : (Jvm.Cond.lays "java/lang/ArrayIndexOutOfBoundsException" "java/lang/Throwable" "cause" "Ljava/lang/Throwable;") ∈ lw_all := lw_g (lw_at lw_m2 138 rfl) rfl
theorem q446 : (Jvm.Cond.lays "java/lang/ArrayIndexOutOfBoundsException" "java/lang/Throwable" "stackTrace" "[Ljava/lang/StackTraceElement;") ∈ lw_all := lw_g (lw_at lw_m2 139 rfl) rfl
theorem q447 : (Jvm.Cond.lays "java/lang/ArrayIndexOutOfBoundsException" "java/lang/Throwable" "depth" "I") ∈ lw_all := lw_g (lw_at lw_m2 140 rfl) rfl
theorem q448 : (Jvm.Cond.lays "java/lang/ArrayIndexOutOfBoundsException" "java/lang/Throwable" "suppressedExceptions" "Ljava/util/List;") ∈ lw_all := lw_g (lw_at lw_m2 141 rfl) rfl
theorem q449 : (Jvm.Cond.superclass "java/lang/ArrayIndexOutOfBoundsException" "java/lang/IndexOutOfBoundsException") ∈ lw_all := lw_g (lw_at lw_m2 142 rfl) rfl
theorem q450 : (Jvm.Cond.castable "java/lang/ArrayIndexOutOfBoundsException" "java/lang/ArrayIndexOutOfBoundsException") ∈ lw_tbl := lw_at lw_m2 143 rfl
theorem q455 : (Jvm.Cond.selects "java/lang/ArrayIndexOutOfBoundsException" ({ cls := "java/lang/Throwable", name := "fillInStackTrace", desc := "(I)Ljava/lang/Throwable;" } : Jvm.MethodName) ({ cls := "java/lang/Throwable", name := "fillInStackTrace", desc := "(I)Ljava/lang/Throwable;" } : Jvm.MethodName)) ∈ lw_all := lw_g (lw_at lw_m2 148 rfl) rfl
theorem q702 : (Jvm.Cond.selects "java/lang/ArrayIndexOutOfBoundsException" ({ cls := "java/lang/Object", name := "getClass", desc := "()Ljava/lang/Class;" } : Jvm.MethodName) ({ cls := "java/lang/Object", name := "getClass", desc := "()Ljava/lang/Class;" } : Jvm.MethodName)) ∈ lw_all := lw_g (lw_at lw_m3 155 rfl) rfl
theorem q1678 : (Jvm.Cond.castable "java/lang/ArrayIndexOutOfBoundsException" "java/lang/IndexOutOfBoundsException") ∈ lw_tbl := lw_at lw_m7 171 rfl
theorem q1700 : (Jvm.Cond.castable "java/lang/ArrayIndexOutOfBoundsException" "java/lang/Object") ∈ lw_tbl := lw_at lw_m7 193 rfl
theorem in_J7 : ∀ w ∈ wsJ70, w ∈ lw_all := lw_in wsJ70 [443, 444, 445, 446, 447, 448] (by decide +kernel) (by decide +kernel)

/-! java/lang/String -/
set_option maxRecDepth 100000
def RJ8 : String := "java/lang/String"
def TJ8 : u_T := fun k => match k with
  | 0 => ("java/lang/String", "value", "[B", true)
  | _ => ("java/lang/String", "coder", "B", true)
def tyJ8 : Nat → FieldType := fun k => match k with
  | 0 => .array .byte
  | _ => .byte
abbrev wsJ80 : List Cond := u_ws RJ8 TJ8 2
theorem nmJ8 : ∀ a, a < 2 → ∀ b, b < 2 → a ≠ b → (TJ8 a).2.1 ≠ (TJ8 b).2.1 := by decide +kernel
theorem tyJ8_ok : ∀ k, k < 2 → parseFieldDescriptor (TJ8 k).2.2.1 = some (tyJ8 k) := by decide +kernel
abbrev cJ8_length : ByteArray := prog_27_method_54_code
def yJ8_length : MethodName := ⟨RJ8, "length", "()I"⟩
def dkwJ8_length_0 : List UInt8 := [42, 180, 0, 9, 190, 42, 182, 1, 79, 122, 172]
abbrev dktJ8_length_0 : List UInt8 := dkwJ8_length_0 ++ []
theorem dksJ8_length_0 : cJ8_length.data.toList.drop 0 = dktJ8_length_0 := by decide +kernel
theorem dJ8_length_0 : decode cJ8_length 0 = .ok (.aload_n 0, 1) := dk_42 (dk_at dksJ8_length_0 0 rfl rfl)
theorem dJ8_length_1 : decode cJ8_length 1 = .ok (.getfield 9, 3) := dk_180 0 9 (dk_at dksJ8_length_0 1 rfl rfl)
theorem dJ8_length_4 : decode cJ8_length 4 = .ok (.arraylength, 1) := dk_190 (dk_at dksJ8_length_0 4 rfl rfl)
theorem dJ8_length_5 : decode cJ8_length 5 = .ok (.aload_n 0, 1) := dk_42 (dk_at dksJ8_length_0 5 rfl rfl)
theorem dJ8_length_6 : decode cJ8_length 6 = .ok (.invokevirtual 335, 3) := dk_182 1 79 (dk_at dksJ8_length_0 6 rfl rfl)
theorem dJ8_length_9 : decode cJ8_length 9 = .ok (.ishr, 1) := dk_122 (dk_at dksJ8_length_0 9 rfl rfl)
theorem dJ8_length_10 : decode cJ8_length 10 = .ok (.ireturn, 1) := dk_172 (dk_at dksJ8_length_0 10 rfl rfl)
abbrev cJ8_coder : ByteArray := prog_27_method_152_code
def yJ8_coder : MethodName := ⟨RJ8, "coder", "()B"⟩
def dkwJ8_coder_0 : List UInt8 := [178, 0, 38, 153, 0, 10, 42, 180, 0, 15, 167, 0, 4, 4, 172]
abbrev dktJ8_coder_0 : List UInt8 := dkwJ8_coder_0 ++ []
theorem dksJ8_coder_0 : cJ8_coder.data.toList.drop 0 = dktJ8_coder_0 := by decide +kernel
theorem dJ8_coder_0 : decode cJ8_coder 0 = .ok (.getstatic 38, 3) := dk_178 0 38 (dk_at dksJ8_coder_0 0 rfl rfl)
theorem dJ8_coder_3 : decode cJ8_coder 3 = .ok (.ifCond .eq 10, 3) := dk_153 0 10 (dk_at dksJ8_coder_0 3 rfl rfl)
theorem dJ8_coder_6 : decode cJ8_coder 6 = .ok (.aload_n 0, 1) := dk_42 (dk_at dksJ8_coder_0 6 rfl rfl)
theorem dJ8_coder_7 : decode cJ8_coder 7 = .ok (.getfield 15, 3) := dk_180 0 15 (dk_at dksJ8_coder_0 7 rfl rfl)
theorem dJ8_coder_10 : decode cJ8_coder 10 = .ok (.goto 4, 3) := dk_167 0 4 (dk_at dksJ8_coder_0 10 rfl rfl)
theorem dJ8_coder_13 : decode cJ8_coder 13 = .ok (.iconst 1, 1) := dk_4 (dk_at dksJ8_coder_0 13 rfl rfl)
theorem dJ8_coder_14 : decode cJ8_coder 14 = .ok (.ireturn, 1) := dk_172 (dk_at dksJ8_coder_0 14 rfl rfl)
abbrev cJ8_charAt : ByteArray := prog_27_method_56_code
def yJ8_charAt : MethodName := ⟨RJ8, "charAt", "(I)C"⟩
def dkwJ8_charAt_1 : List UInt8 := [172]
abbrev dktJ8_charAt_1 : List UInt8 := dkwJ8_charAt_1 ++ []
def dkwJ8_charAt_0 : List UInt8 := [42, 182, 1, 236, 153, 0, 12, 42, 180, 0, 9, 27, 184, 1, 239, 172, 42, 180, 0, 9, 27, 184, 1, 242]
abbrev dktJ8_charAt_0 : List UInt8 := dkwJ8_charAt_0 ++ dktJ8_charAt_1
theorem dksJ8_charAt_0 : cJ8_charAt.data.toList.drop 0 = dktJ8_charAt_0 := by decide +kernel
theorem dksJ8_charAt_1 : cJ8_charAt.data.toList.drop 24 = dktJ8_charAt_1 := dk_seg dksJ8_charAt_0 24 rfl rfl
theorem dJ8_charAt_0 : decode cJ8_charAt 0 = .ok (.aload_n 0, 1) := dk_42 (dk_at dksJ8_charAt_0 0 rfl rfl)
theorem dJ8_charAt_1 : decode cJ8_charAt 1 = .ok (.invokevirtual 492, 3) := dk_182 1 236 (dk_at dksJ8_charAt_0 1 rfl rfl)
theorem dJ8_charAt_4 : decode cJ8_charAt 4 = .ok (.ifCond .eq 12, 3) := dk_153 0 12 (dk_at dksJ8_charAt_0 4 rfl rfl)
theorem dJ8_charAt_7 : decode cJ8_charAt 7 = .ok (.aload_n 0, 1) := dk_42 (dk_at dksJ8_charAt_0 7 rfl rfl)
theorem dJ8_charAt_8 : decode cJ8_charAt 8 = .ok (.getfield 9, 3) := dk_180 0 9 (dk_at dksJ8_charAt_0 8 rfl rfl)
theorem dJ8_charAt_11 : decode cJ8_charAt 11 = .ok (.iload_n 1, 1) := dk_27 (dk_at dksJ8_charAt_0 11 rfl rfl)
theorem dJ8_charAt_12 : decode cJ8_charAt 12 = .ok (.invokestatic 495, 3) := dk_184 1 239 (dk_at dksJ8_charAt_0 12 rfl rfl)
theorem dJ8_charAt_15 : decode cJ8_charAt 15 = .ok (.ireturn, 1) := dk_172 (dk_at dksJ8_charAt_0 15 rfl rfl)
theorem dJ8_charAt_16 : decode cJ8_charAt 16 = .ok (.aload_n 0, 1) := dk_42 (dk_at dksJ8_charAt_0 16 rfl rfl)
theorem dJ8_charAt_17 : decode cJ8_charAt 17 = .ok (.getfield 9, 3) := dk_180 0 9 (dk_at dksJ8_charAt_0 17 rfl rfl)
theorem dJ8_charAt_20 : decode cJ8_charAt 20 = .ok (.iload_n 1, 1) := dk_27 (dk_at dksJ8_charAt_0 20 rfl rfl)
theorem dJ8_charAt_21 : decode cJ8_charAt 21 = .ok (.invokestatic 498, 3) := dk_184 1 242 (dk_at dksJ8_charAt_0 21 rfl rfl)
theorem dJ8_charAt_24 : decode cJ8_charAt 24 = .ok (.ireturn, 1) := dk_172 (dk_at dksJ8_charAt_1 0 rfl rfl)
abbrev cJ8_isLatin1 : ByteArray := prog_27_method_154_code
def yJ8_isLatin1 : MethodName := ⟨RJ8, "isLatin1", "()Z"⟩
def dkwJ8_isLatin1_0 : List UInt8 := [178, 0, 38, 153, 0, 14, 42, 180, 0, 15, 154, 0, 7, 4, 167, 0, 4, 3, 172]
abbrev dktJ8_isLatin1_0 : List UInt8 := dkwJ8_isLatin1_0 ++ []
theorem dksJ8_isLatin1_0 : cJ8_isLatin1.data.toList.drop 0 = dktJ8_isLatin1_0 := by decide +kernel
theorem dJ8_isLatin1_0 : decode cJ8_isLatin1 0 = .ok (.getstatic 38, 3) := dk_178 0 38 (dk_at dksJ8_isLatin1_0 0 rfl rfl)
theorem dJ8_isLatin1_3 : decode cJ8_isLatin1 3 = .ok (.ifCond .eq 14, 3) := dk_153 0 14 (dk_at dksJ8_isLatin1_0 3 rfl rfl)
theorem dJ8_isLatin1_6 : decode cJ8_isLatin1 6 = .ok (.aload_n 0, 1) := dk_42 (dk_at dksJ8_isLatin1_0 6 rfl rfl)
theorem dJ8_isLatin1_7 : decode cJ8_isLatin1 7 = .ok (.getfield 15, 3) := dk_180 0 15 (dk_at dksJ8_isLatin1_0 7 rfl rfl)
theorem dJ8_isLatin1_10 : decode cJ8_isLatin1 10 = .ok (.ifCond .ne 7, 3) := dk_154 0 7 (dk_at dksJ8_isLatin1_0 10 rfl rfl)
theorem dJ8_isLatin1_13 : decode cJ8_isLatin1 13 = .ok (.iconst 1, 1) := dk_4 (dk_at dksJ8_isLatin1_0 13 rfl rfl)
theorem dJ8_isLatin1_14 : decode cJ8_isLatin1 14 = .ok (.goto 4, 3) := dk_167 0 4 (dk_at dksJ8_isLatin1_0 14 rfl rfl)
theorem dJ8_isLatin1_17 : decode cJ8_isLatin1 17 = .ok (.iconst 0, 1) := dk_3 (dk_at dksJ8_isLatin1_0 17 rfl rfl)
theorem dJ8_isLatin1_18 : decode cJ8_isLatin1 18 = .ok (.ireturn, 1) := dk_172 (dk_at dksJ8_isLatin1_0 18 rfl rfl)
abbrev cJ8_checkIndex : ByteArray := prog_27_method_155_code
def yJ8_checkIndex : MethodName := ⟨RJ8, "checkIndex", "(II)V"⟩
def dkwJ8_checkIndex_0 : List UInt8 := [26, 27, 178, 4, 29, 184, 4, 35, 87, 177]
abbrev dktJ8_checkIndex_0 : List UInt8 := dkwJ8_checkIndex_0 ++ []
theorem dksJ8_checkIndex_0 : cJ8_checkIndex.data.toList.drop 0 = dktJ8_checkIndex_0 := by decide +kernel
theorem dJ8_checkIndex_0 : decode cJ8_checkIndex 0 = .ok (.iload_n 0, 1) := dk_26 (dk_at dksJ8_checkIndex_0 0 rfl rfl)
theorem dJ8_checkIndex_1 : decode cJ8_checkIndex 1 = .ok (.iload_n 1, 1) := dk_27 (dk_at dksJ8_checkIndex_0 1 rfl rfl)
theorem dJ8_checkIndex_2 : decode cJ8_checkIndex 2 = .ok (.getstatic 1053, 3) := dk_178 4 29 (dk_at dksJ8_checkIndex_0 2 rfl rfl)
theorem dJ8_checkIndex_5 : decode cJ8_checkIndex 5 = .ok (.invokestatic 1059, 3) := dk_184 4 35 (dk_at dksJ8_checkIndex_0 5 rfl rfl)
theorem dJ8_checkIndex_8 : decode cJ8_checkIndex 8 = .ok (.pop, 1) := dk_87 (dk_at dksJ8_checkIndex_0 8 rfl rfl)
theorem dJ8_checkIndex_9 : decode cJ8_checkIndex 9 = .ok (.return_, 1) := dk_177 (dk_at dksJ8_checkIndex_0 9 rfl rfl)
theorem q88 : (Jvm.Cond.initialized "java/lang/String") ∈ lw_all := lw_g (lw_at lw_m1 21 rfl) rfl
theorem q456 : (Jvm.Cond.instantiable "java/lang/String" (4 : Nat)) ∈ lw_all := lw_g (lw_at lw_m2 149 rfl) rfl
theorem q457 : (Jvm.Cond.laysFinal "java/lang/String" "java/lang/String" "value" "[B") ∈ lw_all := lw_g (lw_at lw_m2 150 rfl) rfl
theorem q458 : (Jvm.Cond.soleField "java/lang/String" "value") ∈ lw_all := lw_g (lw_at lw_m2 151 rfl) rfl
theorem q459 : (Jvm.Cond.laysFinal "java/lang/String" "java/lang/String" "coder" "B") ∈ lw_all := lw_g (lw_at lw_m2 152 rfl) rfl
theorem q460 : (Jvm.Cond.soleField "java/lang/String" "coder") ∈ lw_all := lw_g (lw_at lw_m2 153 rfl) rfl
theorem q580 : (Jvm.Cond.instanceMethod ({ cls := "java/lang/String", name := "length", desc := "()I" } : Jvm.MethodName)) ∈ lw_all := lw_g (lw_at lw_m3 33 rfl) rfl
theorem q581 : (Jvm.Cond.selects "java/lang/String" ({ cls := "java/lang/String", name := "length", desc := "()I" } : Jvm.MethodName) ({ cls := "java/lang/String", name := "length", desc := "()I" } : Jvm.MethodName)) ∈ lw_all := lw_g (lw_at lw_m3 34 rfl) rfl
theorem q582 : (Jvm.Cond.code ({ cls := "java/lang/String", name := "length", desc := "()I" } : Jvm.MethodName) prog_27_method_54_code (1 : Nat) (Option.some Jvm.ClassFile.FieldType.int)) ∈ lw_all := lw_g (lw_at lw_m3 35 rfl) rfl
theorem q583 : (Jvm.Cond.methodLink "java/lang/String" (335 : Nat) ({ cls := "java/lang/String", name := "coder", desc := "()B" } : Jvm.MethodName)) ∈ lw_all := lw_g (lw_at lw_m3 36 rfl) rfl
theorem q584 : (Jvm.Cond.instanceMethod ({ cls := "java/lang/String", name := "coder", desc := "()B" } : Jvm.MethodName)) ∈ lw_all := lw_g (lw_at lw_m3 37 rfl) rfl
theorem q585 : (Jvm.Cond.selects "java/lang/String" ({ cls := "java/lang/String", name := "coder", desc := "()B" } : Jvm.MethodName) ({ cls := "java/lang/String", name := "coder", desc := "()B" } : Jvm.MethodName)) ∈ lw_all := lw_g (lw_at lw_m3 38 rfl) rfl
theorem q586 : (Jvm.Cond.code ({ cls := "java/lang/String", name := "coder", desc := "()B" } : Jvm.MethodName) prog_27_method_152_code (1 : Nat) (Option.some Jvm.ClassFile.FieldType.byte)) ∈ lw_all := lw_g (lw_at lw_m3 39 rfl) rfl
theorem q587 : (Jvm.Cond.fieldLink "java/lang/String" (38 : Nat) "java/lang/String" "COMPACT_STRINGS" "Z") ∈ lw_all := lw_g (lw_at lw_m3 40 rfl) rfl
theorem q588 : (Jvm.Cond.laysStatic "java/lang/String" "COMPACT_STRINGS" "Z") ∈ lw_tbl := lw_at lw_m3 41 rfl
theorem q590 : (Jvm.Cond.instanceMethod ({ cls := "java/lang/String", name := "charAt", desc := "(I)C" } : Jvm.MethodName)) ∈ lw_all := lw_g (lw_at lw_m3 43 rfl) rfl
theorem q591 : (Jvm.Cond.selects "java/lang/String" ({ cls := "java/lang/String", name := "charAt", desc := "(I)C" } : Jvm.MethodName) ({ cls := "java/lang/String", name := "charAt", desc := "(I)C" } : Jvm.MethodName)) ∈ lw_all := lw_g (lw_at lw_m3 44 rfl) rfl
theorem q592 : (Jvm.Cond.code ({ cls := "java/lang/String", name := "charAt", desc := "(I)C" } : Jvm.MethodName) prog_27_method_56_code (2 : Nat) (Option.some Jvm.ClassFile.FieldType.char)) ∈ lw_all := lw_g (lw_at lw_m3 45 rfl) rfl
theorem q593 : (Jvm.Cond.methodLink "java/lang/String" (492 : Nat) ({ cls := "java/lang/String", name := "isLatin1", desc := "()Z" } : Jvm.MethodName)) ∈ lw_all := lw_g (lw_at lw_m3 46 rfl) rfl
theorem q594 : (Jvm.Cond.instanceMethod ({ cls := "java/lang/String", name := "isLatin1", desc := "()Z" } : Jvm.MethodName)) ∈ lw_all := lw_g (lw_at lw_m3 47 rfl) rfl
theorem q595 : (Jvm.Cond.selects "java/lang/String" ({ cls := "java/lang/String", name := "isLatin1", desc := "()Z" } : Jvm.MethodName) ({ cls := "java/lang/String", name := "isLatin1", desc := "()Z" } : Jvm.MethodName)) ∈ lw_all := lw_g (lw_at lw_m3 48 rfl) rfl
theorem q596 : (Jvm.Cond.code ({ cls := "java/lang/String", name := "isLatin1", desc := "()Z" } : Jvm.MethodName) prog_27_method_154_code (1 : Nat) (Option.some Jvm.ClassFile.FieldType.boolean)) ∈ lw_all := lw_g (lw_at lw_m3 49 rfl) rfl
theorem q597 : (Jvm.Cond.methodLink "java/lang/String" (495 : Nat) ({ cls := "java/lang/StringLatin1", name := "charAt", desc := "([BI)C" } : Jvm.MethodName)) ∈ lw_all := lw_g (lw_at lw_m3 50 rfl) rfl
theorem q601 : (Jvm.Cond.static ({ cls := "java/lang/String", name := "checkIndex", desc := "(II)V" } : Jvm.MethodName)) ∈ lw_all := lw_g (lw_at lw_m3 54 rfl) rfl
theorem q602 : (Jvm.Cond.code ({ cls := "java/lang/String", name := "checkIndex", desc := "(II)V" } : Jvm.MethodName) prog_27_method_155_code (2 : Nat) (Option.none : Option Jvm.ClassFile.FieldType)) ∈ lw_all := lw_g (lw_at lw_m3 55 rfl) rfl
theorem q603 : (Jvm.Cond.fieldLink "java/lang/String" (1053 : Nat) "jdk/internal/util/Preconditions" "SIOOBE_FORMATTER" "Ljava/util/function/BiFunction;") ∈ lw_all := lw_g (lw_at lw_m3 56 rfl) rfl
theorem q605 : (Jvm.Cond.methodLink "java/lang/String" (1059 : Nat) ({ cls := "jdk/internal/util/Preconditions", name := "checkIndex", desc := "(IILjava/util/function/BiFunction;)I" } : Jvm.MethodName)) ∈ lw_all := lw_g (lw_at lw_m3 58 rfl) rfl
theorem q608 : (Jvm.Cond.methodLink "java/lang/String" (498 : Nat) ({ cls := "java/lang/StringUTF16", name := "charAt", desc := "([BI)C" } : Jvm.MethodName)) ∈ lw_all := lw_g (lw_at lw_m3 61 rfl) rfl
theorem q1705 : (Jvm.Cond.castable "java/lang/String" "java/lang/Object") ∈ lw_tbl := lw_at lw_m7 198 rfl
theorem q1716 : (Jvm.Cond.fieldLink "java/lang/String" (9 : Nat) "java/lang/String" "value" "[B") ∈ lw_all := lw_g (lw_at lw_m7 209 rfl) rfl
theorem q1717 : (Jvm.Cond.fieldLink "java/lang/String" (15 : Nat) "java/lang/String" "coder" "B") ∈ lw_all := lw_g (lw_at lw_m7 210 rfl) rfl
theorem in_J8 : ∀ w ∈ wsJ80, w ∈ lw_all := lw_in wsJ80 [457, 459] (by decide +kernel) (by decide +kernel)

/-! java/lang/StringLatin1 -/
set_option maxRecDepth 100000
def RJ9 : String := "java/lang/StringLatin1"
abbrev cJ9_charAt : ByteArray := prog_28_method_2_code
def yJ9_charAt : MethodName := ⟨RJ9, "charAt", "([BI)C"⟩
def dkwJ9_charAt_0 : List UInt8 := [27, 42, 190, 184, 0, 9, 42, 27, 51, 17, 0, 255, 126, 146, 172]
abbrev dktJ9_charAt_0 : List UInt8 := dkwJ9_charAt_0 ++ []
theorem dksJ9_charAt_0 : cJ9_charAt.data.toList.drop 0 = dktJ9_charAt_0 := by decide +kernel
theorem dJ9_charAt_0 : decode cJ9_charAt 0 = .ok (.iload_n 1, 1) := dk_27 (dk_at dksJ9_charAt_0 0 rfl rfl)
theorem dJ9_charAt_1 : decode cJ9_charAt 1 = .ok (.aload_n 0, 1) := dk_42 (dk_at dksJ9_charAt_0 1 rfl rfl)
theorem dJ9_charAt_2 : decode cJ9_charAt 2 = .ok (.arraylength, 1) := dk_190 (dk_at dksJ9_charAt_0 2 rfl rfl)
theorem dJ9_charAt_3 : decode cJ9_charAt 3 = .ok (.invokestatic 9, 3) := dk_184 0 9 (dk_at dksJ9_charAt_0 3 rfl rfl)
theorem dJ9_charAt_6 : decode cJ9_charAt 6 = .ok (.aload_n 0, 1) := dk_42 (dk_at dksJ9_charAt_0 6 rfl rfl)
theorem dJ9_charAt_7 : decode cJ9_charAt 7 = .ok (.iload_n 1, 1) := dk_27 (dk_at dksJ9_charAt_0 7 rfl rfl)
theorem dJ9_charAt_8 : decode cJ9_charAt 8 = .ok (.baload, 1) := dk_51 (dk_at dksJ9_charAt_0 8 rfl rfl)
theorem dJ9_charAt_9 : decode cJ9_charAt 9 = .ok (.sipush 255, 3) := dk_17 0 255 (dk_at dksJ9_charAt_0 9 rfl rfl)
theorem dJ9_charAt_12 : decode cJ9_charAt 12 = .ok (.iand, 1) := dk_126 (dk_at dksJ9_charAt_0 12 rfl rfl)
theorem dJ9_charAt_13 : decode cJ9_charAt 13 = .ok (.i2c, 1) := dk_146 (dk_at dksJ9_charAt_0 13 rfl rfl)
theorem dJ9_charAt_14 : decode cJ9_charAt 14 = .ok (.ireturn, 1) := dk_172 (dk_at dksJ9_charAt_0 14 rfl rfl)
theorem q92 : (Jvm.Cond.initialized "java/lang/StringLatin1") ∈ lw_all := lw_g (lw_at lw_m1 25 rfl) rfl
theorem q598 : (Jvm.Cond.static ({ cls := "java/lang/StringLatin1", name := "charAt", desc := "([BI)C" } : Jvm.MethodName)) ∈ lw_all := lw_g (lw_at lw_m3 51 rfl) rfl
theorem q599 : (Jvm.Cond.code ({ cls := "java/lang/StringLatin1", name := "charAt", desc := "([BI)C" } : Jvm.MethodName) prog_28_method_2_code (2 : Nat) (Option.some Jvm.ClassFile.FieldType.char)) ∈ lw_all := lw_g (lw_at lw_m3 52 rfl) rfl
theorem q600 : (Jvm.Cond.methodLink "java/lang/StringLatin1" (9 : Nat) ({ cls := "java/lang/String", name := "checkIndex", desc := "(II)V" } : Jvm.MethodName)) ∈ lw_all := lw_g (lw_at lw_m3 53 rfl) rfl

/-! ChairRanks$Ministry -/
set_option maxRecDepth 100000
def RX1 : String := "ChairRanks$Ministry"
def TX1 : u_T := fun k => match k with
  | 0 => ("ChairRanks$Ministry", "watchmen", "I", false)
  | 1 => ("ChairRanks$Ministry", "glue", "I", false)
  | 2 => ("ChairRanks$Ministry", "chairs", "Ljava/util/List;", false)
  | 3 => ("ChairRanks$Ministry", "leg", "[I", true)
  | 4 => ("ChairRanks$Ministry", "cushions", "[I", true)
  | 5 => ("ChairRanks$Ministry", "saw", "[I", true)
  | 6 => ("ChairRanks$Ministry", "grudge", "[I", true)
  | 7 => ("ChairRanks$Ministry", "caught", "[I", true)
  | 8 => ("ChairRanks$Ministry", "watched", "I", false)
  | 9 => ("ChairRanks$Ministry", "night", "I", false)
  | 10 => ("ChairRanks$Ministry", "victims", "[I", true)
  | 11 => ("ChairRanks$Ministry", "takenFor", "I", false)
  | _ => ("ChairRanks$Ministry", "taken", "LChairRanks$Chair;", false)
def tyX1 : Nat → FieldType := fun k => match k with
  | 0 => .int
  | 1 => .int
  | 2 => .object "java/util/List"
  | 3 => .array .int
  | 4 => .array .int
  | 5 => .array .int
  | 6 => .array .int
  | 7 => .array .int
  | 8 => .int
  | 9 => .int
  | 10 => .array .int
  | 11 => .int
  | _ => .object "ChairRanks$Chair"
abbrev wsX10 : List Cond := u_ws RX1 TX1 13
set_option maxRecDepth 100000 in
theorem nmX1 : ∀ a, a < 13 → ∀ b, b < 13 → a ≠ b → (TX1 a).2.1 ≠ (TX1 b).2.1 := by decide +kernel
set_option maxRecDepth 100000 in
theorem tyX1_ok : ∀ k, k < 13 → parseFieldDescriptor (TX1 k).2.2.1 = some (tyX1 k) := by decide +kernel
abbrev cX1_init : ByteArray := prog_7_method_1_code
def yX1_init : MethodName := ⟨RX1, "<init>", "()V"⟩
def dkwX1_init_2 : List UInt8 := [16, 6, 188, 10, 181, 0, 31, 42, 16, 6, 188, 10, 181, 0, 34, 42, 18, 37, 181, 0, 38, 177]
abbrev dktX1_init_2 : List UInt8 := dkwX1_init_2 ++ []
def dkwX1_init_1 : List UInt8 := [16, 6, 188, 10, 181, 0, 22, 42, 16, 6, 188, 10, 181, 0, 25, 42, 16, 6, 188, 10, 181, 0, 28, 42]
abbrev dktX1_init_1 : List UInt8 := dkwX1_init_1 ++ dktX1_init_2
def dkwX1_init_0 : List UInt8 := [42, 183, 0, 3, 42, 187, 0, 9, 89, 183, 0, 11, 181, 0, 12, 42, 16, 6, 188, 10, 181, 0, 18, 42]
abbrev dktX1_init_0 : List UInt8 := dkwX1_init_0 ++ dktX1_init_1
theorem dksX1_init_0 : cX1_init.data.toList.drop 0 = dktX1_init_0 := by decide +kernel
theorem dksX1_init_1 : cX1_init.data.toList.drop 24 = dktX1_init_1 := dk_seg dksX1_init_0 24 rfl rfl
theorem dksX1_init_2 : cX1_init.data.toList.drop 48 = dktX1_init_2 := dk_seg dksX1_init_1 24 rfl rfl
theorem dX1_init_0 : decode cX1_init 0 = .ok (.aload_n 0, 1) := dk_42 (dk_at dksX1_init_0 0 rfl rfl)
theorem dX1_init_1 : decode cX1_init 1 = .ok (.invokespecial 3, 3) := dk_183 0 3 (dk_at dksX1_init_0 1 rfl rfl)
theorem dX1_init_4 : decode cX1_init 4 = .ok (.aload_n 0, 1) := dk_42 (dk_at dksX1_init_0 4 rfl rfl)
theorem dX1_init_5 : decode cX1_init 5 = .ok (.new 9, 3) := dk_187 0 9 (dk_at dksX1_init_0 5 rfl rfl)
theorem dX1_init_8 : decode cX1_init 8 = .ok (.dup, 1) := dk_89 (dk_at dksX1_init_0 8 rfl rfl)
theorem dX1_init_9 : decode cX1_init 9 = .ok (.invokespecial 11, 3) := dk_183 0 11 (dk_at dksX1_init_0 9 rfl rfl)
theorem dX1_init_12 : decode cX1_init 12 = .ok (.putfield 12, 3) := dk_181 0 12 (dk_at dksX1_init_0 12 rfl rfl)
theorem dX1_init_15 : decode cX1_init 15 = .ok (.aload_n 0, 1) := dk_42 (dk_at dksX1_init_0 15 rfl rfl)
theorem dX1_init_16 : decode cX1_init 16 = .ok (.bipush 6, 2) := dk_16 6 (dk_at dksX1_init_0 16 rfl rfl)
theorem dX1_init_18 : decode cX1_init 18 = .ok (.newarray .int, 2) := dk_188_10 (dk_at dksX1_init_0 18 rfl rfl)
theorem dX1_init_20 : decode cX1_init 20 = .ok (.putfield 18, 3) := dk_181 0 18 (dk_at dksX1_init_0 20 rfl rfl)
theorem dX1_init_23 : decode cX1_init 23 = .ok (.aload_n 0, 1) := dk_42 (dk_at dksX1_init_0 23 rfl rfl)
theorem dX1_init_24 : decode cX1_init 24 = .ok (.bipush 6, 2) := dk_16 6 (dk_at dksX1_init_1 0 rfl rfl)
theorem dX1_init_26 : decode cX1_init 26 = .ok (.newarray .int, 2) := dk_188_10 (dk_at dksX1_init_1 2 rfl rfl)
theorem dX1_init_28 : decode cX1_init 28 = .ok (.putfield 22, 3) := dk_181 0 22 (dk_at dksX1_init_1 4 rfl rfl)
theorem dX1_init_31 : decode cX1_init 31 = .ok (.aload_n 0, 1) := dk_42 (dk_at dksX1_init_1 7 rfl rfl)
theorem dX1_init_32 : decode cX1_init 32 = .ok (.bipush 6, 2) := dk_16 6 (dk_at dksX1_init_1 8 rfl rfl)
theorem dX1_init_34 : decode cX1_init 34 = .ok (.newarray .int, 2) := dk_188_10 (dk_at dksX1_init_1 10 rfl rfl)
theorem dX1_init_36 : decode cX1_init 36 = .ok (.putfield 25, 3) := dk_181 0 25 (dk_at dksX1_init_1 12 rfl rfl)
theorem dX1_init_39 : decode cX1_init 39 = .ok (.aload_n 0, 1) := dk_42 (dk_at dksX1_init_1 15 rfl rfl)
theorem dX1_init_40 : decode cX1_init 40 = .ok (.bipush 6, 2) := dk_16 6 (dk_at dksX1_init_1 16 rfl rfl)
theorem dX1_init_42 : decode cX1_init 42 = .ok (.newarray .int, 2) := dk_188_10 (dk_at dksX1_init_1 18 rfl rfl)
theorem dX1_init_44 : decode cX1_init 44 = .ok (.putfield 28, 3) := dk_181 0 28 (dk_at dksX1_init_1 20 rfl rfl)
theorem dX1_init_47 : decode cX1_init 47 = .ok (.aload_n 0, 1) := dk_42 (dk_at dksX1_init_1 23 rfl rfl)
theorem dX1_init_48 : decode cX1_init 48 = .ok (.bipush 6, 2) := dk_16 6 (dk_at dksX1_init_2 0 rfl rfl)
theorem dX1_init_50 : decode cX1_init 50 = .ok (.newarray .int, 2) := dk_188_10 (dk_at dksX1_init_2 2 rfl rfl)
theorem dX1_init_52 : decode cX1_init 52 = .ok (.putfield 31, 3) := dk_181 0 31 (dk_at dksX1_init_2 4 rfl rfl)
theorem dX1_init_55 : decode cX1_init 55 = .ok (.aload_n 0, 1) := dk_42 (dk_at dksX1_init_2 7 rfl rfl)
theorem dX1_init_56 : decode cX1_init 56 = .ok (.bipush 6, 2) := dk_16 6 (dk_at dksX1_init_2 8 rfl rfl)
theorem dX1_init_58 : decode cX1_init 58 = .ok (.newarray .int, 2) := dk_188_10 (dk_at dksX1_init_2 10 rfl rfl)
theorem dX1_init_60 : decode cX1_init 60 = .ok (.putfield 34, 3) := dk_181 0 34 (dk_at dksX1_init_2 12 rfl rfl)
theorem dX1_init_63 : decode cX1_init 63 = .ok (.aload_n 0, 1) := dk_42 (dk_at dksX1_init_2 15 rfl rfl)
theorem dX1_init_64 : decode cX1_init 64 = .ok (.ldc 37, 2) := dk_18 37 (dk_at dksX1_init_2 16 rfl rfl)
theorem dX1_init_66 : decode cX1_init 66 = .ok (.putfield 38, 3) := dk_181 0 38 (dk_at dksX1_init_2 18 rfl rfl)
theorem dX1_init_69 : decode cX1_init 69 = .ok (.return_, 1) := dk_177 (dk_at dksX1_init_2 21 rfl rfl)
abbrev cX1_many : ByteArray := prog_7_method_3_code
def yX1_many : MethodName := ⟨RX1, "many", "()I"⟩
def dkwX1_many_0 : List UInt8 := [42, 180, 0, 12, 185, 0, 60, 1, 0, 172]
abbrev dktX1_many_0 : List UInt8 := dkwX1_many_0 ++ []
theorem dksX1_many_0 : cX1_many.data.toList.drop 0 = dktX1_many_0 := by decide +kernel
theorem dX1_many_0 : decode cX1_many 0 = .ok (.aload_n 0, 1) := dk_42 (dk_at dksX1_many_0 0 rfl rfl)
theorem dX1_many_1 : decode cX1_many 1 = .ok (.getfield 12, 3) := dk_180 0 12 (dk_at dksX1_many_0 1 rfl rfl)
theorem dX1_many_4 : decode cX1_many 4 = .ok (.invokeinterface 60 1, 5) := by decide +kernel
theorem dX1_many_9 : decode cX1_many 9 = .ok (.ireturn, 1) := dk_172 (dk_at dksX1_many_0 9 rfl rfl)
abbrev cX1_become : ByteArray := prog_7_method_2_code
def yX1_become : MethodName := ⟨RX1, "become", "(LChairRanks$Ministry;)LChairRanks$Ministry;"⟩
def dkwX1_become_5 : List UInt8 := [181, 0, 38, 42, 176]
abbrev dktX1_become_5 : List UInt8 := dkwX1_become_5 ++ []
def dkwX1_become_4 : List UInt8 := [16, 6, 184, 0, 48, 42, 43, 180, 0, 54, 181, 0, 54, 42, 43, 180, 0, 57, 181, 0, 57, 42, 18, 37]
abbrev dktX1_become_4 : List UInt8 := dkwX1_become_4 ++ dktX1_become_5
def dkwX1_become_3 : List UInt8 := [180, 0, 28, 3, 42, 180, 0, 28, 3, 16, 6, 184, 0, 48, 43, 180, 0, 31, 3, 42, 180, 0, 31, 3]
abbrev dktX1_become_3 : List UInt8 := dkwX1_become_3 ++ dktX1_become_4
def dkwX1_become_2 : List UInt8 := [3, 16, 6, 184, 0, 48, 43, 180, 0, 25, 3, 42, 180, 0, 25, 3, 16, 6, 184, 0, 48, 43]
abbrev dktX1_become_2 : List UInt8 := dkwX1_become_2 ++ dktX1_become_3
def dkwX1_become_1 : List UInt8 := [43, 180, 0, 18, 3, 42, 180, 0, 18, 3, 16, 6, 184, 0, 48, 43, 180, 0, 22, 3, 42, 180, 0, 22]
abbrev dktX1_become_1 : List UInt8 := dkwX1_become_1 ++ dktX1_become_2
def dkwX1_become_0 : List UInt8 := [42, 43, 180, 0, 42, 181, 0, 42, 42, 43, 180, 0, 45, 181, 0, 45, 42, 43, 180, 0, 12, 181, 0, 12]
abbrev dktX1_become_0 : List UInt8 := dkwX1_become_0 ++ dktX1_become_1
theorem dksX1_become_0 : cX1_become.data.toList.drop 0 = dktX1_become_0 := by decide +kernel
theorem dksX1_become_1 : cX1_become.data.toList.drop 24 = dktX1_become_1 := dk_seg dksX1_become_0 24 rfl rfl
theorem dksX1_become_2 : cX1_become.data.toList.drop 48 = dktX1_become_2 := dk_seg dksX1_become_1 24 rfl rfl
theorem dksX1_become_3 : cX1_become.data.toList.drop 70 = dktX1_become_3 := dk_seg dksX1_become_2 22 rfl rfl
theorem dksX1_become_4 : cX1_become.data.toList.drop 94 = dktX1_become_4 := dk_seg dksX1_become_3 24 rfl rfl
theorem dksX1_become_5 : cX1_become.data.toList.drop 118 = dktX1_become_5 := dk_seg dksX1_become_4 24 rfl rfl
theorem dX1_become_0 : decode cX1_become 0 = .ok (.aload_n 0, 1) := dk_42 (dk_at dksX1_become_0 0 rfl rfl)
theorem dX1_become_1 : decode cX1_become 1 = .ok (.aload_n 1, 1) := dk_43 (dk_at dksX1_become_0 1 rfl rfl)
theorem dX1_become_2 : decode cX1_become 2 = .ok (.getfield 42, 3) := dk_180 0 42 (dk_at dksX1_become_0 2 rfl rfl)
theorem dX1_become_5 : decode cX1_become 5 = .ok (.putfield 42, 3) := dk_181 0 42 (dk_at dksX1_become_0 5 rfl rfl)
theorem dX1_become_8 : decode cX1_become 8 = .ok (.aload_n 0, 1) := dk_42 (dk_at dksX1_become_0 8 rfl rfl)
theorem dX1_become_9 : decode cX1_become 9 = .ok (.aload_n 1, 1) := dk_43 (dk_at dksX1_become_0 9 rfl rfl)
theorem dX1_become_10 : decode cX1_become 10 = .ok (.getfield 45, 3) := dk_180 0 45 (dk_at dksX1_become_0 10 rfl rfl)
theorem dX1_become_13 : decode cX1_become 13 = .ok (.putfield 45, 3) := dk_181 0 45 (dk_at dksX1_become_0 13 rfl rfl)
theorem dX1_become_16 : decode cX1_become 16 = .ok (.aload_n 0, 1) := dk_42 (dk_at dksX1_become_0 16 rfl rfl)
theorem dX1_become_17 : decode cX1_become 17 = .ok (.aload_n 1, 1) := dk_43 (dk_at dksX1_become_0 17 rfl rfl)
theorem dX1_become_18 : decode cX1_become 18 = .ok (.getfield 12, 3) := dk_180 0 12 (dk_at dksX1_become_0 18 rfl rfl)
theorem dX1_become_21 : decode cX1_become 21 = .ok (.putfield 12, 3) := dk_181 0 12 (dk_at dksX1_become_0 21 rfl rfl)
theorem dX1_become_24 : decode cX1_become 24 = .ok (.aload_n 1, 1) := dk_43 (dk_at dksX1_become_1 0 rfl rfl)
theorem dX1_become_25 : decode cX1_become 25 = .ok (.getfield 18, 3) := dk_180 0 18 (dk_at dksX1_become_1 1 rfl rfl)
theorem dX1_become_28 : decode cX1_become 28 = .ok (.iconst 0, 1) := dk_3 (dk_at dksX1_become_1 4 rfl rfl)
theorem dX1_become_29 : decode cX1_become 29 = .ok (.aload_n 0, 1) := dk_42 (dk_at dksX1_become_1 5 rfl rfl)
theorem dX1_become_30 : decode cX1_become 30 = .ok (.getfield 18, 3) := dk_180 0 18 (dk_at dksX1_become_1 6 rfl rfl)
theorem dX1_become_33 : decode cX1_become 33 = .ok (.iconst 0, 1) := dk_3 (dk_at dksX1_become_1 9 rfl rfl)
theorem dX1_become_34 : decode cX1_become 34 = .ok (.bipush 6, 2) := dk_16 6 (dk_at dksX1_become_1 10 rfl rfl)
theorem dX1_become_36 : decode cX1_become 36 = .ok (.invokestatic 48, 3) := dk_184 0 48 (dk_at dksX1_become_1 12 rfl rfl)
theorem dX1_become_39 : decode cX1_become 39 = .ok (.aload_n 1, 1) := dk_43 (dk_at dksX1_become_1 15 rfl rfl)
theorem dX1_become_40 : decode cX1_become 40 = .ok (.getfield 22, 3) := dk_180 0 22 (dk_at dksX1_become_1 16 rfl rfl)
theorem dX1_become_43 : decode cX1_become 43 = .ok (.iconst 0, 1) := dk_3 (dk_at dksX1_become_1 19 rfl rfl)
theorem dX1_become_44 : decode cX1_become 44 = .ok (.aload_n 0, 1) := dk_42 (dk_at dksX1_become_1 20 rfl rfl)
theorem dX1_become_45 : decode cX1_become 45 = .ok (.getfield 22, 3) := dk_180 0 22 (dk_at dksX1_become_1 21 rfl rfl)
theorem dX1_become_48 : decode cX1_become 48 = .ok (.iconst 0, 1) := dk_3 (dk_at dksX1_become_2 0 rfl rfl)
theorem dX1_become_49 : decode cX1_become 49 = .ok (.bipush 6, 2) := dk_16 6 (dk_at dksX1_become_2 1 rfl rfl)
theorem dX1_become_51 : decode cX1_become 51 = .ok (.invokestatic 48, 3) := dk_184 0 48 (dk_at dksX1_become_2 3 rfl rfl)
theorem dX1_become_54 : decode cX1_become 54 = .ok (.aload_n 1, 1) := dk_43 (dk_at dksX1_become_2 6 rfl rfl)
theorem dX1_become_55 : decode cX1_become 55 = .ok (.getfield 25, 3) := dk_180 0 25 (dk_at dksX1_become_2 7 rfl rfl)
theorem dX1_become_58 : decode cX1_become 58 = .ok (.iconst 0, 1) := dk_3 (dk_at dksX1_become_2 10 rfl rfl)
theorem dX1_become_59 : decode cX1_become 59 = .ok (.aload_n 0, 1) := dk_42 (dk_at dksX1_become_2 11 rfl rfl)
theorem dX1_become_60 : decode cX1_become 60 = .ok (.getfield 25, 3) := dk_180 0 25 (dk_at dksX1_become_2 12 rfl rfl)
theorem dX1_become_63 : decode cX1_become 63 = .ok (.iconst 0, 1) := dk_3 (dk_at dksX1_become_2 15 rfl rfl)
theorem dX1_become_64 : decode cX1_become 64 = .ok (.bipush 6, 2) := dk_16 6 (dk_at dksX1_become_2 16 rfl rfl)
theorem dX1_become_66 : decode cX1_become 66 = .ok (.invokestatic 48, 3) := dk_184 0 48 (dk_at dksX1_become_2 18 rfl rfl)
theorem dX1_become_69 : decode cX1_become 69 = .ok (.aload_n 1, 1) := dk_43 (dk_at dksX1_become_2 21 rfl rfl)
theorem dX1_become_70 : decode cX1_become 70 = .ok (.getfield 28, 3) := dk_180 0 28 (dk_at dksX1_become_3 0 rfl rfl)
theorem dX1_become_73 : decode cX1_become 73 = .ok (.iconst 0, 1) := dk_3 (dk_at dksX1_become_3 3 rfl rfl)
theorem dX1_become_74 : decode cX1_become 74 = .ok (.aload_n 0, 1) := dk_42 (dk_at dksX1_become_3 4 rfl rfl)
theorem dX1_become_75 : decode cX1_become 75 = .ok (.getfield 28, 3) := dk_180 0 28 (dk_at dksX1_become_3 5 rfl rfl)
theorem dX1_become_78 : decode cX1_become 78 = .ok (.iconst 0, 1) := dk_3 (dk_at dksX1_become_3 8 rfl rfl)
theorem dX1_become_79 : decode cX1_become 79 = .ok (.bipush 6, 2) := dk_16 6 (dk_at dksX1_become_3 9 rfl rfl)
theorem dX1_become_81 : decode cX1_become 81 = .ok (.invokestatic 48, 3) := dk_184 0 48 (dk_at dksX1_become_3 11 rfl rfl)
theorem dX1_become_84 : decode cX1_become 84 = .ok (.aload_n 1, 1) := dk_43 (dk_at dksX1_become_3 14 rfl rfl)
theorem dX1_become_85 : decode cX1_become 85 = .ok (.getfield 31, 3) := dk_180 0 31 (dk_at dksX1_become_3 15 rfl rfl)
theorem dX1_become_88 : decode cX1_become 88 = .ok (.iconst 0, 1) := dk_3 (dk_at dksX1_become_3 18 rfl rfl)
theorem dX1_become_89 : decode cX1_become 89 = .ok (.aload_n 0, 1) := dk_42 (dk_at dksX1_become_3 19 rfl rfl)
theorem dX1_become_90 : decode cX1_become 90 = .ok (.getfield 31, 3) := dk_180 0 31 (dk_at dksX1_become_3 20 rfl rfl)
theorem dX1_become_93 : decode cX1_become 93 = .ok (.iconst 0, 1) := dk_3 (dk_at dksX1_become_3 23 rfl rfl)
theorem dX1_become_94 : decode cX1_become 94 = .ok (.bipush 6, 2) := dk_16 6 (dk_at dksX1_become_4 0 rfl rfl)
theorem dX1_become_96 : decode cX1_become 96 = .ok (.invokestatic 48, 3) := dk_184 0 48 (dk_at dksX1_become_4 2 rfl rfl)
theorem dX1_become_99 : decode cX1_become 99 = .ok (.aload_n 0, 1) := dk_42 (dk_at dksX1_become_4 5 rfl rfl)
theorem dX1_become_100 : decode cX1_become 100 = .ok (.aload_n 1, 1) := dk_43 (dk_at dksX1_become_4 6 rfl rfl)
theorem dX1_become_101 : decode cX1_become 101 = .ok (.getfield 54, 3) := dk_180 0 54 (dk_at dksX1_become_4 7 rfl rfl)
theorem dX1_become_104 : decode cX1_become 104 = .ok (.putfield 54, 3) := dk_181 0 54 (dk_at dksX1_become_4 10 rfl rfl)
theorem dX1_become_107 : decode cX1_become 107 = .ok (.aload_n 0, 1) := dk_42 (dk_at dksX1_become_4 13 rfl rfl)
theorem dX1_become_108 : decode cX1_become 108 = .ok (.aload_n 1, 1) := dk_43 (dk_at dksX1_become_4 14 rfl rfl)
theorem dX1_become_109 : decode cX1_become 109 = .ok (.getfield 57, 3) := dk_180 0 57 (dk_at dksX1_become_4 15 rfl rfl)
theorem dX1_become_112 : decode cX1_become 112 = .ok (.putfield 57, 3) := dk_181 0 57 (dk_at dksX1_become_4 18 rfl rfl)
theorem dX1_become_115 : decode cX1_become 115 = .ok (.aload_n 0, 1) := dk_42 (dk_at dksX1_become_4 21 rfl rfl)
theorem dX1_become_116 : decode cX1_become 116 = .ok (.ldc 37, 2) := dk_18 37 (dk_at dksX1_become_4 22 rfl rfl)
theorem dX1_become_118 : decode cX1_become 118 = .ok (.putfield 38, 3) := dk_181 0 38 (dk_at dksX1_become_5 0 rfl rfl)
theorem dX1_become_121 : decode cX1_become 121 = .ok (.aload_n 0, 1) := dk_42 (dk_at dksX1_become_5 3 rfl rfl)
theorem dX1_become_122 : decode cX1_become 122 = .ok (.areturn, 1) := dk_176 (dk_at dksX1_become_5 4 rfl rfl)
abbrev cX1_pass : ByteArray := prog_7_method_12_code
def yX1_pass : MethodName := ⟨RX1, "pass", "()LChairRanks$Ministry;"⟩
def dkwX1_pass_7 : List UInt8 := [96, 181, 0, 57, 42, 176]
abbrev dktX1_pass_7 : List UInt8 := dkwX1_pass_7 ++ []
def dkwX1_pass_6 : List UInt8 := [96, 79, 42, 180, 0, 25, 27, 92, 46, 4, 100, 79, 132, 1, 1, 167, 255, 198, 42, 89, 180, 0, 57, 4]
abbrev dktX1_pass_6 : List UInt8 := dkwX1_pass_6 ++ dktX1_pass_7
def dkwX1_pass_5 : List UInt8 := [42, 42, 180, 0, 34, 27, 46, 182, 0, 106, 154, 0, 6, 167, 0, 23, 42, 180, 0, 31, 27, 92, 46, 4]
abbrev dktX1_pass_5 : List UInt8 := dkwX1_pass_5 ++ dktX1_pass_6
def dkwX1_pass_4 : List UInt8 := [167, 255, 190, 3, 60, 27, 42, 182, 0, 87, 162, 0, 56, 42, 180, 0, 34, 27, 46, 18, 37, 159, 0, 39]
abbrev dktX1_pass_4 : List UInt8 := dkwX1_pass_4 ++ dktX1_pass_5
def dkwX1_pass_3 : List UInt8 := [28, 46, 42, 28, 182, 0, 76, 42, 180, 0, 25, 27, 46, 182, 0, 110, 100, 184, 0, 113, 79, 132, 1, 1]
abbrev dktX1_pass_3 : List UInt8 := dkwX1_pass_3 ++ dktX1_pass_4
def dkwX1_pass_2 : List UInt8 := [159, 0, 45, 42, 28, 182, 0, 106, 153, 0, 6, 167, 0, 34, 42, 180, 0, 18, 28, 3, 42, 180, 0, 18]
abbrev dktX1_pass_2 : List UInt8 := dkwX1_pass_2 ++ dktX1_pass_3
def dkwX1_pass_1 : List UInt8 := [167, 255, 234, 3, 60, 27, 42, 182, 0, 87, 162, 0, 64, 42, 180, 0, 34, 27, 46, 61, 28, 18, 37]
abbrev dktX1_pass_1 : List UInt8 := dkwX1_pass_1 ++ dktX1_pass_2
def dkwX1_pass_0 : List UInt8 := [3, 60, 27, 42, 182, 0, 87, 162, 0, 20, 42, 180, 0, 34, 27, 42, 27, 182, 0, 103, 79, 132, 1, 1]
abbrev dktX1_pass_0 : List UInt8 := dkwX1_pass_0 ++ dktX1_pass_1
theorem dksX1_pass_0 : cX1_pass.data.toList.drop 0 = dktX1_pass_0 := by decide +kernel
theorem dksX1_pass_1 : cX1_pass.data.toList.drop 24 = dktX1_pass_1 := dk_seg dksX1_pass_0 24 rfl rfl
theorem dksX1_pass_2 : cX1_pass.data.toList.drop 47 = dktX1_pass_2 := dk_seg dksX1_pass_1 23 rfl rfl
theorem dksX1_pass_3 : cX1_pass.data.toList.drop 71 = dktX1_pass_3 := dk_seg dksX1_pass_2 24 rfl rfl
theorem dksX1_pass_4 : cX1_pass.data.toList.drop 95 = dktX1_pass_4 := dk_seg dksX1_pass_3 24 rfl rfl
theorem dksX1_pass_5 : cX1_pass.data.toList.drop 119 = dktX1_pass_5 := dk_seg dksX1_pass_4 24 rfl rfl
theorem dksX1_pass_6 : cX1_pass.data.toList.drop 143 = dktX1_pass_6 := dk_seg dksX1_pass_5 24 rfl rfl
theorem dksX1_pass_7 : cX1_pass.data.toList.drop 167 = dktX1_pass_7 := dk_seg dksX1_pass_6 24 rfl rfl
theorem dX1_pass_0 : decode cX1_pass 0 = .ok (.iconst 0, 1) := dk_3 (dk_at dksX1_pass_0 0 rfl rfl)
theorem dX1_pass_1 : decode cX1_pass 1 = .ok (.istore_n 1, 1) := dk_60 (dk_at dksX1_pass_0 1 rfl rfl)
theorem dX1_pass_2 : decode cX1_pass 2 = .ok (.iload_n 1, 1) := dk_27 (dk_at dksX1_pass_0 2 rfl rfl)
theorem dX1_pass_3 : decode cX1_pass 3 = .ok (.aload_n 0, 1) := dk_42 (dk_at dksX1_pass_0 3 rfl rfl)
theorem dX1_pass_4 : decode cX1_pass 4 = .ok (.invokevirtual 87, 3) := dk_182 0 87 (dk_at dksX1_pass_0 4 rfl rfl)
theorem dX1_pass_7 : decode cX1_pass 7 = .ok (.if_icmp .ge 20, 3) := dk_162 0 20 (dk_at dksX1_pass_0 7 rfl rfl)
theorem dX1_pass_10 : decode cX1_pass 10 = .ok (.aload_n 0, 1) := dk_42 (dk_at dksX1_pass_0 10 rfl rfl)
theorem dX1_pass_11 : decode cX1_pass 11 = .ok (.getfield 34, 3) := dk_180 0 34 (dk_at dksX1_pass_0 11 rfl rfl)
theorem dX1_pass_14 : decode cX1_pass 14 = .ok (.iload_n 1, 1) := dk_27 (dk_at dksX1_pass_0 14 rfl rfl)
theorem dX1_pass_15 : decode cX1_pass 15 = .ok (.aload_n 0, 1) := dk_42 (dk_at dksX1_pass_0 15 rfl rfl)
theorem dX1_pass_16 : decode cX1_pass 16 = .ok (.iload_n 1, 1) := dk_27 (dk_at dksX1_pass_0 16 rfl rfl)
theorem dX1_pass_17 : decode cX1_pass 17 = .ok (.invokevirtual 103, 3) := dk_182 0 103 (dk_at dksX1_pass_0 17 rfl rfl)
theorem dX1_pass_20 : decode cX1_pass 20 = .ok (.iastore, 1) := dk_79 (dk_at dksX1_pass_0 20 rfl rfl)
theorem dX1_pass_21 : decode cX1_pass 21 = .ok (.iinc 1 1, 3) := dk_132 1 1 (dk_at dksX1_pass_0 21 rfl rfl)
theorem dX1_pass_24 : decode cX1_pass 24 = .ok (.goto (-22), 3) := dk_167 255 234 (dk_at dksX1_pass_1 0 rfl rfl)
theorem dX1_pass_27 : decode cX1_pass 27 = .ok (.iconst 0, 1) := dk_3 (dk_at dksX1_pass_1 3 rfl rfl)
theorem dX1_pass_28 : decode cX1_pass 28 = .ok (.istore_n 1, 1) := dk_60 (dk_at dksX1_pass_1 4 rfl rfl)
theorem dX1_pass_29 : decode cX1_pass 29 = .ok (.iload_n 1, 1) := dk_27 (dk_at dksX1_pass_1 5 rfl rfl)
theorem dX1_pass_30 : decode cX1_pass 30 = .ok (.aload_n 0, 1) := dk_42 (dk_at dksX1_pass_1 6 rfl rfl)
theorem dX1_pass_31 : decode cX1_pass 31 = .ok (.invokevirtual 87, 3) := dk_182 0 87 (dk_at dksX1_pass_1 7 rfl rfl)
theorem dX1_pass_34 : decode cX1_pass 34 = .ok (.if_icmp .ge 64, 3) := dk_162 0 64 (dk_at dksX1_pass_1 10 rfl rfl)
theorem dX1_pass_37 : decode cX1_pass 37 = .ok (.aload_n 0, 1) := dk_42 (dk_at dksX1_pass_1 13 rfl rfl)
theorem dX1_pass_38 : decode cX1_pass 38 = .ok (.getfield 34, 3) := dk_180 0 34 (dk_at dksX1_pass_1 14 rfl rfl)
theorem dX1_pass_41 : decode cX1_pass 41 = .ok (.iload_n 1, 1) := dk_27 (dk_at dksX1_pass_1 17 rfl rfl)
theorem dX1_pass_42 : decode cX1_pass 42 = .ok (.iaload, 1) := dk_46 (dk_at dksX1_pass_1 18 rfl rfl)
theorem dX1_pass_43 : decode cX1_pass 43 = .ok (.istore_n 2, 1) := dk_61 (dk_at dksX1_pass_1 19 rfl rfl)
theorem dX1_pass_44 : decode cX1_pass 44 = .ok (.iload_n 2, 1) := dk_28 (dk_at dksX1_pass_1 20 rfl rfl)
theorem dX1_pass_45 : decode cX1_pass 45 = .ok (.ldc 37, 2) := dk_18 37 (dk_at dksX1_pass_1 21 rfl rfl)
theorem dX1_pass_47 : decode cX1_pass 47 = .ok (.if_icmp .eq 45, 3) := dk_159 0 45 (dk_at dksX1_pass_2 0 rfl rfl)
theorem dX1_pass_50 : decode cX1_pass 50 = .ok (.aload_n 0, 1) := dk_42 (dk_at dksX1_pass_2 3 rfl rfl)
theorem dX1_pass_51 : decode cX1_pass 51 = .ok (.iload_n 2, 1) := dk_28 (dk_at dksX1_pass_2 4 rfl rfl)
theorem dX1_pass_52 : decode cX1_pass 52 = .ok (.invokevirtual 106, 3) := dk_182 0 106 (dk_at dksX1_pass_2 5 rfl rfl)
theorem dX1_pass_55 : decode cX1_pass 55 = .ok (.ifCond .eq 6, 3) := dk_153 0 6 (dk_at dksX1_pass_2 8 rfl rfl)
theorem dX1_pass_58 : decode cX1_pass 58 = .ok (.goto 34, 3) := dk_167 0 34 (dk_at dksX1_pass_2 11 rfl rfl)
theorem dX1_pass_61 : decode cX1_pass 61 = .ok (.aload_n 0, 1) := dk_42 (dk_at dksX1_pass_2 14 rfl rfl)
theorem dX1_pass_62 : decode cX1_pass 62 = .ok (.getfield 18, 3) := dk_180 0 18 (dk_at dksX1_pass_2 15 rfl rfl)
theorem dX1_pass_65 : decode cX1_pass 65 = .ok (.iload_n 2, 1) := dk_28 (dk_at dksX1_pass_2 18 rfl rfl)
theorem dX1_pass_66 : decode cX1_pass 66 = .ok (.iconst 0, 1) := dk_3 (dk_at dksX1_pass_2 19 rfl rfl)
theorem dX1_pass_67 : decode cX1_pass 67 = .ok (.aload_n 0, 1) := dk_42 (dk_at dksX1_pass_2 20 rfl rfl)
theorem dX1_pass_68 : decode cX1_pass 68 = .ok (.getfield 18, 3) := dk_180 0 18 (dk_at dksX1_pass_2 21 rfl rfl)
theorem dX1_pass_71 : decode cX1_pass 71 = .ok (.iload_n 2, 1) := dk_28 (dk_at dksX1_pass_3 0 rfl rfl)
theorem dX1_pass_72 : decode cX1_pass 72 = .ok (.iaload, 1) := dk_46 (dk_at dksX1_pass_3 1 rfl rfl)
theorem dX1_pass_73 : decode cX1_pass 73 = .ok (.aload_n 0, 1) := dk_42 (dk_at dksX1_pass_3 2 rfl rfl)
theorem dX1_pass_74 : decode cX1_pass 74 = .ok (.iload_n 2, 1) := dk_28 (dk_at dksX1_pass_3 3 rfl rfl)
theorem dX1_pass_75 : decode cX1_pass 75 = .ok (.invokevirtual 76, 3) := dk_182 0 76 (dk_at dksX1_pass_3 4 rfl rfl)
theorem dX1_pass_78 : decode cX1_pass 78 = .ok (.aload_n 0, 1) := dk_42 (dk_at dksX1_pass_3 7 rfl rfl)
theorem dX1_pass_79 : decode cX1_pass 79 = .ok (.getfield 25, 3) := dk_180 0 25 (dk_at dksX1_pass_3 8 rfl rfl)
theorem dX1_pass_82 : decode cX1_pass 82 = .ok (.iload_n 1, 1) := dk_27 (dk_at dksX1_pass_3 11 rfl rfl)
theorem dX1_pass_83 : decode cX1_pass 83 = .ok (.iaload, 1) := dk_46 (dk_at dksX1_pass_3 12 rfl rfl)
theorem dX1_pass_84 : decode cX1_pass 84 = .ok (.invokevirtual 110, 3) := dk_182 0 110 (dk_at dksX1_pass_3 13 rfl rfl)
theorem dX1_pass_87 : decode cX1_pass 87 = .ok (.isub, 1) := dk_100 (dk_at dksX1_pass_3 16 rfl rfl)
theorem dX1_pass_88 : decode cX1_pass 88 = .ok (.invokestatic 113, 3) := dk_184 0 113 (dk_at dksX1_pass_3 17 rfl rfl)
theorem dX1_pass_91 : decode cX1_pass 91 = .ok (.iastore, 1) := dk_79 (dk_at dksX1_pass_3 20 rfl rfl)
theorem dX1_pass_92 : decode cX1_pass 92 = .ok (.iinc 1 1, 3) := dk_132 1 1 (dk_at dksX1_pass_3 21 rfl rfl)
theorem dX1_pass_95 : decode cX1_pass 95 = .ok (.goto (-66), 3) := dk_167 255 190 (dk_at dksX1_pass_4 0 rfl rfl)
theorem dX1_pass_98 : decode cX1_pass 98 = .ok (.iconst 0, 1) := dk_3 (dk_at dksX1_pass_4 3 rfl rfl)
theorem dX1_pass_99 : decode cX1_pass 99 = .ok (.istore_n 1, 1) := dk_60 (dk_at dksX1_pass_4 4 rfl rfl)
theorem dX1_pass_100 : decode cX1_pass 100 = .ok (.iload_n 1, 1) := dk_27 (dk_at dksX1_pass_4 5 rfl rfl)
theorem dX1_pass_101 : decode cX1_pass 101 = .ok (.aload_n 0, 1) := dk_42 (dk_at dksX1_pass_4 6 rfl rfl)
theorem dX1_pass_102 : decode cX1_pass 102 = .ok (.invokevirtual 87, 3) := dk_182 0 87 (dk_at dksX1_pass_4 7 rfl rfl)
theorem dX1_pass_105 : decode cX1_pass 105 = .ok (.if_icmp .ge 56, 3) := dk_162 0 56 (dk_at dksX1_pass_4 10 rfl rfl)
theorem dX1_pass_108 : decode cX1_pass 108 = .ok (.aload_n 0, 1) := dk_42 (dk_at dksX1_pass_4 13 rfl rfl)
theorem dX1_pass_109 : decode cX1_pass 109 = .ok (.getfield 34, 3) := dk_180 0 34 (dk_at dksX1_pass_4 14 rfl rfl)
theorem dX1_pass_112 : decode cX1_pass 112 = .ok (.iload_n 1, 1) := dk_27 (dk_at dksX1_pass_4 17 rfl rfl)
theorem dX1_pass_113 : decode cX1_pass 113 = .ok (.iaload, 1) := dk_46 (dk_at dksX1_pass_4 18 rfl rfl)
theorem dX1_pass_114 : decode cX1_pass 114 = .ok (.ldc 37, 2) := dk_18 37 (dk_at dksX1_pass_4 19 rfl rfl)
theorem dX1_pass_116 : decode cX1_pass 116 = .ok (.if_icmp .eq 39, 3) := dk_159 0 39 (dk_at dksX1_pass_4 21 rfl rfl)
theorem dX1_pass_119 : decode cX1_pass 119 = .ok (.aload_n 0, 1) := dk_42 (dk_at dksX1_pass_5 0 rfl rfl)
theorem dX1_pass_120 : decode cX1_pass 120 = .ok (.aload_n 0, 1) := dk_42 (dk_at dksX1_pass_5 1 rfl rfl)
theorem dX1_pass_121 : decode cX1_pass 121 = .ok (.getfield 34, 3) := dk_180 0 34 (dk_at dksX1_pass_5 2 rfl rfl)
theorem dX1_pass_124 : decode cX1_pass 124 = .ok (.iload_n 1, 1) := dk_27 (dk_at dksX1_pass_5 5 rfl rfl)
theorem dX1_pass_125 : decode cX1_pass 125 = .ok (.iaload, 1) := dk_46 (dk_at dksX1_pass_5 6 rfl rfl)
theorem dX1_pass_126 : decode cX1_pass 126 = .ok (.invokevirtual 106, 3) := dk_182 0 106 (dk_at dksX1_pass_5 7 rfl rfl)
theorem dX1_pass_129 : decode cX1_pass 129 = .ok (.ifCond .ne 6, 3) := dk_154 0 6 (dk_at dksX1_pass_5 10 rfl rfl)
theorem dX1_pass_132 : decode cX1_pass 132 = .ok (.goto 23, 3) := dk_167 0 23 (dk_at dksX1_pass_5 13 rfl rfl)
theorem dX1_pass_135 : decode cX1_pass 135 = .ok (.aload_n 0, 1) := dk_42 (dk_at dksX1_pass_5 16 rfl rfl)
theorem dX1_pass_136 : decode cX1_pass 136 = .ok (.getfield 31, 3) := dk_180 0 31 (dk_at dksX1_pass_5 17 rfl rfl)
theorem dX1_pass_139 : decode cX1_pass 139 = .ok (.iload_n 1, 1) := dk_27 (dk_at dksX1_pass_5 20 rfl rfl)
theorem dX1_pass_140 : decode cX1_pass 140 = .ok (.dup2, 1) := dk_92 (dk_at dksX1_pass_5 21 rfl rfl)
theorem dX1_pass_141 : decode cX1_pass 141 = .ok (.iaload, 1) := dk_46 (dk_at dksX1_pass_5 22 rfl rfl)
theorem dX1_pass_142 : decode cX1_pass 142 = .ok (.iconst 1, 1) := dk_4 (dk_at dksX1_pass_5 23 rfl rfl)
theorem dX1_pass_143 : decode cX1_pass 143 = .ok (.iadd, 1) := dk_96 (dk_at dksX1_pass_6 0 rfl rfl)
theorem dX1_pass_144 : decode cX1_pass 144 = .ok (.iastore, 1) := dk_79 (dk_at dksX1_pass_6 1 rfl rfl)
theorem dX1_pass_145 : decode cX1_pass 145 = .ok (.aload_n 0, 1) := dk_42 (dk_at dksX1_pass_6 2 rfl rfl)
theorem dX1_pass_146 : decode cX1_pass 146 = .ok (.getfield 25, 3) := dk_180 0 25 (dk_at dksX1_pass_6 3 rfl rfl)
theorem dX1_pass_149 : decode cX1_pass 149 = .ok (.iload_n 1, 1) := dk_27 (dk_at dksX1_pass_6 6 rfl rfl)
theorem dX1_pass_150 : decode cX1_pass 150 = .ok (.dup2, 1) := dk_92 (dk_at dksX1_pass_6 7 rfl rfl)
theorem dX1_pass_151 : decode cX1_pass 151 = .ok (.iaload, 1) := dk_46 (dk_at dksX1_pass_6 8 rfl rfl)
theorem dX1_pass_152 : decode cX1_pass 152 = .ok (.iconst 1, 1) := dk_4 (dk_at dksX1_pass_6 9 rfl rfl)
theorem dX1_pass_153 : decode cX1_pass 153 = .ok (.isub, 1) := dk_100 (dk_at dksX1_pass_6 10 rfl rfl)
theorem dX1_pass_154 : decode cX1_pass 154 = .ok (.iastore, 1) := dk_79 (dk_at dksX1_pass_6 11 rfl rfl)
theorem dX1_pass_155 : decode cX1_pass 155 = .ok (.iinc 1 1, 3) := dk_132 1 1 (dk_at dksX1_pass_6 12 rfl rfl)
theorem dX1_pass_158 : decode cX1_pass 158 = .ok (.goto (-58), 3) := dk_167 255 198 (dk_at dksX1_pass_6 15 rfl rfl)
theorem dX1_pass_161 : decode cX1_pass 161 = .ok (.aload_n 0, 1) := dk_42 (dk_at dksX1_pass_6 18 rfl rfl)
theorem dX1_pass_162 : decode cX1_pass 162 = .ok (.dup, 1) := dk_89 (dk_at dksX1_pass_6 19 rfl rfl)
theorem dX1_pass_163 : decode cX1_pass 163 = .ok (.getfield 57, 3) := dk_180 0 57 (dk_at dksX1_pass_6 20 rfl rfl)
theorem dX1_pass_166 : decode cX1_pass 166 = .ok (.iconst 1, 1) := dk_4 (dk_at dksX1_pass_6 23 rfl rfl)
theorem dX1_pass_167 : decode cX1_pass 167 = .ok (.iadd, 1) := dk_96 (dk_at dksX1_pass_7 0 rfl rfl)
theorem dX1_pass_168 : decode cX1_pass 168 = .ok (.putfield 57, 3) := dk_181 0 57 (dk_at dksX1_pass_7 1 rfl rfl)
theorem dX1_pass_171 : decode cX1_pass 171 = .ok (.aload_n 0, 1) := dk_42 (dk_at dksX1_pass_7 4 rfl rfl)
theorem dX1_pass_172 : decode cX1_pass 172 = .ok (.areturn, 1) := dk_176 (dk_at dksX1_pass_7 5 rfl rfl)
abbrev cX1_victim : ByteArray := prog_7_method_10_code
def yX1_victim : MethodName := ⟨RX1, "victim", "(I)I"⟩
def dkwX1_victim_0 : List UInt8 := [42, 180, 0, 25, 27, 46, 154, 0, 8, 18, 37, 167, 0, 8, 42, 27, 182, 0, 100, 172]
abbrev dktX1_victim_0 : List UInt8 := dkwX1_victim_0 ++ []
theorem dksX1_victim_0 : cX1_victim.data.toList.drop 0 = dktX1_victim_0 := by decide +kernel
theorem dX1_victim_0 : decode cX1_victim 0 = .ok (.aload_n 0, 1) := dk_42 (dk_at dksX1_victim_0 0 rfl rfl)
theorem dX1_victim_1 : decode cX1_victim 1 = .ok (.getfield 25, 3) := dk_180 0 25 (dk_at dksX1_victim_0 1 rfl rfl)
theorem dX1_victim_4 : decode cX1_victim 4 = .ok (.iload_n 1, 1) := dk_27 (dk_at dksX1_victim_0 4 rfl rfl)
theorem dX1_victim_5 : decode cX1_victim 5 = .ok (.iaload, 1) := dk_46 (dk_at dksX1_victim_0 5 rfl rfl)
theorem dX1_victim_6 : decode cX1_victim 6 = .ok (.ifCond .ne 8, 3) := dk_154 0 8 (dk_at dksX1_victim_0 6 rfl rfl)
theorem dX1_victim_9 : decode cX1_victim 9 = .ok (.ldc 37, 2) := dk_18 37 (dk_at dksX1_victim_0 9 rfl rfl)
theorem dX1_victim_11 : decode cX1_victim 11 = .ok (.goto 8, 3) := dk_167 0 8 (dk_at dksX1_victim_0 11 rfl rfl)
theorem dX1_victim_14 : decode cX1_victim 14 = .ok (.aload_n 0, 1) := dk_42 (dk_at dksX1_victim_0 14 rfl rfl)
theorem dX1_victim_15 : decode cX1_victim 15 = .ok (.iload_n 1, 1) := dk_27 (dk_at dksX1_victim_0 15 rfl rfl)
theorem dX1_victim_16 : decode cX1_victim 16 = .ok (.invokevirtual 100, 3) := dk_182 0 100 (dk_at dksX1_victim_0 16 rfl rfl)
theorem dX1_victim_19 : decode cX1_victim 19 = .ok (.ireturn, 1) := dk_172 (dk_at dksX1_victim_0 19 rfl rfl)
abbrev cX1_grudged : ByteArray := prog_7_method_9_code
def yX1_grudged : MethodName := ⟨RX1, "grudged", "(I)I"⟩
def dkwX1_grudged_4 : List UInt8 := [96, 42, 182, 0, 87, 112, 172, 18, 37, 172]
abbrev dktX1_grudged_4 : List UInt8 := dkwX1_grudged_4 ++ []
def dkwX1_grudged_3 : List UInt8 := [167, 0, 8, 42, 3, 182, 0, 97, 172, 42, 182, 0, 87, 4, 160, 0, 8, 18, 37, 167, 0, 11, 27, 4]
abbrev dktX1_grudged_3 : List UInt8 := dkwX1_grudged_3 ++ dktX1_grudged_4
def dkwX1_grudged_2 : List UInt8 := [28, 154, 0, 8, 18, 37, 167, 0, 10, 42, 28, 4, 100, 182, 0, 97, 172, 28, 154, 0, 8, 18, 37]
abbrev dktX1_grudged_2 : List UInt8 := dkwX1_grudged_2 ++ dktX1_grudged_3
def dkwX1_grudged_1 : List UInt8 := [170, 0, 0, 0, 0, 0, 0, 82, 0, 0, 0, 1, 0, 0, 0, 3, 0, 0, 0, 28, 0, 0, 0, 45, 0, 0, 0, 60]
abbrev dktX1_grudged_1 : List UInt8 := dkwX1_grudged_1 ++ dktX1_grudged_2
def dkwX1_grudged_0 : List UInt8 := [42, 27, 182, 0, 94, 61, 42, 180, 0, 28, 27, 46]
abbrev dktX1_grudged_0 : List UInt8 := dkwX1_grudged_0 ++ dktX1_grudged_1
theorem dksX1_grudged_0 : cX1_grudged.data.toList.drop 0 = dktX1_grudged_0 := by decide +kernel
theorem dksX1_grudged_1 : cX1_grudged.data.toList.drop 12 = dktX1_grudged_1 := dk_seg dksX1_grudged_0 12 rfl rfl
theorem dksX1_grudged_2 : cX1_grudged.data.toList.drop 40 = dktX1_grudged_2 := dk_seg dksX1_grudged_1 28 rfl rfl
theorem dksX1_grudged_3 : cX1_grudged.data.toList.drop 63 = dktX1_grudged_3 := dk_seg dksX1_grudged_2 23 rfl rfl
theorem dksX1_grudged_4 : cX1_grudged.data.toList.drop 87 = dktX1_grudged_4 := dk_seg dksX1_grudged_3 24 rfl rfl
theorem dX1_grudged_0 : decode cX1_grudged 0 = .ok (.aload_n 0, 1) := dk_42 (dk_at dksX1_grudged_0 0 rfl rfl)
theorem dX1_grudged_1 : decode cX1_grudged 1 = .ok (.iload_n 1, 1) := dk_27 (dk_at dksX1_grudged_0 1 rfl rfl)
theorem dX1_grudged_2 : decode cX1_grudged 2 = .ok (.invokevirtual 94, 3) := dk_182 0 94 (dk_at dksX1_grudged_0 2 rfl rfl)
theorem dX1_grudged_5 : decode cX1_grudged 5 = .ok (.istore_n 2, 1) := dk_61 (dk_at dksX1_grudged_0 5 rfl rfl)
theorem dX1_grudged_6 : decode cX1_grudged 6 = .ok (.aload_n 0, 1) := dk_42 (dk_at dksX1_grudged_0 6 rfl rfl)
theorem dX1_grudged_7 : decode cX1_grudged 7 = .ok (.getfield 28, 3) := dk_180 0 28 (dk_at dksX1_grudged_0 7 rfl rfl)
theorem dX1_grudged_10 : decode cX1_grudged 10 = .ok (.iload_n 1, 1) := dk_27 (dk_at dksX1_grudged_0 10 rfl rfl)
theorem dX1_grudged_11 : decode cX1_grudged 11 = .ok (.iaload, 1) := dk_46 (dk_at dksX1_grudged_0 11 rfl rfl)
theorem dX1_grudged_12 : decode cX1_grudged 12 = .ok (.tableswitch 82 1 3 #[28, 45, 60], 28) := by decide +kernel
theorem dX1_grudged_40 : decode cX1_grudged 40 = .ok (.iload_n 2, 1) := dk_28 (dk_at dksX1_grudged_2 0 rfl rfl)
theorem dX1_grudged_41 : decode cX1_grudged 41 = .ok (.ifCond .ne 8, 3) := dk_154 0 8 (dk_at dksX1_grudged_2 1 rfl rfl)
theorem dX1_grudged_44 : decode cX1_grudged 44 = .ok (.ldc 37, 2) := dk_18 37 (dk_at dksX1_grudged_2 4 rfl rfl)
theorem dX1_grudged_46 : decode cX1_grudged 46 = .ok (.goto 10, 3) := dk_167 0 10 (dk_at dksX1_grudged_2 6 rfl rfl)
theorem dX1_grudged_49 : decode cX1_grudged 49 = .ok (.aload_n 0, 1) := dk_42 (dk_at dksX1_grudged_2 9 rfl rfl)
theorem dX1_grudged_50 : decode cX1_grudged 50 = .ok (.iload_n 2, 1) := dk_28 (dk_at dksX1_grudged_2 10 rfl rfl)
theorem dX1_grudged_51 : decode cX1_grudged 51 = .ok (.iconst 1, 1) := dk_4 (dk_at dksX1_grudged_2 11 rfl rfl)
theorem dX1_grudged_52 : decode cX1_grudged 52 = .ok (.isub, 1) := dk_100 (dk_at dksX1_grudged_2 12 rfl rfl)
theorem dX1_grudged_53 : decode cX1_grudged 53 = .ok (.invokevirtual 97, 3) := dk_182 0 97 (dk_at dksX1_grudged_2 13 rfl rfl)
theorem dX1_grudged_56 : decode cX1_grudged 56 = .ok (.ireturn, 1) := dk_172 (dk_at dksX1_grudged_2 16 rfl rfl)
theorem dX1_grudged_57 : decode cX1_grudged 57 = .ok (.iload_n 2, 1) := dk_28 (dk_at dksX1_grudged_2 17 rfl rfl)
theorem dX1_grudged_58 : decode cX1_grudged 58 = .ok (.ifCond .ne 8, 3) := dk_154 0 8 (dk_at dksX1_grudged_2 18 rfl rfl)
theorem dX1_grudged_61 : decode cX1_grudged 61 = .ok (.ldc 37, 2) := dk_18 37 (dk_at dksX1_grudged_2 21 rfl rfl)
theorem dX1_grudged_63 : decode cX1_grudged 63 = .ok (.goto 8, 3) := dk_167 0 8 (dk_at dksX1_grudged_3 0 rfl rfl)
theorem dX1_grudged_66 : decode cX1_grudged 66 = .ok (.aload_n 0, 1) := dk_42 (dk_at dksX1_grudged_3 3 rfl rfl)
theorem dX1_grudged_67 : decode cX1_grudged 67 = .ok (.iconst 0, 1) := dk_3 (dk_at dksX1_grudged_3 4 rfl rfl)
theorem dX1_grudged_68 : decode cX1_grudged 68 = .ok (.invokevirtual 97, 3) := dk_182 0 97 (dk_at dksX1_grudged_3 5 rfl rfl)
theorem dX1_grudged_71 : decode cX1_grudged 71 = .ok (.ireturn, 1) := dk_172 (dk_at dksX1_grudged_3 8 rfl rfl)
theorem dX1_grudged_72 : decode cX1_grudged 72 = .ok (.aload_n 0, 1) := dk_42 (dk_at dksX1_grudged_3 9 rfl rfl)
theorem dX1_grudged_73 : decode cX1_grudged 73 = .ok (.invokevirtual 87, 3) := dk_182 0 87 (dk_at dksX1_grudged_3 10 rfl rfl)
theorem dX1_grudged_76 : decode cX1_grudged 76 = .ok (.iconst 1, 1) := dk_4 (dk_at dksX1_grudged_3 13 rfl rfl)
theorem dX1_grudged_77 : decode cX1_grudged 77 = .ok (.if_icmp .ne 8, 3) := dk_160 0 8 (dk_at dksX1_grudged_3 14 rfl rfl)
theorem dX1_grudged_80 : decode cX1_grudged 80 = .ok (.ldc 37, 2) := dk_18 37 (dk_at dksX1_grudged_3 17 rfl rfl)
theorem dX1_grudged_82 : decode cX1_grudged 82 = .ok (.goto 11, 3) := dk_167 0 11 (dk_at dksX1_grudged_3 19 rfl rfl)
theorem dX1_grudged_85 : decode cX1_grudged 85 = .ok (.iload_n 1, 1) := dk_27 (dk_at dksX1_grudged_3 22 rfl rfl)
theorem dX1_grudged_86 : decode cX1_grudged 86 = .ok (.iconst 1, 1) := dk_4 (dk_at dksX1_grudged_3 23 rfl rfl)
theorem dX1_grudged_87 : decode cX1_grudged 87 = .ok (.iadd, 1) := dk_96 (dk_at dksX1_grudged_4 0 rfl rfl)
theorem dX1_grudged_88 : decode cX1_grudged 88 = .ok (.aload_n 0, 1) := dk_42 (dk_at dksX1_grudged_4 1 rfl rfl)
theorem dX1_grudged_89 : decode cX1_grudged 89 = .ok (.invokevirtual 87, 3) := dk_182 0 87 (dk_at dksX1_grudged_4 2 rfl rfl)
theorem dX1_grudged_92 : decode cX1_grudged 92 = .ok (.irem, 1) := dk_112 (dk_at dksX1_grudged_4 5 rfl rfl)
theorem dX1_grudged_93 : decode cX1_grudged 93 = .ok (.ireturn, 1) := dk_172 (dk_at dksX1_grudged_4 6 rfl rfl)
theorem dX1_grudged_94 : decode cX1_grudged 94 = .ok (.ldc 37, 2) := dk_18 37 (dk_at dksX1_grudged_4 7 rfl rfl)
theorem dX1_grudged_96 : decode cX1_grudged 96 = .ok (.ireturn, 1) := dk_172 (dk_at dksX1_grudged_4 9 rfl rfl)
abbrev cX1_rank : ByteArray := prog_7_method_7_code
def yX1_rank : MethodName := ⟨RX1, "rank", "(I)I"⟩
def dkwX1_rank_1 : List UInt8 := [153, 0, 7, 4, 167, 0, 4, 3, 96, 61, 132, 3, 1, 167, 255, 223, 28, 172]
abbrev dktX1_rank_1 : List UInt8 := dkwX1_rank_1 ++ []
def dkwX1_rank_0 : List UInt8 := [3, 61, 3, 62, 29, 42, 182, 0, 87, 162, 0, 31, 28, 29, 27, 159, 0, 16, 42, 29, 27, 182, 0, 90]
abbrev dktX1_rank_0 : List UInt8 := dkwX1_rank_0 ++ dktX1_rank_1
theorem dksX1_rank_0 : cX1_rank.data.toList.drop 0 = dktX1_rank_0 := by decide +kernel
theorem dksX1_rank_1 : cX1_rank.data.toList.drop 24 = dktX1_rank_1 := dk_seg dksX1_rank_0 24 rfl rfl
theorem dX1_rank_0 : decode cX1_rank 0 = .ok (.iconst 0, 1) := dk_3 (dk_at dksX1_rank_0 0 rfl rfl)
theorem dX1_rank_1 : decode cX1_rank 1 = .ok (.istore_n 2, 1) := dk_61 (dk_at dksX1_rank_0 1 rfl rfl)
theorem dX1_rank_2 : decode cX1_rank 2 = .ok (.iconst 0, 1) := dk_3 (dk_at dksX1_rank_0 2 rfl rfl)
theorem dX1_rank_3 : decode cX1_rank 3 = .ok (.istore_n 3, 1) := dk_62 (dk_at dksX1_rank_0 3 rfl rfl)
theorem dX1_rank_4 : decode cX1_rank 4 = .ok (.iload_n 3, 1) := dk_29 (dk_at dksX1_rank_0 4 rfl rfl)
theorem dX1_rank_5 : decode cX1_rank 5 = .ok (.aload_n 0, 1) := dk_42 (dk_at dksX1_rank_0 5 rfl rfl)
theorem dX1_rank_6 : decode cX1_rank 6 = .ok (.invokevirtual 87, 3) := dk_182 0 87 (dk_at dksX1_rank_0 6 rfl rfl)
theorem dX1_rank_9 : decode cX1_rank 9 = .ok (.if_icmp .ge 31, 3) := dk_162 0 31 (dk_at dksX1_rank_0 9 rfl rfl)
theorem dX1_rank_12 : decode cX1_rank 12 = .ok (.iload_n 2, 1) := dk_28 (dk_at dksX1_rank_0 12 rfl rfl)
theorem dX1_rank_13 : decode cX1_rank 13 = .ok (.iload_n 3, 1) := dk_29 (dk_at dksX1_rank_0 13 rfl rfl)
theorem dX1_rank_14 : decode cX1_rank 14 = .ok (.iload_n 1, 1) := dk_27 (dk_at dksX1_rank_0 14 rfl rfl)
theorem dX1_rank_15 : decode cX1_rank 15 = .ok (.if_icmp .eq 16, 3) := dk_159 0 16 (dk_at dksX1_rank_0 15 rfl rfl)
theorem dX1_rank_18 : decode cX1_rank 18 = .ok (.aload_n 0, 1) := dk_42 (dk_at dksX1_rank_0 18 rfl rfl)
theorem dX1_rank_19 : decode cX1_rank 19 = .ok (.iload_n 3, 1) := dk_29 (dk_at dksX1_rank_0 19 rfl rfl)
theorem dX1_rank_20 : decode cX1_rank 20 = .ok (.iload_n 1, 1) := dk_27 (dk_at dksX1_rank_0 20 rfl rfl)
theorem dX1_rank_21 : decode cX1_rank 21 = .ok (.invokevirtual 90, 3) := dk_182 0 90 (dk_at dksX1_rank_0 21 rfl rfl)
theorem dX1_rank_24 : decode cX1_rank 24 = .ok (.ifCond .eq 7, 3) := dk_153 0 7 (dk_at dksX1_rank_1 0 rfl rfl)
theorem dX1_rank_27 : decode cX1_rank 27 = .ok (.iconst 1, 1) := dk_4 (dk_at dksX1_rank_1 3 rfl rfl)
theorem dX1_rank_28 : decode cX1_rank 28 = .ok (.goto 4, 3) := dk_167 0 4 (dk_at dksX1_rank_1 4 rfl rfl)
theorem dX1_rank_31 : decode cX1_rank 31 = .ok (.iconst 0, 1) := dk_3 (dk_at dksX1_rank_1 7 rfl rfl)
theorem dX1_rank_32 : decode cX1_rank 32 = .ok (.iadd, 1) := dk_96 (dk_at dksX1_rank_1 8 rfl rfl)
theorem dX1_rank_33 : decode cX1_rank 33 = .ok (.istore_n 2, 1) := dk_61 (dk_at dksX1_rank_1 9 rfl rfl)
theorem dX1_rank_34 : decode cX1_rank 34 = .ok (.iinc 3 1, 3) := dk_132 3 1 (dk_at dksX1_rank_1 10 rfl rfl)
theorem dX1_rank_37 : decode cX1_rank 37 = .ok (.goto (-33), 3) := dk_167 255 223 (dk_at dksX1_rank_1 13 rfl rfl)
theorem dX1_rank_40 : decode cX1_rank 40 = .ok (.iload_n 2, 1) := dk_28 (dk_at dksX1_rank_1 16 rfl rfl)
theorem dX1_rank_41 : decode cX1_rank 41 = .ok (.ireturn, 1) := dk_172 (dk_at dksX1_rank_1 17 rfl rfl)
abbrev cX1_isHigher : ByteArray := prog_7_method_6_code
def yX1_isHigher : MethodName := ⟨RX1, "isHigher", "(II)Z"⟩
def dkwX1_isHigher_1 : List UInt8 := [160, 0, 12, 27, 28, 162, 0, 7, 4, 167, 0, 4, 3, 172]
abbrev dktX1_isHigher_1 : List UInt8 := dkwX1_isHigher_1 ++ []
def dkwX1_isHigher_0 : List UInt8 := [42, 27, 182, 0, 84, 42, 28, 182, 0, 84, 163, 0, 21, 42, 27, 182, 0, 84, 42, 28, 182, 0, 84]
abbrev dktX1_isHigher_0 : List UInt8 := dkwX1_isHigher_0 ++ dktX1_isHigher_1
theorem dksX1_isHigher_0 : cX1_isHigher.data.toList.drop 0 = dktX1_isHigher_0 := by decide +kernel
theorem dksX1_isHigher_1 : cX1_isHigher.data.toList.drop 23 = dktX1_isHigher_1 := dk_seg dksX1_isHigher_0 23 rfl rfl
theorem dX1_isHigher_0 : decode cX1_isHigher 0 = .ok (.aload_n 0, 1) := dk_42 (dk_at dksX1_isHigher_0 0 rfl rfl)
theorem dX1_isHigher_1 : decode cX1_isHigher 1 = .ok (.iload_n 1, 1) := dk_27 (dk_at dksX1_isHigher_0 1 rfl rfl)
theorem dX1_isHigher_2 : decode cX1_isHigher 2 = .ok (.invokevirtual 84, 3) := dk_182 0 84 (dk_at dksX1_isHigher_0 2 rfl rfl)
theorem dX1_isHigher_5 : decode cX1_isHigher 5 = .ok (.aload_n 0, 1) := dk_42 (dk_at dksX1_isHigher_0 5 rfl rfl)
theorem dX1_isHigher_6 : decode cX1_isHigher 6 = .ok (.iload_n 2, 1) := dk_28 (dk_at dksX1_isHigher_0 6 rfl rfl)
theorem dX1_isHigher_7 : decode cX1_isHigher 7 = .ok (.invokevirtual 84, 3) := dk_182 0 84 (dk_at dksX1_isHigher_0 7 rfl rfl)
theorem dX1_isHigher_10 : decode cX1_isHigher 10 = .ok (.if_icmp .gt 21, 3) := dk_163 0 21 (dk_at dksX1_isHigher_0 10 rfl rfl)
theorem dX1_isHigher_13 : decode cX1_isHigher 13 = .ok (.aload_n 0, 1) := dk_42 (dk_at dksX1_isHigher_0 13 rfl rfl)
theorem dX1_isHigher_14 : decode cX1_isHigher 14 = .ok (.iload_n 1, 1) := dk_27 (dk_at dksX1_isHigher_0 14 rfl rfl)
theorem dX1_isHigher_15 : decode cX1_isHigher 15 = .ok (.invokevirtual 84, 3) := dk_182 0 84 (dk_at dksX1_isHigher_0 15 rfl rfl)
theorem dX1_isHigher_18 : decode cX1_isHigher 18 = .ok (.aload_n 0, 1) := dk_42 (dk_at dksX1_isHigher_0 18 rfl rfl)
theorem dX1_isHigher_19 : decode cX1_isHigher 19 = .ok (.iload_n 2, 1) := dk_28 (dk_at dksX1_isHigher_0 19 rfl rfl)
theorem dX1_isHigher_20 : decode cX1_isHigher 20 = .ok (.invokevirtual 84, 3) := dk_182 0 84 (dk_at dksX1_isHigher_0 20 rfl rfl)
theorem dX1_isHigher_23 : decode cX1_isHigher 23 = .ok (.if_icmp .ne 12, 3) := dk_160 0 12 (dk_at dksX1_isHigher_1 0 rfl rfl)
theorem dX1_isHigher_26 : decode cX1_isHigher 26 = .ok (.iload_n 1, 1) := dk_27 (dk_at dksX1_isHigher_1 3 rfl rfl)
theorem dX1_isHigher_27 : decode cX1_isHigher 27 = .ok (.iload_n 2, 1) := dk_28 (dk_at dksX1_isHigher_1 4 rfl rfl)
theorem dX1_isHigher_28 : decode cX1_isHigher 28 = .ok (.if_icmp .ge 7, 3) := dk_162 0 7 (dk_at dksX1_isHigher_1 5 rfl rfl)
theorem dX1_isHigher_31 : decode cX1_isHigher 31 = .ok (.iconst 1, 1) := dk_4 (dk_at dksX1_isHigher_1 8 rfl rfl)
theorem dX1_isHigher_32 : decode cX1_isHigher 32 = .ok (.goto 4, 3) := dk_167 0 4 (dk_at dksX1_isHigher_1 9 rfl rfl)
theorem dX1_isHigher_35 : decode cX1_isHigher 35 = .ok (.iconst 0, 1) := dk_3 (dk_at dksX1_isHigher_1 12 rfl rfl)
theorem dX1_isHigher_36 : decode cX1_isHigher 36 = .ok (.ireturn, 1) := dk_172 (dk_at dksX1_isHigher_1 13 rfl rfl)
abbrev cX1_high : ByteArray := prog_7_method_5_code
def yX1_high : MethodName := ⟨RX1, "high", "(I)I"⟩
def dkwX1_high_0 : List UInt8 := [42, 27, 182, 0, 76, 42, 180, 0, 18, 27, 46, 42, 180, 0, 22, 27, 46, 182, 0, 80, 172]
abbrev dktX1_high_0 : List UInt8 := dkwX1_high_0 ++ []
theorem dksX1_high_0 : cX1_high.data.toList.drop 0 = dktX1_high_0 := by decide +kernel
theorem dX1_high_0 : decode cX1_high 0 = .ok (.aload_n 0, 1) := dk_42 (dk_at dksX1_high_0 0 rfl rfl)
theorem dX1_high_1 : decode cX1_high 1 = .ok (.iload_n 1, 1) := dk_27 (dk_at dksX1_high_0 1 rfl rfl)
theorem dX1_high_2 : decode cX1_high 2 = .ok (.invokevirtual 76, 3) := dk_182 0 76 (dk_at dksX1_high_0 2 rfl rfl)
theorem dX1_high_5 : decode cX1_high 5 = .ok (.aload_n 0, 1) := dk_42 (dk_at dksX1_high_0 5 rfl rfl)
theorem dX1_high_6 : decode cX1_high 6 = .ok (.getfield 18, 3) := dk_180 0 18 (dk_at dksX1_high_0 6 rfl rfl)
theorem dX1_high_9 : decode cX1_high 9 = .ok (.iload_n 1, 1) := dk_27 (dk_at dksX1_high_0 9 rfl rfl)
theorem dX1_high_10 : decode cX1_high 10 = .ok (.iaload, 1) := dk_46 (dk_at dksX1_high_0 10 rfl rfl)
theorem dX1_high_11 : decode cX1_high 11 = .ok (.aload_n 0, 1) := dk_42 (dk_at dksX1_high_0 11 rfl rfl)
theorem dX1_high_12 : decode cX1_high 12 = .ok (.getfield 22, 3) := dk_180 0 22 (dk_at dksX1_high_0 12 rfl rfl)
theorem dX1_high_15 : decode cX1_high 15 = .ok (.iload_n 1, 1) := dk_27 (dk_at dksX1_high_0 15 rfl rfl)
theorem dX1_high_16 : decode cX1_high 16 = .ok (.iaload, 1) := dk_46 (dk_at dksX1_high_0 16 rfl rfl)
theorem dX1_high_17 : decode cX1_high 17 = .ok (.invokevirtual 80, 3) := dk_182 0 80 (dk_at dksX1_high_0 17 rfl rfl)
theorem dX1_high_20 : decode cX1_high 20 = .ok (.ireturn, 1) := dk_172 (dk_at dksX1_high_0 20 rfl rfl)
abbrev cX1_chair : ByteArray := prog_7_method_4_code
def yX1_chair : MethodName := ⟨RX1, "chair", "(I)LChairRanks$Chair;"⟩
def dkwX1_chair_1 : List UInt8 := [185, 0, 70, 2, 0, 192, 0, 74, 176]
abbrev dktX1_chair_1 : List UInt8 := dkwX1_chair_1 ++ []
def dkwX1_chair_0 : List UInt8 := [27, 42, 180, 0, 38, 160, 0, 10, 42, 180, 0, 66, 167, 0, 16, 42, 180, 0, 12, 27]
abbrev dktX1_chair_0 : List UInt8 := dkwX1_chair_0 ++ dktX1_chair_1
theorem dksX1_chair_0 : cX1_chair.data.toList.drop 0 = dktX1_chair_0 := by decide +kernel
theorem dksX1_chair_1 : cX1_chair.data.toList.drop 20 = dktX1_chair_1 := dk_seg dksX1_chair_0 20 rfl rfl
theorem dX1_chair_0 : decode cX1_chair 0 = .ok (.iload_n 1, 1) := dk_27 (dk_at dksX1_chair_0 0 rfl rfl)
theorem dX1_chair_1 : decode cX1_chair 1 = .ok (.aload_n 0, 1) := dk_42 (dk_at dksX1_chair_0 1 rfl rfl)
theorem dX1_chair_2 : decode cX1_chair 2 = .ok (.getfield 38, 3) := dk_180 0 38 (dk_at dksX1_chair_0 2 rfl rfl)
theorem dX1_chair_5 : decode cX1_chair 5 = .ok (.if_icmp .ne 10, 3) := dk_160 0 10 (dk_at dksX1_chair_0 5 rfl rfl)
theorem dX1_chair_8 : decode cX1_chair 8 = .ok (.aload_n 0, 1) := dk_42 (dk_at dksX1_chair_0 8 rfl rfl)
theorem dX1_chair_9 : decode cX1_chair 9 = .ok (.getfield 66, 3) := dk_180 0 66 (dk_at dksX1_chair_0 9 rfl rfl)
theorem dX1_chair_12 : decode cX1_chair 12 = .ok (.goto 16, 3) := dk_167 0 16 (dk_at dksX1_chair_0 12 rfl rfl)
theorem dX1_chair_15 : decode cX1_chair 15 = .ok (.aload_n 0, 1) := dk_42 (dk_at dksX1_chair_0 15 rfl rfl)
theorem dX1_chair_16 : decode cX1_chair 16 = .ok (.getfield 12, 3) := dk_180 0 12 (dk_at dksX1_chair_0 16 rfl rfl)
theorem dX1_chair_19 : decode cX1_chair 19 = .ok (.iload_n 1, 1) := dk_27 (dk_at dksX1_chair_0 19 rfl rfl)
theorem dX1_chair_20 : decode cX1_chair 20 = .ok (.invokeinterface 70 2, 5) := by decide +kernel
theorem dX1_chair_25 : decode cX1_chair 25 = .ok (.checkcast 74, 3) := dk_192 0 74 (dk_at dksX1_chair_1 5 rfl rfl)
theorem dX1_chair_28 : decode cX1_chair 28 = .ok (.areturn, 1) := dk_176 (dk_at dksX1_chair_1 8 rfl rfl)
abbrev cX1_ranked : ByteArray := prog_7_method_8_code
def yX1_ranked : MethodName := ⟨RX1, "ranked", "(I)I"⟩
def dkwX1_ranked_1 : List UInt8 := [167, 255, 234, 18, 37, 172]
abbrev dktX1_ranked_1 : List UInt8 := dkwX1_ranked_1 ++ []
def dkwX1_ranked_0 : List UInt8 := [3, 61, 28, 42, 182, 0, 87, 162, 0, 20, 42, 28, 182, 0, 94, 27, 160, 0, 5, 28, 172, 132, 2, 1]
abbrev dktX1_ranked_0 : List UInt8 := dkwX1_ranked_0 ++ dktX1_ranked_1
theorem dksX1_ranked_0 : cX1_ranked.data.toList.drop 0 = dktX1_ranked_0 := by decide +kernel
theorem dksX1_ranked_1 : cX1_ranked.data.toList.drop 24 = dktX1_ranked_1 := dk_seg dksX1_ranked_0 24 rfl rfl
theorem dX1_ranked_0 : decode cX1_ranked 0 = .ok (.iconst 0, 1) := dk_3 (dk_at dksX1_ranked_0 0 rfl rfl)
theorem dX1_ranked_1 : decode cX1_ranked 1 = .ok (.istore_n 2, 1) := dk_61 (dk_at dksX1_ranked_0 1 rfl rfl)
theorem dX1_ranked_2 : decode cX1_ranked 2 = .ok (.iload_n 2, 1) := dk_28 (dk_at dksX1_ranked_0 2 rfl rfl)
theorem dX1_ranked_3 : decode cX1_ranked 3 = .ok (.aload_n 0, 1) := dk_42 (dk_at dksX1_ranked_0 3 rfl rfl)
theorem dX1_ranked_4 : decode cX1_ranked 4 = .ok (.invokevirtual 87, 3) := dk_182 0 87 (dk_at dksX1_ranked_0 4 rfl rfl)
theorem dX1_ranked_7 : decode cX1_ranked 7 = .ok (.if_icmp .ge 20, 3) := dk_162 0 20 (dk_at dksX1_ranked_0 7 rfl rfl)
theorem dX1_ranked_10 : decode cX1_ranked 10 = .ok (.aload_n 0, 1) := dk_42 (dk_at dksX1_ranked_0 10 rfl rfl)
theorem dX1_ranked_11 : decode cX1_ranked 11 = .ok (.iload_n 2, 1) := dk_28 (dk_at dksX1_ranked_0 11 rfl rfl)
theorem dX1_ranked_12 : decode cX1_ranked 12 = .ok (.invokevirtual 94, 3) := dk_182 0 94 (dk_at dksX1_ranked_0 12 rfl rfl)
theorem dX1_ranked_15 : decode cX1_ranked 15 = .ok (.iload_n 1, 1) := dk_27 (dk_at dksX1_ranked_0 15 rfl rfl)
theorem dX1_ranked_16 : decode cX1_ranked 16 = .ok (.if_icmp .ne 5, 3) := dk_160 0 5 (dk_at dksX1_ranked_0 16 rfl rfl)
theorem dX1_ranked_19 : decode cX1_ranked 19 = .ok (.iload_n 2, 1) := dk_28 (dk_at dksX1_ranked_0 19 rfl rfl)
theorem dX1_ranked_20 : decode cX1_ranked 20 = .ok (.ireturn, 1) := dk_172 (dk_at dksX1_ranked_0 20 rfl rfl)
theorem dX1_ranked_21 : decode cX1_ranked 21 = .ok (.iinc 2 1, 3) := dk_132 2 1 (dk_at dksX1_ranked_0 21 rfl rfl)
theorem dX1_ranked_24 : decode cX1_ranked 24 = .ok (.goto (-22), 3) := dk_167 255 234 (dk_at dksX1_ranked_1 0 rfl rfl)
theorem dX1_ranked_27 : decode cX1_ranked 27 = .ok (.ldc 37, 2) := dk_18 37 (dk_at dksX1_ranked_1 3 rfl rfl)
theorem dX1_ranked_29 : decode cX1_ranked 29 = .ok (.ireturn, 1) := dk_172 (dk_at dksX1_ranked_1 5 rfl rfl)
abbrev cX1_isWatched : ByteArray := prog_7_method_11_code
def yX1_isWatched : MethodName := ⟨RX1, "isWatched", "(I)Z"⟩
def dkwX1_isWatched_0 : List UInt8 := [42, 180, 0, 54, 27, 122, 4, 126, 4, 160, 0, 7, 4, 167, 0, 4, 3, 172]
abbrev dktX1_isWatched_0 : List UInt8 := dkwX1_isWatched_0 ++ []
theorem dksX1_isWatched_0 : cX1_isWatched.data.toList.drop 0 = dktX1_isWatched_0 := by decide +kernel
theorem dX1_isWatched_0 : decode cX1_isWatched 0 = .ok (.aload_n 0, 1) := dk_42 (dk_at dksX1_isWatched_0 0 rfl rfl)
theorem dX1_isWatched_1 : decode cX1_isWatched 1 = .ok (.getfield 54, 3) := dk_180 0 54 (dk_at dksX1_isWatched_0 1 rfl rfl)
theorem dX1_isWatched_4 : decode cX1_isWatched 4 = .ok (.iload_n 1, 1) := dk_27 (dk_at dksX1_isWatched_0 4 rfl rfl)
theorem dX1_isWatched_5 : decode cX1_isWatched 5 = .ok (.ishr, 1) := dk_122 (dk_at dksX1_isWatched_0 5 rfl rfl)
theorem dX1_isWatched_6 : decode cX1_isWatched 6 = .ok (.iconst 1, 1) := dk_4 (dk_at dksX1_isWatched_0 6 rfl rfl)
theorem dX1_isWatched_7 : decode cX1_isWatched 7 = .ok (.iand, 1) := dk_126 (dk_at dksX1_isWatched_0 7 rfl rfl)
theorem dX1_isWatched_8 : decode cX1_isWatched 8 = .ok (.iconst 1, 1) := dk_4 (dk_at dksX1_isWatched_0 8 rfl rfl)
theorem dX1_isWatched_9 : decode cX1_isWatched 9 = .ok (.if_icmp .ne 7, 3) := dk_160 0 7 (dk_at dksX1_isWatched_0 9 rfl rfl)
theorem dX1_isWatched_12 : decode cX1_isWatched 12 = .ok (.iconst 1, 1) := dk_4 (dk_at dksX1_isWatched_0 12 rfl rfl)
theorem dX1_isWatched_13 : decode cX1_isWatched 13 = .ok (.goto 4, 3) := dk_167 0 4 (dk_at dksX1_isWatched_0 13 rfl rfl)
theorem dX1_isWatched_16 : decode cX1_isWatched 16 = .ok (.iconst 0, 1) := dk_3 (dk_at dksX1_isWatched_0 16 rfl rfl)
theorem dX1_isWatched_17 : decode cX1_isWatched 17 = .ok (.ireturn, 1) := dk_172 (dk_at dksX1_isWatched_0 17 rfl rfl)
abbrev cX1_mend : ByteArray := prog_7_method_13_code
def yX1_mend : MethodName := ⟨RX1, "mend", "(I)I"⟩
def dkwX1_mend_1 : List UInt8 := [180, 0, 18, 27, 46, 172]
abbrev dktX1_mend_1 : List UInt8 := dkwX1_mend_1 ++ []
def dkwX1_mend_0 : List UInt8 := [42, 180, 0, 18, 27, 16, 60, 42, 180, 0, 18, 27, 46, 42, 180, 0, 45, 96, 184, 0, 118, 79, 42]
abbrev dktX1_mend_0 : List UInt8 := dkwX1_mend_0 ++ dktX1_mend_1
theorem dksX1_mend_0 : cX1_mend.data.toList.drop 0 = dktX1_mend_0 := by decide +kernel
theorem dksX1_mend_1 : cX1_mend.data.toList.drop 23 = dktX1_mend_1 := dk_seg dksX1_mend_0 23 rfl rfl
theorem dX1_mend_0 : decode cX1_mend 0 = .ok (.aload_n 0, 1) := dk_42 (dk_at dksX1_mend_0 0 rfl rfl)
theorem dX1_mend_1 : decode cX1_mend 1 = .ok (.getfield 18, 3) := dk_180 0 18 (dk_at dksX1_mend_0 1 rfl rfl)
theorem dX1_mend_4 : decode cX1_mend 4 = .ok (.iload_n 1, 1) := dk_27 (dk_at dksX1_mend_0 4 rfl rfl)
theorem dX1_mend_5 : decode cX1_mend 5 = .ok (.bipush 60, 2) := dk_16 60 (dk_at dksX1_mend_0 5 rfl rfl)
theorem dX1_mend_7 : decode cX1_mend 7 = .ok (.aload_n 0, 1) := dk_42 (dk_at dksX1_mend_0 7 rfl rfl)
theorem dX1_mend_8 : decode cX1_mend 8 = .ok (.getfield 18, 3) := dk_180 0 18 (dk_at dksX1_mend_0 8 rfl rfl)
theorem dX1_mend_11 : decode cX1_mend 11 = .ok (.iload_n 1, 1) := dk_27 (dk_at dksX1_mend_0 11 rfl rfl)
theorem dX1_mend_12 : decode cX1_mend 12 = .ok (.iaload, 1) := dk_46 (dk_at dksX1_mend_0 12 rfl rfl)
theorem dX1_mend_13 : decode cX1_mend 13 = .ok (.aload_n 0, 1) := dk_42 (dk_at dksX1_mend_0 13 rfl rfl)
theorem dX1_mend_14 : decode cX1_mend 14 = .ok (.getfield 45, 3) := dk_180 0 45 (dk_at dksX1_mend_0 14 rfl rfl)
theorem dX1_mend_17 : decode cX1_mend 17 = .ok (.iadd, 1) := dk_96 (dk_at dksX1_mend_0 17 rfl rfl)
theorem dX1_mend_18 : decode cX1_mend 18 = .ok (.invokestatic 118, 3) := dk_184 0 118 (dk_at dksX1_mend_0 18 rfl rfl)
theorem dX1_mend_21 : decode cX1_mend 21 = .ok (.iastore, 1) := dk_79 (dk_at dksX1_mend_0 21 rfl rfl)
theorem dX1_mend_22 : decode cX1_mend 22 = .ok (.aload_n 0, 1) := dk_42 (dk_at dksX1_mend_0 22 rfl rfl)
theorem dX1_mend_23 : decode cX1_mend 23 = .ok (.getfield 18, 3) := dk_180 0 18 (dk_at dksX1_mend_1 0 rfl rfl)
theorem dX1_mend_26 : decode cX1_mend 26 = .ok (.iload_n 1, 1) := dk_27 (dk_at dksX1_mend_1 3 rfl rfl)
theorem dX1_mend_27 : decode cX1_mend 27 = .ok (.iaload, 1) := dk_46 (dk_at dksX1_mend_1 4 rfl rfl)
theorem dX1_mend_28 : decode cX1_mend 28 = .ok (.ireturn, 1) := dk_172 (dk_at dksX1_mend_1 5 rfl rfl)
abbrev cX1_change : ByteArray := prog_7_method_17_code
def yX1_change : MethodName := ⟨RX1, "change", "(II)V"⟩
def dkwX1_change_1 : List UInt8 := [184, 0, 121, 177]
abbrev dktX1_change_1 : List UInt8 := dkwX1_change_1 ++ []
def dkwX1_change_0 : List UInt8 := [42, 180, 0, 25, 27, 28, 184, 0, 121, 42, 180, 0, 28, 27, 28, 184, 0, 121, 42, 180, 0, 31, 27, 28]
abbrev dktX1_change_0 : List UInt8 := dkwX1_change_0 ++ dktX1_change_1
theorem dksX1_change_0 : cX1_change.data.toList.drop 0 = dktX1_change_0 := by decide +kernel
theorem dksX1_change_1 : cX1_change.data.toList.drop 24 = dktX1_change_1 := dk_seg dksX1_change_0 24 rfl rfl
theorem dX1_change_0 : decode cX1_change 0 = .ok (.aload_n 0, 1) := dk_42 (dk_at dksX1_change_0 0 rfl rfl)
theorem dX1_change_1 : decode cX1_change 1 = .ok (.getfield 25, 3) := dk_180 0 25 (dk_at dksX1_change_0 1 rfl rfl)
theorem dX1_change_4 : decode cX1_change 4 = .ok (.iload_n 1, 1) := dk_27 (dk_at dksX1_change_0 4 rfl rfl)
theorem dX1_change_5 : decode cX1_change 5 = .ok (.iload_n 2, 1) := dk_28 (dk_at dksX1_change_0 5 rfl rfl)
theorem dX1_change_6 : decode cX1_change 6 = .ok (.invokestatic 121, 3) := dk_184 0 121 (dk_at dksX1_change_0 6 rfl rfl)
theorem dX1_change_9 : decode cX1_change 9 = .ok (.aload_n 0, 1) := dk_42 (dk_at dksX1_change_0 9 rfl rfl)
theorem dX1_change_10 : decode cX1_change 10 = .ok (.getfield 28, 3) := dk_180 0 28 (dk_at dksX1_change_0 10 rfl rfl)
theorem dX1_change_13 : decode cX1_change 13 = .ok (.iload_n 1, 1) := dk_27 (dk_at dksX1_change_0 13 rfl rfl)
theorem dX1_change_14 : decode cX1_change 14 = .ok (.iload_n 2, 1) := dk_28 (dk_at dksX1_change_0 14 rfl rfl)
theorem dX1_change_15 : decode cX1_change 15 = .ok (.invokestatic 121, 3) := dk_184 0 121 (dk_at dksX1_change_0 15 rfl rfl)
theorem dX1_change_18 : decode cX1_change 18 = .ok (.aload_n 0, 1) := dk_42 (dk_at dksX1_change_0 18 rfl rfl)
theorem dX1_change_19 : decode cX1_change 19 = .ok (.getfield 31, 3) := dk_180 0 31 (dk_at dksX1_change_0 19 rfl rfl)
theorem dX1_change_22 : decode cX1_change 22 = .ok (.iload_n 1, 1) := dk_27 (dk_at dksX1_change_0 22 rfl rfl)
theorem dX1_change_23 : decode cX1_change 23 = .ok (.iload_n 2, 1) := dk_28 (dk_at dksX1_change_0 23 rfl rfl)
theorem dX1_change_24 : decode cX1_change 24 = .ok (.invokestatic 121, 3) := dk_184 0 121 (dk_at dksX1_change_1 0 rfl rfl)
theorem dX1_change_27 : decode cX1_change 27 = .ok (.return_, 1) := dk_177 (dk_at dksX1_change_1 3 rfl rfl)
abbrev cX1_exchange : ByteArray := prog_7_method_18_code
def yX1_exchange : MethodName := ⟨RX1, "exchange", "([III)V"⟩
def dkwX1_exchange_0 : List UInt8 := [42, 27, 46, 62, 42, 27, 42, 28, 46, 79, 42, 28, 29, 79, 177]
abbrev dktX1_exchange_0 : List UInt8 := dkwX1_exchange_0 ++ []
theorem dksX1_exchange_0 : cX1_exchange.data.toList.drop 0 = dktX1_exchange_0 := by decide +kernel
theorem dX1_exchange_0 : decode cX1_exchange 0 = .ok (.aload_n 0, 1) := dk_42 (dk_at dksX1_exchange_0 0 rfl rfl)
theorem dX1_exchange_1 : decode cX1_exchange 1 = .ok (.iload_n 1, 1) := dk_27 (dk_at dksX1_exchange_0 1 rfl rfl)
theorem dX1_exchange_2 : decode cX1_exchange 2 = .ok (.iaload, 1) := dk_46 (dk_at dksX1_exchange_0 2 rfl rfl)
theorem dX1_exchange_3 : decode cX1_exchange 3 = .ok (.istore_n 3, 1) := dk_62 (dk_at dksX1_exchange_0 3 rfl rfl)
theorem dX1_exchange_4 : decode cX1_exchange 4 = .ok (.aload_n 0, 1) := dk_42 (dk_at dksX1_exchange_0 4 rfl rfl)
theorem dX1_exchange_5 : decode cX1_exchange 5 = .ok (.iload_n 1, 1) := dk_27 (dk_at dksX1_exchange_0 5 rfl rfl)
theorem dX1_exchange_6 : decode cX1_exchange 6 = .ok (.aload_n 0, 1) := dk_42 (dk_at dksX1_exchange_0 6 rfl rfl)
theorem dX1_exchange_7 : decode cX1_exchange 7 = .ok (.iload_n 2, 1) := dk_28 (dk_at dksX1_exchange_0 7 rfl rfl)
theorem dX1_exchange_8 : decode cX1_exchange 8 = .ok (.iaload, 1) := dk_46 (dk_at dksX1_exchange_0 8 rfl rfl)
theorem dX1_exchange_9 : decode cX1_exchange 9 = .ok (.iastore, 1) := dk_79 (dk_at dksX1_exchange_0 9 rfl rfl)
theorem dX1_exchange_10 : decode cX1_exchange 10 = .ok (.aload_n 0, 1) := dk_42 (dk_at dksX1_exchange_0 10 rfl rfl)
theorem dX1_exchange_11 : decode cX1_exchange 11 = .ok (.iload_n 2, 1) := dk_28 (dk_at dksX1_exchange_0 11 rfl rfl)
theorem dX1_exchange_12 : decode cX1_exchange 12 = .ok (.iload_n 3, 1) := dk_29 (dk_at dksX1_exchange_0 12 rfl rfl)
theorem dX1_exchange_13 : decode cX1_exchange 13 = .ok (.iastore, 1) := dk_79 (dk_at dksX1_exchange_0 13 rfl rfl)
theorem dX1_exchange_14 : decode cX1_exchange 14 = .ok (.return_, 1) := dk_177 (dk_at dksX1_exchange_0 14 rfl rfl)
abbrev cX1_allLegs : ByteArray := prog_7_method_14_code
def yX1_allLegs : MethodName := ⟨RX1, "allLegs", "()I"⟩
def dkwX1_allLegs_1 : List UInt8 := [167, 255, 236, 27, 172]
abbrev dktX1_allLegs_1 : List UInt8 := dkwX1_allLegs_1 ++ []
def dkwX1_allLegs_0 : List UInt8 := [3, 60, 3, 61, 28, 42, 182, 0, 87, 162, 0, 18, 27, 42, 180, 0, 18, 28, 46, 96, 60, 132, 2, 1]
abbrev dktX1_allLegs_0 : List UInt8 := dkwX1_allLegs_0 ++ dktX1_allLegs_1
theorem dksX1_allLegs_0 : cX1_allLegs.data.toList.drop 0 = dktX1_allLegs_0 := by decide +kernel
theorem dksX1_allLegs_1 : cX1_allLegs.data.toList.drop 24 = dktX1_allLegs_1 := dk_seg dksX1_allLegs_0 24 rfl rfl
theorem dX1_allLegs_0 : decode cX1_allLegs 0 = .ok (.iconst 0, 1) := dk_3 (dk_at dksX1_allLegs_0 0 rfl rfl)
theorem dX1_allLegs_1 : decode cX1_allLegs 1 = .ok (.istore_n 1, 1) := dk_60 (dk_at dksX1_allLegs_0 1 rfl rfl)
theorem dX1_allLegs_2 : decode cX1_allLegs 2 = .ok (.iconst 0, 1) := dk_3 (dk_at dksX1_allLegs_0 2 rfl rfl)
theorem dX1_allLegs_3 : decode cX1_allLegs 3 = .ok (.istore_n 2, 1) := dk_61 (dk_at dksX1_allLegs_0 3 rfl rfl)
theorem dX1_allLegs_4 : decode cX1_allLegs 4 = .ok (.iload_n 2, 1) := dk_28 (dk_at dksX1_allLegs_0 4 rfl rfl)
theorem dX1_allLegs_5 : decode cX1_allLegs 5 = .ok (.aload_n 0, 1) := dk_42 (dk_at dksX1_allLegs_0 5 rfl rfl)
theorem dX1_allLegs_6 : decode cX1_allLegs 6 = .ok (.invokevirtual 87, 3) := dk_182 0 87 (dk_at dksX1_allLegs_0 6 rfl rfl)
theorem dX1_allLegs_9 : decode cX1_allLegs 9 = .ok (.if_icmp .ge 18, 3) := dk_162 0 18 (dk_at dksX1_allLegs_0 9 rfl rfl)
theorem dX1_allLegs_12 : decode cX1_allLegs 12 = .ok (.iload_n 1, 1) := dk_27 (dk_at dksX1_allLegs_0 12 rfl rfl)
theorem dX1_allLegs_13 : decode cX1_allLegs 13 = .ok (.aload_n 0, 1) := dk_42 (dk_at dksX1_allLegs_0 13 rfl rfl)
theorem dX1_allLegs_14 : decode cX1_allLegs 14 = .ok (.getfield 18, 3) := dk_180 0 18 (dk_at dksX1_allLegs_0 14 rfl rfl)
theorem dX1_allLegs_17 : decode cX1_allLegs 17 = .ok (.iload_n 2, 1) := dk_28 (dk_at dksX1_allLegs_0 17 rfl rfl)
theorem dX1_allLegs_18 : decode cX1_allLegs 18 = .ok (.iaload, 1) := dk_46 (dk_at dksX1_allLegs_0 18 rfl rfl)
theorem dX1_allLegs_19 : decode cX1_allLegs 19 = .ok (.iadd, 1) := dk_96 (dk_at dksX1_allLegs_0 19 rfl rfl)
theorem dX1_allLegs_20 : decode cX1_allLegs 20 = .ok (.istore_n 1, 1) := dk_60 (dk_at dksX1_allLegs_0 20 rfl rfl)
theorem dX1_allLegs_21 : decode cX1_allLegs 21 = .ok (.iinc 2 1, 3) := dk_132 2 1 (dk_at dksX1_allLegs_0 21 rfl rfl)
theorem dX1_allLegs_24 : decode cX1_allLegs 24 = .ok (.goto (-20), 3) := dk_167 255 236 (dk_at dksX1_allLegs_1 0 rfl rfl)
theorem dX1_allLegs_27 : decode cX1_allLegs 27 = .ok (.iload_n 1, 1) := dk_27 (dk_at dksX1_allLegs_1 3 rfl rfl)
theorem dX1_allLegs_28 : decode cX1_allLegs 28 = .ok (.ireturn, 1) := dk_172 (dk_at dksX1_allLegs_1 4 rfl rfl)
abbrev cX1_allHigh : ByteArray := prog_7_method_15_code
def yX1_allHigh : MethodName := ⟨RX1, "allHigh", "(I)I"⟩
def dkwX1_allHigh_1 : List UInt8 := [182, 0, 84, 167, 0, 4, 3, 96, 61, 132, 3, 1, 167, 255, 224, 28, 172]
abbrev dktX1_allHigh_1 : List UInt8 := dkwX1_allHigh_1 ++ []
def dkwX1_allHigh_0 : List UInt8 := [3, 61, 3, 62, 29, 42, 182, 0, 87, 162, 0, 30, 28, 27, 29, 122, 4, 126, 4, 160, 0, 11, 42, 29]
abbrev dktX1_allHigh_0 : List UInt8 := dkwX1_allHigh_0 ++ dktX1_allHigh_1
theorem dksX1_allHigh_0 : cX1_allHigh.data.toList.drop 0 = dktX1_allHigh_0 := by decide +kernel
theorem dksX1_allHigh_1 : cX1_allHigh.data.toList.drop 24 = dktX1_allHigh_1 := dk_seg dksX1_allHigh_0 24 rfl rfl
theorem dX1_allHigh_0 : decode cX1_allHigh 0 = .ok (.iconst 0, 1) := dk_3 (dk_at dksX1_allHigh_0 0 rfl rfl)
theorem dX1_allHigh_1 : decode cX1_allHigh 1 = .ok (.istore_n 2, 1) := dk_61 (dk_at dksX1_allHigh_0 1 rfl rfl)
theorem dX1_allHigh_2 : decode cX1_allHigh 2 = .ok (.iconst 0, 1) := dk_3 (dk_at dksX1_allHigh_0 2 rfl rfl)
theorem dX1_allHigh_3 : decode cX1_allHigh 3 = .ok (.istore_n 3, 1) := dk_62 (dk_at dksX1_allHigh_0 3 rfl rfl)
theorem dX1_allHigh_4 : decode cX1_allHigh 4 = .ok (.iload_n 3, 1) := dk_29 (dk_at dksX1_allHigh_0 4 rfl rfl)
theorem dX1_allHigh_5 : decode cX1_allHigh 5 = .ok (.aload_n 0, 1) := dk_42 (dk_at dksX1_allHigh_0 5 rfl rfl)
theorem dX1_allHigh_6 : decode cX1_allHigh 6 = .ok (.invokevirtual 87, 3) := dk_182 0 87 (dk_at dksX1_allHigh_0 6 rfl rfl)
theorem dX1_allHigh_9 : decode cX1_allHigh 9 = .ok (.if_icmp .ge 30, 3) := dk_162 0 30 (dk_at dksX1_allHigh_0 9 rfl rfl)
theorem dX1_allHigh_12 : decode cX1_allHigh 12 = .ok (.iload_n 2, 1) := dk_28 (dk_at dksX1_allHigh_0 12 rfl rfl)
theorem dX1_allHigh_13 : decode cX1_allHigh 13 = .ok (.iload_n 1, 1) := dk_27 (dk_at dksX1_allHigh_0 13 rfl rfl)
theorem dX1_allHigh_14 : decode cX1_allHigh 14 = .ok (.iload_n 3, 1) := dk_29 (dk_at dksX1_allHigh_0 14 rfl rfl)
theorem dX1_allHigh_15 : decode cX1_allHigh 15 = .ok (.ishr, 1) := dk_122 (dk_at dksX1_allHigh_0 15 rfl rfl)
theorem dX1_allHigh_16 : decode cX1_allHigh 16 = .ok (.iconst 1, 1) := dk_4 (dk_at dksX1_allHigh_0 16 rfl rfl)
theorem dX1_allHigh_17 : decode cX1_allHigh 17 = .ok (.iand, 1) := dk_126 (dk_at dksX1_allHigh_0 17 rfl rfl)
theorem dX1_allHigh_18 : decode cX1_allHigh 18 = .ok (.iconst 1, 1) := dk_4 (dk_at dksX1_allHigh_0 18 rfl rfl)
theorem dX1_allHigh_19 : decode cX1_allHigh 19 = .ok (.if_icmp .ne 11, 3) := dk_160 0 11 (dk_at dksX1_allHigh_0 19 rfl rfl)
theorem dX1_allHigh_22 : decode cX1_allHigh 22 = .ok (.aload_n 0, 1) := dk_42 (dk_at dksX1_allHigh_0 22 rfl rfl)
theorem dX1_allHigh_23 : decode cX1_allHigh 23 = .ok (.iload_n 3, 1) := dk_29 (dk_at dksX1_allHigh_0 23 rfl rfl)
theorem dX1_allHigh_24 : decode cX1_allHigh 24 = .ok (.invokevirtual 84, 3) := dk_182 0 84 (dk_at dksX1_allHigh_1 0 rfl rfl)
theorem dX1_allHigh_27 : decode cX1_allHigh 27 = .ok (.goto 4, 3) := dk_167 0 4 (dk_at dksX1_allHigh_1 3 rfl rfl)
theorem dX1_allHigh_30 : decode cX1_allHigh 30 = .ok (.iconst 0, 1) := dk_3 (dk_at dksX1_allHigh_1 6 rfl rfl)
theorem dX1_allHigh_31 : decode cX1_allHigh 31 = .ok (.iadd, 1) := dk_96 (dk_at dksX1_allHigh_1 7 rfl rfl)
theorem dX1_allHigh_32 : decode cX1_allHigh 32 = .ok (.istore_n 2, 1) := dk_61 (dk_at dksX1_allHigh_1 8 rfl rfl)
theorem dX1_allHigh_33 : decode cX1_allHigh 33 = .ok (.iinc 3 1, 3) := dk_132 3 1 (dk_at dksX1_allHigh_1 9 rfl rfl)
theorem dX1_allHigh_36 : decode cX1_allHigh 36 = .ok (.goto (-32), 3) := dk_167 255 224 (dk_at dksX1_allHigh_1 12 rfl rfl)
theorem dX1_allHigh_39 : decode cX1_allHigh 39 = .ok (.iload_n 2, 1) := dk_28 (dk_at dksX1_allHigh_1 15 rfl rfl)
theorem dX1_allHigh_40 : decode cX1_allHigh 40 = .ok (.ireturn, 1) := dk_172 (dk_at dksX1_allHigh_1 16 rfl rfl)
abbrev cX1_allCaught : ByteArray := prog_7_method_16_code
def yX1_allCaught : MethodName := ⟨RX1, "allCaught", "()I"⟩
def dkwX1_allCaught_1 : List UInt8 := [167, 255, 236, 27, 172]
abbrev dktX1_allCaught_1 : List UInt8 := dkwX1_allCaught_1 ++ []
def dkwX1_allCaught_0 : List UInt8 := [3, 60, 3, 61, 28, 42, 182, 0, 87, 162, 0, 18, 27, 42, 180, 0, 31, 28, 46, 96, 60, 132, 2, 1]
abbrev dktX1_allCaught_0 : List UInt8 := dkwX1_allCaught_0 ++ dktX1_allCaught_1
theorem dksX1_allCaught_0 : cX1_allCaught.data.toList.drop 0 = dktX1_allCaught_0 := by decide +kernel
theorem dksX1_allCaught_1 : cX1_allCaught.data.toList.drop 24 = dktX1_allCaught_1 := dk_seg dksX1_allCaught_0 24 rfl rfl
theorem dX1_allCaught_0 : decode cX1_allCaught 0 = .ok (.iconst 0, 1) := dk_3 (dk_at dksX1_allCaught_0 0 rfl rfl)
theorem dX1_allCaught_1 : decode cX1_allCaught 1 = .ok (.istore_n 1, 1) := dk_60 (dk_at dksX1_allCaught_0 1 rfl rfl)
theorem dX1_allCaught_2 : decode cX1_allCaught 2 = .ok (.iconst 0, 1) := dk_3 (dk_at dksX1_allCaught_0 2 rfl rfl)
theorem dX1_allCaught_3 : decode cX1_allCaught 3 = .ok (.istore_n 2, 1) := dk_61 (dk_at dksX1_allCaught_0 3 rfl rfl)
theorem dX1_allCaught_4 : decode cX1_allCaught 4 = .ok (.iload_n 2, 1) := dk_28 (dk_at dksX1_allCaught_0 4 rfl rfl)
theorem dX1_allCaught_5 : decode cX1_allCaught 5 = .ok (.aload_n 0, 1) := dk_42 (dk_at dksX1_allCaught_0 5 rfl rfl)
theorem dX1_allCaught_6 : decode cX1_allCaught 6 = .ok (.invokevirtual 87, 3) := dk_182 0 87 (dk_at dksX1_allCaught_0 6 rfl rfl)
theorem dX1_allCaught_9 : decode cX1_allCaught 9 = .ok (.if_icmp .ge 18, 3) := dk_162 0 18 (dk_at dksX1_allCaught_0 9 rfl rfl)
theorem dX1_allCaught_12 : decode cX1_allCaught 12 = .ok (.iload_n 1, 1) := dk_27 (dk_at dksX1_allCaught_0 12 rfl rfl)
theorem dX1_allCaught_13 : decode cX1_allCaught 13 = .ok (.aload_n 0, 1) := dk_42 (dk_at dksX1_allCaught_0 13 rfl rfl)
theorem dX1_allCaught_14 : decode cX1_allCaught 14 = .ok (.getfield 31, 3) := dk_180 0 31 (dk_at dksX1_allCaught_0 14 rfl rfl)
theorem dX1_allCaught_17 : decode cX1_allCaught 17 = .ok (.iload_n 2, 1) := dk_28 (dk_at dksX1_allCaught_0 17 rfl rfl)
theorem dX1_allCaught_18 : decode cX1_allCaught 18 = .ok (.iaload, 1) := dk_46 (dk_at dksX1_allCaught_0 18 rfl rfl)
theorem dX1_allCaught_19 : decode cX1_allCaught 19 = .ok (.iadd, 1) := dk_96 (dk_at dksX1_allCaught_0 19 rfl rfl)
theorem dX1_allCaught_20 : decode cX1_allCaught 20 = .ok (.istore_n 1, 1) := dk_60 (dk_at dksX1_allCaught_0 20 rfl rfl)
theorem dX1_allCaught_21 : decode cX1_allCaught 21 = .ok (.iinc 2 1, 3) := dk_132 2 1 (dk_at dksX1_allCaught_0 21 rfl rfl)
theorem dX1_allCaught_24 : decode cX1_allCaught 24 = .ok (.goto (-20), 3) := dk_167 255 236 (dk_at dksX1_allCaught_1 0 rfl rfl)
theorem dX1_allCaught_27 : decode cX1_allCaught 27 = .ok (.iload_n 1, 1) := dk_27 (dk_at dksX1_allCaught_1 3 rfl rfl)
theorem dX1_allCaught_28 : decode cX1_allCaught 28 = .ok (.ireturn, 1) := dk_172 (dk_at dksX1_allCaught_1 4 rfl rfl)
theorem q69 : (Jvm.Cond.initialized "ChairRanks$Ministry") ∈ lw_all := lw_g (lw_at lw_m1 2 rfl) rfl
theorem q112 : (Jvm.Cond.instantiable "ChairRanks$Ministry" (13 : Nat)) ∈ lw_all := lw_g (lw_at lw_m1 45 rfl) rfl
theorem q114 : (Jvm.Cond.instanceMethod ({ cls := "ChairRanks$Ministry", name := "<init>", desc := "()V" } : Jvm.MethodName)) ∈ lw_all := lw_g (lw_at lw_m1 47 rfl) rfl
theorem q115 : (Jvm.Cond.code ({ cls := "ChairRanks$Ministry", name := "<init>", desc := "()V" } : Jvm.MethodName) prog_7_method_1_code (1 : Nat) (Option.none : Option Jvm.ClassFile.FieldType)) ∈ lw_all := lw_g (lw_at lw_m1 48 rfl) rfl
theorem q116 : (Jvm.Cond.methodLink "ChairRanks$Ministry" (3 : Nat) ({ cls := "java/lang/Object", name := "<init>", desc := "()V" } : Jvm.MethodName)) ∈ lw_all := lw_g (lw_at lw_m1 49 rfl) rfl
theorem q117 : (Jvm.Cond.classLink "ChairRanks$Ministry" (9 : Nat) "java/util/ArrayList") ∈ lw_all := lw_g (lw_at lw_m1 50 rfl) rfl
theorem q119 : (Jvm.Cond.methodLink "ChairRanks$Ministry" (11 : Nat) ({ cls := "java/util/ArrayList", name := "<init>", desc := "()V" } : Jvm.MethodName)) ∈ lw_all := lw_g (lw_at lw_m1 52 rfl) rfl
theorem q144 : (Jvm.Cond.constant "ChairRanks$Ministry" (37 : Nat) (-1000000 : Int32)) ∈ lw_all := lw_g (lw_at lw_m1 77 rfl) rfl
theorem q145 : (Jvm.Cond.fieldLink "ChairRanks$Ministry" (42 : Nat) "ChairRanks$Ministry" "watchmen" "I") ∈ lw_all := lw_g (lw_at lw_m1 78 rfl) rfl
theorem q148 : (Jvm.Cond.fieldLink "ChairRanks$Ministry" (45 : Nat) "ChairRanks$Ministry" "glue" "I") ∈ lw_all := lw_g (lw_at lw_m1 81 rfl) rfl
theorem q151 : (Jvm.Cond.fieldLink "ChairRanks$Ministry" (12 : Nat) "ChairRanks$Ministry" "chairs" "Ljava/util/List;") ∈ lw_all := lw_g (lw_at lw_m1 84 rfl) rfl
theorem q154 : (Jvm.Cond.fieldLink "ChairRanks$Ministry" (18 : Nat) "ChairRanks$Ministry" "leg" "[I") ∈ lw_all := lw_g (lw_at lw_m1 87 rfl) rfl
theorem q158 : (Jvm.Cond.fieldLink "ChairRanks$Ministry" (22 : Nat) "ChairRanks$Ministry" "cushions" "[I") ∈ lw_all := lw_g (lw_at lw_m1 91 rfl) rfl
theorem q161 : (Jvm.Cond.fieldLink "ChairRanks$Ministry" (25 : Nat) "ChairRanks$Ministry" "saw" "[I") ∈ lw_all := lw_g (lw_at lw_m1 94 rfl) rfl
theorem q164 : (Jvm.Cond.fieldLink "ChairRanks$Ministry" (28 : Nat) "ChairRanks$Ministry" "grudge" "[I") ∈ lw_all := lw_g (lw_at lw_m1 97 rfl) rfl
theorem q167 : (Jvm.Cond.fieldLink "ChairRanks$Ministry" (31 : Nat) "ChairRanks$Ministry" "caught" "[I") ∈ lw_all := lw_g (lw_at lw_m1 100 rfl) rfl
theorem q169 : (Jvm.Cond.fieldLink "ChairRanks$Ministry" (54 : Nat) "ChairRanks$Ministry" "watched" "I") ∈ lw_all := lw_g (lw_at lw_m1 102 rfl) rfl
theorem q171 : (Jvm.Cond.fieldLink "ChairRanks$Ministry" (57 : Nat) "ChairRanks$Ministry" "night" "I") ∈ lw_all := lw_g (lw_at lw_m1 104 rfl) rfl
theorem q173 : (Jvm.Cond.fieldLink "ChairRanks$Ministry" (34 : Nat) "ChairRanks$Ministry" "victims" "[I") ∈ lw_all := lw_g (lw_at lw_m1 106 rfl) rfl
theorem q174 : (Jvm.Cond.fieldLink "ChairRanks$Ministry" (38 : Nat) "ChairRanks$Ministry" "takenFor" "I") ∈ lw_all := lw_g (lw_at lw_m1 107 rfl) rfl
theorem q176 : (Jvm.Cond.fieldLink "ChairRanks$Ministry" (66 : Nat) "ChairRanks$Ministry" "taken" "LChairRanks$Chair;") ∈ lw_all := lw_g (lw_at lw_m1 109 rfl) rfl
theorem q178 : (Jvm.Cond.lays "ChairRanks$Ministry" "ChairRanks$Ministry" "watchmen" "I") ∈ lw_all := lw_g (lw_at lw_m1 111 rfl) rfl
theorem q179 : (Jvm.Cond.soleField "ChairRanks$Ministry" "watchmen") ∈ lw_all := lw_g (lw_at lw_m1 112 rfl) rfl
theorem q180 : (Jvm.Cond.lays "ChairRanks$Ministry" "ChairRanks$Ministry" "glue" "I") ∈ lw_all := lw_g (lw_at lw_m1 113 rfl) rfl
theorem q181 : (Jvm.Cond.soleField "ChairRanks$Ministry" "glue") ∈ lw_all := lw_g (lw_at lw_m1 114 rfl) rfl
theorem q182 : (Jvm.Cond.lays "ChairRanks$Ministry" "ChairRanks$Ministry" "chairs" "Ljava/util/List;") ∈ lw_all := lw_g (lw_at lw_m1 115 rfl) rfl
theorem q183 : (Jvm.Cond.soleField "ChairRanks$Ministry" "chairs") ∈ lw_all := lw_g (lw_at lw_m1 116 rfl) rfl
theorem q184 : (Jvm.Cond.laysFinal "ChairRanks$Ministry" "ChairRanks$Ministry" "leg" "[I") ∈ lw_all := lw_g (lw_at lw_m1 117 rfl) rfl
theorem q185 : (Jvm.Cond.soleField "ChairRanks$Ministry" "leg") ∈ lw_all := lw_g (lw_at lw_m1 118 rfl) rfl
theorem q186 : (Jvm.Cond.laysFinal "ChairRanks$Ministry" "ChairRanks$Ministry" "cushions" "[I") ∈ lw_all := lw_g (lw_at lw_m1 119 rfl) rfl
theorem q187 : (Jvm.Cond.soleField "ChairRanks$Ministry" "cushions") ∈ lw_all := lw_g (lw_at lw_m1 120 rfl) rfl
theorem q188 : (Jvm.Cond.laysFinal "ChairRanks$Ministry" "ChairRanks$Ministry" "saw" "[I") ∈ lw_all := lw_g (lw_at lw_m1 121 rfl) rfl
theorem q189 : (Jvm.Cond.soleField "ChairRanks$Ministry" "saw") ∈ lw_all := lw_g (lw_at lw_m1 122 rfl) rfl
theorem q190 : (Jvm.Cond.laysFinal "ChairRanks$Ministry" "ChairRanks$Ministry" "grudge" "[I") ∈ lw_all := lw_g (lw_at lw_m1 123 rfl) rfl
theorem q191 : (Jvm.Cond.soleField "ChairRanks$Ministry" "grudge") ∈ lw_all := lw_g (lw_at lw_m1 124 rfl) rfl
theorem q192 : (Jvm.Cond.laysFinal "ChairRanks$Ministry" "ChairRanks$Ministry" "caught" "[I") ∈ lw_all := lw_g (lw_at lw_m1 125 rfl) rfl
theorem q193 : (Jvm.Cond.soleField "ChairRanks$Ministry" "caught") ∈ lw_all := lw_g (lw_at lw_m1 126 rfl) rfl
theorem q194 : (Jvm.Cond.lays "ChairRanks$Ministry" "ChairRanks$Ministry" "watched" "I") ∈ lw_all := lw_g (lw_at lw_m1 127 rfl) rfl
theorem q195 : (Jvm.Cond.soleField "ChairRanks$Ministry" "watched") ∈ lw_all := lw_g (lw_at lw_m1 128 rfl) rfl
theorem q196 : (Jvm.Cond.lays "ChairRanks$Ministry" "ChairRanks$Ministry" "night" "I") ∈ lw_all := lw_g (lw_at lw_m1 129 rfl) rfl
theorem q197 : (Jvm.Cond.soleField "ChairRanks$Ministry" "night") ∈ lw_all := lw_g (lw_at lw_m1 130 rfl) rfl
theorem q198 : (Jvm.Cond.laysFinal "ChairRanks$Ministry" "ChairRanks$Ministry" "victims" "[I") ∈ lw_all := lw_g (lw_at lw_m1 131 rfl) rfl
theorem q199 : (Jvm.Cond.soleField "ChairRanks$Ministry" "victims") ∈ lw_all := lw_g (lw_at lw_m1 132 rfl) rfl
theorem q200 : (Jvm.Cond.lays "ChairRanks$Ministry" "ChairRanks$Ministry" "takenFor" "I") ∈ lw_all := lw_g (lw_at lw_m1 133 rfl) rfl
theorem q201 : (Jvm.Cond.soleField "ChairRanks$Ministry" "takenFor") ∈ lw_all := lw_g (lw_at lw_m1 134 rfl) rfl
theorem q202 : (Jvm.Cond.lays "ChairRanks$Ministry" "ChairRanks$Ministry" "taken" "LChairRanks$Chair;") ∈ lw_all := lw_g (lw_at lw_m1 135 rfl) rfl
theorem q203 : (Jvm.Cond.soleField "ChairRanks$Ministry" "taken") ∈ lw_all := lw_g (lw_at lw_m1 136 rfl) rfl
theorem q204 : (Jvm.Cond.superclass "ChairRanks$Ministry" "java/lang/Object") ∈ lw_all := lw_g (lw_at lw_m1 137 rfl) rfl
theorem q632 : (Jvm.Cond.instanceMethod ({ cls := "ChairRanks$Ministry", name := "many", desc := "()I" } : Jvm.MethodName)) ∈ lw_all := lw_g (lw_at lw_m3 85 rfl) rfl
theorem q633 : (Jvm.Cond.selects "ChairRanks$Ministry" ({ cls := "ChairRanks$Ministry", name := "many", desc := "()I" } : Jvm.MethodName) ({ cls := "ChairRanks$Ministry", name := "many", desc := "()I" } : Jvm.MethodName)) ∈ lw_all := lw_g (lw_at lw_m3 86 rfl) rfl
theorem q634 : (Jvm.Cond.code ({ cls := "ChairRanks$Ministry", name := "many", desc := "()I" } : Jvm.MethodName) prog_7_method_3_code (1 : Nat) (Option.some Jvm.ClassFile.FieldType.int)) ∈ lw_all := lw_g (lw_at lw_m3 87 rfl) rfl
theorem q635 : (Jvm.Cond.interfaceEntry "ChairRanks$Ministry" (60 : Nat)) ∈ lw_tbl := lw_at lw_m3 88 rfl
theorem q636 : (Jvm.Cond.methodLink "ChairRanks$Ministry" (60 : Nat) ({ cls := "java/util/List", name := "size", desc := "()I" } : Jvm.MethodName)) ∈ lw_all := lw_g (lw_at lw_m3 89 rfl) rfl
theorem q693 : (Jvm.Cond.selects "ChairRanks$Ministry" ({ cls := "java/lang/Object", name := "getClass", desc := "()Ljava/lang/Class;" } : Jvm.MethodName) ({ cls := "java/lang/Object", name := "getClass", desc := "()Ljava/lang/Class;" } : Jvm.MethodName)) ∈ lw_all := lw_g (lw_at lw_m3 146 rfl) rfl
theorem q720 : (Jvm.Cond.instanceMethod ({ cls := "ChairRanks$Ministry", name := "become", desc := "(LChairRanks$Ministry;)LChairRanks$Ministry;" } : Jvm.MethodName)) ∈ lw_all := lw_g (lw_at lw_m3 173 rfl) rfl
theorem q721 : (Jvm.Cond.selects "ChairRanks$Ministry" ({ cls := "ChairRanks$Ministry", name := "become", desc := "(LChairRanks$Ministry;)LChairRanks$Ministry;" } : Jvm.MethodName) ({ cls := "ChairRanks$Ministry", name := "become", desc := "(LChairRanks$Ministry;)LChairRanks$Ministry;" } : Jvm.MethodName)) ∈ lw_all := lw_g (lw_at lw_m3 174 rfl) rfl
theorem q722 : (Jvm.Cond.code ({ cls := "ChairRanks$Ministry", name := "become", desc := "(LChairRanks$Ministry;)LChairRanks$Ministry;" } : Jvm.MethodName) prog_7_method_2_code (2 : Nat) (Option.some (Jvm.ClassFile.FieldType.object "ChairRanks$Ministry"))) ∈ lw_all := lw_g (lw_at lw_m3 175 rfl) rfl
theorem q723 : (Jvm.Cond.methodLink "ChairRanks$Ministry" (48 : Nat) ({ cls := "java/lang/System", name := "arraycopy", desc := "(Ljava/lang/Object;ILjava/lang/Object;II)V" } : Jvm.MethodName)) ∈ lw_all := lw_g (lw_at lw_m3 176 rfl) rfl
theorem q748 : (Jvm.Cond.instanceMethod ({ cls := "ChairRanks$Ministry", name := "pass", desc := "()LChairRanks$Ministry;" } : Jvm.MethodName)) ∈ lw_all := lw_g (lw_at lw_m3 201 rfl) rfl
theorem q749 : (Jvm.Cond.selects "ChairRanks$Ministry" ({ cls := "ChairRanks$Ministry", name := "pass", desc := "()LChairRanks$Ministry;" } : Jvm.MethodName) ({ cls := "ChairRanks$Ministry", name := "pass", desc := "()LChairRanks$Ministry;" } : Jvm.MethodName)) ∈ lw_all := lw_g (lw_at lw_m3 202 rfl) rfl
theorem q750 : (Jvm.Cond.code ({ cls := "ChairRanks$Ministry", name := "pass", desc := "()LChairRanks$Ministry;" } : Jvm.MethodName) prog_7_method_12_code (3 : Nat) (Option.some (Jvm.ClassFile.FieldType.object "ChairRanks$Ministry"))) ∈ lw_all := lw_g (lw_at lw_m3 203 rfl) rfl
theorem q751 : (Jvm.Cond.methodLink "ChairRanks$Ministry" (87 : Nat) ({ cls := "ChairRanks$Ministry", name := "many", desc := "()I" } : Jvm.MethodName)) ∈ lw_all := lw_g (lw_at lw_m3 204 rfl) rfl
theorem q752 : (Jvm.Cond.methodLink "ChairRanks$Ministry" (103 : Nat) ({ cls := "ChairRanks$Ministry", name := "victim", desc := "(I)I" } : Jvm.MethodName)) ∈ lw_all := lw_g (lw_at lw_m3 205 rfl) rfl
theorem q753 : (Jvm.Cond.instanceMethod ({ cls := "ChairRanks$Ministry", name := "victim", desc := "(I)I" } : Jvm.MethodName)) ∈ lw_all := lw_g (lw_at lw_m3 206 rfl) rfl
theorem q754 : (Jvm.Cond.selects "ChairRanks$Ministry" ({ cls := "ChairRanks$Ministry", name := "victim", desc := "(I)I" } : Jvm.MethodName) ({ cls := "ChairRanks$Ministry", name := "victim", desc := "(I)I" } : Jvm.MethodName)) ∈ lw_all := lw_g (lw_at lw_m3 207 rfl) rfl
theorem q755 : (Jvm.Cond.code ({ cls := "ChairRanks$Ministry", name := "victim", desc := "(I)I" } : Jvm.MethodName) prog_7_method_10_code (2 : Nat) (Option.some Jvm.ClassFile.FieldType.int)) ∈ lw_all := lw_g (lw_at lw_m3 208 rfl) rfl
theorem q756 : (Jvm.Cond.methodLink "ChairRanks$Ministry" (100 : Nat) ({ cls := "ChairRanks$Ministry", name := "grudged", desc := "(I)I" } : Jvm.MethodName)) ∈ lw_all := lw_g (lw_at lw_m3 209 rfl) rfl
theorem q757 : (Jvm.Cond.privateMethod ({ cls := "ChairRanks$Ministry", name := "grudged", desc := "(I)I" } : Jvm.MethodName)) ∈ lw_tbl := lw_at lw_m3 210 rfl
theorem q758 : (Jvm.Cond.instanceMethod ({ cls := "ChairRanks$Ministry", name := "grudged", desc := "(I)I" } : Jvm.MethodName)) ∈ lw_all := lw_g (lw_at lw_m3 211 rfl) rfl
theorem q759 : (Jvm.Cond.code ({ cls := "ChairRanks$Ministry", name := "grudged", desc := "(I)I" } : Jvm.MethodName) prog_7_method_9_code (3 : Nat) (Option.some Jvm.ClassFile.FieldType.int)) ∈ lw_all := lw_g (lw_at lw_m3 212 rfl) rfl
theorem q760 : (Jvm.Cond.methodLink "ChairRanks$Ministry" (94 : Nat) ({ cls := "ChairRanks$Ministry", name := "rank", desc := "(I)I" } : Jvm.MethodName)) ∈ lw_all := lw_g (lw_at lw_m3 213 rfl) rfl
theorem q761 : (Jvm.Cond.instanceMethod ({ cls := "ChairRanks$Ministry", name := "rank", desc := "(I)I" } : Jvm.MethodName)) ∈ lw_all := lw_g (lw_at lw_m3 214 rfl) rfl
theorem q762 : (Jvm.Cond.selects "ChairRanks$Ministry" ({ cls := "ChairRanks$Ministry", name := "rank", desc := "(I)I" } : Jvm.MethodName) ({ cls := "ChairRanks$Ministry", name := "rank", desc := "(I)I" } : Jvm.MethodName)) ∈ lw_all := lw_g (lw_at lw_m3 215 rfl) rfl
theorem q763 : (Jvm.Cond.code ({ cls := "ChairRanks$Ministry", name := "rank", desc := "(I)I" } : Jvm.MethodName) prog_7_method_7_code (4 : Nat) (Option.some Jvm.ClassFile.FieldType.int)) ∈ lw_all := lw_g (lw_at lw_m3 216 rfl) rfl
theorem q764 : (Jvm.Cond.methodLink "ChairRanks$Ministry" (90 : Nat) ({ cls := "ChairRanks$Ministry", name := "isHigher", desc := "(II)Z" } : Jvm.MethodName)) ∈ lw_all := lw_g (lw_at lw_m3 217 rfl) rfl
theorem q765 : (Jvm.Cond.instanceMethod ({ cls := "ChairRanks$Ministry", name := "isHigher", desc := "(II)Z" } : Jvm.MethodName)) ∈ lw_all := lw_g (lw_at lw_m3 218 rfl) rfl
theorem q766 : (Jvm.Cond.selects "ChairRanks$Ministry" ({ cls := "ChairRanks$Ministry", name := "isHigher", desc := "(II)Z" } : Jvm.MethodName) ({ cls := "ChairRanks$Ministry", name := "isHigher", desc := "(II)Z" } : Jvm.MethodName)) ∈ lw_all := lw_g (lw_at lw_m3 219 rfl) rfl
theorem q767 : (Jvm.Cond.code ({ cls := "ChairRanks$Ministry", name := "isHigher", desc := "(II)Z" } : Jvm.MethodName) prog_7_method_6_code (3 : Nat) (Option.some Jvm.ClassFile.FieldType.boolean)) ∈ lw_all := lw_g (lw_at lw_m3 220 rfl) rfl
theorem q768 : (Jvm.Cond.methodLink "ChairRanks$Ministry" (84 : Nat) ({ cls := "ChairRanks$Ministry", name := "high", desc := "(I)I" } : Jvm.MethodName)) ∈ lw_all := lw_g (lw_at lw_m3 221 rfl) rfl
theorem q769 : (Jvm.Cond.instanceMethod ({ cls := "ChairRanks$Ministry", name := "high", desc := "(I)I" } : Jvm.MethodName)) ∈ lw_all := lw_g (lw_at lw_m3 222 rfl) rfl
theorem q770 : (Jvm.Cond.selects "ChairRanks$Ministry" ({ cls := "ChairRanks$Ministry", name := "high", desc := "(I)I" } : Jvm.MethodName) ({ cls := "ChairRanks$Ministry", name := "high", desc := "(I)I" } : Jvm.MethodName)) ∈ lw_all := lw_g (lw_at lw_m3 223 rfl) rfl
theorem q771 : (Jvm.Cond.code ({ cls := "ChairRanks$Ministry", name := "high", desc := "(I)I" } : Jvm.MethodName) prog_7_method_5_code (2 : Nat) (Option.some Jvm.ClassFile.FieldType.int)) ∈ lw_all := lw_g (lw_at lw_m3 224 rfl) rfl
theorem q772 : (Jvm.Cond.methodLink "ChairRanks$Ministry" (76 : Nat) ({ cls := "ChairRanks$Ministry", name := "chair", desc := "(I)LChairRanks$Chair;" } : Jvm.MethodName)) ∈ lw_all := lw_g (lw_at lw_m3 225 rfl) rfl
theorem q773 : (Jvm.Cond.instanceMethod ({ cls := "ChairRanks$Ministry", name := "chair", desc := "(I)LChairRanks$Chair;" } : Jvm.MethodName)) ∈ lw_all := lw_g (lw_at lw_m3 226 rfl) rfl
theorem q774 : (Jvm.Cond.selects "ChairRanks$Ministry" ({ cls := "ChairRanks$Ministry", name := "chair", desc := "(I)LChairRanks$Chair;" } : Jvm.MethodName) ({ cls := "ChairRanks$Ministry", name := "chair", desc := "(I)LChairRanks$Chair;" } : Jvm.MethodName)) ∈ lw_all := lw_g (lw_at lw_m3 227 rfl) rfl
theorem q775 : (Jvm.Cond.code ({ cls := "ChairRanks$Ministry", name := "chair", desc := "(I)LChairRanks$Chair;" } : Jvm.MethodName) prog_7_method_4_code (2 : Nat) (Option.some (Jvm.ClassFile.FieldType.object "ChairRanks$Chair"))) ∈ lw_all := lw_g (lw_at lw_m3 228 rfl) rfl
theorem q776 : (Jvm.Cond.interfaceEntry "ChairRanks$Ministry" (70 : Nat)) ∈ lw_tbl := lw_at lw_m3 229 rfl
theorem q777 : (Jvm.Cond.methodLink "ChairRanks$Ministry" (70 : Nat) ({ cls := "java/util/List", name := "get", desc := "(I)Ljava/lang/Object;" } : Jvm.MethodName)) ∈ lw_all := lw_g (lw_at lw_m3 230 rfl) rfl
theorem q793 : (Jvm.Cond.classLink "ChairRanks$Ministry" (74 : Nat) "ChairRanks$Chair") ∈ lw_all := lw_g (lw_at lw_m4 6 rfl) rfl
theorem q794 : (Jvm.Cond.methodLink "ChairRanks$Ministry" (80 : Nat) ({ cls := "ChairRanks$Chair", name := "high", desc := "(II)I" } : Jvm.MethodName)) ∈ lw_all := lw_g (lw_at lw_m4 7 rfl) rfl
theorem q815 : (Jvm.Cond.methodLink "ChairRanks$Ministry" (97 : Nat) ({ cls := "ChairRanks$Ministry", name := "ranked", desc := "(I)I" } : Jvm.MethodName)) ∈ lw_all := lw_g (lw_at lw_m4 28 rfl) rfl
theorem q816 : (Jvm.Cond.instanceMethod ({ cls := "ChairRanks$Ministry", name := "ranked", desc := "(I)I" } : Jvm.MethodName)) ∈ lw_all := lw_g (lw_at lw_m4 29 rfl) rfl
theorem q817 : (Jvm.Cond.selects "ChairRanks$Ministry" ({ cls := "ChairRanks$Ministry", name := "ranked", desc := "(I)I" } : Jvm.MethodName) ({ cls := "ChairRanks$Ministry", name := "ranked", desc := "(I)I" } : Jvm.MethodName)) ∈ lw_all := lw_g (lw_at lw_m4 30 rfl) rfl
theorem q818 : (Jvm.Cond.code ({ cls := "ChairRanks$Ministry", name := "ranked", desc := "(I)I" } : Jvm.MethodName) prog_7_method_8_code (3 : Nat) (Option.some Jvm.ClassFile.FieldType.int)) ∈ lw_all := lw_g (lw_at lw_m4 31 rfl) rfl
theorem q819 : (Jvm.Cond.methodLink "ChairRanks$Ministry" (106 : Nat) ({ cls := "ChairRanks$Ministry", name := "isWatched", desc := "(I)Z" } : Jvm.MethodName)) ∈ lw_all := lw_g (lw_at lw_m4 32 rfl) rfl
theorem q820 : (Jvm.Cond.instanceMethod ({ cls := "ChairRanks$Ministry", name := "isWatched", desc := "(I)Z" } : Jvm.MethodName)) ∈ lw_all := lw_g (lw_at lw_m4 33 rfl) rfl
theorem q821 : (Jvm.Cond.selects "ChairRanks$Ministry" ({ cls := "ChairRanks$Ministry", name := "isWatched", desc := "(I)Z" } : Jvm.MethodName) ({ cls := "ChairRanks$Ministry", name := "isWatched", desc := "(I)Z" } : Jvm.MethodName)) ∈ lw_all := lw_g (lw_at lw_m4 34 rfl) rfl
theorem q822 : (Jvm.Cond.code ({ cls := "ChairRanks$Ministry", name := "isWatched", desc := "(I)Z" } : Jvm.MethodName) prog_7_method_11_code (2 : Nat) (Option.some Jvm.ClassFile.FieldType.boolean)) ∈ lw_all := lw_g (lw_at lw_m4 35 rfl) rfl
theorem q823 : (Jvm.Cond.methodLink "ChairRanks$Ministry" (110 : Nat) ({ cls := "ChairRanks$Chair", name := "sawn", desc := "(I)I" } : Jvm.MethodName)) ∈ lw_all := lw_g (lw_at lw_m4 36 rfl) rfl
theorem q835 : (Jvm.Cond.methodLink "ChairRanks$Ministry" (113 : Nat) ({ cls := "java/lang/Math", name := "max", desc := "(II)I" } : Jvm.MethodName)) ∈ lw_all := lw_g (lw_at lw_m4 48 rfl) rfl
theorem q855 : (Jvm.Cond.instanceMethod ({ cls := "ChairRanks$Ministry", name := "mend", desc := "(I)I" } : Jvm.MethodName)) ∈ lw_all := lw_g (lw_at lw_m4 68 rfl) rfl
theorem q856 : (Jvm.Cond.selects "ChairRanks$Ministry" ({ cls := "ChairRanks$Ministry", name := "mend", desc := "(I)I" } : Jvm.MethodName) ({ cls := "ChairRanks$Ministry", name := "mend", desc := "(I)I" } : Jvm.MethodName)) ∈ lw_all := lw_g (lw_at lw_m4 69 rfl) rfl
theorem q857 : (Jvm.Cond.code ({ cls := "ChairRanks$Ministry", name := "mend", desc := "(I)I" } : Jvm.MethodName) prog_7_method_13_code (2 : Nat) (Option.some Jvm.ClassFile.FieldType.int)) ∈ lw_all := lw_g (lw_at lw_m4 70 rfl) rfl
theorem q858 : (Jvm.Cond.methodLink "ChairRanks$Ministry" (118 : Nat) ({ cls := "java/lang/Math", name := "min", desc := "(II)I" } : Jvm.MethodName)) ∈ lw_all := lw_g (lw_at lw_m4 71 rfl) rfl
theorem q877 : (Jvm.Cond.instanceMethod ({ cls := "ChairRanks$Ministry", name := "change", desc := "(II)V" } : Jvm.MethodName)) ∈ lw_all := lw_g (lw_at lw_m4 90 rfl) rfl
theorem q878 : (Jvm.Cond.selects "ChairRanks$Ministry" ({ cls := "ChairRanks$Ministry", name := "change", desc := "(II)V" } : Jvm.MethodName) ({ cls := "ChairRanks$Ministry", name := "change", desc := "(II)V" } : Jvm.MethodName)) ∈ lw_all := lw_g (lw_at lw_m4 91 rfl) rfl
theorem q879 : (Jvm.Cond.code ({ cls := "ChairRanks$Ministry", name := "change", desc := "(II)V" } : Jvm.MethodName) prog_7_method_17_code (3 : Nat) (Option.none : Option Jvm.ClassFile.FieldType)) ∈ lw_all := lw_g (lw_at lw_m4 92 rfl) rfl
theorem q880 : (Jvm.Cond.methodLink "ChairRanks$Ministry" (121 : Nat) ({ cls := "ChairRanks$Ministry", name := "exchange", desc := "([III)V" } : Jvm.MethodName)) ∈ lw_all := lw_g (lw_at lw_m4 93 rfl) rfl
theorem q881 : (Jvm.Cond.static ({ cls := "ChairRanks$Ministry", name := "exchange", desc := "([III)V" } : Jvm.MethodName)) ∈ lw_all := lw_g (lw_at lw_m4 94 rfl) rfl
theorem q882 : (Jvm.Cond.code ({ cls := "ChairRanks$Ministry", name := "exchange", desc := "([III)V" } : Jvm.MethodName) prog_7_method_18_code (4 : Nat) (Option.none : Option Jvm.ClassFile.FieldType)) ∈ lw_all := lw_g (lw_at lw_m4 95 rfl) rfl
theorem q937 : (Jvm.Cond.instanceMethod ({ cls := "ChairRanks$Ministry", name := "allLegs", desc := "()I" } : Jvm.MethodName)) ∈ lw_all := lw_g (lw_at lw_m4 150 rfl) rfl
theorem q938 : (Jvm.Cond.selects "ChairRanks$Ministry" ({ cls := "ChairRanks$Ministry", name := "allLegs", desc := "()I" } : Jvm.MethodName) ({ cls := "ChairRanks$Ministry", name := "allLegs", desc := "()I" } : Jvm.MethodName)) ∈ lw_all := lw_g (lw_at lw_m4 151 rfl) rfl
theorem q939 : (Jvm.Cond.code ({ cls := "ChairRanks$Ministry", name := "allLegs", desc := "()I" } : Jvm.MethodName) prog_7_method_14_code (3 : Nat) (Option.some Jvm.ClassFile.FieldType.int)) ∈ lw_all := lw_g (lw_at lw_m4 152 rfl) rfl
theorem q1011 : (Jvm.Cond.instanceMethod ({ cls := "ChairRanks$Ministry", name := "allHigh", desc := "(I)I" } : Jvm.MethodName)) ∈ lw_all := lw_g (lw_at lw_m4 224 rfl) rfl
theorem q1012 : (Jvm.Cond.selects "ChairRanks$Ministry" ({ cls := "ChairRanks$Ministry", name := "allHigh", desc := "(I)I" } : Jvm.MethodName) ({ cls := "ChairRanks$Ministry", name := "allHigh", desc := "(I)I" } : Jvm.MethodName)) ∈ lw_all := lw_g (lw_at lw_m4 225 rfl) rfl
theorem q1013 : (Jvm.Cond.code ({ cls := "ChairRanks$Ministry", name := "allHigh", desc := "(I)I" } : Jvm.MethodName) prog_7_method_15_code (4 : Nat) (Option.some Jvm.ClassFile.FieldType.int)) ∈ lw_all := lw_g (lw_at lw_m4 226 rfl) rfl
theorem q1217 : (Jvm.Cond.instanceMethod ({ cls := "ChairRanks$Ministry", name := "allCaught", desc := "()I" } : Jvm.MethodName)) ∈ lw_all := lw_g (lw_at lw_m5 190 rfl) rfl
theorem q1218 : (Jvm.Cond.selects "ChairRanks$Ministry" ({ cls := "ChairRanks$Ministry", name := "allCaught", desc := "()I" } : Jvm.MethodName) ({ cls := "ChairRanks$Ministry", name := "allCaught", desc := "()I" } : Jvm.MethodName)) ∈ lw_all := lw_g (lw_at lw_m5 191 rfl) rfl
theorem q1219 : (Jvm.Cond.code ({ cls := "ChairRanks$Ministry", name := "allCaught", desc := "()I" } : Jvm.MethodName) prog_7_method_16_code (3 : Nat) (Option.some Jvm.ClassFile.FieldType.int)) ∈ lw_all := lw_g (lw_at lw_m5 192 rfl) rfl
theorem q1688 : (Jvm.Cond.castable "ChairRanks$Ministry" "java/lang/Object") ∈ lw_tbl := lw_at lw_m7 181 rfl
theorem in_X1 : ∀ w ∈ wsX10, w ∈ lw_all := lw_in wsX10 [178, 180, 182, 184, 186, 188, 190, 192, 194, 196, 198, 200, 202] (by decide +kernel) (by decide +kernel)

/-! ChairRanks$Finding -/
set_option maxRecDepth 100000
def RX10 : String := "ChairRanks$Finding"
def TX10 : u_T := fun k => match k with
  | 0 => ("java/lang/Throwable", "cause", "Ljava/lang/Throwable;", false)
  | 1 => ("java/lang/Throwable", "stackTrace", "[Ljava/lang/StackTraceElement;", false)
  | 2 => ("java/lang/Throwable", "suppressedExceptions", "Ljava/util/List;", false)
  | 3 => ("java/lang/Throwable", "detailMessage", "Ljava/lang/String;", false)
  | 4 => ("java/lang/Throwable", "backtrace", "Ljava/lang/Object;", false)
  | 5 => ("java/lang/Throwable", "depth", "I", false)
  | _ => ("ChairRanks$Finding", "number", "I", true)
def tyX10 : Nat → FieldType := fun k => match k with
  | 0 => .object "java/lang/Throwable"
  | 1 => .array (.object "java/lang/StackTraceElement")
  | 2 => .object "java/util/List"
  | 3 => .object "java/lang/String"
  | 4 => .object "java/lang/Object"
  | 5 => .int
  | _ => .int
abbrev wsX100 : List Cond := u_ws RX10 TX10 7
theorem nmX10 : ∀ a, a < 7 → ∀ b, b < 7 → a ≠ b → (TX10 a).2.1 ≠ (TX10 b).2.1 := by decide +kernel
theorem tyX10_ok : ∀ k, k < 7 → parseFieldDescriptor (TX10 k).2.2.1 = some (tyX10 k) := by decide +kernel
abbrev cX10_init : ByteArray := prog_5_method_1_code
def yX10_init : MethodName := ⟨RX10, "<init>", "(I)V"⟩
def dkwX10_init_0 : List UInt8 := [42, 1, 1, 3, 3, 183, 0, 1, 42, 27, 181, 0, 7, 177]
abbrev dktX10_init_0 : List UInt8 := dkwX10_init_0 ++ []
theorem dksX10_init_0 : cX10_init.data.toList.drop 0 = dktX10_init_0 := by decide +kernel
theorem dX10_init_0 : decode cX10_init 0 = .ok (.aload_n 0, 1) := dk_42 (dk_at dksX10_init_0 0 rfl rfl)
theorem dX10_init_1 : decode cX10_init 1 = .ok (.aconst_null, 1) := dk_1 (dk_at dksX10_init_0 1 rfl rfl)
theorem dX10_init_2 : decode cX10_init 2 = .ok (.aconst_null, 1) := dk_1 (dk_at dksX10_init_0 2 rfl rfl)
theorem dX10_init_3 : decode cX10_init 3 = .ok (.iconst 0, 1) := dk_3 (dk_at dksX10_init_0 3 rfl rfl)
theorem dX10_init_4 : decode cX10_init 4 = .ok (.iconst 0, 1) := dk_3 (dk_at dksX10_init_0 4 rfl rfl)
theorem dX10_init_5 : decode cX10_init 5 = .ok (.invokespecial 1, 3) := dk_183 0 1 (dk_at dksX10_init_0 5 rfl rfl)
theorem dX10_init_8 : decode cX10_init 8 = .ok (.aload_n 0, 1) := dk_42 (dk_at dksX10_init_0 8 rfl rfl)
theorem dX10_init_9 : decode cX10_init 9 = .ok (.iload_n 1, 1) := dk_27 (dk_at dksX10_init_0 9 rfl rfl)
theorem dX10_init_10 : decode cX10_init 10 = .ok (.putfield 7, 3) := dk_181 0 7 (dk_at dksX10_init_0 10 rfl rfl)
theorem dX10_init_13 : decode cX10_init 13 = .ok (.return_, 1) := dk_177 (dk_at dksX10_init_0 13 rfl rfl)
theorem q83 : (Jvm.Cond.initialized "ChairRanks$Finding") ∈ lw_all := lw_g (lw_at lw_m1 16 rfl) rfl
theorem q323 : (Jvm.Cond.instantiable "ChairRanks$Finding" (7 : Nat)) ∈ lw_all := lw_g (lw_at lw_m2 16 rfl) rfl
theorem q324 : (Jvm.Cond.castable "ChairRanks$Finding" "ChairRanks$Finding") ∈ lw_tbl := lw_at lw_m2 17 rfl
theorem q329 : (Jvm.Cond.selects "ChairRanks$Finding" ({ cls := "java/lang/Throwable", name := "fillInStackTrace", desc := "(I)Ljava/lang/Throwable;" } : Jvm.MethodName) ({ cls := "java/lang/Throwable", name := "fillInStackTrace", desc := "(I)Ljava/lang/Throwable;" } : Jvm.MethodName)) ∈ lw_all := lw_g (lw_at lw_m2 22 rfl) rfl
theorem q330 : (Jvm.Cond.selects "ChairRanks$Finding" ({ cls := "java/lang/Throwable", name := "fillInStackTrace", desc := "()Ljava/lang/Throwable;" } : Jvm.MethodName) ({ cls := "java/lang/Throwable", name := "fillInStackTrace", desc := "()Ljava/lang/Throwable;" } : Jvm.MethodName)) ∈ lw_all := lw_g (lw_at lw_m2 23 rfl) rfl
theorem q331 : (Jvm.Cond.lays "ChairRanks$Finding" "java/lang/Throwable" "cause" "Ljava/lang/Throwable;") ∈ lw_all := lw_g (lw_at lw_m2 24 rfl) rfl
theorem q333 : (Jvm.Cond.lays "ChairRanks$Finding" "java/lang/Throwable" "stackTrace" "[Ljava/lang/StackTraceElement;") ∈ lw_all := lw_g (lw_at lw_m2 26 rfl) rfl
theorem q335 : (Jvm.Cond.lays "ChairRanks$Finding" "java/lang/Throwable" "suppressedExceptions" "Ljava/util/List;") ∈ lw_all := lw_g (lw_at lw_m2 28 rfl) rfl
theorem q337 : (Jvm.Cond.lays "ChairRanks$Finding" "java/lang/Throwable" "detailMessage" "Ljava/lang/String;") ∈ lw_all := lw_g (lw_at lw_m2 30 rfl) rfl
theorem q339 : (Jvm.Cond.lays "ChairRanks$Finding" "java/lang/Throwable" "backtrace" "Ljava/lang/Object;") ∈ lw_all := lw_g (lw_at lw_m2 32 rfl) rfl
theorem q363 : (Jvm.Cond.instanceMethod ({ cls := "ChairRanks$Finding", name := "<init>", desc := "(I)V" } : Jvm.MethodName)) ∈ lw_all := lw_g (lw_at lw_m2 56 rfl) rfl
theorem q364 : (Jvm.Cond.code ({ cls := "ChairRanks$Finding", name := "<init>", desc := "(I)V" } : Jvm.MethodName) prog_5_method_1_code (2 : Nat) (Option.none : Option Jvm.ClassFile.FieldType)) ∈ lw_all := lw_g (lw_at lw_m2 57 rfl) rfl
theorem q365 : (Jvm.Cond.methodLink "ChairRanks$Finding" (1 : Nat) ({ cls := "java/lang/Exception", name := "<init>", desc := "(Ljava/lang/String;Ljava/lang/Throwable;ZZ)V" } : Jvm.MethodName)) ∈ lw_all := lw_g (lw_at lw_m2 58 rfl) rfl
theorem q371 : (Jvm.Cond.fieldLink "ChairRanks$Finding" (7 : Nat) "ChairRanks$Finding" "number" "I") ∈ lw_all := lw_g (lw_at lw_m2 64 rfl) rfl
theorem q378 : (Jvm.Cond.laysFinal "ChairRanks$Finding" "ChairRanks$Finding" "number" "I") ∈ lw_all := lw_g (lw_at lw_m2 71 rfl) rfl
theorem q379 : (Jvm.Cond.soleField "ChairRanks$Finding" "number") ∈ lw_all := lw_g (lw_at lw_m2 72 rfl) rfl
theorem q384 : (Jvm.Cond.lays "ChairRanks$Finding" "java/lang/Throwable" "depth" "I") ∈ lw_all := lw_g (lw_at lw_m2 77 rfl) rfl
theorem q387 : (Jvm.Cond.superclass "ChairRanks$Finding" "java/lang/Exception") ∈ lw_all := lw_g (lw_at lw_m2 80 rfl) rfl
theorem q692 : (Jvm.Cond.selects "ChairRanks$Finding" ({ cls := "java/lang/Object", name := "getClass", desc := "()Ljava/lang/Class;" } : Jvm.MethodName) ({ cls := "java/lang/Object", name := "getClass", desc := "()Ljava/lang/Class;" } : Jvm.MethodName)) ∈ lw_all := lw_g (lw_at lw_m3 145 rfl) rfl
theorem q1699 : (Jvm.Cond.castable "ChairRanks$Finding" "java/lang/Object") ∈ lw_tbl := lw_at lw_m7 192 rfl
theorem in_X10 : ∀ w ∈ wsX100, w ∈ lw_all := lw_in wsX100 [331, 333, 335, 337, 339, 384, 378] (by decide +kernel) (by decide +kernel)

/-! ChairRanks$Row -/
set_option maxRecDepth 100000
def RX11 : String := "ChairRanks$Row"
def TX11 : u_T := fun k => match k with
  | 0 => ("ChairRanks$Row", "lane", "I", true)
  | _ => ("ChairRanks$Row", "items", "[I", true)
def tyX11 : Nat → FieldType := fun k => match k with
  | 0 => .int
  | _ => .array .int
abbrev wsX110 : List Cond := u_ws RX11 TX11 2
theorem nmX11 : ∀ a, a < 2 → ∀ b, b < 2 → a ≠ b → (TX11 a).2.1 ≠ (TX11 b).2.1 := by decide +kernel
theorem tyX11_ok : ∀ k, k < 2 → parseFieldDescriptor (TX11 k).2.2.1 = some (tyX11 k) := by decide +kernel
abbrev cX11_init : ByteArray := prog_12_method_1_code
def yX11_init : MethodName := ⟨RX11, "<init>", "(II)V"⟩
def dkwX11_init_0 : List UInt8 := [42, 183, 0, 3, 42, 27, 181, 0, 9, 42, 28, 188, 10, 181, 0, 15, 177]
abbrev dktX11_init_0 : List UInt8 := dkwX11_init_0 ++ []
theorem dksX11_init_0 : cX11_init.data.toList.drop 0 = dktX11_init_0 := by decide +kernel
theorem dX11_init_0 : decode cX11_init 0 = .ok (.aload_n 0, 1) := dk_42 (dk_at dksX11_init_0 0 rfl rfl)
theorem dX11_init_1 : decode cX11_init 1 = .ok (.invokespecial 3, 3) := dk_183 0 3 (dk_at dksX11_init_0 1 rfl rfl)
theorem dX11_init_4 : decode cX11_init 4 = .ok (.aload_n 0, 1) := dk_42 (dk_at dksX11_init_0 4 rfl rfl)
theorem dX11_init_5 : decode cX11_init 5 = .ok (.iload_n 1, 1) := dk_27 (dk_at dksX11_init_0 5 rfl rfl)
theorem dX11_init_6 : decode cX11_init 6 = .ok (.putfield 9, 3) := dk_181 0 9 (dk_at dksX11_init_0 6 rfl rfl)
theorem dX11_init_9 : decode cX11_init 9 = .ok (.aload_n 0, 1) := dk_42 (dk_at dksX11_init_0 9 rfl rfl)
theorem dX11_init_10 : decode cX11_init 10 = .ok (.iload_n 2, 1) := dk_28 (dk_at dksX11_init_0 10 rfl rfl)
theorem dX11_init_11 : decode cX11_init 11 = .ok (.newarray .int, 2) := dk_188_10 (dk_at dksX11_init_0 11 rfl rfl)
theorem dX11_init_13 : decode cX11_init 13 = .ok (.putfield 15, 3) := dk_181 0 15 (dk_at dksX11_init_0 13 rfl rfl)
theorem dX11_init_16 : decode cX11_init 16 = .ok (.return_, 1) := dk_177 (dk_at dksX11_init_0 16 rfl rfl)
abbrev cX11_cut : ByteArray := prog_12_method_2_code
def yX11_cut : MethodName := ⟨RX11, "cut", "(I)I"⟩
def dkwX11_cut_1 : List UInt8 := [167, 0, 4, 27, 172]
abbrev dktX11_cut_1 : List UInt8 := dkwX11_cut_1 ++ []
def dkwX11_cut_0 : List UInt8 := [42, 180, 0, 9, 154, 0, 8, 27, 145, 167, 0, 17, 42, 180, 0, 9, 4, 160, 0, 8, 27, 147]
abbrev dktX11_cut_0 : List UInt8 := dkwX11_cut_0 ++ dktX11_cut_1
theorem dksX11_cut_0 : cX11_cut.data.toList.drop 0 = dktX11_cut_0 := by decide +kernel
theorem dksX11_cut_1 : cX11_cut.data.toList.drop 22 = dktX11_cut_1 := dk_seg dksX11_cut_0 22 rfl rfl
theorem dX11_cut_0 : decode cX11_cut 0 = .ok (.aload_n 0, 1) := dk_42 (dk_at dksX11_cut_0 0 rfl rfl)
theorem dX11_cut_1 : decode cX11_cut 1 = .ok (.getfield 9, 3) := dk_180 0 9 (dk_at dksX11_cut_0 1 rfl rfl)
theorem dX11_cut_4 : decode cX11_cut 4 = .ok (.ifCond .ne 8, 3) := dk_154 0 8 (dk_at dksX11_cut_0 4 rfl rfl)
theorem dX11_cut_7 : decode cX11_cut 7 = .ok (.iload_n 1, 1) := dk_27 (dk_at dksX11_cut_0 7 rfl rfl)
theorem dX11_cut_8 : decode cX11_cut 8 = .ok (.i2b, 1) := dk_145 (dk_at dksX11_cut_0 8 rfl rfl)
theorem dX11_cut_9 : decode cX11_cut 9 = .ok (.goto 17, 3) := dk_167 0 17 (dk_at dksX11_cut_0 9 rfl rfl)
theorem dX11_cut_12 : decode cX11_cut 12 = .ok (.aload_n 0, 1) := dk_42 (dk_at dksX11_cut_0 12 rfl rfl)
theorem dX11_cut_13 : decode cX11_cut 13 = .ok (.getfield 9, 3) := dk_180 0 9 (dk_at dksX11_cut_0 13 rfl rfl)
theorem dX11_cut_16 : decode cX11_cut 16 = .ok (.iconst 1, 1) := dk_4 (dk_at dksX11_cut_0 16 rfl rfl)
theorem dX11_cut_17 : decode cX11_cut 17 = .ok (.if_icmp .ne 8, 3) := dk_160 0 8 (dk_at dksX11_cut_0 17 rfl rfl)
theorem dX11_cut_20 : decode cX11_cut 20 = .ok (.iload_n 1, 1) := dk_27 (dk_at dksX11_cut_0 20 rfl rfl)
theorem dX11_cut_21 : decode cX11_cut 21 = .ok (.i2s, 1) := dk_147 (dk_at dksX11_cut_0 21 rfl rfl)
theorem dX11_cut_22 : decode cX11_cut 22 = .ok (.goto 4, 3) := dk_167 0 4 (dk_at dksX11_cut_1 0 rfl rfl)
theorem dX11_cut_25 : decode cX11_cut 25 = .ok (.iload_n 1, 1) := dk_27 (dk_at dksX11_cut_1 3 rfl rfl)
theorem dX11_cut_26 : decode cX11_cut 26 = .ok (.ireturn, 1) := dk_172 (dk_at dksX11_cut_1 4 rfl rfl)
abbrev cX11_row : ByteArray := prog_12_method_3_code
def yX11_row : MethodName := ⟨RX11, "row", "(II)[I"⟩
def dkwX11_row_1 : List UInt8 := [5, 184, 0, 19, 28, 188, 10, 78, 42, 180, 0, 15, 27, 45, 3, 28, 184, 0, 23, 45, 176]
abbrev dktX11_row_1 : List UInt8 := dkwX11_row_1 ++ []
def dkwX11_row_0 : List UInt8 := [27, 155, 0, 22, 27, 133, 28, 133, 97, 42, 180, 0, 15, 190, 133, 148, 157, 0, 7, 4, 167, 0, 4, 3]
abbrev dktX11_row_0 : List UInt8 := dkwX11_row_0 ++ dktX11_row_1
theorem dksX11_row_0 : cX11_row.data.toList.drop 0 = dktX11_row_0 := by decide +kernel
theorem dksX11_row_1 : cX11_row.data.toList.drop 24 = dktX11_row_1 := dk_seg dksX11_row_0 24 rfl rfl
theorem dX11_row_0 : decode cX11_row 0 = .ok (.iload_n 1, 1) := dk_27 (dk_at dksX11_row_0 0 rfl rfl)
theorem dX11_row_1 : decode cX11_row 1 = .ok (.ifCond .lt 22, 3) := dk_155 0 22 (dk_at dksX11_row_0 1 rfl rfl)
theorem dX11_row_4 : decode cX11_row 4 = .ok (.iload_n 1, 1) := dk_27 (dk_at dksX11_row_0 4 rfl rfl)
theorem dX11_row_5 : decode cX11_row 5 = .ok (.i2l, 1) := dk_133 (dk_at dksX11_row_0 5 rfl rfl)
theorem dX11_row_6 : decode cX11_row 6 = .ok (.iload_n 2, 1) := dk_28 (dk_at dksX11_row_0 6 rfl rfl)
theorem dX11_row_7 : decode cX11_row 7 = .ok (.i2l, 1) := dk_133 (dk_at dksX11_row_0 7 rfl rfl)
theorem dX11_row_8 : decode cX11_row 8 = .ok (.ladd, 1) := dk_97 (dk_at dksX11_row_0 8 rfl rfl)
theorem dX11_row_9 : decode cX11_row 9 = .ok (.aload_n 0, 1) := dk_42 (dk_at dksX11_row_0 9 rfl rfl)
theorem dX11_row_10 : decode cX11_row 10 = .ok (.getfield 15, 3) := dk_180 0 15 (dk_at dksX11_row_0 10 rfl rfl)
theorem dX11_row_13 : decode cX11_row 13 = .ok (.arraylength, 1) := dk_190 (dk_at dksX11_row_0 13 rfl rfl)
theorem dX11_row_14 : decode cX11_row 14 = .ok (.i2l, 1) := dk_133 (dk_at dksX11_row_0 14 rfl rfl)
theorem dX11_row_15 : decode cX11_row 15 = .ok (.lcmp, 1) := dk_148 (dk_at dksX11_row_0 15 rfl rfl)
theorem dX11_row_16 : decode cX11_row 16 = .ok (.ifCond .gt 7, 3) := dk_157 0 7 (dk_at dksX11_row_0 16 rfl rfl)
theorem dX11_row_19 : decode cX11_row 19 = .ok (.iconst 1, 1) := dk_4 (dk_at dksX11_row_0 19 rfl rfl)
theorem dX11_row_20 : decode cX11_row 20 = .ok (.goto 4, 3) := dk_167 0 4 (dk_at dksX11_row_0 20 rfl rfl)
theorem dX11_row_23 : decode cX11_row 23 = .ok (.iconst 0, 1) := dk_3 (dk_at dksX11_row_0 23 rfl rfl)
theorem dX11_row_24 : decode cX11_row 24 = .ok (.iconst 2, 1) := dk_5 (dk_at dksX11_row_1 0 rfl rfl)
theorem dX11_row_25 : decode cX11_row 25 = .ok (.invokestatic 19, 3) := dk_184 0 19 (dk_at dksX11_row_1 1 rfl rfl)
theorem dX11_row_28 : decode cX11_row 28 = .ok (.iload_n 2, 1) := dk_28 (dk_at dksX11_row_1 4 rfl rfl)
theorem dX11_row_29 : decode cX11_row 29 = .ok (.newarray .int, 2) := dk_188_10 (dk_at dksX11_row_1 5 rfl rfl)
theorem dX11_row_31 : decode cX11_row 31 = .ok (.astore_n 3, 1) := dk_78 (dk_at dksX11_row_1 7 rfl rfl)
theorem dX11_row_32 : decode cX11_row 32 = .ok (.aload_n 0, 1) := dk_42 (dk_at dksX11_row_1 8 rfl rfl)
theorem dX11_row_33 : decode cX11_row 33 = .ok (.getfield 15, 3) := dk_180 0 15 (dk_at dksX11_row_1 9 rfl rfl)
theorem dX11_row_36 : decode cX11_row 36 = .ok (.iload_n 1, 1) := dk_27 (dk_at dksX11_row_1 12 rfl rfl)
theorem dX11_row_37 : decode cX11_row 37 = .ok (.aload_n 3, 1) := dk_45 (dk_at dksX11_row_1 13 rfl rfl)
theorem dX11_row_38 : decode cX11_row 38 = .ok (.iconst 0, 1) := dk_3 (dk_at dksX11_row_1 14 rfl rfl)
theorem dX11_row_39 : decode cX11_row 39 = .ok (.iload_n 2, 1) := dk_28 (dk_at dksX11_row_1 15 rfl rfl)
theorem dX11_row_40 : decode cX11_row 40 = .ok (.invokestatic 23, 3) := dk_184 0 23 (dk_at dksX11_row_1 16 rfl rfl)
theorem dX11_row_43 : decode cX11_row 43 = .ok (.aload_n 3, 1) := dk_45 (dk_at dksX11_row_1 19 rfl rfl)
theorem dX11_row_44 : decode cX11_row 44 = .ok (.areturn, 1) := dk_176 (dk_at dksX11_row_1 20 rfl rfl)
theorem q84 : (Jvm.Cond.initialized "ChairRanks$Row") ∈ lw_all := lw_g (lw_at lw_m1 17 rfl) rfl
theorem q388 : (Jvm.Cond.instantiable "ChairRanks$Row" (2 : Nat)) ∈ lw_all := lw_g (lw_at lw_m2 81 rfl) rfl
theorem q390 : (Jvm.Cond.instanceMethod ({ cls := "ChairRanks$Row", name := "<init>", desc := "(II)V" } : Jvm.MethodName)) ∈ lw_all := lw_g (lw_at lw_m2 83 rfl) rfl
theorem q391 : (Jvm.Cond.code ({ cls := "ChairRanks$Row", name := "<init>", desc := "(II)V" } : Jvm.MethodName) prog_12_method_1_code (3 : Nat) (Option.none : Option Jvm.ClassFile.FieldType)) ∈ lw_all := lw_g (lw_at lw_m2 84 rfl) rfl
theorem q392 : (Jvm.Cond.methodLink "ChairRanks$Row" (3 : Nat) ({ cls := "java/lang/Object", name := "<init>", desc := "()V" } : Jvm.MethodName)) ∈ lw_all := lw_g (lw_at lw_m2 85 rfl) rfl
theorem q393 : (Jvm.Cond.fieldLink "ChairRanks$Row" (9 : Nat) "ChairRanks$Row" "lane" "I") ∈ lw_all := lw_g (lw_at lw_m2 86 rfl) rfl
theorem q395 : (Jvm.Cond.fieldLink "ChairRanks$Row" (15 : Nat) "ChairRanks$Row" "items" "[I") ∈ lw_all := lw_g (lw_at lw_m2 88 rfl) rfl
theorem q397 : (Jvm.Cond.laysFinal "ChairRanks$Row" "ChairRanks$Row" "lane" "I") ∈ lw_all := lw_g (lw_at lw_m2 90 rfl) rfl
theorem q398 : (Jvm.Cond.soleField "ChairRanks$Row" "lane") ∈ lw_all := lw_g (lw_at lw_m2 91 rfl) rfl
theorem q399 : (Jvm.Cond.laysFinal "ChairRanks$Row" "ChairRanks$Row" "items" "[I") ∈ lw_all := lw_g (lw_at lw_m2 92 rfl) rfl
theorem q400 : (Jvm.Cond.soleField "ChairRanks$Row" "items") ∈ lw_all := lw_g (lw_at lw_m2 93 rfl) rfl
theorem q401 : (Jvm.Cond.superclass "ChairRanks$Row" "java/lang/Object") ∈ lw_all := lw_g (lw_at lw_m2 94 rfl) rfl
theorem q420 : (Jvm.Cond.instanceMethod ({ cls := "ChairRanks$Row", name := "cut", desc := "(I)I" } : Jvm.MethodName)) ∈ lw_all := lw_g (lw_at lw_m2 113 rfl) rfl
theorem q421 : (Jvm.Cond.selects "ChairRanks$Row" ({ cls := "ChairRanks$Row", name := "cut", desc := "(I)I" } : Jvm.MethodName) ({ cls := "ChairRanks$Row", name := "cut", desc := "(I)I" } : Jvm.MethodName)) ∈ lw_all := lw_g (lw_at lw_m2 114 rfl) rfl
theorem q422 : (Jvm.Cond.code ({ cls := "ChairRanks$Row", name := "cut", desc := "(I)I" } : Jvm.MethodName) prog_12_method_2_code (2 : Nat) (Option.some Jvm.ClassFile.FieldType.int)) ∈ lw_all := lw_g (lw_at lw_m2 115 rfl) rfl
theorem q698 : (Jvm.Cond.selects "ChairRanks$Row" ({ cls := "java/lang/Object", name := "getClass", desc := "()Ljava/lang/Class;" } : Jvm.MethodName) ({ cls := "java/lang/Object", name := "getClass", desc := "()Ljava/lang/Class;" } : Jvm.MethodName)) ∈ lw_all := lw_g (lw_at lw_m3 151 rfl) rfl
theorem q973 : (Jvm.Cond.instanceMethod ({ cls := "ChairRanks$Row", name := "row", desc := "(II)[I" } : Jvm.MethodName)) ∈ lw_all := lw_g (lw_at lw_m4 186 rfl) rfl
theorem q974 : (Jvm.Cond.selects "ChairRanks$Row" ({ cls := "ChairRanks$Row", name := "row", desc := "(II)[I" } : Jvm.MethodName) ({ cls := "ChairRanks$Row", name := "row", desc := "(II)[I" } : Jvm.MethodName)) ∈ lw_all := lw_g (lw_at lw_m4 187 rfl) rfl
theorem q975 : (Jvm.Cond.code ({ cls := "ChairRanks$Row", name := "row", desc := "(II)[I" } : Jvm.MethodName) prog_12_method_3_code (4 : Nat) (Option.some (Jvm.ClassFile.FieldType.array Jvm.ClassFile.FieldType.int))) ∈ lw_all := lw_g (lw_at lw_m4 188 rfl) rfl
theorem q976 : (Jvm.Cond.methodLinkNest "ChairRanks$Row" (19 : Nat) ({ cls := "ChairRanks", name := "must", desc := "(ZI)V" } : Jvm.MethodName) "ChairRanks") ∈ lw_tbl := lw_at lw_m4 189 rfl
theorem q977 : (Jvm.Cond.methodLink "ChairRanks$Row" (23 : Nat) ({ cls := "java/lang/System", name := "arraycopy", desc := "(Ljava/lang/Object;ILjava/lang/Object;II)V" } : Jvm.MethodName)) ∈ lw_all := lw_g (lw_at lw_m4 190 rfl) rfl
theorem q1687 : (Jvm.Cond.castable "ChairRanks$Row" "java/lang/Object") ∈ lw_tbl := lw_at lw_m7 180 rfl
theorem in_X11 : ∀ w ∈ wsX110, w ∈ lw_all := lw_in wsX110 [397, 399] (by decide +kernel) (by decide +kernel)

/-! ChairRanks$Reader -/
set_option maxRecDepth 100000
def RX12 : String := "ChairRanks$Reader"
def TX12 : u_T := fun k => match k with
  | 0 => ("ChairRanks$Reader", "text", "[B", true)
  | 1 => ("ChairRanks$Reader", "size", "I", true)
  | 2 => ("ChairRanks$Reader", "at", "I", false)
  | 3 => ("ChairRanks$Reader", "token", "I", false)
  | 4 => ("ChairRanks$Reader", "from", "I", false)
  | 5 => ("ChairRanks$Reader", "value", "I", false)
  | _ => ("ChairRanks$Reader", "made", "LChairRanks$Ministry;", true)
def tyX12 : Nat → FieldType := fun k => match k with
  | 0 => .array .byte
  | 1 => .int
  | 2 => .int
  | 3 => .int
  | 4 => .int
  | 5 => .int
  | _ => .object "ChairRanks$Ministry"
abbrev wsX120 : List Cond := u_ws RX12 TX12 7
theorem nmX12 : ∀ a, a < 7 → ∀ b, b < 7 → a ≠ b → (TX12 a).2.1 ≠ (TX12 b).2.1 := by decide +kernel
theorem tyX12_ok : ∀ k, k < 7 → parseFieldDescriptor (TX12 k).2.2.1 = some (tyX12 k) := by decide +kernel
abbrev cX12_init : ByteArray := prog_10_method_1_code
def yX12_init : MethodName := ⟨RX12, "<init>", "([BI)V"⟩
def dkwX12_init_1 : List UInt8 := [181, 0, 22, 177]
abbrev dktX12_init_1 : List UInt8 := dkwX12_init_1 ++ []
def dkwX12_init_0 : List UInt8 := [42, 183, 0, 3, 42, 187, 0, 9, 89, 183, 0, 11, 181, 0, 12, 42, 43, 181, 0, 18, 42, 28]
abbrev dktX12_init_0 : List UInt8 := dkwX12_init_0 ++ dktX12_init_1
theorem dksX12_init_0 : cX12_init.data.toList.drop 0 = dktX12_init_0 := by decide +kernel
theorem dksX12_init_1 : cX12_init.data.toList.drop 22 = dktX12_init_1 := dk_seg dksX12_init_0 22 rfl rfl
theorem dX12_init_0 : decode cX12_init 0 = .ok (.aload_n 0, 1) := dk_42 (dk_at dksX12_init_0 0 rfl rfl)
theorem dX12_init_1 : decode cX12_init 1 = .ok (.invokespecial 3, 3) := dk_183 0 3 (dk_at dksX12_init_0 1 rfl rfl)
theorem dX12_init_4 : decode cX12_init 4 = .ok (.aload_n 0, 1) := dk_42 (dk_at dksX12_init_0 4 rfl rfl)
theorem dX12_init_5 : decode cX12_init 5 = .ok (.new 9, 3) := dk_187 0 9 (dk_at dksX12_init_0 5 rfl rfl)
theorem dX12_init_8 : decode cX12_init 8 = .ok (.dup, 1) := dk_89 (dk_at dksX12_init_0 8 rfl rfl)
theorem dX12_init_9 : decode cX12_init 9 = .ok (.invokespecial 11, 3) := dk_183 0 11 (dk_at dksX12_init_0 9 rfl rfl)
theorem dX12_init_12 : decode cX12_init 12 = .ok (.putfield 12, 3) := dk_181 0 12 (dk_at dksX12_init_0 12 rfl rfl)
theorem dX12_init_15 : decode cX12_init 15 = .ok (.aload_n 0, 1) := dk_42 (dk_at dksX12_init_0 15 rfl rfl)
theorem dX12_init_16 : decode cX12_init 16 = .ok (.aload_n 1, 1) := dk_43 (dk_at dksX12_init_0 16 rfl rfl)
theorem dX12_init_17 : decode cX12_init 17 = .ok (.putfield 18, 3) := dk_181 0 18 (dk_at dksX12_init_0 17 rfl rfl)
theorem dX12_init_20 : decode cX12_init 20 = .ok (.aload_n 0, 1) := dk_42 (dk_at dksX12_init_0 20 rfl rfl)
theorem dX12_init_21 : decode cX12_init 21 = .ok (.iload_n 2, 1) := dk_28 (dk_at dksX12_init_0 21 rfl rfl)
theorem dX12_init_22 : decode cX12_init 22 = .ok (.putfield 22, 3) := dk_181 0 22 (dk_at dksX12_init_1 0 rfl rfl)
theorem dX12_init_25 : decode cX12_init 25 = .ok (.return_, 1) := dk_177 (dk_at dksX12_init_1 3 rfl rfl)
abbrev cX12_all : ByteArray := prog_10_method_12_code
def yX12_all : MethodName := ⟨RX12, "all", "()V"⟩
def dkwX12_all_4 : List UInt8 := [167, 0, 4, 3, 4, 182, 0, 60, 42, 180, 0, 12, 27, 181, 0, 107, 177]
abbrev dktX12_all_4 : List UInt8 := dkwX12_all_4 ++ []
def dkwX12_all_3 : List UInt8 := [182, 0, 100, 18, 29, 159, 0, 10, 42, 182, 0, 104, 167, 255, 241, 42, 42, 180, 0, 40, 154, 0, 7, 4]
abbrev dktX12_all_3 : List UInt8 := dkwX12_all_3 ++ dktX12_all_4
def dkwX12_all_2 : List UInt8 := [18, 98, 182, 0, 100, 18, 29, 159, 0, 7, 4, 167, 0, 4, 3, 4, 182, 0, 60, 42, 18, 98]
abbrev dktX12_all_2 : List UInt8 := dkwX12_all_2 ++ dktX12_all_3
def dkwX12_all_1 : List UInt8 := [3, 8, 182, 0, 71, 181, 0, 92, 42, 4, 16, 9, 182, 0, 95, 60, 42, 7, 182, 0, 67, 42, 42]
abbrev dktX12_all_1 : List UInt8 := dkwX12_all_1 ++ dktX12_all_2
def dkwX12_all_0 : List UInt8 := [42, 182, 0, 64, 42, 42, 16, 109, 182, 0, 88, 4, 182, 0, 60, 42, 182, 0, 64, 42, 180, 0, 12, 42]
abbrev dktX12_all_0 : List UInt8 := dkwX12_all_0 ++ dktX12_all_1
theorem dksX12_all_0 : cX12_all.data.toList.drop 0 = dktX12_all_0 := by decide +kernel
theorem dksX12_all_1 : cX12_all.data.toList.drop 24 = dktX12_all_1 := dk_seg dksX12_all_0 24 rfl rfl
theorem dksX12_all_2 : cX12_all.data.toList.drop 47 = dktX12_all_2 := dk_seg dksX12_all_1 23 rfl rfl
theorem dksX12_all_3 : cX12_all.data.toList.drop 69 = dktX12_all_3 := dk_seg dksX12_all_2 22 rfl rfl
theorem dksX12_all_4 : cX12_all.data.toList.drop 93 = dktX12_all_4 := dk_seg dksX12_all_3 24 rfl rfl
theorem dX12_all_0 : decode cX12_all 0 = .ok (.aload_n 0, 1) := dk_42 (dk_at dksX12_all_0 0 rfl rfl)
theorem dX12_all_1 : decode cX12_all 1 = .ok (.invokevirtual 64, 3) := dk_182 0 64 (dk_at dksX12_all_0 1 rfl rfl)
theorem dX12_all_4 : decode cX12_all 4 = .ok (.aload_n 0, 1) := dk_42 (dk_at dksX12_all_0 4 rfl rfl)
theorem dX12_all_5 : decode cX12_all 5 = .ok (.aload_n 0, 1) := dk_42 (dk_at dksX12_all_0 5 rfl rfl)
theorem dX12_all_6 : decode cX12_all 6 = .ok (.bipush 109, 2) := dk_16 109 (dk_at dksX12_all_0 6 rfl rfl)
theorem dX12_all_8 : decode cX12_all 8 = .ok (.invokevirtual 88, 3) := dk_182 0 88 (dk_at dksX12_all_0 8 rfl rfl)
theorem dX12_all_11 : decode cX12_all 11 = .ok (.iconst 1, 1) := dk_4 (dk_at dksX12_all_0 11 rfl rfl)
theorem dX12_all_12 : decode cX12_all 12 = .ok (.invokevirtual 60, 3) := dk_182 0 60 (dk_at dksX12_all_0 12 rfl rfl)
theorem dX12_all_15 : decode cX12_all 15 = .ok (.aload_n 0, 1) := dk_42 (dk_at dksX12_all_0 15 rfl rfl)
theorem dX12_all_16 : decode cX12_all 16 = .ok (.invokevirtual 64, 3) := dk_182 0 64 (dk_at dksX12_all_0 16 rfl rfl)
theorem dX12_all_19 : decode cX12_all 19 = .ok (.aload_n 0, 1) := dk_42 (dk_at dksX12_all_0 19 rfl rfl)
theorem dX12_all_20 : decode cX12_all 20 = .ok (.getfield 12, 3) := dk_180 0 12 (dk_at dksX12_all_0 20 rfl rfl)
theorem dX12_all_23 : decode cX12_all 23 = .ok (.aload_n 0, 1) := dk_42 (dk_at dksX12_all_0 23 rfl rfl)
theorem dX12_all_24 : decode cX12_all 24 = .ok (.iconst 0, 1) := dk_3 (dk_at dksX12_all_1 0 rfl rfl)
theorem dX12_all_25 : decode cX12_all 25 = .ok (.iconst 5, 1) := dk_8 (dk_at dksX12_all_1 1 rfl rfl)
theorem dX12_all_26 : decode cX12_all 26 = .ok (.invokevirtual 71, 3) := dk_182 0 71 (dk_at dksX12_all_1 2 rfl rfl)
theorem dX12_all_29 : decode cX12_all 29 = .ok (.putfield 92, 3) := dk_181 0 92 (dk_at dksX12_all_1 5 rfl rfl)
theorem dX12_all_32 : decode cX12_all 32 = .ok (.aload_n 0, 1) := dk_42 (dk_at dksX12_all_1 8 rfl rfl)
theorem dX12_all_33 : decode cX12_all 33 = .ok (.iconst 1, 1) := dk_4 (dk_at dksX12_all_1 9 rfl rfl)
theorem dX12_all_34 : decode cX12_all 34 = .ok (.bipush 9, 2) := dk_16 9 (dk_at dksX12_all_1 10 rfl rfl)
theorem dX12_all_36 : decode cX12_all 36 = .ok (.invokevirtual 95, 3) := dk_182 0 95 (dk_at dksX12_all_1 12 rfl rfl)
theorem dX12_all_39 : decode cX12_all 39 = .ok (.istore_n 1, 1) := dk_60 (dk_at dksX12_all_1 15 rfl rfl)
theorem dX12_all_40 : decode cX12_all 40 = .ok (.aload_n 0, 1) := dk_42 (dk_at dksX12_all_1 16 rfl rfl)
theorem dX12_all_41 : decode cX12_all 41 = .ok (.iconst 4, 1) := dk_7 (dk_at dksX12_all_1 17 rfl rfl)
theorem dX12_all_42 : decode cX12_all 42 = .ok (.invokevirtual 67, 3) := dk_182 0 67 (dk_at dksX12_all_1 18 rfl rfl)
theorem dX12_all_45 : decode cX12_all 45 = .ok (.aload_n 0, 1) := dk_42 (dk_at dksX12_all_1 21 rfl rfl)
theorem dX12_all_46 : decode cX12_all 46 = .ok (.aload_n 0, 1) := dk_42 (dk_at dksX12_all_1 22 rfl rfl)
theorem dX12_all_47 : decode cX12_all 47 = .ok (.ldc 98, 2) := dk_18 98 (dk_at dksX12_all_2 0 rfl rfl)
theorem dX12_all_49 : decode cX12_all 49 = .ok (.invokevirtual 100, 3) := dk_182 0 100 (dk_at dksX12_all_2 2 rfl rfl)
theorem dX12_all_52 : decode cX12_all 52 = .ok (.ldc 29, 2) := dk_18 29 (dk_at dksX12_all_2 5 rfl rfl)
theorem dX12_all_54 : decode cX12_all 54 = .ok (.if_icmp .eq 7, 3) := dk_159 0 7 (dk_at dksX12_all_2 7 rfl rfl)
theorem dX12_all_57 : decode cX12_all 57 = .ok (.iconst 1, 1) := dk_4 (dk_at dksX12_all_2 10 rfl rfl)
theorem dX12_all_58 : decode cX12_all 58 = .ok (.goto 4, 3) := dk_167 0 4 (dk_at dksX12_all_2 11 rfl rfl)
theorem dX12_all_61 : decode cX12_all 61 = .ok (.iconst 0, 1) := dk_3 (dk_at dksX12_all_2 14 rfl rfl)
theorem dX12_all_62 : decode cX12_all 62 = .ok (.iconst 1, 1) := dk_4 (dk_at dksX12_all_2 15 rfl rfl)
theorem dX12_all_63 : decode cX12_all 63 = .ok (.invokevirtual 60, 3) := dk_182 0 60 (dk_at dksX12_all_2 16 rfl rfl)
theorem dX12_all_66 : decode cX12_all 66 = .ok (.aload_n 0, 1) := dk_42 (dk_at dksX12_all_2 19 rfl rfl)
theorem dX12_all_67 : decode cX12_all 67 = .ok (.ldc 98, 2) := dk_18 98 (dk_at dksX12_all_2 20 rfl rfl)
theorem dX12_all_69 : decode cX12_all 69 = .ok (.invokevirtual 100, 3) := dk_182 0 100 (dk_at dksX12_all_3 0 rfl rfl)
theorem dX12_all_72 : decode cX12_all 72 = .ok (.ldc 29, 2) := dk_18 29 (dk_at dksX12_all_3 3 rfl rfl)
theorem dX12_all_74 : decode cX12_all 74 = .ok (.if_icmp .eq 10, 3) := dk_159 0 10 (dk_at dksX12_all_3 5 rfl rfl)
theorem dX12_all_77 : decode cX12_all 77 = .ok (.aload_n 0, 1) := dk_42 (dk_at dksX12_all_3 8 rfl rfl)
theorem dX12_all_78 : decode cX12_all 78 = .ok (.invokevirtual 104, 3) := dk_182 0 104 (dk_at dksX12_all_3 9 rfl rfl)
theorem dX12_all_81 : decode cX12_all 81 = .ok (.goto (-15), 3) := dk_167 255 241 (dk_at dksX12_all_3 12 rfl rfl)
theorem dX12_all_84 : decode cX12_all 84 = .ok (.aload_n 0, 1) := dk_42 (dk_at dksX12_all_3 15 rfl rfl)
theorem dX12_all_85 : decode cX12_all 85 = .ok (.aload_n 0, 1) := dk_42 (dk_at dksX12_all_3 16 rfl rfl)
theorem dX12_all_86 : decode cX12_all 86 = .ok (.getfield 40, 3) := dk_180 0 40 (dk_at dksX12_all_3 17 rfl rfl)
theorem dX12_all_89 : decode cX12_all 89 = .ok (.ifCond .ne 7, 3) := dk_154 0 7 (dk_at dksX12_all_3 20 rfl rfl)
theorem dX12_all_92 : decode cX12_all 92 = .ok (.iconst 1, 1) := dk_4 (dk_at dksX12_all_3 23 rfl rfl)
theorem dX12_all_93 : decode cX12_all 93 = .ok (.goto 4, 3) := dk_167 0 4 (dk_at dksX12_all_4 0 rfl rfl)
theorem dX12_all_96 : decode cX12_all 96 = .ok (.iconst 0, 1) := dk_3 (dk_at dksX12_all_4 3 rfl rfl)
theorem dX12_all_97 : decode cX12_all 97 = .ok (.iconst 1, 1) := dk_4 (dk_at dksX12_all_4 4 rfl rfl)
theorem dX12_all_98 : decode cX12_all 98 = .ok (.invokevirtual 60, 3) := dk_182 0 60 (dk_at dksX12_all_4 5 rfl rfl)
theorem dX12_all_101 : decode cX12_all 101 = .ok (.aload_n 0, 1) := dk_42 (dk_at dksX12_all_4 8 rfl rfl)
theorem dX12_all_102 : decode cX12_all 102 = .ok (.getfield 12, 3) := dk_180 0 12 (dk_at dksX12_all_4 9 rfl rfl)
theorem dX12_all_105 : decode cX12_all 105 = .ok (.iload_n 1, 1) := dk_27 (dk_at dksX12_all_4 12 rfl rfl)
theorem dX12_all_106 : decode cX12_all 106 = .ok (.putfield 107, 3) := dk_181 0 107 (dk_at dksX12_all_4 13 rfl rfl)
theorem dX12_all_109 : decode cX12_all 109 = .ok (.return_, 1) := dk_177 (dk_at dksX12_all_4 16 rfl rfl)
abbrev cX12_next : ByteArray := prog_10_method_3_code
def yX12_next : MethodName := ⟨RX12, "next", "()V"⟩
def dkwX12_next_8 : List UInt8 := [16, 59, 160, 0, 7, 7, 167, 0, 4, 8, 181, 0, 40, 177]
abbrev dktX12_next_8 : List UInt8 := dkwX12_next_8 ++ []
def dkwX12_next_7 : List UInt8 := [20, 0, 53, 184, 0, 47, 153, 0, 7, 4, 167, 0, 24, 27, 16, 44, 160, 0, 7, 6, 167, 0, 14, 27]
abbrev dktX12_next_7 : List UInt8 := dkwX12_next_7 ++ dktX12_next_8
def dkwX12_next_6 : List UInt8 := [181, 0, 40, 167, 0, 56, 42, 89, 180, 0, 26, 4, 96, 181, 0, 26, 42, 27, 133, 20, 0, 51]
abbrev dktX12_next_6 : List UInt8 := dkwX12_next_6 ++ dktX12_next_7
def dkwX12_next_5 : List UInt8 := [167, 255, 190, 42, 42, 180, 0, 26, 42, 180, 0, 30, 100, 5, 163, 0, 7, 5, 167, 0, 4, 8]
abbrev dktX12_next_5 : List UInt8 := dkwX12_next_5 ++ dktX12_next_6
def dkwX12_next_4 : List UInt8 := [16, 48, 100, 167, 0, 7, 42, 180, 0, 37, 181, 0, 37, 42, 89, 180, 0, 26, 4, 96, 181, 0, 26]
abbrev dktX12_next_4 : List UInt8 := dkwX12_next_4 ++ dktX12_next_5
def dkwX12_next_3 : List UInt8 := [180, 0, 26, 42, 180, 0, 30, 100, 5, 162, 0, 21, 16, 10, 42, 180, 0, 37, 104, 42, 182, 0, 33, 96]
abbrev dktX12_next_3 : List UInt8 := dkwX12_next_3 ++ dktX12_next_4
def dkwX12_next_2 : List UInt8 := [181, 0, 37, 42, 182, 0, 33, 133, 20, 0, 43, 20, 0, 45, 184, 0, 47, 153, 0, 55, 42, 42]
abbrev dktX12_next_2 : List UInt8 := dkwX12_next_2 ++ dktX12_next_3
def dkwX12_next_1 : List UInt8 := [42, 3, 181, 0, 40, 167, 0, 169, 27, 133, 20, 0, 43, 20, 0, 45, 184, 0, 47, 153, 0, 102, 42, 3]
abbrev dktX12_next_1 : List UInt8 := dkwX12_next_1 ++ dktX12_next_2
def dkwX12_next_0 : List UInt8 := [42, 42, 180, 0, 26, 181, 0, 30, 42, 182, 0, 33, 60, 42, 27, 181, 0, 37, 27, 18, 29, 160, 0, 11]
abbrev dktX12_next_0 : List UInt8 := dkwX12_next_0 ++ dktX12_next_1
theorem dksX12_next_0 : cX12_next.data.toList.drop 0 = dktX12_next_0 := by decide +kernel
theorem dksX12_next_1 : cX12_next.data.toList.drop 24 = dktX12_next_1 := dk_seg dksX12_next_0 24 rfl rfl
theorem dksX12_next_2 : cX12_next.data.toList.drop 48 = dktX12_next_2 := dk_seg dksX12_next_1 24 rfl rfl
theorem dksX12_next_3 : cX12_next.data.toList.drop 70 = dktX12_next_3 := dk_seg dksX12_next_2 22 rfl rfl
theorem dksX12_next_4 : cX12_next.data.toList.drop 94 = dktX12_next_4 := dk_seg dksX12_next_3 24 rfl rfl
theorem dksX12_next_5 : cX12_next.data.toList.drop 117 = dktX12_next_5 := dk_seg dksX12_next_4 23 rfl rfl
theorem dksX12_next_6 : cX12_next.data.toList.drop 139 = dktX12_next_6 := dk_seg dksX12_next_5 22 rfl rfl
theorem dksX12_next_7 : cX12_next.data.toList.drop 161 = dktX12_next_7 := dk_seg dksX12_next_6 22 rfl rfl
theorem dksX12_next_8 : cX12_next.data.toList.drop 185 = dktX12_next_8 := dk_seg dksX12_next_7 24 rfl rfl
theorem dX12_next_0 : decode cX12_next 0 = .ok (.aload_n 0, 1) := dk_42 (dk_at dksX12_next_0 0 rfl rfl)
theorem dX12_next_1 : decode cX12_next 1 = .ok (.aload_n 0, 1) := dk_42 (dk_at dksX12_next_0 1 rfl rfl)
theorem dX12_next_2 : decode cX12_next 2 = .ok (.getfield 26, 3) := dk_180 0 26 (dk_at dksX12_next_0 2 rfl rfl)
theorem dX12_next_5 : decode cX12_next 5 = .ok (.putfield 30, 3) := dk_181 0 30 (dk_at dksX12_next_0 5 rfl rfl)
theorem dX12_next_8 : decode cX12_next 8 = .ok (.aload_n 0, 1) := dk_42 (dk_at dksX12_next_0 8 rfl rfl)
theorem dX12_next_9 : decode cX12_next 9 = .ok (.invokevirtual 33, 3) := dk_182 0 33 (dk_at dksX12_next_0 9 rfl rfl)
theorem dX12_next_12 : decode cX12_next 12 = .ok (.istore_n 1, 1) := dk_60 (dk_at dksX12_next_0 12 rfl rfl)
theorem dX12_next_13 : decode cX12_next 13 = .ok (.aload_n 0, 1) := dk_42 (dk_at dksX12_next_0 13 rfl rfl)
theorem dX12_next_14 : decode cX12_next 14 = .ok (.iload_n 1, 1) := dk_27 (dk_at dksX12_next_0 14 rfl rfl)
theorem dX12_next_15 : decode cX12_next 15 = .ok (.putfield 37, 3) := dk_181 0 37 (dk_at dksX12_next_0 15 rfl rfl)
theorem dX12_next_18 : decode cX12_next 18 = .ok (.iload_n 1, 1) := dk_27 (dk_at dksX12_next_0 18 rfl rfl)
theorem dX12_next_19 : decode cX12_next 19 = .ok (.ldc 29, 2) := dk_18 29 (dk_at dksX12_next_0 19 rfl rfl)
theorem dX12_next_21 : decode cX12_next 21 = .ok (.if_icmp .ne 11, 3) := dk_160 0 11 (dk_at dksX12_next_0 21 rfl rfl)
theorem dX12_next_24 : decode cX12_next 24 = .ok (.aload_n 0, 1) := dk_42 (dk_at dksX12_next_1 0 rfl rfl)
theorem dX12_next_25 : decode cX12_next 25 = .ok (.iconst 0, 1) := dk_3 (dk_at dksX12_next_1 1 rfl rfl)
theorem dX12_next_26 : decode cX12_next 26 = .ok (.putfield 40, 3) := dk_181 0 40 (dk_at dksX12_next_1 2 rfl rfl)
theorem dX12_next_29 : decode cX12_next 29 = .ok (.goto 169, 3) := dk_167 0 169 (dk_at dksX12_next_1 5 rfl rfl)
theorem dX12_next_32 : decode cX12_next 32 = .ok (.iload_n 1, 1) := dk_27 (dk_at dksX12_next_1 8 rfl rfl)
theorem dX12_next_33 : decode cX12_next 33 = .ok (.i2l, 1) := dk_133 (dk_at dksX12_next_1 9 rfl rfl)
theorem dX12_next_34 : decode cX12_next 34 = .ok (.ldc2_w 43, 3) := dk_20 0 43 (dk_at dksX12_next_1 10 rfl rfl)
theorem dX12_next_37 : decode cX12_next 37 = .ok (.ldc2_w 45, 3) := dk_20 0 45 (dk_at dksX12_next_1 13 rfl rfl)
theorem dX12_next_40 : decode cX12_next 40 = .ok (.invokestatic 47, 3) := dk_184 0 47 (dk_at dksX12_next_1 16 rfl rfl)
theorem dX12_next_43 : decode cX12_next 43 = .ok (.ifCond .eq 102, 3) := dk_153 0 102 (dk_at dksX12_next_1 19 rfl rfl)
theorem dX12_next_46 : decode cX12_next 46 = .ok (.aload_n 0, 1) := dk_42 (dk_at dksX12_next_1 22 rfl rfl)
theorem dX12_next_47 : decode cX12_next 47 = .ok (.iconst 0, 1) := dk_3 (dk_at dksX12_next_1 23 rfl rfl)
theorem dX12_next_48 : decode cX12_next 48 = .ok (.putfield 37, 3) := dk_181 0 37 (dk_at dksX12_next_2 0 rfl rfl)
theorem dX12_next_51 : decode cX12_next 51 = .ok (.aload_n 0, 1) := dk_42 (dk_at dksX12_next_2 3 rfl rfl)
theorem dX12_next_52 : decode cX12_next 52 = .ok (.invokevirtual 33, 3) := dk_182 0 33 (dk_at dksX12_next_2 4 rfl rfl)
theorem dX12_next_55 : decode cX12_next 55 = .ok (.i2l, 1) := dk_133 (dk_at dksX12_next_2 7 rfl rfl)
theorem dX12_next_56 : decode cX12_next 56 = .ok (.ldc2_w 43, 3) := dk_20 0 43 (dk_at dksX12_next_2 8 rfl rfl)
theorem dX12_next_59 : decode cX12_next 59 = .ok (.ldc2_w 45, 3) := dk_20 0 45 (dk_at dksX12_next_2 11 rfl rfl)
theorem dX12_next_62 : decode cX12_next 62 = .ok (.invokestatic 47, 3) := dk_184 0 47 (dk_at dksX12_next_2 14 rfl rfl)
theorem dX12_next_65 : decode cX12_next 65 = .ok (.ifCond .eq 55, 3) := dk_153 0 55 (dk_at dksX12_next_2 17 rfl rfl)
theorem dX12_next_68 : decode cX12_next 68 = .ok (.aload_n 0, 1) := dk_42 (dk_at dksX12_next_2 20 rfl rfl)
theorem dX12_next_69 : decode cX12_next 69 = .ok (.aload_n 0, 1) := dk_42 (dk_at dksX12_next_2 21 rfl rfl)
theorem dX12_next_70 : decode cX12_next 70 = .ok (.getfield 26, 3) := dk_180 0 26 (dk_at dksX12_next_3 0 rfl rfl)
theorem dX12_next_73 : decode cX12_next 73 = .ok (.aload_n 0, 1) := dk_42 (dk_at dksX12_next_3 3 rfl rfl)
theorem dX12_next_74 : decode cX12_next 74 = .ok (.getfield 30, 3) := dk_180 0 30 (dk_at dksX12_next_3 4 rfl rfl)
theorem dX12_next_77 : decode cX12_next 77 = .ok (.isub, 1) := dk_100 (dk_at dksX12_next_3 7 rfl rfl)
theorem dX12_next_78 : decode cX12_next 78 = .ok (.iconst 2, 1) := dk_5 (dk_at dksX12_next_3 8 rfl rfl)
theorem dX12_next_79 : decode cX12_next 79 = .ok (.if_icmp .ge 21, 3) := dk_162 0 21 (dk_at dksX12_next_3 9 rfl rfl)
theorem dX12_next_82 : decode cX12_next 82 = .ok (.bipush 10, 2) := dk_16 10 (dk_at dksX12_next_3 12 rfl rfl)
theorem dX12_next_84 : decode cX12_next 84 = .ok (.aload_n 0, 1) := dk_42 (dk_at dksX12_next_3 14 rfl rfl)
theorem dX12_next_85 : decode cX12_next 85 = .ok (.getfield 37, 3) := dk_180 0 37 (dk_at dksX12_next_3 15 rfl rfl)
theorem dX12_next_88 : decode cX12_next 88 = .ok (.imul, 1) := dk_104 (dk_at dksX12_next_3 18 rfl rfl)
theorem dX12_next_89 : decode cX12_next 89 = .ok (.aload_n 0, 1) := dk_42 (dk_at dksX12_next_3 19 rfl rfl)
theorem dX12_next_90 : decode cX12_next 90 = .ok (.invokevirtual 33, 3) := dk_182 0 33 (dk_at dksX12_next_3 20 rfl rfl)
theorem dX12_next_93 : decode cX12_next 93 = .ok (.iadd, 1) := dk_96 (dk_at dksX12_next_3 23 rfl rfl)
theorem dX12_next_94 : decode cX12_next 94 = .ok (.bipush 48, 2) := dk_16 48 (dk_at dksX12_next_4 0 rfl rfl)
theorem dX12_next_96 : decode cX12_next 96 = .ok (.isub, 1) := dk_100 (dk_at dksX12_next_4 2 rfl rfl)
theorem dX12_next_97 : decode cX12_next 97 = .ok (.goto 7, 3) := dk_167 0 7 (dk_at dksX12_next_4 3 rfl rfl)
theorem dX12_next_100 : decode cX12_next 100 = .ok (.aload_n 0, 1) := dk_42 (dk_at dksX12_next_4 6 rfl rfl)
theorem dX12_next_101 : decode cX12_next 101 = .ok (.getfield 37, 3) := dk_180 0 37 (dk_at dksX12_next_4 7 rfl rfl)
theorem dX12_next_104 : decode cX12_next 104 = .ok (.putfield 37, 3) := dk_181 0 37 (dk_at dksX12_next_4 10 rfl rfl)
theorem dX12_next_107 : decode cX12_next 107 = .ok (.aload_n 0, 1) := dk_42 (dk_at dksX12_next_4 13 rfl rfl)
theorem dX12_next_108 : decode cX12_next 108 = .ok (.dup, 1) := dk_89 (dk_at dksX12_next_4 14 rfl rfl)
theorem dX12_next_109 : decode cX12_next 109 = .ok (.getfield 26, 3) := dk_180 0 26 (dk_at dksX12_next_4 15 rfl rfl)
theorem dX12_next_112 : decode cX12_next 112 = .ok (.iconst 1, 1) := dk_4 (dk_at dksX12_next_4 18 rfl rfl)
theorem dX12_next_113 : decode cX12_next 113 = .ok (.iadd, 1) := dk_96 (dk_at dksX12_next_4 19 rfl rfl)
theorem dX12_next_114 : decode cX12_next 114 = .ok (.putfield 26, 3) := dk_181 0 26 (dk_at dksX12_next_4 20 rfl rfl)
theorem dX12_next_117 : decode cX12_next 117 = .ok (.goto (-66), 3) := dk_167 255 190 (dk_at dksX12_next_5 0 rfl rfl)
theorem dX12_next_120 : decode cX12_next 120 = .ok (.aload_n 0, 1) := dk_42 (dk_at dksX12_next_5 3 rfl rfl)
theorem dX12_next_121 : decode cX12_next 121 = .ok (.aload_n 0, 1) := dk_42 (dk_at dksX12_next_5 4 rfl rfl)
theorem dX12_next_122 : decode cX12_next 122 = .ok (.getfield 26, 3) := dk_180 0 26 (dk_at dksX12_next_5 5 rfl rfl)
theorem dX12_next_125 : decode cX12_next 125 = .ok (.aload_n 0, 1) := dk_42 (dk_at dksX12_next_5 8 rfl rfl)
theorem dX12_next_126 : decode cX12_next 126 = .ok (.getfield 30, 3) := dk_180 0 30 (dk_at dksX12_next_5 9 rfl rfl)
theorem dX12_next_129 : decode cX12_next 129 = .ok (.isub, 1) := dk_100 (dk_at dksX12_next_5 12 rfl rfl)
theorem dX12_next_130 : decode cX12_next 130 = .ok (.iconst 2, 1) := dk_5 (dk_at dksX12_next_5 13 rfl rfl)
theorem dX12_next_131 : decode cX12_next 131 = .ok (.if_icmp .gt 7, 3) := dk_163 0 7 (dk_at dksX12_next_5 14 rfl rfl)
theorem dX12_next_134 : decode cX12_next 134 = .ok (.iconst 2, 1) := dk_5 (dk_at dksX12_next_5 17 rfl rfl)
theorem dX12_next_135 : decode cX12_next 135 = .ok (.goto 4, 3) := dk_167 0 4 (dk_at dksX12_next_5 18 rfl rfl)
theorem dX12_next_138 : decode cX12_next 138 = .ok (.iconst 5, 1) := dk_8 (dk_at dksX12_next_5 21 rfl rfl)
theorem dX12_next_139 : decode cX12_next 139 = .ok (.putfield 40, 3) := dk_181 0 40 (dk_at dksX12_next_6 0 rfl rfl)
theorem dX12_next_142 : decode cX12_next 142 = .ok (.goto 56, 3) := dk_167 0 56 (dk_at dksX12_next_6 3 rfl rfl)
theorem dX12_next_145 : decode cX12_next 145 = .ok (.aload_n 0, 1) := dk_42 (dk_at dksX12_next_6 6 rfl rfl)
theorem dX12_next_146 : decode cX12_next 146 = .ok (.dup, 1) := dk_89 (dk_at dksX12_next_6 7 rfl rfl)
theorem dX12_next_147 : decode cX12_next 147 = .ok (.getfield 26, 3) := dk_180 0 26 (dk_at dksX12_next_6 8 rfl rfl)
theorem dX12_next_150 : decode cX12_next 150 = .ok (.iconst 1, 1) := dk_4 (dk_at dksX12_next_6 11 rfl rfl)
theorem dX12_next_151 : decode cX12_next 151 = .ok (.iadd, 1) := dk_96 (dk_at dksX12_next_6 12 rfl rfl)
theorem dX12_next_152 : decode cX12_next 152 = .ok (.putfield 26, 3) := dk_181 0 26 (dk_at dksX12_next_6 13 rfl rfl)
theorem dX12_next_155 : decode cX12_next 155 = .ok (.aload_n 0, 1) := dk_42 (dk_at dksX12_next_6 16 rfl rfl)
theorem dX12_next_156 : decode cX12_next 156 = .ok (.iload_n 1, 1) := dk_27 (dk_at dksX12_next_6 17 rfl rfl)
theorem dX12_next_157 : decode cX12_next 157 = .ok (.i2l, 1) := dk_133 (dk_at dksX12_next_6 18 rfl rfl)
theorem dX12_next_158 : decode cX12_next 158 = .ok (.ldc2_w 51, 3) := dk_20 0 51 (dk_at dksX12_next_6 19 rfl rfl)
theorem dX12_next_161 : decode cX12_next 161 = .ok (.ldc2_w 53, 3) := dk_20 0 53 (dk_at dksX12_next_7 0 rfl rfl)
theorem dX12_next_164 : decode cX12_next 164 = .ok (.invokestatic 47, 3) := dk_184 0 47 (dk_at dksX12_next_7 3 rfl rfl)
theorem dX12_next_167 : decode cX12_next 167 = .ok (.ifCond .eq 7, 3) := dk_153 0 7 (dk_at dksX12_next_7 6 rfl rfl)
theorem dX12_next_170 : decode cX12_next 170 = .ok (.iconst 1, 1) := dk_4 (dk_at dksX12_next_7 9 rfl rfl)
theorem dX12_next_171 : decode cX12_next 171 = .ok (.goto 24, 3) := dk_167 0 24 (dk_at dksX12_next_7 10 rfl rfl)
theorem dX12_next_174 : decode cX12_next 174 = .ok (.iload_n 1, 1) := dk_27 (dk_at dksX12_next_7 13 rfl rfl)
theorem dX12_next_175 : decode cX12_next 175 = .ok (.bipush 44, 2) := dk_16 44 (dk_at dksX12_next_7 14 rfl rfl)
theorem dX12_next_177 : decode cX12_next 177 = .ok (.if_icmp .ne 7, 3) := dk_160 0 7 (dk_at dksX12_next_7 16 rfl rfl)
theorem dX12_next_180 : decode cX12_next 180 = .ok (.iconst 3, 1) := dk_6 (dk_at dksX12_next_7 19 rfl rfl)
theorem dX12_next_181 : decode cX12_next 181 = .ok (.goto 14, 3) := dk_167 0 14 (dk_at dksX12_next_7 20 rfl rfl)
theorem dX12_next_184 : decode cX12_next 184 = .ok (.iload_n 1, 1) := dk_27 (dk_at dksX12_next_7 23 rfl rfl)
theorem dX12_next_185 : decode cX12_next 185 = .ok (.bipush 59, 2) := dk_16 59 (dk_at dksX12_next_8 0 rfl rfl)
theorem dX12_next_187 : decode cX12_next 187 = .ok (.if_icmp .ne 7, 3) := dk_160 0 7 (dk_at dksX12_next_8 2 rfl rfl)
theorem dX12_next_190 : decode cX12_next 190 = .ok (.iconst 4, 1) := dk_7 (dk_at dksX12_next_8 5 rfl rfl)
theorem dX12_next_191 : decode cX12_next 191 = .ok (.goto 4, 3) := dk_167 0 4 (dk_at dksX12_next_8 6 rfl rfl)
theorem dX12_next_194 : decode cX12_next 194 = .ok (.iconst 5, 1) := dk_8 (dk_at dksX12_next_8 9 rfl rfl)
theorem dX12_next_195 : decode cX12_next 195 = .ok (.putfield 40, 3) := dk_181 0 40 (dk_at dksX12_next_8 10 rfl rfl)
theorem dX12_next_198 : decode cX12_next 198 = .ok (.return_, 1) := dk_177 (dk_at dksX12_next_8 13 rfl rfl)
abbrev cX12_look : ByteArray := prog_10_method_2_code
def yX12_look : MethodName := ⟨RX12, "look", "()I"⟩
def dkwX12_look_1 : List UInt8 := [167, 0, 5, 18, 29, 172]
abbrev dktX12_look_1 : List UInt8 := dkwX12_look_1 ++ []
def dkwX12_look_0 : List UInt8 := [42, 180, 0, 26, 42, 180, 0, 22, 162, 0, 19, 42, 180, 0, 18, 42, 180, 0, 26, 51, 17, 0, 255, 126]
abbrev dktX12_look_0 : List UInt8 := dkwX12_look_0 ++ dktX12_look_1
theorem dksX12_look_0 : cX12_look.data.toList.drop 0 = dktX12_look_0 := by decide +kernel
theorem dksX12_look_1 : cX12_look.data.toList.drop 24 = dktX12_look_1 := dk_seg dksX12_look_0 24 rfl rfl
theorem dX12_look_0 : decode cX12_look 0 = .ok (.aload_n 0, 1) := dk_42 (dk_at dksX12_look_0 0 rfl rfl)
theorem dX12_look_1 : decode cX12_look 1 = .ok (.getfield 26, 3) := dk_180 0 26 (dk_at dksX12_look_0 1 rfl rfl)
theorem dX12_look_4 : decode cX12_look 4 = .ok (.aload_n 0, 1) := dk_42 (dk_at dksX12_look_0 4 rfl rfl)
theorem dX12_look_5 : decode cX12_look 5 = .ok (.getfield 22, 3) := dk_180 0 22 (dk_at dksX12_look_0 5 rfl rfl)
theorem dX12_look_8 : decode cX12_look 8 = .ok (.if_icmp .ge 19, 3) := dk_162 0 19 (dk_at dksX12_look_0 8 rfl rfl)
theorem dX12_look_11 : decode cX12_look 11 = .ok (.aload_n 0, 1) := dk_42 (dk_at dksX12_look_0 11 rfl rfl)
theorem dX12_look_12 : decode cX12_look 12 = .ok (.getfield 18, 3) := dk_180 0 18 (dk_at dksX12_look_0 12 rfl rfl)
theorem dX12_look_15 : decode cX12_look 15 = .ok (.aload_n 0, 1) := dk_42 (dk_at dksX12_look_0 15 rfl rfl)
theorem dX12_look_16 : decode cX12_look 16 = .ok (.getfield 26, 3) := dk_180 0 26 (dk_at dksX12_look_0 16 rfl rfl)
theorem dX12_look_19 : decode cX12_look 19 = .ok (.baload, 1) := dk_51 (dk_at dksX12_look_0 19 rfl rfl)
theorem dX12_look_20 : decode cX12_look 20 = .ok (.sipush 255, 3) := dk_17 0 255 (dk_at dksX12_look_0 20 rfl rfl)
theorem dX12_look_23 : decode cX12_look 23 = .ok (.iand, 1) := dk_126 (dk_at dksX12_look_0 23 rfl rfl)
theorem dX12_look_24 : decode cX12_look 24 = .ok (.goto 5, 3) := dk_167 0 5 (dk_at dksX12_look_1 0 rfl rfl)
theorem dX12_look_27 : decode cX12_look 27 = .ok (.ldc 29, 2) := dk_18 29 (dk_at dksX12_look_1 3 rfl rfl)
theorem dX12_look_29 : decode cX12_look 29 = .ok (.ireturn, 1) := dk_172 (dk_at dksX12_look_1 5 rfl rfl)
abbrev cX12_isLetter : ByteArray := prog_10_method_5_code
def yX12_isLetter : MethodName := ⟨RX12, "isLetter", "(I)Z"⟩
def dkwX12_isLetter_0 : List UInt8 := [42, 180, 0, 40, 4, 160, 0, 15, 42, 180, 0, 37, 27, 160, 0, 7, 4, 167, 0, 4, 3, 172]
abbrev dktX12_isLetter_0 : List UInt8 := dkwX12_isLetter_0 ++ []
theorem dksX12_isLetter_0 : cX12_isLetter.data.toList.drop 0 = dktX12_isLetter_0 := by decide +kernel
theorem dX12_isLetter_0 : decode cX12_isLetter 0 = .ok (.aload_n 0, 1) := dk_42 (dk_at dksX12_isLetter_0 0 rfl rfl)
theorem dX12_isLetter_1 : decode cX12_isLetter 1 = .ok (.getfield 40, 3) := dk_180 0 40 (dk_at dksX12_isLetter_0 1 rfl rfl)
theorem dX12_isLetter_4 : decode cX12_isLetter 4 = .ok (.iconst 1, 1) := dk_4 (dk_at dksX12_isLetter_0 4 rfl rfl)
theorem dX12_isLetter_5 : decode cX12_isLetter 5 = .ok (.if_icmp .ne 15, 3) := dk_160 0 15 (dk_at dksX12_isLetter_0 5 rfl rfl)
theorem dX12_isLetter_8 : decode cX12_isLetter 8 = .ok (.aload_n 0, 1) := dk_42 (dk_at dksX12_isLetter_0 8 rfl rfl)
theorem dX12_isLetter_9 : decode cX12_isLetter 9 = .ok (.getfield 37, 3) := dk_180 0 37 (dk_at dksX12_isLetter_0 9 rfl rfl)
theorem dX12_isLetter_12 : decode cX12_isLetter 12 = .ok (.iload_n 1, 1) := dk_27 (dk_at dksX12_isLetter_0 12 rfl rfl)
theorem dX12_isLetter_13 : decode cX12_isLetter 13 = .ok (.if_icmp .ne 7, 3) := dk_160 0 7 (dk_at dksX12_isLetter_0 13 rfl rfl)
theorem dX12_isLetter_16 : decode cX12_isLetter 16 = .ok (.iconst 1, 1) := dk_4 (dk_at dksX12_isLetter_0 16 rfl rfl)
theorem dX12_isLetter_17 : decode cX12_isLetter 17 = .ok (.goto 4, 3) := dk_167 0 4 (dk_at dksX12_isLetter_0 17 rfl rfl)
theorem dX12_isLetter_20 : decode cX12_isLetter 20 = .ok (.iconst 0, 1) := dk_3 (dk_at dksX12_isLetter_0 20 rfl rfl)
theorem dX12_isLetter_21 : decode cX12_isLetter 21 = .ok (.ireturn, 1) := dk_172 (dk_at dksX12_isLetter_0 21 rfl rfl)
abbrev cX12_must : ByteArray := prog_10_method_4_code
def yX12_must : MethodName := ⟨RX12, "must", "(ZI)V"⟩
def dkwX12_must_0 : List UInt8 := [27, 154, 0, 16, 187, 0, 55, 89, 28, 42, 180, 0, 30, 183, 0, 57, 191, 177]
abbrev dktX12_must_0 : List UInt8 := dkwX12_must_0 ++ []
theorem dksX12_must_0 : cX12_must.data.toList.drop 0 = dktX12_must_0 := by decide +kernel
theorem dX12_must_0 : decode cX12_must 0 = .ok (.iload_n 1, 1) := dk_27 (dk_at dksX12_must_0 0 rfl rfl)
theorem dX12_must_1 : decode cX12_must 1 = .ok (.ifCond .ne 16, 3) := dk_154 0 16 (dk_at dksX12_must_0 1 rfl rfl)
theorem dX12_must_4 : decode cX12_must 4 = .ok (.new 55, 3) := dk_187 0 55 (dk_at dksX12_must_0 4 rfl rfl)
theorem dX12_must_7 : decode cX12_must 7 = .ok (.dup, 1) := dk_89 (dk_at dksX12_must_0 7 rfl rfl)
theorem dX12_must_8 : decode cX12_must 8 = .ok (.iload_n 2, 1) := dk_28 (dk_at dksX12_must_0 8 rfl rfl)
theorem dX12_must_9 : decode cX12_must 9 = .ok (.aload_n 0, 1) := dk_42 (dk_at dksX12_must_0 9 rfl rfl)
theorem dX12_must_10 : decode cX12_must 10 = .ok (.getfield 30, 3) := dk_180 0 30 (dk_at dksX12_must_0 10 rfl rfl)
theorem dX12_must_13 : decode cX12_must 13 = .ok (.invokespecial 57, 3) := dk_183 0 57 (dk_at dksX12_must_0 13 rfl rfl)
theorem dX12_must_16 : decode cX12_must 16 = .ok (.athrow, 1) := dk_191 (dk_at dksX12_must_0 16 rfl rfl)
theorem dX12_must_17 : decode cX12_must 17 = .ok (.return_, 1) := dk_177 (dk_at dksX12_must_0 17 rfl rfl)
abbrev cX12_figure : ByteArray := prog_10_method_6_code
def yX12_figure : MethodName := ⟨RX12, "figure", "(II)I"⟩
def dkwX12_figure_1 : List UInt8 := [27, 133, 28, 133, 184, 0, 47, 5, 182, 0, 60, 42, 180, 0, 37, 62, 42, 182, 0, 64, 29, 172]
abbrev dktX12_figure_1 : List UInt8 := dkwX12_figure_1 ++ []
def dkwX12_figure_0 : List UInt8 := [42, 42, 180, 0, 40, 5, 160, 0, 7, 4, 167, 0, 4, 3, 4, 182, 0, 60, 42, 42, 180, 0, 37, 133]
abbrev dktX12_figure_0 : List UInt8 := dkwX12_figure_0 ++ dktX12_figure_1
theorem dksX12_figure_0 : cX12_figure.data.toList.drop 0 = dktX12_figure_0 := by decide +kernel
theorem dksX12_figure_1 : cX12_figure.data.toList.drop 24 = dktX12_figure_1 := dk_seg dksX12_figure_0 24 rfl rfl
theorem dX12_figure_0 : decode cX12_figure 0 = .ok (.aload_n 0, 1) := dk_42 (dk_at dksX12_figure_0 0 rfl rfl)
theorem dX12_figure_1 : decode cX12_figure 1 = .ok (.aload_n 0, 1) := dk_42 (dk_at dksX12_figure_0 1 rfl rfl)
theorem dX12_figure_2 : decode cX12_figure 2 = .ok (.getfield 40, 3) := dk_180 0 40 (dk_at dksX12_figure_0 2 rfl rfl)
theorem dX12_figure_5 : decode cX12_figure 5 = .ok (.iconst 2, 1) := dk_5 (dk_at dksX12_figure_0 5 rfl rfl)
theorem dX12_figure_6 : decode cX12_figure 6 = .ok (.if_icmp .ne 7, 3) := dk_160 0 7 (dk_at dksX12_figure_0 6 rfl rfl)
theorem dX12_figure_9 : decode cX12_figure 9 = .ok (.iconst 1, 1) := dk_4 (dk_at dksX12_figure_0 9 rfl rfl)
theorem dX12_figure_10 : decode cX12_figure 10 = .ok (.goto 4, 3) := dk_167 0 4 (dk_at dksX12_figure_0 10 rfl rfl)
theorem dX12_figure_13 : decode cX12_figure 13 = .ok (.iconst 0, 1) := dk_3 (dk_at dksX12_figure_0 13 rfl rfl)
theorem dX12_figure_14 : decode cX12_figure 14 = .ok (.iconst 1, 1) := dk_4 (dk_at dksX12_figure_0 14 rfl rfl)
theorem dX12_figure_15 : decode cX12_figure 15 = .ok (.invokevirtual 60, 3) := dk_182 0 60 (dk_at dksX12_figure_0 15 rfl rfl)
theorem dX12_figure_18 : decode cX12_figure 18 = .ok (.aload_n 0, 1) := dk_42 (dk_at dksX12_figure_0 18 rfl rfl)
theorem dX12_figure_19 : decode cX12_figure 19 = .ok (.aload_n 0, 1) := dk_42 (dk_at dksX12_figure_0 19 rfl rfl)
theorem dX12_figure_20 : decode cX12_figure 20 = .ok (.getfield 37, 3) := dk_180 0 37 (dk_at dksX12_figure_0 20 rfl rfl)
theorem dX12_figure_23 : decode cX12_figure 23 = .ok (.i2l, 1) := dk_133 (dk_at dksX12_figure_0 23 rfl rfl)
theorem dX12_figure_24 : decode cX12_figure 24 = .ok (.iload_n 1, 1) := dk_27 (dk_at dksX12_figure_1 0 rfl rfl)
theorem dX12_figure_25 : decode cX12_figure 25 = .ok (.i2l, 1) := dk_133 (dk_at dksX12_figure_1 1 rfl rfl)
theorem dX12_figure_26 : decode cX12_figure 26 = .ok (.iload_n 2, 1) := dk_28 (dk_at dksX12_figure_1 2 rfl rfl)
theorem dX12_figure_27 : decode cX12_figure 27 = .ok (.i2l, 1) := dk_133 (dk_at dksX12_figure_1 3 rfl rfl)
theorem dX12_figure_28 : decode cX12_figure 28 = .ok (.invokestatic 47, 3) := dk_184 0 47 (dk_at dksX12_figure_1 4 rfl rfl)
theorem dX12_figure_31 : decode cX12_figure 31 = .ok (.iconst 2, 1) := dk_5 (dk_at dksX12_figure_1 7 rfl rfl)
theorem dX12_figure_32 : decode cX12_figure 32 = .ok (.invokevirtual 60, 3) := dk_182 0 60 (dk_at dksX12_figure_1 8 rfl rfl)
theorem dX12_figure_35 : decode cX12_figure 35 = .ok (.aload_n 0, 1) := dk_42 (dk_at dksX12_figure_1 11 rfl rfl)
theorem dX12_figure_36 : decode cX12_figure 36 = .ok (.getfield 37, 3) := dk_180 0 37 (dk_at dksX12_figure_1 12 rfl rfl)
theorem dX12_figure_39 : decode cX12_figure 39 = .ok (.istore_n 3, 1) := dk_62 (dk_at dksX12_figure_1 15 rfl rfl)
theorem dX12_figure_40 : decode cX12_figure 40 = .ok (.aload_n 0, 1) := dk_42 (dk_at dksX12_figure_1 16 rfl rfl)
theorem dX12_figure_41 : decode cX12_figure 41 = .ok (.invokevirtual 64, 3) := dk_182 0 64 (dk_at dksX12_figure_1 17 rfl rfl)
theorem dX12_figure_44 : decode cX12_figure 44 = .ok (.iload_n 3, 1) := dk_29 (dk_at dksX12_figure_1 20 rfl rfl)
theorem dX12_figure_45 : decode cX12_figure 45 = .ok (.ireturn, 1) := dk_172 (dk_at dksX12_figure_1 21 rfl rfl)
abbrev cX12_more : ByteArray := prog_10_method_7_code
def yX12_more : MethodName := ⟨RX12, "more", "(II)I"⟩
def dkwX12_more_0 : List UInt8 := [42, 6, 182, 0, 67, 42, 27, 28, 182, 0, 71, 172]
abbrev dktX12_more_0 : List UInt8 := dkwX12_more_0 ++ []
theorem dksX12_more_0 : cX12_more.data.toList.drop 0 = dktX12_more_0 := by decide +kernel
theorem dX12_more_0 : decode cX12_more 0 = .ok (.aload_n 0, 1) := dk_42 (dk_at dksX12_more_0 0 rfl rfl)
theorem dX12_more_1 : decode cX12_more 1 = .ok (.iconst 3, 1) := dk_6 (dk_at dksX12_more_0 1 rfl rfl)
theorem dX12_more_2 : decode cX12_more 2 = .ok (.invokevirtual 67, 3) := dk_182 0 67 (dk_at dksX12_more_0 2 rfl rfl)
theorem dX12_more_5 : decode cX12_more 5 = .ok (.aload_n 0, 1) := dk_42 (dk_at dksX12_more_0 5 rfl rfl)
theorem dX12_more_6 : decode cX12_more 6 = .ok (.iload_n 1, 1) := dk_27 (dk_at dksX12_more_0 6 rfl rfl)
theorem dX12_more_7 : decode cX12_more 7 = .ok (.iload_n 2, 1) := dk_28 (dk_at dksX12_more_0 7 rfl rfl)
theorem dX12_more_8 : decode cX12_more 8 = .ok (.invokevirtual 71, 3) := dk_182 0 71 (dk_at dksX12_more_0 8 rfl rfl)
theorem dX12_more_11 : decode cX12_more 11 = .ok (.ireturn, 1) := dk_172 (dk_at dksX12_more_0 11 rfl rfl)
abbrev cX12_sign : ByteArray := prog_10_method_8_code
def yX12_sign : MethodName := ⟨RX12, "sign", "(I)V"⟩
def dkwX12_sign_0 : List UInt8 := [42, 42, 180, 0, 40, 27, 160, 0, 7, 4, 167, 0, 4, 3, 4, 182, 0, 60, 42, 182, 0, 64, 177]
abbrev dktX12_sign_0 : List UInt8 := dkwX12_sign_0 ++ []
theorem dksX12_sign_0 : cX12_sign.data.toList.drop 0 = dktX12_sign_0 := by decide +kernel
theorem dX12_sign_0 : decode cX12_sign 0 = .ok (.aload_n 0, 1) := dk_42 (dk_at dksX12_sign_0 0 rfl rfl)
theorem dX12_sign_1 : decode cX12_sign 1 = .ok (.aload_n 0, 1) := dk_42 (dk_at dksX12_sign_0 1 rfl rfl)
theorem dX12_sign_2 : decode cX12_sign 2 = .ok (.getfield 40, 3) := dk_180 0 40 (dk_at dksX12_sign_0 2 rfl rfl)
theorem dX12_sign_5 : decode cX12_sign 5 = .ok (.iload_n 1, 1) := dk_27 (dk_at dksX12_sign_0 5 rfl rfl)
theorem dX12_sign_6 : decode cX12_sign 6 = .ok (.if_icmp .ne 7, 3) := dk_160 0 7 (dk_at dksX12_sign_0 6 rfl rfl)
theorem dX12_sign_9 : decode cX12_sign 9 = .ok (.iconst 1, 1) := dk_4 (dk_at dksX12_sign_0 9 rfl rfl)
theorem dX12_sign_10 : decode cX12_sign 10 = .ok (.goto 4, 3) := dk_167 0 4 (dk_at dksX12_sign_0 10 rfl rfl)
theorem dX12_sign_13 : decode cX12_sign 13 = .ok (.iconst 0, 1) := dk_3 (dk_at dksX12_sign_0 13 rfl rfl)
theorem dX12_sign_14 : decode cX12_sign 14 = .ok (.iconst 1, 1) := dk_4 (dk_at dksX12_sign_0 14 rfl rfl)
theorem dX12_sign_15 : decode cX12_sign 15 = .ok (.invokevirtual 60, 3) := dk_182 0 60 (dk_at dksX12_sign_0 15 rfl rfl)
theorem dX12_sign_18 : decode cX12_sign 18 = .ok (.aload_n 0, 1) := dk_42 (dk_at dksX12_sign_0 18 rfl rfl)
theorem dX12_sign_19 : decode cX12_sign 19 = .ok (.invokevirtual 64, 3) := dk_182 0 64 (dk_at dksX12_sign_0 19 rfl rfl)
theorem dX12_sign_22 : decode cX12_sign 22 = .ok (.return_, 1) := dk_177 (dk_at dksX12_sign_0 22 rfl rfl)
abbrev cX12_sortOf : ByteArray := prog_10_method_11_code
def yX12_sortOf : MethodName := ⟨RX12, "sortOf", "(Ljava/lang/String;)I"⟩
def dkwX12_sortOf_0 : List UInt8 := [43, 42, 180, 0, 40, 42, 180, 0, 37, 184, 0, 84, 172]
abbrev dktX12_sortOf_0 : List UInt8 := dkwX12_sortOf_0 ++ []
theorem dksX12_sortOf_0 : cX12_sortOf.data.toList.drop 0 = dktX12_sortOf_0 := by decide +kernel
theorem dX12_sortOf_0 : decode cX12_sortOf 0 = .ok (.aload_n 1, 1) := dk_43 (dk_at dksX12_sortOf_0 0 rfl rfl)
theorem dX12_sortOf_1 : decode cX12_sortOf 1 = .ok (.aload_n 0, 1) := dk_42 (dk_at dksX12_sortOf_0 1 rfl rfl)
theorem dX12_sortOf_2 : decode cX12_sortOf 2 = .ok (.getfield 40, 3) := dk_180 0 40 (dk_at dksX12_sortOf_0 2 rfl rfl)
theorem dX12_sortOf_5 : decode cX12_sortOf 5 = .ok (.aload_n 0, 1) := dk_42 (dk_at dksX12_sortOf_0 5 rfl rfl)
theorem dX12_sortOf_6 : decode cX12_sortOf 6 = .ok (.getfield 37, 3) := dk_180 0 37 (dk_at dksX12_sortOf_0 6 rfl rfl)
theorem dX12_sortOf_9 : decode cX12_sortOf 9 = .ok (.invokestatic 84, 3) := dk_184 0 84 (dk_at dksX12_sortOf_0 9 rfl rfl)
theorem dX12_sortOf_12 : decode cX12_sortOf 12 = .ok (.ireturn, 1) := dk_172 (dk_at dksX12_sortOf_0 12 rfl rfl)
abbrev cX12_sortIn : ByteArray := prog_10_method_10_code
def yX12_sortIn : MethodName := ⟨RX12, "sortIn", "(Ljava/lang/String;II)I"⟩
def dkwX12_sortIn_1 : List UInt8 := [132, 3, 1, 167, 255, 231, 29, 42, 182, 0, 75, 162, 0, 7, 29, 167, 0, 5, 18, 29, 172]
abbrev dktX12_sortIn_1 : List UInt8 := dkwX12_sortIn_1 ++ []
def dkwX12_sortIn_0 : List UInt8 := [3, 62, 29, 42, 182, 0, 75, 162, 0, 23, 27, 4, 160, 0, 12, 42, 29, 182, 0, 80, 28, 159, 0, 9]
abbrev dktX12_sortIn_0 : List UInt8 := dkwX12_sortIn_0 ++ dktX12_sortIn_1
theorem dksX12_sortIn_0 : cX12_sortIn.data.toList.drop 0 = dktX12_sortIn_0 := by decide +kernel
theorem dksX12_sortIn_1 : cX12_sortIn.data.toList.drop 24 = dktX12_sortIn_1 := dk_seg dksX12_sortIn_0 24 rfl rfl
theorem dX12_sortIn_0 : decode cX12_sortIn 0 = .ok (.iconst 0, 1) := dk_3 (dk_at dksX12_sortIn_0 0 rfl rfl)
theorem dX12_sortIn_1 : decode cX12_sortIn 1 = .ok (.istore_n 3, 1) := dk_62 (dk_at dksX12_sortIn_0 1 rfl rfl)
theorem dX12_sortIn_2 : decode cX12_sortIn 2 = .ok (.iload_n 3, 1) := dk_29 (dk_at dksX12_sortIn_0 2 rfl rfl)
theorem dX12_sortIn_3 : decode cX12_sortIn 3 = .ok (.aload_n 0, 1) := dk_42 (dk_at dksX12_sortIn_0 3 rfl rfl)
theorem dX12_sortIn_4 : decode cX12_sortIn 4 = .ok (.invokevirtual 75, 3) := dk_182 0 75 (dk_at dksX12_sortIn_0 4 rfl rfl)
theorem dX12_sortIn_7 : decode cX12_sortIn 7 = .ok (.if_icmp .ge 23, 3) := dk_162 0 23 (dk_at dksX12_sortIn_0 7 rfl rfl)
theorem dX12_sortIn_10 : decode cX12_sortIn 10 = .ok (.iload_n 1, 1) := dk_27 (dk_at dksX12_sortIn_0 10 rfl rfl)
theorem dX12_sortIn_11 : decode cX12_sortIn 11 = .ok (.iconst 1, 1) := dk_4 (dk_at dksX12_sortIn_0 11 rfl rfl)
theorem dX12_sortIn_12 : decode cX12_sortIn 12 = .ok (.if_icmp .ne 12, 3) := dk_160 0 12 (dk_at dksX12_sortIn_0 12 rfl rfl)
theorem dX12_sortIn_15 : decode cX12_sortIn 15 = .ok (.aload_n 0, 1) := dk_42 (dk_at dksX12_sortIn_0 15 rfl rfl)
theorem dX12_sortIn_16 : decode cX12_sortIn 16 = .ok (.iload_n 3, 1) := dk_29 (dk_at dksX12_sortIn_0 16 rfl rfl)
theorem dX12_sortIn_17 : decode cX12_sortIn 17 = .ok (.invokevirtual 80, 3) := dk_182 0 80 (dk_at dksX12_sortIn_0 17 rfl rfl)
theorem dX12_sortIn_20 : decode cX12_sortIn 20 = .ok (.iload_n 2, 1) := dk_28 (dk_at dksX12_sortIn_0 20 rfl rfl)
theorem dX12_sortIn_21 : decode cX12_sortIn 21 = .ok (.if_icmp .eq 9, 3) := dk_159 0 9 (dk_at dksX12_sortIn_0 21 rfl rfl)
theorem dX12_sortIn_24 : decode cX12_sortIn 24 = .ok (.iinc 3 1, 3) := dk_132 3 1 (dk_at dksX12_sortIn_1 0 rfl rfl)
theorem dX12_sortIn_27 : decode cX12_sortIn 27 = .ok (.goto (-25), 3) := dk_167 255 231 (dk_at dksX12_sortIn_1 3 rfl rfl)
theorem dX12_sortIn_30 : decode cX12_sortIn 30 = .ok (.iload_n 3, 1) := dk_29 (dk_at dksX12_sortIn_1 6 rfl rfl)
theorem dX12_sortIn_31 : decode cX12_sortIn 31 = .ok (.aload_n 0, 1) := dk_42 (dk_at dksX12_sortIn_1 7 rfl rfl)
theorem dX12_sortIn_32 : decode cX12_sortIn 32 = .ok (.invokevirtual 75, 3) := dk_182 0 75 (dk_at dksX12_sortIn_1 8 rfl rfl)
theorem dX12_sortIn_35 : decode cX12_sortIn 35 = .ok (.if_icmp .ge 7, 3) := dk_162 0 7 (dk_at dksX12_sortIn_1 11 rfl rfl)
theorem dX12_sortIn_38 : decode cX12_sortIn 38 = .ok (.iload_n 3, 1) := dk_29 (dk_at dksX12_sortIn_1 14 rfl rfl)
theorem dX12_sortIn_39 : decode cX12_sortIn 39 = .ok (.goto 5, 3) := dk_167 0 5 (dk_at dksX12_sortIn_1 15 rfl rfl)
theorem dX12_sortIn_42 : decode cX12_sortIn 42 = .ok (.ldc 29, 2) := dk_18 29 (dk_at dksX12_sortIn_1 18 rfl rfl)
theorem dX12_sortIn_44 : decode cX12_sortIn 44 = .ok (.ireturn, 1) := dk_172 (dk_at dksX12_sortIn_1 20 rfl rfl)
abbrev cX12_chair : ByteArray := prog_10_method_13_code
def yX12_chair : MethodName := ⟨RX12, "chair", "()V"⟩
def dkwX12_chair_3 : List UInt8 := [180, 0, 12, 180, 0, 126, 27, 28, 184, 0, 130, 185, 0, 134, 2, 0, 87, 42, 7, 182, 0, 67, 177]
abbrev dktX12_chair_3 : List UInt8 := dkwX12_chair_3 ++ []
def dkwX12_chair_2 : List UInt8 := [3, 16, 9, 182, 0, 95, 79, 42, 180, 0, 12, 180, 0, 123, 28, 42, 3, 6, 182, 0, 95, 79, 42]
abbrev dktX12_chair_2 : List UInt8 := dkwX12_chair_2 ++ dktX12_chair_3
def dkwX12_chair_1 : List UInt8 := [180, 0, 12, 180, 0, 116, 28, 42, 3, 16, 60, 182, 0, 71, 79, 42, 180, 0, 12, 180, 0, 120, 28, 42]
abbrev dktX12_chair_1 : List UInt8 := dkwX12_chair_1 ++ dktX12_chair_2
def dkwX12_chair_0 : List UInt8 := [42, 18, 98, 182, 0, 100, 60, 42, 180, 0, 12, 182, 0, 110, 61, 42, 28, 16, 6, 182, 0, 113, 42]
abbrev dktX12_chair_0 : List UInt8 := dkwX12_chair_0 ++ dktX12_chair_1
theorem dksX12_chair_0 : cX12_chair.data.toList.drop 0 = dktX12_chair_0 := by decide +kernel
theorem dksX12_chair_1 : cX12_chair.data.toList.drop 23 = dktX12_chair_1 := dk_seg dksX12_chair_0 23 rfl rfl
theorem dksX12_chair_2 : cX12_chair.data.toList.drop 47 = dktX12_chair_2 := dk_seg dksX12_chair_1 24 rfl rfl
theorem dksX12_chair_3 : cX12_chair.data.toList.drop 70 = dktX12_chair_3 := dk_seg dksX12_chair_2 23 rfl rfl
theorem dX12_chair_0 : decode cX12_chair 0 = .ok (.aload_n 0, 1) := dk_42 (dk_at dksX12_chair_0 0 rfl rfl)
theorem dX12_chair_1 : decode cX12_chair 1 = .ok (.ldc 98, 2) := dk_18 98 (dk_at dksX12_chair_0 1 rfl rfl)
theorem dX12_chair_3 : decode cX12_chair 3 = .ok (.invokevirtual 100, 3) := dk_182 0 100 (dk_at dksX12_chair_0 3 rfl rfl)
theorem dX12_chair_6 : decode cX12_chair 6 = .ok (.istore_n 1, 1) := dk_60 (dk_at dksX12_chair_0 6 rfl rfl)
theorem dX12_chair_7 : decode cX12_chair 7 = .ok (.aload_n 0, 1) := dk_42 (dk_at dksX12_chair_0 7 rfl rfl)
theorem dX12_chair_8 : decode cX12_chair 8 = .ok (.getfield 12, 3) := dk_180 0 12 (dk_at dksX12_chair_0 8 rfl rfl)
theorem dX12_chair_11 : decode cX12_chair 11 = .ok (.invokevirtual 110, 3) := dk_182 0 110 (dk_at dksX12_chair_0 11 rfl rfl)
theorem dX12_chair_14 : decode cX12_chair 14 = .ok (.istore_n 2, 1) := dk_61 (dk_at dksX12_chair_0 14 rfl rfl)
theorem dX12_chair_15 : decode cX12_chair 15 = .ok (.aload_n 0, 1) := dk_42 (dk_at dksX12_chair_0 15 rfl rfl)
theorem dX12_chair_16 : decode cX12_chair 16 = .ok (.iload_n 2, 1) := dk_28 (dk_at dksX12_chair_0 16 rfl rfl)
theorem dX12_chair_17 : decode cX12_chair 17 = .ok (.bipush 6, 2) := dk_16 6 (dk_at dksX12_chair_0 17 rfl rfl)
theorem dX12_chair_19 : decode cX12_chair 19 = .ok (.invokevirtual 113, 3) := dk_182 0 113 (dk_at dksX12_chair_0 19 rfl rfl)
theorem dX12_chair_22 : decode cX12_chair 22 = .ok (.aload_n 0, 1) := dk_42 (dk_at dksX12_chair_0 22 rfl rfl)
theorem dX12_chair_23 : decode cX12_chair 23 = .ok (.getfield 12, 3) := dk_180 0 12 (dk_at dksX12_chair_1 0 rfl rfl)
theorem dX12_chair_26 : decode cX12_chair 26 = .ok (.getfield 116, 3) := dk_180 0 116 (dk_at dksX12_chair_1 3 rfl rfl)
theorem dX12_chair_29 : decode cX12_chair 29 = .ok (.iload_n 2, 1) := dk_28 (dk_at dksX12_chair_1 6 rfl rfl)
theorem dX12_chair_30 : decode cX12_chair 30 = .ok (.aload_n 0, 1) := dk_42 (dk_at dksX12_chair_1 7 rfl rfl)
theorem dX12_chair_31 : decode cX12_chair 31 = .ok (.iconst 0, 1) := dk_3 (dk_at dksX12_chair_1 8 rfl rfl)
theorem dX12_chair_32 : decode cX12_chair 32 = .ok (.bipush 60, 2) := dk_16 60 (dk_at dksX12_chair_1 9 rfl rfl)
theorem dX12_chair_34 : decode cX12_chair 34 = .ok (.invokevirtual 71, 3) := dk_182 0 71 (dk_at dksX12_chair_1 11 rfl rfl)
theorem dX12_chair_37 : decode cX12_chair 37 = .ok (.iastore, 1) := dk_79 (dk_at dksX12_chair_1 14 rfl rfl)
theorem dX12_chair_38 : decode cX12_chair 38 = .ok (.aload_n 0, 1) := dk_42 (dk_at dksX12_chair_1 15 rfl rfl)
theorem dX12_chair_39 : decode cX12_chair 39 = .ok (.getfield 12, 3) := dk_180 0 12 (dk_at dksX12_chair_1 16 rfl rfl)
theorem dX12_chair_42 : decode cX12_chair 42 = .ok (.getfield 120, 3) := dk_180 0 120 (dk_at dksX12_chair_1 19 rfl rfl)
theorem dX12_chair_45 : decode cX12_chair 45 = .ok (.iload_n 2, 1) := dk_28 (dk_at dksX12_chair_1 22 rfl rfl)
theorem dX12_chair_46 : decode cX12_chair 46 = .ok (.aload_n 0, 1) := dk_42 (dk_at dksX12_chair_1 23 rfl rfl)
theorem dX12_chair_47 : decode cX12_chair 47 = .ok (.iconst 0, 1) := dk_3 (dk_at dksX12_chair_2 0 rfl rfl)
theorem dX12_chair_48 : decode cX12_chair 48 = .ok (.bipush 9, 2) := dk_16 9 (dk_at dksX12_chair_2 1 rfl rfl)
theorem dX12_chair_50 : decode cX12_chair 50 = .ok (.invokevirtual 95, 3) := dk_182 0 95 (dk_at dksX12_chair_2 3 rfl rfl)
theorem dX12_chair_53 : decode cX12_chair 53 = .ok (.iastore, 1) := dk_79 (dk_at dksX12_chair_2 6 rfl rfl)
theorem dX12_chair_54 : decode cX12_chair 54 = .ok (.aload_n 0, 1) := dk_42 (dk_at dksX12_chair_2 7 rfl rfl)
theorem dX12_chair_55 : decode cX12_chair 55 = .ok (.getfield 12, 3) := dk_180 0 12 (dk_at dksX12_chair_2 8 rfl rfl)
theorem dX12_chair_58 : decode cX12_chair 58 = .ok (.getfield 123, 3) := dk_180 0 123 (dk_at dksX12_chair_2 11 rfl rfl)
theorem dX12_chair_61 : decode cX12_chair 61 = .ok (.iload_n 2, 1) := dk_28 (dk_at dksX12_chair_2 14 rfl rfl)
theorem dX12_chair_62 : decode cX12_chair 62 = .ok (.aload_n 0, 1) := dk_42 (dk_at dksX12_chair_2 15 rfl rfl)
theorem dX12_chair_63 : decode cX12_chair 63 = .ok (.iconst 0, 1) := dk_3 (dk_at dksX12_chair_2 16 rfl rfl)
theorem dX12_chair_64 : decode cX12_chair 64 = .ok (.iconst 3, 1) := dk_6 (dk_at dksX12_chair_2 17 rfl rfl)
theorem dX12_chair_65 : decode cX12_chair 65 = .ok (.invokevirtual 95, 3) := dk_182 0 95 (dk_at dksX12_chair_2 18 rfl rfl)
theorem dX12_chair_68 : decode cX12_chair 68 = .ok (.iastore, 1) := dk_79 (dk_at dksX12_chair_2 21 rfl rfl)
theorem dX12_chair_69 : decode cX12_chair 69 = .ok (.aload_n 0, 1) := dk_42 (dk_at dksX12_chair_2 22 rfl rfl)
theorem dX12_chair_70 : decode cX12_chair 70 = .ok (.getfield 12, 3) := dk_180 0 12 (dk_at dksX12_chair_3 0 rfl rfl)
theorem dX12_chair_73 : decode cX12_chair 73 = .ok (.getfield 126, 3) := dk_180 0 126 (dk_at dksX12_chair_3 3 rfl rfl)
theorem dX12_chair_76 : decode cX12_chair 76 = .ok (.iload_n 1, 1) := dk_27 (dk_at dksX12_chair_3 6 rfl rfl)
theorem dX12_chair_77 : decode cX12_chair 77 = .ok (.iload_n 2, 1) := dk_28 (dk_at dksX12_chair_3 7 rfl rfl)
theorem dX12_chair_78 : decode cX12_chair 78 = .ok (.invokestatic 130, 3) := dk_184 0 130 (dk_at dksX12_chair_3 8 rfl rfl)
theorem dX12_chair_81 : decode cX12_chair 81 = .ok (.invokeinterface 134 2, 5) := by decide +kernel
theorem dX12_chair_86 : decode cX12_chair 86 = .ok (.pop, 1) := dk_87 (dk_at dksX12_chair_3 16 rfl rfl)
theorem dX12_chair_87 : decode cX12_chair 87 = .ok (.aload_n 0, 1) := dk_42 (dk_at dksX12_chair_3 17 rfl rfl)
theorem dX12_chair_88 : decode cX12_chair 88 = .ok (.iconst 4, 1) := dk_7 (dk_at dksX12_chair_3 18 rfl rfl)
theorem dX12_chair_89 : decode cX12_chair 89 = .ok (.invokevirtual 67, 3) := dk_182 0 67 (dk_at dksX12_chair_3 19 rfl rfl)
theorem dX12_chair_92 : decode cX12_chair 92 = .ok (.return_, 1) := dk_177 (dk_at dksX12_chair_3 22 rfl rfl)
abbrev cX12_begin : ByteArray := prog_10_method_9_code
def yX12_begin : MethodName := ⟨RX12, "begin", "(II)V"⟩
def dkwX12_begin_0 : List UInt8 := [42, 27, 28, 162, 0, 7, 4, 167, 0, 4, 3, 6, 182, 0, 60, 42, 182, 0, 64, 177]
abbrev dktX12_begin_0 : List UInt8 := dkwX12_begin_0 ++ []
theorem dksX12_begin_0 : cX12_begin.data.toList.drop 0 = dktX12_begin_0 := by decide +kernel
theorem dX12_begin_0 : decode cX12_begin 0 = .ok (.aload_n 0, 1) := dk_42 (dk_at dksX12_begin_0 0 rfl rfl)
theorem dX12_begin_1 : decode cX12_begin 1 = .ok (.iload_n 1, 1) := dk_27 (dk_at dksX12_begin_0 1 rfl rfl)
theorem dX12_begin_2 : decode cX12_begin 2 = .ok (.iload_n 2, 1) := dk_28 (dk_at dksX12_begin_0 2 rfl rfl)
theorem dX12_begin_3 : decode cX12_begin 3 = .ok (.if_icmp .ge 7, 3) := dk_162 0 7 (dk_at dksX12_begin_0 3 rfl rfl)
theorem dX12_begin_6 : decode cX12_begin 6 = .ok (.iconst 1, 1) := dk_4 (dk_at dksX12_begin_0 6 rfl rfl)
theorem dX12_begin_7 : decode cX12_begin 7 = .ok (.goto 4, 3) := dk_167 0 4 (dk_at dksX12_begin_0 7 rfl rfl)
theorem dX12_begin_10 : decode cX12_begin 10 = .ok (.iconst 0, 1) := dk_3 (dk_at dksX12_begin_0 10 rfl rfl)
theorem dX12_begin_11 : decode cX12_begin 11 = .ok (.iconst 3, 1) := dk_6 (dk_at dksX12_begin_0 11 rfl rfl)
theorem dX12_begin_12 : decode cX12_begin 12 = .ok (.invokevirtual 60, 3) := dk_182 0 60 (dk_at dksX12_begin_0 12 rfl rfl)
theorem dX12_begin_15 : decode cX12_begin 15 = .ok (.aload_n 0, 1) := dk_42 (dk_at dksX12_begin_0 15 rfl rfl)
theorem dX12_begin_16 : decode cX12_begin 16 = .ok (.invokevirtual 64, 3) := dk_182 0 64 (dk_at dksX12_begin_0 16 rfl rfl)
theorem dX12_begin_19 : decode cX12_begin 19 = .ok (.return_, 1) := dk_177 (dk_at dksX12_begin_0 19 rfl rfl)
theorem q90 : (Jvm.Cond.initialized "ChairRanks$Reader") ∈ lw_all := lw_g (lw_at lw_m1 23 rfl) rfl
theorem q146 : (Jvm.Cond.fieldLink "ChairRanks$Reader" (92 : Nat) "ChairRanks$Ministry" "watchmen" "I") ∈ lw_all := lw_g (lw_at lw_m1 79 rfl) rfl
theorem q149 : (Jvm.Cond.fieldLink "ChairRanks$Reader" (107 : Nat) "ChairRanks$Ministry" "glue" "I") ∈ lw_all := lw_g (lw_at lw_m1 82 rfl) rfl
theorem q152 : (Jvm.Cond.fieldLink "ChairRanks$Reader" (126 : Nat) "ChairRanks$Ministry" "chairs" "Ljava/util/List;") ∈ lw_all := lw_g (lw_at lw_m1 85 rfl) rfl
theorem q156 : (Jvm.Cond.fieldLink "ChairRanks$Reader" (116 : Nat) "ChairRanks$Ministry" "leg" "[I") ∈ lw_all := lw_g (lw_at lw_m1 89 rfl) rfl
theorem q162 : (Jvm.Cond.fieldLink "ChairRanks$Reader" (120 : Nat) "ChairRanks$Ministry" "saw" "[I") ∈ lw_all := lw_g (lw_at lw_m1 95 rfl) rfl
theorem q165 : (Jvm.Cond.fieldLink "ChairRanks$Reader" (123 : Nat) "ChairRanks$Ministry" "grudge" "[I") ∈ lw_all := lw_g (lw_at lw_m1 98 rfl) rfl
theorem q480 : (Jvm.Cond.instantiable "ChairRanks$Reader" (7 : Nat)) ∈ lw_all := lw_g (lw_at lw_m2 173 rfl) rfl
theorem q482 : (Jvm.Cond.instanceMethod ({ cls := "ChairRanks$Reader", name := "<init>", desc := "([BI)V" } : Jvm.MethodName)) ∈ lw_all := lw_g (lw_at lw_m2 175 rfl) rfl
theorem q483 : (Jvm.Cond.code ({ cls := "ChairRanks$Reader", name := "<init>", desc := "([BI)V" } : Jvm.MethodName) prog_10_method_1_code (3 : Nat) (Option.none : Option Jvm.ClassFile.FieldType)) ∈ lw_all := lw_g (lw_at lw_m2 176 rfl) rfl
theorem q484 : (Jvm.Cond.methodLink "ChairRanks$Reader" (3 : Nat) ({ cls := "java/lang/Object", name := "<init>", desc := "()V" } : Jvm.MethodName)) ∈ lw_all := lw_g (lw_at lw_m2 177 rfl) rfl
theorem q485 : (Jvm.Cond.classLink "ChairRanks$Reader" (9 : Nat) "ChairRanks$Ministry") ∈ lw_all := lw_g (lw_at lw_m2 178 rfl) rfl
theorem q486 : (Jvm.Cond.methodLinkNest "ChairRanks$Reader" (11 : Nat) ({ cls := "ChairRanks$Ministry", name := "<init>", desc := "()V" } : Jvm.MethodName) "ChairRanks") ∈ lw_tbl := lw_at lw_m2 179 rfl
theorem q487 : (Jvm.Cond.fieldLink "ChairRanks$Reader" (18 : Nat) "ChairRanks$Reader" "text" "[B") ∈ lw_all := lw_g (lw_at lw_m2 180 rfl) rfl
theorem q488 : (Jvm.Cond.fieldLink "ChairRanks$Reader" (22 : Nat) "ChairRanks$Reader" "size" "I") ∈ lw_all := lw_g (lw_at lw_m2 181 rfl) rfl
theorem q489 : (Jvm.Cond.fieldLink "ChairRanks$Reader" (26 : Nat) "ChairRanks$Reader" "at" "I") ∈ lw_all := lw_g (lw_at lw_m2 182 rfl) rfl
theorem q490 : (Jvm.Cond.fieldLink "ChairRanks$Reader" (40 : Nat) "ChairRanks$Reader" "token" "I") ∈ lw_all := lw_g (lw_at lw_m2 183 rfl) rfl
theorem q491 : (Jvm.Cond.fieldLink "ChairRanks$Reader" (30 : Nat) "ChairRanks$Reader" "from" "I") ∈ lw_all := lw_g (lw_at lw_m2 184 rfl) rfl
theorem q492 : (Jvm.Cond.fieldLink "ChairRanks$Reader" (37 : Nat) "ChairRanks$Reader" "value" "I") ∈ lw_all := lw_g (lw_at lw_m2 185 rfl) rfl
theorem q493 : (Jvm.Cond.fieldLink "ChairRanks$Reader" (12 : Nat) "ChairRanks$Reader" "made" "LChairRanks$Ministry;") ∈ lw_all := lw_g (lw_at lw_m2 186 rfl) rfl
theorem q495 : (Jvm.Cond.laysFinal "ChairRanks$Reader" "ChairRanks$Reader" "text" "[B") ∈ lw_all := lw_g (lw_at lw_m2 188 rfl) rfl
theorem q496 : (Jvm.Cond.soleField "ChairRanks$Reader" "text") ∈ lw_all := lw_g (lw_at lw_m2 189 rfl) rfl
theorem q497 : (Jvm.Cond.laysFinal "ChairRanks$Reader" "ChairRanks$Reader" "size" "I") ∈ lw_all := lw_g (lw_at lw_m2 190 rfl) rfl
theorem q498 : (Jvm.Cond.soleField "ChairRanks$Reader" "size") ∈ lw_all := lw_g (lw_at lw_m2 191 rfl) rfl
theorem q499 : (Jvm.Cond.lays "ChairRanks$Reader" "ChairRanks$Reader" "at" "I") ∈ lw_all := lw_g (lw_at lw_m2 192 rfl) rfl
theorem q500 : (Jvm.Cond.soleField "ChairRanks$Reader" "at") ∈ lw_all := lw_g (lw_at lw_m2 193 rfl) rfl
theorem q501 : (Jvm.Cond.lays "ChairRanks$Reader" "ChairRanks$Reader" "token" "I") ∈ lw_all := lw_g (lw_at lw_m2 194 rfl) rfl
theorem q502 : (Jvm.Cond.soleField "ChairRanks$Reader" "token") ∈ lw_all := lw_g (lw_at lw_m2 195 rfl) rfl
theorem q503 : (Jvm.Cond.lays "ChairRanks$Reader" "ChairRanks$Reader" "from" "I") ∈ lw_all := lw_g (lw_at lw_m2 196 rfl) rfl
theorem q504 : (Jvm.Cond.soleField "ChairRanks$Reader" "from") ∈ lw_all := lw_g (lw_at lw_m2 197 rfl) rfl
theorem q505 : (Jvm.Cond.lays "ChairRanks$Reader" "ChairRanks$Reader" "value" "I") ∈ lw_all := lw_g (lw_at lw_m2 198 rfl) rfl
theorem q506 : (Jvm.Cond.soleField "ChairRanks$Reader" "value") ∈ lw_all := lw_g (lw_at lw_m2 199 rfl) rfl
theorem q507 : (Jvm.Cond.laysFinal "ChairRanks$Reader" "ChairRanks$Reader" "made" "LChairRanks$Ministry;") ∈ lw_all := lw_g (lw_at lw_m2 200 rfl) rfl
theorem q508 : (Jvm.Cond.soleField "ChairRanks$Reader" "made") ∈ lw_all := lw_g (lw_at lw_m2 201 rfl) rfl
theorem q509 : (Jvm.Cond.superclass "ChairRanks$Reader" "java/lang/Object") ∈ lw_all := lw_g (lw_at lw_m2 202 rfl) rfl
theorem q511 : (Jvm.Cond.instanceMethod ({ cls := "ChairRanks$Reader", name := "all", desc := "()V" } : Jvm.MethodName)) ∈ lw_all := lw_g (lw_at lw_m2 204 rfl) rfl
theorem q512 : (Jvm.Cond.selects "ChairRanks$Reader" ({ cls := "ChairRanks$Reader", name := "all", desc := "()V" } : Jvm.MethodName) ({ cls := "ChairRanks$Reader", name := "all", desc := "()V" } : Jvm.MethodName)) ∈ lw_all := lw_g (lw_at lw_m2 205 rfl) rfl
theorem q513 : (Jvm.Cond.code ({ cls := "ChairRanks$Reader", name := "all", desc := "()V" } : Jvm.MethodName) prog_10_method_12_code (2 : Nat) (Option.none : Option Jvm.ClassFile.FieldType)) ∈ lw_all := lw_g (lw_at lw_m2 206 rfl) rfl
theorem q514 : (Jvm.Cond.methodLink "ChairRanks$Reader" (64 : Nat) ({ cls := "ChairRanks$Reader", name := "next", desc := "()V" } : Jvm.MethodName)) ∈ lw_all := lw_g (lw_at lw_m2 207 rfl) rfl
theorem q515 : (Jvm.Cond.privateMethod ({ cls := "ChairRanks$Reader", name := "next", desc := "()V" } : Jvm.MethodName)) ∈ lw_tbl := lw_at lw_m2 208 rfl
theorem q516 : (Jvm.Cond.instanceMethod ({ cls := "ChairRanks$Reader", name := "next", desc := "()V" } : Jvm.MethodName)) ∈ lw_all := lw_g (lw_at lw_m2 209 rfl) rfl
theorem q517 : (Jvm.Cond.code ({ cls := "ChairRanks$Reader", name := "next", desc := "()V" } : Jvm.MethodName) prog_10_method_3_code (2 : Nat) (Option.none : Option Jvm.ClassFile.FieldType)) ∈ lw_all := lw_g (lw_at lw_m2 210 rfl) rfl
theorem q518 : (Jvm.Cond.methodLink "ChairRanks$Reader" (33 : Nat) ({ cls := "ChairRanks$Reader", name := "look", desc := "()I" } : Jvm.MethodName)) ∈ lw_all := lw_g (lw_at lw_m2 211 rfl) rfl
theorem q519 : (Jvm.Cond.privateMethod ({ cls := "ChairRanks$Reader", name := "look", desc := "()I" } : Jvm.MethodName)) ∈ lw_tbl := lw_at lw_m2 212 rfl
theorem q520 : (Jvm.Cond.instanceMethod ({ cls := "ChairRanks$Reader", name := "look", desc := "()I" } : Jvm.MethodName)) ∈ lw_all := lw_g (lw_at lw_m2 213 rfl) rfl
theorem q521 : (Jvm.Cond.code ({ cls := "ChairRanks$Reader", name := "look", desc := "()I" } : Jvm.MethodName) prog_10_method_2_code (1 : Nat) (Option.some Jvm.ClassFile.FieldType.int)) ∈ lw_all := lw_g (lw_at lw_m2 214 rfl) rfl
theorem q522 : (Jvm.Cond.constant "ChairRanks$Reader" (29 : Nat) (-1000000 : Int32)) ∈ lw_all := lw_g (lw_at lw_m2 215 rfl) rfl
theorem q523 : (Jvm.Cond.constantLong "ChairRanks$Reader" (43 : Nat) (48 : Int64)) ∈ lw_all := lw_g (lw_at lw_m2 216 rfl) rfl
theorem q524 : (Jvm.Cond.constantLong "ChairRanks$Reader" (45 : Nat) (57 : Int64)) ∈ lw_all := lw_g (lw_at lw_m2 217 rfl) rfl
theorem q525 : (Jvm.Cond.methodLinkNest "ChairRanks$Reader" (47 : Nat) ({ cls := "ChairRanks", name := "isIn", desc := "(JJJ)Z" } : Jvm.MethodName) "ChairRanks") ∈ lw_tbl := lw_at lw_m2 218 rfl
theorem q526 : (Jvm.Cond.constantLong "ChairRanks$Reader" (51 : Nat) (97 : Int64)) ∈ lw_all := lw_g (lw_at lw_m2 219 rfl) rfl
theorem q527 : (Jvm.Cond.constantLong "ChairRanks$Reader" (53 : Nat) (122 : Int64)) ∈ lw_all := lw_g (lw_at lw_m2 220 rfl) rfl
theorem q528 : (Jvm.Cond.methodLink "ChairRanks$Reader" (88 : Nat) ({ cls := "ChairRanks$Reader", name := "isLetter", desc := "(I)Z" } : Jvm.MethodName)) ∈ lw_all := lw_g (lw_at lw_m2 221 rfl) rfl
theorem q529 : (Jvm.Cond.privateMethod ({ cls := "ChairRanks$Reader", name := "isLetter", desc := "(I)Z" } : Jvm.MethodName)) ∈ lw_tbl := lw_at lw_m2 222 rfl
theorem q530 : (Jvm.Cond.instanceMethod ({ cls := "ChairRanks$Reader", name := "isLetter", desc := "(I)Z" } : Jvm.MethodName)) ∈ lw_all := lw_g (lw_at lw_m2 223 rfl) rfl
theorem q531 : (Jvm.Cond.code ({ cls := "ChairRanks$Reader", name := "isLetter", desc := "(I)Z" } : Jvm.MethodName) prog_10_method_5_code (2 : Nat) (Option.some Jvm.ClassFile.FieldType.boolean)) ∈ lw_all := lw_g (lw_at lw_m2 224 rfl) rfl
theorem q532 : (Jvm.Cond.methodLink "ChairRanks$Reader" (60 : Nat) ({ cls := "ChairRanks$Reader", name := "must", desc := "(ZI)V" } : Jvm.MethodName)) ∈ lw_all := lw_g (lw_at lw_m2 225 rfl) rfl
theorem q533 : (Jvm.Cond.privateMethod ({ cls := "ChairRanks$Reader", name := "must", desc := "(ZI)V" } : Jvm.MethodName)) ∈ lw_tbl := lw_at lw_m2 226 rfl
theorem q534 : (Jvm.Cond.instanceMethod ({ cls := "ChairRanks$Reader", name := "must", desc := "(ZI)V" } : Jvm.MethodName)) ∈ lw_all := lw_g (lw_at lw_m2 227 rfl) rfl
theorem q535 : (Jvm.Cond.code ({ cls := "ChairRanks$Reader", name := "must", desc := "(ZI)V" } : Jvm.MethodName) prog_10_method_4_code (3 : Nat) (Option.none : Option Jvm.ClassFile.FieldType)) ∈ lw_all := lw_g (lw_at lw_m2 228 rfl) rfl
theorem q536 : (Jvm.Cond.classLink "ChairRanks$Reader" (55 : Nat) "ChairRanks$Fault") ∈ lw_all := lw_g (lw_at lw_m2 229 rfl) rfl
theorem q545 : (Jvm.Cond.methodLink "ChairRanks$Reader" (57 : Nat) ({ cls := "ChairRanks$Fault", name := "<init>", desc := "(II)V" } : Jvm.MethodName)) ∈ lw_all := lw_g (lw_at lw_m2 238 rfl) rfl
theorem q559 : (Jvm.Cond.methodLink "ChairRanks$Reader" (71 : Nat) ({ cls := "ChairRanks$Reader", name := "figure", desc := "(II)I" } : Jvm.MethodName)) ∈ lw_all := lw_g (lw_at lw_m3 12 rfl) rfl
theorem q560 : (Jvm.Cond.privateMethod ({ cls := "ChairRanks$Reader", name := "figure", desc := "(II)I" } : Jvm.MethodName)) ∈ lw_tbl := lw_at lw_m3 13 rfl
theorem q561 : (Jvm.Cond.instanceMethod ({ cls := "ChairRanks$Reader", name := "figure", desc := "(II)I" } : Jvm.MethodName)) ∈ lw_all := lw_g (lw_at lw_m3 14 rfl) rfl
theorem q562 : (Jvm.Cond.code ({ cls := "ChairRanks$Reader", name := "figure", desc := "(II)I" } : Jvm.MethodName) prog_10_method_6_code (4 : Nat) (Option.some Jvm.ClassFile.FieldType.int)) ∈ lw_all := lw_g (lw_at lw_m3 15 rfl) rfl
theorem q563 : (Jvm.Cond.methodLink "ChairRanks$Reader" (95 : Nat) ({ cls := "ChairRanks$Reader", name := "more", desc := "(II)I" } : Jvm.MethodName)) ∈ lw_all := lw_g (lw_at lw_m3 16 rfl) rfl
theorem q564 : (Jvm.Cond.privateMethod ({ cls := "ChairRanks$Reader", name := "more", desc := "(II)I" } : Jvm.MethodName)) ∈ lw_tbl := lw_at lw_m3 17 rfl
theorem q565 : (Jvm.Cond.instanceMethod ({ cls := "ChairRanks$Reader", name := "more", desc := "(II)I" } : Jvm.MethodName)) ∈ lw_all := lw_g (lw_at lw_m3 18 rfl) rfl
theorem q566 : (Jvm.Cond.code ({ cls := "ChairRanks$Reader", name := "more", desc := "(II)I" } : Jvm.MethodName) prog_10_method_7_code (3 : Nat) (Option.some Jvm.ClassFile.FieldType.int)) ∈ lw_all := lw_g (lw_at lw_m3 19 rfl) rfl
theorem q567 : (Jvm.Cond.methodLink "ChairRanks$Reader" (67 : Nat) ({ cls := "ChairRanks$Reader", name := "sign", desc := "(I)V" } : Jvm.MethodName)) ∈ lw_all := lw_g (lw_at lw_m3 20 rfl) rfl
theorem q568 : (Jvm.Cond.privateMethod ({ cls := "ChairRanks$Reader", name := "sign", desc := "(I)V" } : Jvm.MethodName)) ∈ lw_tbl := lw_at lw_m3 21 rfl
theorem q569 : (Jvm.Cond.instanceMethod ({ cls := "ChairRanks$Reader", name := "sign", desc := "(I)V" } : Jvm.MethodName)) ∈ lw_all := lw_g (lw_at lw_m3 22 rfl) rfl
theorem q570 : (Jvm.Cond.code ({ cls := "ChairRanks$Reader", name := "sign", desc := "(I)V" } : Jvm.MethodName) prog_10_method_8_code (2 : Nat) (Option.none : Option Jvm.ClassFile.FieldType)) ∈ lw_all := lw_g (lw_at lw_m3 23 rfl) rfl
theorem q571 : (Jvm.Cond.stringRef "ChairRanks$Reader" (98 : Nat) "prcot") ∈ lw_tbl := lw_at lw_m3 24 rfl
theorem q572 : (Jvm.Cond.methodLink "ChairRanks$Reader" (100 : Nat) ({ cls := "ChairRanks$Reader", name := "sortOf", desc := "(Ljava/lang/String;)I" } : Jvm.MethodName)) ∈ lw_all := lw_g (lw_at lw_m3 25 rfl) rfl
theorem q573 : (Jvm.Cond.privateMethod ({ cls := "ChairRanks$Reader", name := "sortOf", desc := "(Ljava/lang/String;)I" } : Jvm.MethodName)) ∈ lw_tbl := lw_at lw_m3 26 rfl
theorem q574 : (Jvm.Cond.instanceMethod ({ cls := "ChairRanks$Reader", name := "sortOf", desc := "(Ljava/lang/String;)I" } : Jvm.MethodName)) ∈ lw_all := lw_g (lw_at lw_m3 27 rfl) rfl
theorem q575 : (Jvm.Cond.code ({ cls := "ChairRanks$Reader", name := "sortOf", desc := "(Ljava/lang/String;)I" } : Jvm.MethodName) prog_10_method_11_code (2 : Nat) (Option.some Jvm.ClassFile.FieldType.int)) ∈ lw_all := lw_g (lw_at lw_m3 28 rfl) rfl
theorem q576 : (Jvm.Cond.methodLink "ChairRanks$Reader" (84 : Nat) ({ cls := "ChairRanks$Reader", name := "sortIn", desc := "(Ljava/lang/String;II)I" } : Jvm.MethodName)) ∈ lw_all := lw_g (lw_at lw_m3 29 rfl) rfl
theorem q577 : (Jvm.Cond.static ({ cls := "ChairRanks$Reader", name := "sortIn", desc := "(Ljava/lang/String;II)I" } : Jvm.MethodName)) ∈ lw_all := lw_g (lw_at lw_m3 30 rfl) rfl
theorem q578 : (Jvm.Cond.code ({ cls := "ChairRanks$Reader", name := "sortIn", desc := "(Ljava/lang/String;II)I" } : Jvm.MethodName) prog_10_method_10_code (4 : Nat) (Option.some Jvm.ClassFile.FieldType.int)) ∈ lw_all := lw_g (lw_at lw_m3 31 rfl) rfl
theorem q579 : (Jvm.Cond.methodLink "ChairRanks$Reader" (75 : Nat) ({ cls := "java/lang/String", name := "length", desc := "()I" } : Jvm.MethodName)) ∈ lw_all := lw_g (lw_at lw_m3 32 rfl) rfl
theorem q589 : (Jvm.Cond.methodLink "ChairRanks$Reader" (80 : Nat) ({ cls := "java/lang/String", name := "charAt", desc := "(I)C" } : Jvm.MethodName)) ∈ lw_all := lw_g (lw_at lw_m3 42 rfl) rfl
theorem q627 : (Jvm.Cond.methodLink "ChairRanks$Reader" (104 : Nat) ({ cls := "ChairRanks$Reader", name := "chair", desc := "()V" } : Jvm.MethodName)) ∈ lw_all := lw_g (lw_at lw_m3 80 rfl) rfl
theorem q628 : (Jvm.Cond.privateMethod ({ cls := "ChairRanks$Reader", name := "chair", desc := "()V" } : Jvm.MethodName)) ∈ lw_tbl := lw_at lw_m3 81 rfl
theorem q629 : (Jvm.Cond.instanceMethod ({ cls := "ChairRanks$Reader", name := "chair", desc := "()V" } : Jvm.MethodName)) ∈ lw_all := lw_g (lw_at lw_m3 82 rfl) rfl
theorem q630 : (Jvm.Cond.code ({ cls := "ChairRanks$Reader", name := "chair", desc := "()V" } : Jvm.MethodName) prog_10_method_13_code (3 : Nat) (Option.none : Option Jvm.ClassFile.FieldType)) ∈ lw_all := lw_g (lw_at lw_m3 83 rfl) rfl
theorem q631 : (Jvm.Cond.methodLink "ChairRanks$Reader" (110 : Nat) ({ cls := "ChairRanks$Ministry", name := "many", desc := "()I" } : Jvm.MethodName)) ∈ lw_all := lw_g (lw_at lw_m3 84 rfl) rfl
theorem q645 : (Jvm.Cond.methodLink "ChairRanks$Reader" (113 : Nat) ({ cls := "ChairRanks$Reader", name := "begin", desc := "(II)V" } : Jvm.MethodName)) ∈ lw_all := lw_g (lw_at lw_m3 98 rfl) rfl
theorem q646 : (Jvm.Cond.privateMethod ({ cls := "ChairRanks$Reader", name := "begin", desc := "(II)V" } : Jvm.MethodName)) ∈ lw_tbl := lw_at lw_m3 99 rfl
theorem q647 : (Jvm.Cond.instanceMethod ({ cls := "ChairRanks$Reader", name := "begin", desc := "(II)V" } : Jvm.MethodName)) ∈ lw_all := lw_g (lw_at lw_m3 100 rfl) rfl
theorem q648 : (Jvm.Cond.code ({ cls := "ChairRanks$Reader", name := "begin", desc := "(II)V" } : Jvm.MethodName) prog_10_method_9_code (3 : Nat) (Option.none : Option Jvm.ClassFile.FieldType)) ∈ lw_all := lw_g (lw_at lw_m3 101 rfl) rfl
theorem q649 : (Jvm.Cond.methodLinkNest "ChairRanks$Reader" (130 : Nat) ({ cls := "ChairRanks", name := "chairBy", desc := "(II)LChairRanks$Chair;" } : Jvm.MethodName) "ChairRanks") ∈ lw_tbl := lw_at lw_m3 102 rfl
theorem q652 : (Jvm.Cond.interfaceEntry "ChairRanks$Reader" (134 : Nat)) ∈ lw_tbl := lw_at lw_m3 105 rfl
theorem q653 : (Jvm.Cond.methodLink "ChairRanks$Reader" (134 : Nat) ({ cls := "java/util/List", name := "add", desc := "(Ljava/lang/Object;)Z" } : Jvm.MethodName)) ∈ lw_all := lw_g (lw_at lw_m3 106 rfl) rfl
theorem q696 : (Jvm.Cond.selects "ChairRanks$Reader" ({ cls := "java/lang/Object", name := "getClass", desc := "()Ljava/lang/Class;" } : Jvm.MethodName) ({ cls := "java/lang/Object", name := "getClass", desc := "()Ljava/lang/Class;" } : Jvm.MethodName)) ∈ lw_all := lw_g (lw_at lw_m3 149 rfl) rfl
theorem q1701 : (Jvm.Cond.castable "ChairRanks$Reader" "java/lang/Object") ∈ lw_tbl := lw_at lw_m7 194 rfl
theorem in_X12 : ∀ w ∈ wsX120, w ∈ lw_all := lw_in wsX120 [495, 497, 499, 501, 503, 505, 507] (by decide +kernel) (by decide +kernel)

/-! ChairRanks$Fault -/
set_option maxRecDepth 100000
def RX13 : String := "ChairRanks$Fault"
def TX13 : u_T := fun k => match k with
  | 0 => ("java/lang/Throwable", "cause", "Ljava/lang/Throwable;", false)
  | 1 => ("java/lang/Throwable", "stackTrace", "[Ljava/lang/StackTraceElement;", false)
  | 2 => ("java/lang/Throwable", "suppressedExceptions", "Ljava/util/List;", false)
  | 3 => ("java/lang/Throwable", "detailMessage", "Ljava/lang/String;", false)
  | 4 => ("java/lang/Throwable", "backtrace", "Ljava/lang/Object;", false)
  | 5 => ("java/lang/Throwable", "depth", "I", false)
  | 6 => ("ChairRanks$Fault", "kind", "I", true)
  | _ => ("ChairRanks$Fault", "place", "I", true)
def tyX13 : Nat → FieldType := fun k => match k with
  | 0 => .object "java/lang/Throwable"
  | 1 => .array (.object "java/lang/StackTraceElement")
  | 2 => .object "java/util/List"
  | 3 => .object "java/lang/String"
  | 4 => .object "java/lang/Object"
  | 5 => .int
  | 6 => .int
  | _ => .int
abbrev wsX130 : List Cond := u_ws RX13 TX13 8
theorem nmX13 : ∀ a, a < 8 → ∀ b, b < 8 → a ≠ b → (TX13 a).2.1 ≠ (TX13 b).2.1 := by decide +kernel
theorem tyX13_ok : ∀ k, k < 8 → parseFieldDescriptor (TX13 k).2.2.1 = some (tyX13 k) := by decide +kernel
abbrev cX13_init : ByteArray := prog_4_method_1_code
def yX13_init : MethodName := ⟨RX13, "<init>", "(II)V"⟩
def dkwX13_init_0 : List UInt8 := [42, 1, 1, 3, 3, 183, 0, 1, 42, 27, 181, 0, 7, 42, 28, 181, 0, 13, 177]
abbrev dktX13_init_0 : List UInt8 := dkwX13_init_0 ++ []
theorem dksX13_init_0 : cX13_init.data.toList.drop 0 = dktX13_init_0 := by decide +kernel
theorem dX13_init_0 : decode cX13_init 0 = .ok (.aload_n 0, 1) := dk_42 (dk_at dksX13_init_0 0 rfl rfl)
theorem dX13_init_1 : decode cX13_init 1 = .ok (.aconst_null, 1) := dk_1 (dk_at dksX13_init_0 1 rfl rfl)
theorem dX13_init_2 : decode cX13_init 2 = .ok (.aconst_null, 1) := dk_1 (dk_at dksX13_init_0 2 rfl rfl)
theorem dX13_init_3 : decode cX13_init 3 = .ok (.iconst 0, 1) := dk_3 (dk_at dksX13_init_0 3 rfl rfl)
theorem dX13_init_4 : decode cX13_init 4 = .ok (.iconst 0, 1) := dk_3 (dk_at dksX13_init_0 4 rfl rfl)
theorem dX13_init_5 : decode cX13_init 5 = .ok (.invokespecial 1, 3) := dk_183 0 1 (dk_at dksX13_init_0 5 rfl rfl)
theorem dX13_init_8 : decode cX13_init 8 = .ok (.aload_n 0, 1) := dk_42 (dk_at dksX13_init_0 8 rfl rfl)
theorem dX13_init_9 : decode cX13_init 9 = .ok (.iload_n 1, 1) := dk_27 (dk_at dksX13_init_0 9 rfl rfl)
theorem dX13_init_10 : decode cX13_init 10 = .ok (.putfield 7, 3) := dk_181 0 7 (dk_at dksX13_init_0 10 rfl rfl)
theorem dX13_init_13 : decode cX13_init 13 = .ok (.aload_n 0, 1) := dk_42 (dk_at dksX13_init_0 13 rfl rfl)
theorem dX13_init_14 : decode cX13_init 14 = .ok (.iload_n 2, 1) := dk_28 (dk_at dksX13_init_0 14 rfl rfl)
theorem dX13_init_15 : decode cX13_init 15 = .ok (.putfield 13, 3) := dk_181 0 13 (dk_at dksX13_init_0 15 rfl rfl)
theorem dX13_init_18 : decode cX13_init 18 = .ok (.return_, 1) := dk_177 (dk_at dksX13_init_0 18 rfl rfl)
theorem q91 : (Jvm.Cond.initialized "ChairRanks$Fault") ∈ lw_all := lw_g (lw_at lw_m1 24 rfl) rfl
theorem q353 : (Jvm.Cond.selects "ChairRanks$Fault" ({ cls := "java/lang/Throwable", name := "fillInStackTrace", desc := "()Ljava/lang/Throwable;" } : Jvm.MethodName) ({ cls := "java/lang/Throwable", name := "fillInStackTrace", desc := "()Ljava/lang/Throwable;" } : Jvm.MethodName)) ∈ lw_all := lw_g (lw_at lw_m2 46 rfl) rfl
theorem q537 : (Jvm.Cond.instantiable "ChairRanks$Fault" (8 : Nat)) ∈ lw_all := lw_g (lw_at lw_m2 230 rfl) rfl
theorem q538 : (Jvm.Cond.castable "ChairRanks$Fault" "ChairRanks$Fault") ∈ lw_tbl := lw_at lw_m2 231 rfl
theorem q539 : (Jvm.Cond.selects "ChairRanks$Fault" ({ cls := "java/lang/Throwable", name := "fillInStackTrace", desc := "(I)Ljava/lang/Throwable;" } : Jvm.MethodName) ({ cls := "java/lang/Throwable", name := "fillInStackTrace", desc := "(I)Ljava/lang/Throwable;" } : Jvm.MethodName)) ∈ lw_all := lw_g (lw_at lw_m2 232 rfl) rfl
theorem q540 : (Jvm.Cond.lays "ChairRanks$Fault" "java/lang/Throwable" "cause" "Ljava/lang/Throwable;") ∈ lw_all := lw_g (lw_at lw_m2 233 rfl) rfl
theorem q541 : (Jvm.Cond.lays "ChairRanks$Fault" "java/lang/Throwable" "stackTrace" "[Ljava/lang/StackTraceElement;") ∈ lw_all := lw_g (lw_at lw_m2 234 rfl) rfl
theorem q542 : (Jvm.Cond.lays "ChairRanks$Fault" "java/lang/Throwable" "suppressedExceptions" "Ljava/util/List;") ∈ lw_all := lw_g (lw_at lw_m2 235 rfl) rfl
theorem q543 : (Jvm.Cond.lays "ChairRanks$Fault" "java/lang/Throwable" "detailMessage" "Ljava/lang/String;") ∈ lw_all := lw_g (lw_at lw_m2 236 rfl) rfl
theorem q544 : (Jvm.Cond.lays "ChairRanks$Fault" "java/lang/Throwable" "backtrace" "Ljava/lang/Object;") ∈ lw_all := lw_g (lw_at lw_m2 237 rfl) rfl
theorem q546 : (Jvm.Cond.instanceMethod ({ cls := "ChairRanks$Fault", name := "<init>", desc := "(II)V" } : Jvm.MethodName)) ∈ lw_all := lw_g (lw_at lw_m2 239 rfl) rfl
theorem q547 : (Jvm.Cond.code ({ cls := "ChairRanks$Fault", name := "<init>", desc := "(II)V" } : Jvm.MethodName) prog_4_method_1_code (3 : Nat) (Option.none : Option Jvm.ClassFile.FieldType)) ∈ lw_all := lw_g (lw_at lw_m3 0 rfl) rfl
theorem q548 : (Jvm.Cond.methodLink "ChairRanks$Fault" (1 : Nat) ({ cls := "java/lang/Exception", name := "<init>", desc := "(Ljava/lang/String;Ljava/lang/Throwable;ZZ)V" } : Jvm.MethodName)) ∈ lw_all := lw_g (lw_at lw_m3 1 rfl) rfl
theorem q549 : (Jvm.Cond.fieldLink "ChairRanks$Fault" (7 : Nat) "ChairRanks$Fault" "kind" "I") ∈ lw_all := lw_g (lw_at lw_m3 2 rfl) rfl
theorem q551 : (Jvm.Cond.fieldLink "ChairRanks$Fault" (13 : Nat) "ChairRanks$Fault" "place" "I") ∈ lw_all := lw_g (lw_at lw_m3 4 rfl) rfl
theorem q553 : (Jvm.Cond.laysFinal "ChairRanks$Fault" "ChairRanks$Fault" "kind" "I") ∈ lw_all := lw_g (lw_at lw_m3 6 rfl) rfl
theorem q554 : (Jvm.Cond.soleField "ChairRanks$Fault" "kind") ∈ lw_all := lw_g (lw_at lw_m3 7 rfl) rfl
theorem q555 : (Jvm.Cond.laysFinal "ChairRanks$Fault" "ChairRanks$Fault" "place" "I") ∈ lw_all := lw_g (lw_at lw_m3 8 rfl) rfl
theorem q556 : (Jvm.Cond.soleField "ChairRanks$Fault" "place") ∈ lw_all := lw_g (lw_at lw_m3 9 rfl) rfl
theorem q557 : (Jvm.Cond.lays "ChairRanks$Fault" "java/lang/Throwable" "depth" "I") ∈ lw_all := lw_g (lw_at lw_m3 10 rfl) rfl
theorem q558 : (Jvm.Cond.superclass "ChairRanks$Fault" "java/lang/Exception") ∈ lw_all := lw_g (lw_at lw_m3 11 rfl) rfl
theorem q691 : (Jvm.Cond.selects "ChairRanks$Fault" ({ cls := "java/lang/Object", name := "getClass", desc := "()Ljava/lang/Class;" } : Jvm.MethodName) ({ cls := "java/lang/Object", name := "getClass", desc := "()Ljava/lang/Class;" } : Jvm.MethodName)) ∈ lw_all := lw_g (lw_at lw_m3 144 rfl) rfl
theorem q1702 : (Jvm.Cond.castable "ChairRanks$Fault" "java/lang/Object") ∈ lw_tbl := lw_at lw_m7 195 rfl
theorem in_X13 : ∀ w ∈ wsX130, w ∈ lw_all := lw_in wsX130 [540, 541, 542, 543, 544, 557, 553, 555] (by decide +kernel) (by decide +kernel)

/-! ChairRanks$Marked -/
set_option maxRecDepth 100000
def RX14 : String := "ChairRanks$Marked"
abbrev cX14_mark : ByteArray := prog_6_method_3_code
def yX14_mark : MethodName := ⟨RX14, "mark", "(LChairRanks$Trail;LChairRanks$Ministry;)I"⟩
def dkwX14_mark_0 : List UInt8 := [43, 16, 20, 182, 0, 1, 42, 185, 0, 7, 1, 0, 172]
abbrev dktX14_mark_0 : List UInt8 := dkwX14_mark_0 ++ []
theorem dksX14_mark_0 : cX14_mark.data.toList.drop 0 = dktX14_mark_0 := by decide +kernel
theorem dX14_mark_0 : decode cX14_mark 0 = .ok (.aload_n 1, 1) := dk_43 (dk_at dksX14_mark_0 0 rfl rfl)
theorem dX14_mark_1 : decode cX14_mark 1 = .ok (.bipush 20, 2) := dk_16 20 (dk_at dksX14_mark_0 1 rfl rfl)
theorem dX14_mark_3 : decode cX14_mark 3 = .ok (.invokevirtual 1, 3) := dk_182 0 1 (dk_at dksX14_mark_0 3 rfl rfl)
theorem dX14_mark_6 : decode cX14_mark 6 = .ok (.aload_n 0, 1) := dk_42 (dk_at dksX14_mark_0 6 rfl rfl)
theorem dX14_mark_7 : decode cX14_mark 7 = .ok (.invokeinterface 7 1, 5) := by decide +kernel
theorem dX14_mark_12 : decode cX14_mark 12 = .ok (.ireturn, 1) := dk_172 (dk_at dksX14_mark_0 12 rfl rfl)
theorem q1153 : (Jvm.Cond.declares ({ cls := "ChairRanks$Marked", name := "mark", desc := "(LChairRanks$Trail;LChairRanks$Ministry;)I" } : Jvm.MethodName)) ∈ lw_tbl := lw_at lw_m5 126 rfl
theorem q1154 : (Jvm.Cond.instanceMethod ({ cls := "ChairRanks$Marked", name := "mark", desc := "(LChairRanks$Trail;LChairRanks$Ministry;)I" } : Jvm.MethodName)) ∈ lw_all := lw_g (lw_at lw_m5 127 rfl) rfl
theorem q1155 : (Jvm.Cond.code ({ cls := "ChairRanks$Marked", name := "mark", desc := "(LChairRanks$Trail;LChairRanks$Ministry;)I" } : Jvm.MethodName) prog_6_method_3_code (3 : Nat) (Option.some Jvm.ClassFile.FieldType.int)) ∈ lw_all := lw_g (lw_at lw_m5 128 rfl) rfl
theorem q1156 : (Jvm.Cond.methodLink "ChairRanks$Marked" (1 : Nat) ({ cls := "ChairRanks$Trail", name := "begins", desc := "(I)V" } : Jvm.MethodName)) ∈ lw_all := lw_g (lw_at lw_m5 129 rfl) rfl
theorem q1157 : (Jvm.Cond.interfaceEntry "ChairRanks$Marked" (7 : Nat)) ∈ lw_tbl := lw_at lw_m5 130 rfl
theorem q1158 : (Jvm.Cond.methodLink "ChairRanks$Marked" (7 : Nat) ({ cls := "ChairRanks$Marked", name := "number", desc := "()I" } : Jvm.MethodName)) ∈ lw_all := lw_g (lw_at lw_m5 131 rfl) rfl
theorem q1159 : (Jvm.Cond.interfaceMethod "ChairRanks$Marked" "ChairRanks$Marked" "number" "()I") ∈ lw_tbl := lw_at lw_m5 132 rfl
theorem q1160 : (Jvm.Cond.declares ({ cls := "ChairRanks$Marked", name := "number", desc := "()I" } : Jvm.MethodName)) ∈ lw_tbl := lw_at lw_m5 133 rfl

/-! ChairRanks$Trail -/
set_option maxRecDepth 100000
def RX2 : String := "ChairRanks$Trail"
def TX2 : u_T := fun k => match k with
  | 0 => ("ChairRanks$Trail", "body", "[I", true)
  | _ => ("ChairRanks$Trail", "many", "I", false)
def tyX2 : Nat → FieldType := fun k => match k with
  | 0 => .array .int
  | _ => .int
abbrev wsX20 : List Cond := u_ws RX2 TX2 2
theorem nmX2 : ∀ a, a < 2 → ∀ b, b < 2 → a ≠ b → (TX2 a).2.1 ≠ (TX2 b).2.1 := by decide +kernel
theorem tyX2_ok : ∀ k, k < 2 → parseFieldDescriptor (TX2 k).2.2.1 = some (tyX2 k) := by decide +kernel
abbrev cX2_init : ByteArray := prog_14_method_1_code
def yX2_init : MethodName := ⟨RX2, "<init>", "()V"⟩
def dkwX2_init_0 : List UInt8 := [42, 183, 0, 3, 42, 16, 16, 188, 10, 181, 0, 9, 177]
abbrev dktX2_init_0 : List UInt8 := dkwX2_init_0 ++ []
theorem dksX2_init_0 : cX2_init.data.toList.drop 0 = dktX2_init_0 := by decide +kernel
theorem dX2_init_0 : decode cX2_init 0 = .ok (.aload_n 0, 1) := dk_42 (dk_at dksX2_init_0 0 rfl rfl)
theorem dX2_init_1 : decode cX2_init 1 = .ok (.invokespecial 3, 3) := dk_183 0 3 (dk_at dksX2_init_0 1 rfl rfl)
theorem dX2_init_4 : decode cX2_init 4 = .ok (.aload_n 0, 1) := dk_42 (dk_at dksX2_init_0 4 rfl rfl)
theorem dX2_init_5 : decode cX2_init 5 = .ok (.bipush 16, 2) := dk_16 16 (dk_at dksX2_init_0 5 rfl rfl)
theorem dX2_init_7 : decode cX2_init 7 = .ok (.newarray .int, 2) := dk_188_10 (dk_at dksX2_init_0 7 rfl rfl)
theorem dX2_init_9 : decode cX2_init 9 = .ok (.putfield 9, 3) := dk_181 0 9 (dk_at dksX2_init_0 9 rfl rfl)
theorem dX2_init_12 : decode cX2_init 12 = .ok (.return_, 1) := dk_177 (dk_at dksX2_init_0 12 rfl rfl)
abbrev cX2_begins : ByteArray := prog_14_method_2_code
def yX2_begins : MethodName := ⟨RX2, "begins", "(I)V"⟩
def dkwX2_begins_1 : List UInt8 := [27, 79, 177]
abbrev dktX2_begins_1 : List UInt8 := dkwX2_begins_1 ++ []
def dkwX2_begins_0 : List UInt8 := [42, 180, 0, 15, 16, 16, 162, 0, 20, 42, 180, 0, 9, 42, 89, 180, 0, 15, 90, 4, 96, 181, 0, 15]
abbrev dktX2_begins_0 : List UInt8 := dkwX2_begins_0 ++ dktX2_begins_1
theorem dksX2_begins_0 : cX2_begins.data.toList.drop 0 = dktX2_begins_0 := by decide +kernel
theorem dksX2_begins_1 : cX2_begins.data.toList.drop 24 = dktX2_begins_1 := dk_seg dksX2_begins_0 24 rfl rfl
theorem dX2_begins_0 : decode cX2_begins 0 = .ok (.aload_n 0, 1) := dk_42 (dk_at dksX2_begins_0 0 rfl rfl)
theorem dX2_begins_1 : decode cX2_begins 1 = .ok (.getfield 15, 3) := dk_180 0 15 (dk_at dksX2_begins_0 1 rfl rfl)
theorem dX2_begins_4 : decode cX2_begins 4 = .ok (.bipush 16, 2) := dk_16 16 (dk_at dksX2_begins_0 4 rfl rfl)
theorem dX2_begins_6 : decode cX2_begins 6 = .ok (.if_icmp .ge 20, 3) := dk_162 0 20 (dk_at dksX2_begins_0 6 rfl rfl)
theorem dX2_begins_9 : decode cX2_begins 9 = .ok (.aload_n 0, 1) := dk_42 (dk_at dksX2_begins_0 9 rfl rfl)
theorem dX2_begins_10 : decode cX2_begins 10 = .ok (.getfield 9, 3) := dk_180 0 9 (dk_at dksX2_begins_0 10 rfl rfl)
theorem dX2_begins_13 : decode cX2_begins 13 = .ok (.aload_n 0, 1) := dk_42 (dk_at dksX2_begins_0 13 rfl rfl)
theorem dX2_begins_14 : decode cX2_begins 14 = .ok (.dup, 1) := dk_89 (dk_at dksX2_begins_0 14 rfl rfl)
theorem dX2_begins_15 : decode cX2_begins 15 = .ok (.getfield 15, 3) := dk_180 0 15 (dk_at dksX2_begins_0 15 rfl rfl)
theorem dX2_begins_18 : decode cX2_begins 18 = .ok (.dup_x1, 1) := dk_90 (dk_at dksX2_begins_0 18 rfl rfl)
theorem dX2_begins_19 : decode cX2_begins 19 = .ok (.iconst 1, 1) := dk_4 (dk_at dksX2_begins_0 19 rfl rfl)
theorem dX2_begins_20 : decode cX2_begins 20 = .ok (.iadd, 1) := dk_96 (dk_at dksX2_begins_0 20 rfl rfl)
theorem dX2_begins_21 : decode cX2_begins 21 = .ok (.putfield 15, 3) := dk_181 0 15 (dk_at dksX2_begins_0 21 rfl rfl)
theorem dX2_begins_24 : decode cX2_begins 24 = .ok (.iload_n 1, 1) := dk_27 (dk_at dksX2_begins_1 0 rfl rfl)
theorem dX2_begins_25 : decode cX2_begins 25 = .ok (.iastore, 1) := dk_79 (dk_at dksX2_begins_1 1 rfl rfl)
theorem dX2_begins_26 : decode cX2_begins 26 = .ok (.return_, 1) := dk_177 (dk_at dksX2_begins_1 2 rfl rfl)
theorem q73 : (Jvm.Cond.initialized "ChairRanks$Trail") ∈ lw_all := lw_g (lw_at lw_m1 6 rfl) rfl
theorem q208 : (Jvm.Cond.instantiable "ChairRanks$Trail" (2 : Nat)) ∈ lw_all := lw_g (lw_at lw_m1 141 rfl) rfl
theorem q210 : (Jvm.Cond.instanceMethod ({ cls := "ChairRanks$Trail", name := "<init>", desc := "()V" } : Jvm.MethodName)) ∈ lw_all := lw_g (lw_at lw_m1 143 rfl) rfl
theorem q211 : (Jvm.Cond.code ({ cls := "ChairRanks$Trail", name := "<init>", desc := "()V" } : Jvm.MethodName) prog_14_method_1_code (1 : Nat) (Option.none : Option Jvm.ClassFile.FieldType)) ∈ lw_all := lw_g (lw_at lw_m1 144 rfl) rfl
theorem q212 : (Jvm.Cond.methodLink "ChairRanks$Trail" (3 : Nat) ({ cls := "java/lang/Object", name := "<init>", desc := "()V" } : Jvm.MethodName)) ∈ lw_all := lw_g (lw_at lw_m1 145 rfl) rfl
theorem q213 : (Jvm.Cond.fieldLink "ChairRanks$Trail" (9 : Nat) "ChairRanks$Trail" "body" "[I") ∈ lw_all := lw_g (lw_at lw_m1 146 rfl) rfl
theorem q215 : (Jvm.Cond.fieldLink "ChairRanks$Trail" (15 : Nat) "ChairRanks$Trail" "many" "I") ∈ lw_all := lw_g (lw_at lw_m1 148 rfl) rfl
theorem q217 : (Jvm.Cond.laysFinal "ChairRanks$Trail" "ChairRanks$Trail" "body" "[I") ∈ lw_all := lw_g (lw_at lw_m1 150 rfl) rfl
theorem q218 : (Jvm.Cond.soleField "ChairRanks$Trail" "body") ∈ lw_all := lw_g (lw_at lw_m1 151 rfl) rfl
theorem q219 : (Jvm.Cond.lays "ChairRanks$Trail" "ChairRanks$Trail" "many" "I") ∈ lw_all := lw_g (lw_at lw_m1 152 rfl) rfl
theorem q220 : (Jvm.Cond.soleField "ChairRanks$Trail" "many") ∈ lw_all := lw_g (lw_at lw_m1 153 rfl) rfl
theorem q221 : (Jvm.Cond.superclass "ChairRanks$Trail" "java/lang/Object") ∈ lw_all := lw_g (lw_at lw_m1 154 rfl) rfl
theorem q700 : (Jvm.Cond.selects "ChairRanks$Trail" ({ cls := "java/lang/Object", name := "getClass", desc := "()Ljava/lang/Class;" } : Jvm.MethodName) ({ cls := "java/lang/Object", name := "getClass", desc := "()Ljava/lang/Class;" } : Jvm.MethodName)) ∈ lw_all := lw_g (lw_at lw_m3 153 rfl) rfl
theorem q1133 : (Jvm.Cond.instanceMethod ({ cls := "ChairRanks$Trail", name := "begins", desc := "(I)V" } : Jvm.MethodName)) ∈ lw_all := lw_g (lw_at lw_m5 106 rfl) rfl
theorem q1134 : (Jvm.Cond.selects "ChairRanks$Trail" ({ cls := "ChairRanks$Trail", name := "begins", desc := "(I)V" } : Jvm.MethodName) ({ cls := "ChairRanks$Trail", name := "begins", desc := "(I)V" } : Jvm.MethodName)) ∈ lw_all := lw_g (lw_at lw_m5 107 rfl) rfl
theorem q1135 : (Jvm.Cond.code ({ cls := "ChairRanks$Trail", name := "begins", desc := "(I)V" } : Jvm.MethodName) prog_14_method_2_code (2 : Nat) (Option.none : Option Jvm.ClassFile.FieldType)) ∈ lw_all := lw_g (lw_at lw_m5 108 rfl) rfl
theorem q1692 : (Jvm.Cond.castable "ChairRanks$Trail" "java/lang/Object") ∈ lw_tbl := lw_at lw_m7 185 rfl
theorem in_X2 : ∀ w ∈ wsX20, w ∈ lw_all := lw_in wsX20 [217, 219] (by decide +kernel) (by decide +kernel)

/-! ChairRanks$Chair -/
set_option maxRecDepth 100000
def RX3 : String := "ChairRanks$Chair"
abbrev cX3_init : ByteArray := prog_2_method_1_code
def yX3_init : MethodName := ⟨RX3, "<init>", "(I)V"⟩
def dkwX3_init_0 : List UInt8 := [42, 183, 0, 1, 42, 27, 181, 0, 7, 177]
abbrev dktX3_init_0 : List UInt8 := dkwX3_init_0 ++ []
theorem dksX3_init_0 : cX3_init.data.toList.drop 0 = dktX3_init_0 := by decide +kernel
theorem dX3_init_0 : decode cX3_init 0 = .ok (.aload_n 0, 1) := dk_42 (dk_at dksX3_init_0 0 rfl rfl)
theorem dX3_init_1 : decode cX3_init 1 = .ok (.invokespecial 1, 3) := dk_183 0 1 (dk_at dksX3_init_0 1 rfl rfl)
theorem dX3_init_4 : decode cX3_init 4 = .ok (.aload_n 0, 1) := dk_42 (dk_at dksX3_init_0 4 rfl rfl)
theorem dX3_init_5 : decode cX3_init 5 = .ok (.iload_n 1, 1) := dk_27 (dk_at dksX3_init_0 5 rfl rfl)
theorem dX3_init_6 : decode cX3_init 6 = .ok (.putfield 7, 3) := dk_181 0 7 (dk_at dksX3_init_0 6 rfl rfl)
theorem dX3_init_9 : decode cX3_init 9 = .ok (.return_, 1) := dk_177 (dk_at dksX3_init_0 9 rfl rfl)
abbrev cX3_sawn : ByteArray := prog_2_method_4_code
def yX3_sawn : MethodName := ⟨RX3, "sawn", "(I)I"⟩
theorem dX3_sawn_0 : decode cX3_sawn 0 = .ok (.iload_n 1, 1) := by decide +kernel
theorem dX3_sawn_1 : decode cX3_sawn 1 = .ok (.ireturn, 1) := by decide +kernel
abbrev cX3_number : ByteArray := prog_2_method_5_code
def yX3_number : MethodName := ⟨RX3, "number", "()I"⟩
theorem dX3_number_0 : decode cX3_number 0 = .ok (.aload_n 0, 1) := by decide +kernel
theorem dX3_number_1 : decode cX3_number 1 = .ok (.getfield 7, 3) := by decide +kernel
theorem dX3_number_4 : decode cX3_number 4 = .ok (.ireturn, 1) := by decide +kernel
abbrev cX3_size : ByteArray := prog_2_method_6_code
def yX3_size : MethodName := ⟨RX3, "size", "(LChairRanks$Trail;LChairRanks$Ministry;)I"⟩
def dkwX3_size_0 : List UInt8 := [43, 16, 10, 182, 0, 13, 44, 180, 0, 19, 42, 180, 0, 7, 46, 172]
abbrev dktX3_size_0 : List UInt8 := dkwX3_size_0 ++ []
theorem dksX3_size_0 : cX3_size.data.toList.drop 0 = dktX3_size_0 := by decide +kernel
theorem dX3_size_0 : decode cX3_size 0 = .ok (.aload_n 1, 1) := dk_43 (dk_at dksX3_size_0 0 rfl rfl)
theorem dX3_size_1 : decode cX3_size 1 = .ok (.bipush 10, 2) := dk_16 10 (dk_at dksX3_size_0 1 rfl rfl)
theorem dX3_size_3 : decode cX3_size 3 = .ok (.invokevirtual 13, 3) := dk_182 0 13 (dk_at dksX3_size_0 3 rfl rfl)
theorem dX3_size_6 : decode cX3_size 6 = .ok (.aload_n 2, 1) := dk_44 (dk_at dksX3_size_0 6 rfl rfl)
theorem dX3_size_7 : decode cX3_size 7 = .ok (.getfield 19, 3) := dk_180 0 19 (dk_at dksX3_size_0 7 rfl rfl)
theorem dX3_size_10 : decode cX3_size 10 = .ok (.aload_n 0, 1) := dk_42 (dk_at dksX3_size_0 10 rfl rfl)
theorem dX3_size_11 : decode cX3_size 11 = .ok (.getfield 7, 3) := dk_180 0 7 (dk_at dksX3_size_0 11 rfl rfl)
theorem dX3_size_14 : decode cX3_size 14 = .ok (.iaload, 1) := dk_46 (dk_at dksX3_size_0 14 rfl rfl)
theorem dX3_size_15 : decode cX3_size 15 = .ok (.ireturn, 1) := dk_172 (dk_at dksX3_size_0 15 rfl rfl)
theorem q74 : (Jvm.Cond.initialized "ChairRanks$Chair") ∈ lw_all := lw_g (lw_at lw_m1 7 rfl) rfl
theorem q155 : (Jvm.Cond.fieldLink "ChairRanks$Chair" (19 : Nat) "ChairRanks$Ministry" "leg" "[I") ∈ lw_all := lw_g (lw_at lw_m1 88 rfl) rfl
theorem q230 : (Jvm.Cond.instanceMethod ({ cls := "ChairRanks$Chair", name := "<init>", desc := "(I)V" } : Jvm.MethodName)) ∈ lw_all := lw_g (lw_at lw_m1 163 rfl) rfl
theorem q231 : (Jvm.Cond.code ({ cls := "ChairRanks$Chair", name := "<init>", desc := "(I)V" } : Jvm.MethodName) prog_2_method_1_code (2 : Nat) (Option.none : Option Jvm.ClassFile.FieldType)) ∈ lw_all := lw_g (lw_at lw_m1 164 rfl) rfl
theorem q232 : (Jvm.Cond.methodLink "ChairRanks$Chair" (1 : Nat) ({ cls := "java/lang/Object", name := "<init>", desc := "()V" } : Jvm.MethodName)) ∈ lw_all := lw_g (lw_at lw_m1 165 rfl) rfl
theorem q233 : (Jvm.Cond.fieldLink "ChairRanks$Chair" (7 : Nat) "ChairRanks$Chair" "number" "I") ∈ lw_all := lw_g (lw_at lw_m1 166 rfl) rfl
theorem q235 : (Jvm.Cond.soleField "ChairRanks$Chair" "number") ∈ lw_all := lw_g (lw_at lw_m1 168 rfl) rfl
theorem q795 : (Jvm.Cond.declares ({ cls := "ChairRanks$Chair", name := "high", desc := "(II)I" } : Jvm.MethodName)) ∈ lw_tbl := lw_at lw_m4 8 rfl
theorem q796 : (Jvm.Cond.sameMethod "ChairRanks$Chair" "ChairRanks$Chair" "high" "(II)I") ∈ lw_all := lw_g (lw_at lw_m4 9 rfl) rfl
theorem q824 : (Jvm.Cond.instanceMethod ({ cls := "ChairRanks$Chair", name := "sawn", desc := "(I)I" } : Jvm.MethodName)) ∈ lw_all := lw_g (lw_at lw_m4 37 rfl) rfl
theorem q825 : (Jvm.Cond.sameMethod "ChairRanks$Chair" "ChairRanks$Chair" "sawn" "(I)I") ∈ lw_all := lw_g (lw_at lw_m4 38 rfl) rfl
theorem q834 : (Jvm.Cond.code ({ cls := "ChairRanks$Chair", name := "sawn", desc := "(I)I" } : Jvm.MethodName) prog_2_method_4_code (2 : Nat) (Option.some Jvm.ClassFile.FieldType.int)) ∈ lw_all := lw_g (lw_at lw_m4 47 rfl) rfl
theorem q1078 : (Jvm.Cond.declares ({ cls := "ChairRanks$Chair", name := "kind", desc := "()I" } : Jvm.MethodName)) ∈ lw_tbl := lw_at lw_m5 51 rfl
theorem q1079 : (Jvm.Cond.sameMethod "ChairRanks$Chair" "ChairRanks$Chair" "kind" "()I") ∈ lw_all := lw_g (lw_at lw_m5 52 rfl) rfl
theorem q1114 : (Jvm.Cond.instanceMethod ({ cls := "ChairRanks$Chair", name := "number", desc := "()I" } : Jvm.MethodName)) ∈ lw_all := lw_g (lw_at lw_m5 87 rfl) rfl
theorem q1115 : (Jvm.Cond.sameMethod "ChairRanks$Chair" "ChairRanks$Chair" "number" "()I") ∈ lw_all := lw_g (lw_at lw_m5 88 rfl) rfl
theorem q1121 : (Jvm.Cond.code ({ cls := "ChairRanks$Chair", name := "number", desc := "()I" } : Jvm.MethodName) prog_2_method_5_code (1 : Nat) (Option.some Jvm.ClassFile.FieldType.int)) ∈ lw_all := lw_g (lw_at lw_m5 94 rfl) rfl
theorem q1127 : (Jvm.Cond.instanceMethod ({ cls := "ChairRanks$Chair", name := "size", desc := "(LChairRanks$Trail;LChairRanks$Ministry;)I" } : Jvm.MethodName)) ∈ lw_all := lw_g (lw_at lw_m5 100 rfl) rfl
theorem q1128 : (Jvm.Cond.sameMethod "ChairRanks$Chair" "ChairRanks$Chair" "size" "(LChairRanks$Trail;LChairRanks$Ministry;)I") ∈ lw_all := lw_g (lw_at lw_m5 101 rfl) rfl
theorem q1152 : (Jvm.Cond.superclass "ChairRanks$Chair" "java/lang/Object") ∈ lw_all := lw_g (lw_at lw_m5 125 rfl) rfl
theorem q1164 : (Jvm.Cond.publicMethod ({ cls := "ChairRanks$Chair", name := "number", desc := "()I" } : Jvm.MethodName)) ∈ lw_tbl := lw_at lw_m5 137 rfl
theorem q1179 : (Jvm.Cond.declares ({ cls := "ChairRanks$Chair", name := "number", desc := "()I" } : Jvm.MethodName)) ∈ lw_tbl := lw_at lw_m5 152 rfl
theorem q1198 : (Jvm.Cond.code ({ cls := "ChairRanks$Chair", name := "size", desc := "(LChairRanks$Trail;LChairRanks$Ministry;)I" } : Jvm.MethodName) prog_2_method_6_code (3 : Nat) (Option.some Jvm.ClassFile.FieldType.int)) ∈ lw_all := lw_g (lw_at lw_m5 171 rfl) rfl
theorem q1199 : (Jvm.Cond.methodLink "ChairRanks$Chair" (13 : Nat) ({ cls := "ChairRanks$Trail", name := "begins", desc := "(I)V" } : Jvm.MethodName)) ∈ lw_all := lw_g (lw_at lw_m5 172 rfl) rfl
theorem q1689 : (Jvm.Cond.castable "ChairRanks$Chair" "java/lang/Object") ∈ lw_tbl := lw_at lw_m7 182 rfl

/-! ChairRanks$Plain -/
set_option maxRecDepth 100000
def RX4 : String := "ChairRanks$Plain"
def TX4 : u_T := fun k => match k with
  | _ => ("ChairRanks$Chair", "number", "I", true)
def tyX4 : Nat → FieldType := fun k => match k with
  | _ => .int
abbrev wsX40 : List Cond := u_ws RX4 TX4 1
theorem nmX4 : ∀ a, a < 1 → ∀ b, b < 1 → a ≠ b → (TX4 a).2.1 ≠ (TX4 b).2.1 := by decide +kernel
theorem tyX4_ok : ∀ k, k < 1 → parseFieldDescriptor (TX4 k).2.2.1 = some (tyX4 k) := by decide +kernel
abbrev cX4_init : ByteArray := prog_9_method_1_code
def yX4_init : MethodName := ⟨RX4, "<init>", "(I)V"⟩
def dkwX4_init_0 : List UInt8 := [42, 27, 183, 0, 3, 177]
abbrev dktX4_init_0 : List UInt8 := dkwX4_init_0 ++ []
theorem dksX4_init_0 : cX4_init.data.toList.drop 0 = dktX4_init_0 := by decide +kernel
theorem dX4_init_0 : decode cX4_init 0 = .ok (.aload_n 0, 1) := dk_42 (dk_at dksX4_init_0 0 rfl rfl)
theorem dX4_init_1 : decode cX4_init 1 = .ok (.iload_n 1, 1) := dk_27 (dk_at dksX4_init_0 1 rfl rfl)
theorem dX4_init_2 : decode cX4_init 2 = .ok (.invokespecial 3, 3) := dk_183 0 3 (dk_at dksX4_init_0 2 rfl rfl)
theorem dX4_init_5 : decode cX4_init 5 = .ok (.return_, 1) := dk_177 (dk_at dksX4_init_0 5 rfl rfl)
abbrev cX4_high : ByteArray := prog_9_method_3_code
def yX4_high : MethodName := ⟨RX4, "high", "(II)I"⟩
def dkwX4_high_0 : List UInt8 := [27, 28, 96, 172]
abbrev dktX4_high_0 : List UInt8 := dkwX4_high_0 ++ []
theorem dksX4_high_0 : cX4_high.data.toList.drop 0 = dktX4_high_0 := by decide +kernel
theorem dX4_high_0 : decode cX4_high 0 = .ok (.iload_n 1, 1) := dk_27 (dk_at dksX4_high_0 0 rfl rfl)
theorem dX4_high_1 : decode cX4_high 1 = .ok (.iload_n 2, 1) := dk_28 (dk_at dksX4_high_0 1 rfl rfl)
theorem dX4_high_2 : decode cX4_high 2 = .ok (.iadd, 1) := dk_96 (dk_at dksX4_high_0 2 rfl rfl)
theorem dX4_high_3 : decode cX4_high 3 = .ok (.ireturn, 1) := dk_172 (dk_at dksX4_high_0 3 rfl rfl)
abbrev cX4_kind : ByteArray := prog_9_method_2_code
def yX4_kind : MethodName := ⟨RX4, "kind", "()I"⟩
theorem dX4_kind_0 : decode cX4_kind 0 = .ok (.iconst 1, 1) := by decide +kernel
theorem dX4_kind_1 : decode cX4_kind 1 = .ok (.ireturn, 1) := by decide +kernel
abbrev cX4_size : ByteArray := prog_9_method_4_code
def yX4_size : MethodName := ⟨RX4, "size", "(LChairRanks$Trail;LChairRanks$Ministry;)I"⟩
def dkwX4_size_0 : List UInt8 := [43, 16, 11, 182, 0, 9, 42, 43, 44, 183, 0, 14, 42, 43, 44, 182, 0, 18, 96, 172]
abbrev dktX4_size_0 : List UInt8 := dkwX4_size_0 ++ []
theorem dksX4_size_0 : cX4_size.data.toList.drop 0 = dktX4_size_0 := by decide +kernel
theorem dX4_size_0 : decode cX4_size 0 = .ok (.aload_n 1, 1) := dk_43 (dk_at dksX4_size_0 0 rfl rfl)
theorem dX4_size_1 : decode cX4_size 1 = .ok (.bipush 11, 2) := dk_16 11 (dk_at dksX4_size_0 1 rfl rfl)
theorem dX4_size_3 : decode cX4_size 3 = .ok (.invokevirtual 9, 3) := dk_182 0 9 (dk_at dksX4_size_0 3 rfl rfl)
theorem dX4_size_6 : decode cX4_size 6 = .ok (.aload_n 0, 1) := dk_42 (dk_at dksX4_size_0 6 rfl rfl)
theorem dX4_size_7 : decode cX4_size 7 = .ok (.aload_n 1, 1) := dk_43 (dk_at dksX4_size_0 7 rfl rfl)
theorem dX4_size_8 : decode cX4_size 8 = .ok (.aload_n 2, 1) := dk_44 (dk_at dksX4_size_0 8 rfl rfl)
theorem dX4_size_9 : decode cX4_size 9 = .ok (.invokespecial 14, 3) := dk_183 0 14 (dk_at dksX4_size_0 9 rfl rfl)
theorem dX4_size_12 : decode cX4_size 12 = .ok (.aload_n 0, 1) := dk_42 (dk_at dksX4_size_0 12 rfl rfl)
theorem dX4_size_13 : decode cX4_size 13 = .ok (.aload_n 1, 1) := dk_43 (dk_at dksX4_size_0 13 rfl rfl)
theorem dX4_size_14 : decode cX4_size 14 = .ok (.aload_n 2, 1) := dk_44 (dk_at dksX4_size_0 14 rfl rfl)
theorem dX4_size_15 : decode cX4_size 15 = .ok (.invokevirtual 18, 3) := dk_182 0 18 (dk_at dksX4_size_0 15 rfl rfl)
theorem dX4_size_18 : decode cX4_size 18 = .ok (.iadd, 1) := dk_96 (dk_at dksX4_size_0 18 rfl rfl)
theorem dX4_size_19 : decode cX4_size 19 = .ok (.ireturn, 1) := dk_172 (dk_at dksX4_size_0 19 rfl rfl)
abbrev cX4_mark : ByteArray := prog_9_method_5_code
def yX4_mark : MethodName := ⟨RX4, "mark", "(LChairRanks$Trail;LChairRanks$Ministry;)I"⟩
def dkwX4_mark_0 : List UInt8 := [43, 16, 21, 182, 0, 9, 42, 43, 44, 183, 0, 23, 44, 180, 0, 24, 42, 182, 0, 30, 46, 96, 172]
abbrev dktX4_mark_0 : List UInt8 := dkwX4_mark_0 ++ []
theorem dksX4_mark_0 : cX4_mark.data.toList.drop 0 = dktX4_mark_0 := by decide +kernel
theorem dX4_mark_0 : decode cX4_mark 0 = .ok (.aload_n 1, 1) := dk_43 (dk_at dksX4_mark_0 0 rfl rfl)
theorem dX4_mark_1 : decode cX4_mark 1 = .ok (.bipush 21, 2) := dk_16 21 (dk_at dksX4_mark_0 1 rfl rfl)
theorem dX4_mark_3 : decode cX4_mark 3 = .ok (.invokevirtual 9, 3) := dk_182 0 9 (dk_at dksX4_mark_0 3 rfl rfl)
theorem dX4_mark_6 : decode cX4_mark 6 = .ok (.aload_n 0, 1) := dk_42 (dk_at dksX4_mark_0 6 rfl rfl)
theorem dX4_mark_7 : decode cX4_mark 7 = .ok (.aload_n 1, 1) := dk_43 (dk_at dksX4_mark_0 7 rfl rfl)
theorem dX4_mark_8 : decode cX4_mark 8 = .ok (.aload_n 2, 1) := dk_44 (dk_at dksX4_mark_0 8 rfl rfl)
theorem dX4_mark_9 : decode cX4_mark 9 = .ok (.invokespecial 23, 3) := dk_183 0 23 (dk_at dksX4_mark_0 9 rfl rfl)
theorem dX4_mark_12 : decode cX4_mark 12 = .ok (.aload_n 2, 1) := dk_44 (dk_at dksX4_mark_0 12 rfl rfl)
theorem dX4_mark_13 : decode cX4_mark 13 = .ok (.getfield 24, 3) := dk_180 0 24 (dk_at dksX4_mark_0 13 rfl rfl)
theorem dX4_mark_16 : decode cX4_mark 16 = .ok (.aload_n 0, 1) := dk_42 (dk_at dksX4_mark_0 16 rfl rfl)
theorem dX4_mark_17 : decode cX4_mark 17 = .ok (.invokevirtual 30, 3) := dk_182 0 30 (dk_at dksX4_mark_0 17 rfl rfl)
theorem dX4_mark_20 : decode cX4_mark 20 = .ok (.iaload, 1) := dk_46 (dk_at dksX4_mark_0 20 rfl rfl)
theorem dX4_mark_21 : decode cX4_mark 21 = .ok (.iadd, 1) := dk_96 (dk_at dksX4_mark_0 21 rfl rfl)
theorem dX4_mark_22 : decode cX4_mark 22 = .ok (.ireturn, 1) := dk_172 (dk_at dksX4_mark_0 22 rfl rfl)
theorem q75 : (Jvm.Cond.initialized "ChairRanks$Plain") ∈ lw_all := lw_g (lw_at lw_m1 8 rfl) rfl
theorem q159 : (Jvm.Cond.fieldLink "ChairRanks$Plain" (24 : Nat) "ChairRanks$Ministry" "cushions" "[I") ∈ lw_all := lw_g (lw_at lw_m1 92 rfl) rfl
theorem q225 : (Jvm.Cond.instantiable "ChairRanks$Plain" (1 : Nat)) ∈ lw_all := lw_g (lw_at lw_m1 158 rfl) rfl
theorem q227 : (Jvm.Cond.instanceMethod ({ cls := "ChairRanks$Plain", name := "<init>", desc := "(I)V" } : Jvm.MethodName)) ∈ lw_all := lw_g (lw_at lw_m1 160 rfl) rfl
theorem q228 : (Jvm.Cond.code ({ cls := "ChairRanks$Plain", name := "<init>", desc := "(I)V" } : Jvm.MethodName) prog_9_method_1_code (2 : Nat) (Option.none : Option Jvm.ClassFile.FieldType)) ∈ lw_all := lw_g (lw_at lw_m1 161 rfl) rfl
theorem q229 : (Jvm.Cond.methodLink "ChairRanks$Plain" (3 : Nat) ({ cls := "ChairRanks$Chair", name := "<init>", desc := "(I)V" } : Jvm.MethodName)) ∈ lw_all := lw_g (lw_at lw_m1 162 rfl) rfl
theorem q234 : (Jvm.Cond.laysFinal "ChairRanks$Plain" "ChairRanks$Chair" "number" "I") ∈ lw_all := lw_g (lw_at lw_m1 167 rfl) rfl
theorem q236 : (Jvm.Cond.superclass "ChairRanks$Plain" "ChairRanks$Chair") ∈ lw_all := lw_g (lw_at lw_m1 169 rfl) rfl
theorem q695 : (Jvm.Cond.selects "ChairRanks$Plain" ({ cls := "java/lang/Object", name := "getClass", desc := "()Ljava/lang/Class;" } : Jvm.MethodName) ({ cls := "java/lang/Object", name := "getClass", desc := "()Ljava/lang/Class;" } : Jvm.MethodName)) ∈ lw_all := lw_g (lw_at lw_m3 148 rfl) rfl
theorem q801 : (Jvm.Cond.instanceMethod ({ cls := "ChairRanks$Plain", name := "high", desc := "(II)I" } : Jvm.MethodName)) ∈ lw_all := lw_g (lw_at lw_m4 14 rfl) rfl
theorem q802 : (Jvm.Cond.code ({ cls := "ChairRanks$Plain", name := "high", desc := "(II)I" } : Jvm.MethodName) prog_9_method_3_code (3 : Nat) (Option.some Jvm.ClassFile.FieldType.int)) ∈ lw_all := lw_g (lw_at lw_m4 15 rfl) rfl
theorem q806 : (Jvm.Cond.selects "ChairRanks$Plain" ({ cls := "ChairRanks$Chair", name := "high", desc := "(II)I" } : Jvm.MethodName) ({ cls := "ChairRanks$Plain", name := "high", desc := "(II)I" } : Jvm.MethodName)) ∈ lw_all := lw_g (lw_at lw_m4 19 rfl) rfl
theorem q831 : (Jvm.Cond.selects "ChairRanks$Plain" ({ cls := "ChairRanks$Chair", name := "sawn", desc := "(I)I" } : Jvm.MethodName) ({ cls := "ChairRanks$Chair", name := "sawn", desc := "(I)I" } : Jvm.MethodName)) ∈ lw_all := lw_g (lw_at lw_m4 44 rfl) rfl
theorem q1086 : (Jvm.Cond.selects "ChairRanks$Plain" ({ cls := "ChairRanks$Chair", name := "kind", desc := "()I" } : Jvm.MethodName) ({ cls := "ChairRanks$Plain", name := "kind", desc := "()I" } : Jvm.MethodName)) ∈ lw_all := lw_g (lw_at lw_m5 59 rfl) rfl
theorem q1087 : (Jvm.Cond.instanceMethod ({ cls := "ChairRanks$Plain", name := "kind", desc := "()I" } : Jvm.MethodName)) ∈ lw_all := lw_g (lw_at lw_m5 60 rfl) rfl
theorem q1088 : (Jvm.Cond.code ({ cls := "ChairRanks$Plain", name := "kind", desc := "()I" } : Jvm.MethodName) prog_9_method_2_code (1 : Nat) (Option.some Jvm.ClassFile.FieldType.int)) ∈ lw_all := lw_g (lw_at lw_m5 61 rfl) rfl
theorem q1118 : (Jvm.Cond.selects "ChairRanks$Plain" ({ cls := "ChairRanks$Chair", name := "number", desc := "()I" } : Jvm.MethodName) ({ cls := "ChairRanks$Chair", name := "number", desc := "()I" } : Jvm.MethodName)) ∈ lw_all := lw_g (lw_at lw_m5 91 rfl) rfl
theorem q1130 : (Jvm.Cond.instanceMethod ({ cls := "ChairRanks$Plain", name := "size", desc := "(LChairRanks$Trail;LChairRanks$Ministry;)I" } : Jvm.MethodName)) ∈ lw_all := lw_g (lw_at lw_m5 103 rfl) rfl
theorem q1131 : (Jvm.Cond.code ({ cls := "ChairRanks$Plain", name := "size", desc := "(LChairRanks$Trail;LChairRanks$Ministry;)I" } : Jvm.MethodName) prog_9_method_4_code (3 : Nat) (Option.some Jvm.ClassFile.FieldType.int)) ∈ lw_all := lw_g (lw_at lw_m5 104 rfl) rfl
theorem q1132 : (Jvm.Cond.methodLink "ChairRanks$Plain" (9 : Nat) ({ cls := "ChairRanks$Trail", name := "begins", desc := "(I)V" } : Jvm.MethodName)) ∈ lw_all := lw_g (lw_at lw_m5 105 rfl) rfl
theorem q1136 : (Jvm.Cond.methodLink "ChairRanks$Plain" (14 : Nat) ({ cls := "ChairRanks$Chair", name := "size", desc := "(LChairRanks$Trail;LChairRanks$Ministry;)I" } : Jvm.MethodName)) ∈ lw_all := lw_g (lw_at lw_m5 109 rfl) rfl
theorem q1137 : (Jvm.Cond.methodLink "ChairRanks$Plain" (18 : Nat) ({ cls := "ChairRanks$Plain", name := "mark", desc := "(LChairRanks$Trail;LChairRanks$Ministry;)I" } : Jvm.MethodName)) ∈ lw_all := lw_g (lw_at lw_m5 110 rfl) rfl
theorem q1138 : (Jvm.Cond.instanceMethod ({ cls := "ChairRanks$Plain", name := "mark", desc := "(LChairRanks$Trail;LChairRanks$Ministry;)I" } : Jvm.MethodName)) ∈ lw_all := lw_g (lw_at lw_m5 111 rfl) rfl
theorem q1139 : (Jvm.Cond.selects "ChairRanks$Plain" ({ cls := "ChairRanks$Plain", name := "mark", desc := "(LChairRanks$Trail;LChairRanks$Ministry;)I" } : Jvm.MethodName) ({ cls := "ChairRanks$Plain", name := "mark", desc := "(LChairRanks$Trail;LChairRanks$Ministry;)I" } : Jvm.MethodName)) ∈ lw_all := lw_g (lw_at lw_m5 112 rfl) rfl
theorem q1140 : (Jvm.Cond.sameMethod "ChairRanks$Plain" "ChairRanks$Plain" "mark" "(LChairRanks$Trail;LChairRanks$Ministry;)I") ∈ lw_all := lw_g (lw_at lw_m5 113 rfl) rfl
theorem q1151 : (Jvm.Cond.code ({ cls := "ChairRanks$Plain", name := "mark", desc := "(LChairRanks$Trail;LChairRanks$Ministry;)I" } : Jvm.MethodName) prog_9_method_5_code (3 : Nat) (Option.some Jvm.ClassFile.FieldType.int)) ∈ lw_all := lw_g (lw_at lw_m5 124 rfl) rfl
theorem q1168 : (Jvm.Cond.castable "ChairRanks$Plain" "ChairRanks$Marked") ∈ lw_tbl := lw_at lw_m5 141 rfl
theorem q1169 : (Jvm.Cond.selects "ChairRanks$Plain" ({ cls := "ChairRanks$Marked", name := "number", desc := "()I" } : Jvm.MethodName) ({ cls := "ChairRanks$Chair", name := "number", desc := "()I" } : Jvm.MethodName)) ∈ lw_all := lw_g (lw_at lw_m5 142 rfl) rfl
theorem q1170 : (Jvm.Cond.unhidden "ChairRanks$Plain" "number" "()I") ∈ lw_tbl := lw_at lw_m5 143 rfl
theorem q1177 : (Jvm.Cond.methodLink "ChairRanks$Plain" (30 : Nat) ({ cls := "ChairRanks$Plain", name := "number", desc := "()I" } : Jvm.MethodName)) ∈ lw_all := lw_g (lw_at lw_m5 150 rfl) rfl
theorem q1178 : (Jvm.Cond.sameMethod "ChairRanks$Plain" "ChairRanks$Chair" "number" "()I") ∈ lw_all := lw_g (lw_at lw_m5 151 rfl) rfl
theorem q1181 : (Jvm.Cond.selects "ChairRanks$Plain" ({ cls := "ChairRanks$Plain", name := "number", desc := "()I" } : Jvm.MethodName) ({ cls := "ChairRanks$Chair", name := "number", desc := "()I" } : Jvm.MethodName)) ∈ lw_all := lw_g (lw_at lw_m5 154 rfl) rfl
theorem q1188 : (Jvm.Cond.selects "ChairRanks$Plain" ({ cls := "ChairRanks$Chair", name := "size", desc := "(LChairRanks$Trail;LChairRanks$Ministry;)I" } : Jvm.MethodName) ({ cls := "ChairRanks$Plain", name := "size", desc := "(LChairRanks$Trail;LChairRanks$Ministry;)I" } : Jvm.MethodName)) ∈ lw_all := lw_g (lw_at lw_m5 161 rfl) rfl
theorem q1205 : (Jvm.Cond.selects "ChairRanks$Plain" ({ cls := "ChairRanks$Marked", name := "mark", desc := "(LChairRanks$Trail;LChairRanks$Ministry;)I" } : Jvm.MethodName) ({ cls := "ChairRanks$Plain", name := "mark", desc := "(LChairRanks$Trail;LChairRanks$Ministry;)I" } : Jvm.MethodName)) ∈ lw_all := lw_g (lw_at lw_m5 178 rfl) rfl
theorem q1672 : (Jvm.Cond.sameMethod "ChairRanks$Plain" "ChairRanks$Plain" "high" "(II)I") ∈ lw_all := lw_g (lw_at lw_m7 165 rfl) rfl
theorem q1674 : (Jvm.Cond.sameMethod "ChairRanks$Plain" "ChairRanks$Plain" "size" "(LChairRanks$Trail;LChairRanks$Ministry;)I") ∈ lw_all := lw_g (lw_at lw_m7 167 rfl) rfl
theorem q1681 : (Jvm.Cond.castable "ChairRanks$Plain" "ChairRanks$Chair") ∈ lw_tbl := lw_at lw_m7 174 rfl
theorem q1693 : (Jvm.Cond.castable "ChairRanks$Plain" "java/lang/Object") ∈ lw_tbl := lw_at lw_m7 186 rfl
theorem in_X4 : ∀ w ∈ wsX40, w ∈ lw_all := lw_in wsX40 [234] (by decide +kernel) (by decide +kernel)

/-! ChairRanks$Rocker -/
set_option maxRecDepth 100000
def RX5 : String := "ChairRanks$Rocker"
def TX5 : u_T := fun k => match k with
  | _ => ("ChairRanks$Chair", "number", "I", true)
def tyX5 : Nat → FieldType := fun k => match k with
  | _ => .int
abbrev wsX50 : List Cond := u_ws RX5 TX5 1
theorem nmX5 : ∀ a, a < 1 → ∀ b, b < 1 → a ≠ b → (TX5 a).2.1 ≠ (TX5 b).2.1 := by decide +kernel
theorem tyX5_ok : ∀ k, k < 1 → parseFieldDescriptor (TX5 k).2.2.1 = some (tyX5 k) := by decide +kernel
abbrev cX5_init : ByteArray := prog_11_method_1_code
def yX5_init : MethodName := ⟨RX5, "<init>", "(I)V"⟩
def dkwX5_init_0 : List UInt8 := [42, 27, 183, 0, 3, 177]
abbrev dktX5_init_0 : List UInt8 := dkwX5_init_0 ++ []
theorem dksX5_init_0 : cX5_init.data.toList.drop 0 = dktX5_init_0 := by decide +kernel
theorem dX5_init_0 : decode cX5_init 0 = .ok (.aload_n 0, 1) := dk_42 (dk_at dksX5_init_0 0 rfl rfl)
theorem dX5_init_1 : decode cX5_init 1 = .ok (.iload_n 1, 1) := dk_27 (dk_at dksX5_init_0 1 rfl rfl)
theorem dX5_init_2 : decode cX5_init 2 = .ok (.invokespecial 3, 3) := dk_183 0 3 (dk_at dksX5_init_0 2 rfl rfl)
theorem dX5_init_5 : decode cX5_init 5 = .ok (.return_, 1) := dk_177 (dk_at dksX5_init_0 5 rfl rfl)
abbrev cX5_high : ByteArray := prog_11_method_3_code
def yX5_high : MethodName := ⟨RX5, "high", "(II)I"⟩
def dkwX5_high_0 : List UInt8 := [42, 27, 28, 183, 0, 9, 5, 108, 5, 104, 172]
abbrev dktX5_high_0 : List UInt8 := dkwX5_high_0 ++ []
theorem dksX5_high_0 : cX5_high.data.toList.drop 0 = dktX5_high_0 := by decide +kernel
theorem dX5_high_0 : decode cX5_high 0 = .ok (.aload_n 0, 1) := dk_42 (dk_at dksX5_high_0 0 rfl rfl)
theorem dX5_high_1 : decode cX5_high 1 = .ok (.iload_n 1, 1) := dk_27 (dk_at dksX5_high_0 1 rfl rfl)
theorem dX5_high_2 : decode cX5_high 2 = .ok (.iload_n 2, 1) := dk_28 (dk_at dksX5_high_0 2 rfl rfl)
theorem dX5_high_3 : decode cX5_high 3 = .ok (.invokespecial 9, 3) := dk_183 0 9 (dk_at dksX5_high_0 3 rfl rfl)
theorem dX5_high_6 : decode cX5_high 6 = .ok (.iconst 2, 1) := dk_5 (dk_at dksX5_high_0 6 rfl rfl)
theorem dX5_high_7 : decode cX5_high 7 = .ok (.idiv, 1) := dk_108 (dk_at dksX5_high_0 7 rfl rfl)
theorem dX5_high_8 : decode cX5_high 8 = .ok (.iconst 2, 1) := dk_5 (dk_at dksX5_high_0 8 rfl rfl)
theorem dX5_high_9 : decode cX5_high 9 = .ok (.imul, 1) := dk_104 (dk_at dksX5_high_0 9 rfl rfl)
theorem dX5_high_10 : decode cX5_high 10 = .ok (.ireturn, 1) := dk_172 (dk_at dksX5_high_0 10 rfl rfl)
abbrev cX5_kind : ByteArray := prog_11_method_2_code
def yX5_kind : MethodName := ⟨RX5, "kind", "()I"⟩
theorem dX5_kind_0 : decode cX5_kind 0 = .ok (.iconst 2, 1) := by decide +kernel
theorem dX5_kind_1 : decode cX5_kind 1 = .ok (.ireturn, 1) := by decide +kernel
abbrev cX5_mark : ByteArray := prog_11_method_5_code
def yX5_mark : MethodName := ⟨RX5, "mark", "(LChairRanks$Trail;LChairRanks$Ministry;)I"⟩
def dkwX5_mark_0 : List UInt8 := [43, 16, 24, 182, 0, 13, 5, 42, 43, 44, 183, 0, 22, 104, 172]
abbrev dktX5_mark_0 : List UInt8 := dkwX5_mark_0 ++ []
theorem dksX5_mark_0 : cX5_mark.data.toList.drop 0 = dktX5_mark_0 := by decide +kernel
theorem dX5_mark_0 : decode cX5_mark 0 = .ok (.aload_n 1, 1) := dk_43 (dk_at dksX5_mark_0 0 rfl rfl)
theorem dX5_mark_1 : decode cX5_mark 1 = .ok (.bipush 24, 2) := dk_16 24 (dk_at dksX5_mark_0 1 rfl rfl)
theorem dX5_mark_3 : decode cX5_mark 3 = .ok (.invokevirtual 13, 3) := dk_182 0 13 (dk_at dksX5_mark_0 3 rfl rfl)
theorem dX5_mark_6 : decode cX5_mark 6 = .ok (.iconst 2, 1) := dk_5 (dk_at dksX5_mark_0 6 rfl rfl)
theorem dX5_mark_7 : decode cX5_mark 7 = .ok (.aload_n 0, 1) := dk_42 (dk_at dksX5_mark_0 7 rfl rfl)
theorem dX5_mark_8 : decode cX5_mark 8 = .ok (.aload_n 1, 1) := dk_43 (dk_at dksX5_mark_0 8 rfl rfl)
theorem dX5_mark_9 : decode cX5_mark 9 = .ok (.aload_n 2, 1) := dk_44 (dk_at dksX5_mark_0 9 rfl rfl)
theorem dX5_mark_10 : decode cX5_mark 10 = .ok (.invokespecial 22, 3) := dk_183 0 22 (dk_at dksX5_mark_0 10 rfl rfl)
theorem dX5_mark_13 : decode cX5_mark 13 = .ok (.imul, 1) := dk_104 (dk_at dksX5_mark_0 13 rfl rfl)
theorem dX5_mark_14 : decode cX5_mark 14 = .ok (.ireturn, 1) := dk_172 (dk_at dksX5_mark_0 14 rfl rfl)
abbrev cX5_size : ByteArray := prog_11_method_4_code
def yX5_size : MethodName := ⟨RX5, "size", "(LChairRanks$Trail;LChairRanks$Ministry;)I"⟩
def dkwX5_size_0 : List UInt8 := [43, 16, 12, 182, 0, 13, 42, 43, 44, 183, 0, 18, 116, 172]
abbrev dktX5_size_0 : List UInt8 := dkwX5_size_0 ++ []
theorem dksX5_size_0 : cX5_size.data.toList.drop 0 = dktX5_size_0 := by decide +kernel
theorem dX5_size_0 : decode cX5_size 0 = .ok (.aload_n 1, 1) := dk_43 (dk_at dksX5_size_0 0 rfl rfl)
theorem dX5_size_1 : decode cX5_size 1 = .ok (.bipush 12, 2) := dk_16 12 (dk_at dksX5_size_0 1 rfl rfl)
theorem dX5_size_3 : decode cX5_size 3 = .ok (.invokevirtual 13, 3) := dk_182 0 13 (dk_at dksX5_size_0 3 rfl rfl)
theorem dX5_size_6 : decode cX5_size 6 = .ok (.aload_n 0, 1) := dk_42 (dk_at dksX5_size_0 6 rfl rfl)
theorem dX5_size_7 : decode cX5_size 7 = .ok (.aload_n 1, 1) := dk_43 (dk_at dksX5_size_0 7 rfl rfl)
theorem dX5_size_8 : decode cX5_size 8 = .ok (.aload_n 2, 1) := dk_44 (dk_at dksX5_size_0 8 rfl rfl)
theorem dX5_size_9 : decode cX5_size 9 = .ok (.invokespecial 18, 3) := dk_183 0 18 (dk_at dksX5_size_0 9 rfl rfl)
theorem dX5_size_12 : decode cX5_size 12 = .ok (.ineg, 1) := dk_116 (dk_at dksX5_size_0 12 rfl rfl)
theorem dX5_size_13 : decode cX5_size 13 = .ok (.ireturn, 1) := dk_172 (dk_at dksX5_size_0 13 rfl rfl)
theorem q76 : (Jvm.Cond.initialized "ChairRanks$Rocker") ∈ lw_all := lw_g (lw_at lw_m1 9 rfl) rfl
theorem q238 : (Jvm.Cond.instantiable "ChairRanks$Rocker" (1 : Nat)) ∈ lw_all := lw_g (lw_at lw_m1 171 rfl) rfl
theorem q240 : (Jvm.Cond.instanceMethod ({ cls := "ChairRanks$Rocker", name := "<init>", desc := "(I)V" } : Jvm.MethodName)) ∈ lw_all := lw_g (lw_at lw_m1 173 rfl) rfl
theorem q241 : (Jvm.Cond.code ({ cls := "ChairRanks$Rocker", name := "<init>", desc := "(I)V" } : Jvm.MethodName) prog_11_method_1_code (2 : Nat) (Option.none : Option Jvm.ClassFile.FieldType)) ∈ lw_all := lw_g (lw_at lw_m1 174 rfl) rfl
theorem q242 : (Jvm.Cond.methodLink "ChairRanks$Rocker" (3 : Nat) ({ cls := "ChairRanks$Plain", name := "<init>", desc := "(I)V" } : Jvm.MethodName)) ∈ lw_all := lw_g (lw_at lw_m1 175 rfl) rfl
theorem q243 : (Jvm.Cond.laysFinal "ChairRanks$Rocker" "ChairRanks$Chair" "number" "I") ∈ lw_all := lw_g (lw_at lw_m1 176 rfl) rfl
theorem q244 : (Jvm.Cond.superclass "ChairRanks$Rocker" "ChairRanks$Plain") ∈ lw_all := lw_g (lw_at lw_m1 177 rfl) rfl
theorem q697 : (Jvm.Cond.selects "ChairRanks$Rocker" ({ cls := "java/lang/Object", name := "getClass", desc := "()Ljava/lang/Class;" } : Jvm.MethodName) ({ cls := "java/lang/Object", name := "getClass", desc := "()Ljava/lang/Class;" } : Jvm.MethodName)) ∈ lw_all := lw_g (lw_at lw_m3 150 rfl) rfl
theorem q807 : (Jvm.Cond.selects "ChairRanks$Rocker" ({ cls := "ChairRanks$Chair", name := "high", desc := "(II)I" } : Jvm.MethodName) ({ cls := "ChairRanks$Rocker", name := "high", desc := "(II)I" } : Jvm.MethodName)) ∈ lw_all := lw_g (lw_at lw_m4 20 rfl) rfl
theorem q808 : (Jvm.Cond.instanceMethod ({ cls := "ChairRanks$Rocker", name := "high", desc := "(II)I" } : Jvm.MethodName)) ∈ lw_all := lw_g (lw_at lw_m4 21 rfl) rfl
theorem q809 : (Jvm.Cond.code ({ cls := "ChairRanks$Rocker", name := "high", desc := "(II)I" } : Jvm.MethodName) prog_11_method_3_code (3 : Nat) (Option.some Jvm.ClassFile.FieldType.int)) ∈ lw_all := lw_g (lw_at lw_m4 22 rfl) rfl
theorem q810 : (Jvm.Cond.methodLink "ChairRanks$Rocker" (9 : Nat) ({ cls := "ChairRanks$Plain", name := "high", desc := "(II)I" } : Jvm.MethodName)) ∈ lw_all := lw_g (lw_at lw_m4 23 rfl) rfl
theorem q832 : (Jvm.Cond.selects "ChairRanks$Rocker" ({ cls := "ChairRanks$Chair", name := "sawn", desc := "(I)I" } : Jvm.MethodName) ({ cls := "ChairRanks$Chair", name := "sawn", desc := "(I)I" } : Jvm.MethodName)) ∈ lw_all := lw_g (lw_at lw_m4 45 rfl) rfl
theorem q1089 : (Jvm.Cond.selects "ChairRanks$Rocker" ({ cls := "ChairRanks$Chair", name := "kind", desc := "()I" } : Jvm.MethodName) ({ cls := "ChairRanks$Rocker", name := "kind", desc := "()I" } : Jvm.MethodName)) ∈ lw_all := lw_g (lw_at lw_m5 62 rfl) rfl
theorem q1090 : (Jvm.Cond.instanceMethod ({ cls := "ChairRanks$Rocker", name := "kind", desc := "()I" } : Jvm.MethodName)) ∈ lw_all := lw_g (lw_at lw_m5 63 rfl) rfl
theorem q1091 : (Jvm.Cond.code ({ cls := "ChairRanks$Rocker", name := "kind", desc := "()I" } : Jvm.MethodName) prog_11_method_2_code (1 : Nat) (Option.some Jvm.ClassFile.FieldType.int)) ∈ lw_all := lw_g (lw_at lw_m5 64 rfl) rfl
theorem q1119 : (Jvm.Cond.selects "ChairRanks$Rocker" ({ cls := "ChairRanks$Chair", name := "number", desc := "()I" } : Jvm.MethodName) ({ cls := "ChairRanks$Chair", name := "number", desc := "()I" } : Jvm.MethodName)) ∈ lw_all := lw_g (lw_at lw_m5 92 rfl) rfl
theorem q1146 : (Jvm.Cond.selects "ChairRanks$Rocker" ({ cls := "ChairRanks$Plain", name := "mark", desc := "(LChairRanks$Trail;LChairRanks$Ministry;)I" } : Jvm.MethodName) ({ cls := "ChairRanks$Rocker", name := "mark", desc := "(LChairRanks$Trail;LChairRanks$Ministry;)I" } : Jvm.MethodName)) ∈ lw_all := lw_g (lw_at lw_m5 119 rfl) rfl
theorem q1147 : (Jvm.Cond.instanceMethod ({ cls := "ChairRanks$Rocker", name := "mark", desc := "(LChairRanks$Trail;LChairRanks$Ministry;)I" } : Jvm.MethodName)) ∈ lw_all := lw_g (lw_at lw_m5 120 rfl) rfl
theorem q1148 : (Jvm.Cond.code ({ cls := "ChairRanks$Rocker", name := "mark", desc := "(LChairRanks$Trail;LChairRanks$Ministry;)I" } : Jvm.MethodName) prog_11_method_5_code (3 : Nat) (Option.some Jvm.ClassFile.FieldType.int)) ∈ lw_all := lw_g (lw_at lw_m5 121 rfl) rfl
theorem q1149 : (Jvm.Cond.methodLink "ChairRanks$Rocker" (13 : Nat) ({ cls := "ChairRanks$Trail", name := "begins", desc := "(I)V" } : Jvm.MethodName)) ∈ lw_all := lw_g (lw_at lw_m5 122 rfl) rfl
theorem q1150 : (Jvm.Cond.methodLink "ChairRanks$Rocker" (22 : Nat) ({ cls := "ChairRanks$Plain", name := "mark", desc := "(LChairRanks$Trail;LChairRanks$Ministry;)I" } : Jvm.MethodName)) ∈ lw_all := lw_g (lw_at lw_m5 123 rfl) rfl
theorem q1171 : (Jvm.Cond.castable "ChairRanks$Rocker" "ChairRanks$Marked") ∈ lw_tbl := lw_at lw_m5 144 rfl
theorem q1172 : (Jvm.Cond.selects "ChairRanks$Rocker" ({ cls := "ChairRanks$Marked", name := "number", desc := "()I" } : Jvm.MethodName) ({ cls := "ChairRanks$Chair", name := "number", desc := "()I" } : Jvm.MethodName)) ∈ lw_all := lw_g (lw_at lw_m5 145 rfl) rfl
theorem q1173 : (Jvm.Cond.unhidden "ChairRanks$Rocker" "number" "()I") ∈ lw_tbl := lw_at lw_m5 146 rfl
theorem q1182 : (Jvm.Cond.selects "ChairRanks$Rocker" ({ cls := "ChairRanks$Plain", name := "number", desc := "()I" } : Jvm.MethodName) ({ cls := "ChairRanks$Chair", name := "number", desc := "()I" } : Jvm.MethodName)) ∈ lw_all := lw_g (lw_at lw_m5 155 rfl) rfl
theorem q1189 : (Jvm.Cond.selects "ChairRanks$Rocker" ({ cls := "ChairRanks$Chair", name := "size", desc := "(LChairRanks$Trail;LChairRanks$Ministry;)I" } : Jvm.MethodName) ({ cls := "ChairRanks$Rocker", name := "size", desc := "(LChairRanks$Trail;LChairRanks$Ministry;)I" } : Jvm.MethodName)) ∈ lw_all := lw_g (lw_at lw_m5 162 rfl) rfl
theorem q1190 : (Jvm.Cond.instanceMethod ({ cls := "ChairRanks$Rocker", name := "size", desc := "(LChairRanks$Trail;LChairRanks$Ministry;)I" } : Jvm.MethodName)) ∈ lw_all := lw_g (lw_at lw_m5 163 rfl) rfl
theorem q1191 : (Jvm.Cond.code ({ cls := "ChairRanks$Rocker", name := "size", desc := "(LChairRanks$Trail;LChairRanks$Ministry;)I" } : Jvm.MethodName) prog_11_method_4_code (3 : Nat) (Option.some Jvm.ClassFile.FieldType.int)) ∈ lw_all := lw_g (lw_at lw_m5 164 rfl) rfl
theorem q1192 : (Jvm.Cond.methodLink "ChairRanks$Rocker" (18 : Nat) ({ cls := "ChairRanks$Plain", name := "size", desc := "(LChairRanks$Trail;LChairRanks$Ministry;)I" } : Jvm.MethodName)) ∈ lw_all := lw_g (lw_at lw_m5 165 rfl) rfl
theorem q1206 : (Jvm.Cond.selects "ChairRanks$Rocker" ({ cls := "ChairRanks$Marked", name := "mark", desc := "(LChairRanks$Trail;LChairRanks$Ministry;)I" } : Jvm.MethodName) ({ cls := "ChairRanks$Rocker", name := "mark", desc := "(LChairRanks$Trail;LChairRanks$Ministry;)I" } : Jvm.MethodName)) ∈ lw_all := lw_g (lw_at lw_m5 179 rfl) rfl
theorem q1682 : (Jvm.Cond.castable "ChairRanks$Rocker" "ChairRanks$Chair") ∈ lw_tbl := lw_at lw_m7 175 rfl
theorem q1685 : (Jvm.Cond.castable "ChairRanks$Rocker" "ChairRanks$Plain") ∈ lw_tbl := lw_at lw_m7 178 rfl
theorem q1694 : (Jvm.Cond.castable "ChairRanks$Rocker" "java/lang/Object") ∈ lw_tbl := lw_at lw_m7 187 rfl
theorem in_X5 : ∀ w ∈ wsX50, w ∈ lw_all := lw_in wsX50 [243] (by decide +kernel) (by decide +kernel)

/-! ChairRanks$Cushioned -/
set_option maxRecDepth 100000
def RX6 : String := "ChairRanks$Cushioned"
def TX6 : u_T := fun k => match k with
  | _ => ("ChairRanks$Chair", "number", "I", true)
def tyX6 : Nat → FieldType := fun k => match k with
  | _ => .int
abbrev wsX60 : List Cond := u_ws RX6 TX6 1
theorem nmX6 : ∀ a, a < 1 → ∀ b, b < 1 → a ≠ b → (TX6 a).2.1 ≠ (TX6 b).2.1 := by decide +kernel
theorem tyX6_ok : ∀ k, k < 1 → parseFieldDescriptor (TX6 k).2.2.1 = some (tyX6 k) := by decide +kernel
abbrev cX6_init : ByteArray := prog_3_method_1_code
def yX6_init : MethodName := ⟨RX6, "<init>", "(I)V"⟩
def dkwX6_init_0 : List UInt8 := [42, 27, 183, 0, 3, 177]
abbrev dktX6_init_0 : List UInt8 := dkwX6_init_0 ++ []
theorem dksX6_init_0 : cX6_init.data.toList.drop 0 = dktX6_init_0 := by decide +kernel
theorem dX6_init_0 : decode cX6_init 0 = .ok (.aload_n 0, 1) := dk_42 (dk_at dksX6_init_0 0 rfl rfl)
theorem dX6_init_1 : decode cX6_init 1 = .ok (.iload_n 1, 1) := dk_27 (dk_at dksX6_init_0 1 rfl rfl)
theorem dX6_init_2 : decode cX6_init 2 = .ok (.invokespecial 3, 3) := dk_183 0 3 (dk_at dksX6_init_0 2 rfl rfl)
theorem dX6_init_5 : decode cX6_init 5 = .ok (.return_, 1) := dk_177 (dk_at dksX6_init_0 5 rfl rfl)
abbrev cX6_high : ByteArray := prog_3_method_3_code
def yX6_high : MethodName := ⟨RX6, "high", "(II)I"⟩
def dkwX6_high_0 : List UInt8 := [42, 27, 5, 28, 104, 183, 0, 9, 172]
abbrev dktX6_high_0 : List UInt8 := dkwX6_high_0 ++ []
theorem dksX6_high_0 : cX6_high.data.toList.drop 0 = dktX6_high_0 := by decide +kernel
theorem dX6_high_0 : decode cX6_high 0 = .ok (.aload_n 0, 1) := dk_42 (dk_at dksX6_high_0 0 rfl rfl)
theorem dX6_high_1 : decode cX6_high 1 = .ok (.iload_n 1, 1) := dk_27 (dk_at dksX6_high_0 1 rfl rfl)
theorem dX6_high_2 : decode cX6_high 2 = .ok (.iconst 2, 1) := dk_5 (dk_at dksX6_high_0 2 rfl rfl)
theorem dX6_high_3 : decode cX6_high 3 = .ok (.iload_n 2, 1) := dk_28 (dk_at dksX6_high_0 3 rfl rfl)
theorem dX6_high_4 : decode cX6_high 4 = .ok (.imul, 1) := dk_104 (dk_at dksX6_high_0 4 rfl rfl)
theorem dX6_high_5 : decode cX6_high 5 = .ok (.invokespecial 9, 3) := dk_183 0 9 (dk_at dksX6_high_0 5 rfl rfl)
theorem dX6_high_8 : decode cX6_high 8 = .ok (.ireturn, 1) := dk_172 (dk_at dksX6_high_0 8 rfl rfl)
abbrev cX6_kind : ByteArray := prog_3_method_2_code
def yX6_kind : MethodName := ⟨RX6, "kind", "()I"⟩
theorem dX6_kind_0 : decode cX6_kind 0 = .ok (.iconst 3, 1) := by decide +kernel
theorem dX6_kind_1 : decode cX6_kind 1 = .ok (.ireturn, 1) := by decide +kernel
abbrev cX6_mark : ByteArray := prog_3_method_4_code
def yX6_mark : MethodName := ⟨RX6, "mark", "(LChairRanks$Trail;LChairRanks$Ministry;)I"⟩
def dkwX6_mark_0 : List UInt8 := [43, 16, 22, 182, 0, 13, 42, 43, 44, 183, 0, 18, 17, 3, 232, 100, 172]
abbrev dktX6_mark_0 : List UInt8 := dkwX6_mark_0 ++ []
theorem dksX6_mark_0 : cX6_mark.data.toList.drop 0 = dktX6_mark_0 := by decide +kernel
theorem dX6_mark_0 : decode cX6_mark 0 = .ok (.aload_n 1, 1) := dk_43 (dk_at dksX6_mark_0 0 rfl rfl)
theorem dX6_mark_1 : decode cX6_mark 1 = .ok (.bipush 22, 2) := dk_16 22 (dk_at dksX6_mark_0 1 rfl rfl)
theorem dX6_mark_3 : decode cX6_mark 3 = .ok (.invokevirtual 13, 3) := dk_182 0 13 (dk_at dksX6_mark_0 3 rfl rfl)
theorem dX6_mark_6 : decode cX6_mark 6 = .ok (.aload_n 0, 1) := dk_42 (dk_at dksX6_mark_0 6 rfl rfl)
theorem dX6_mark_7 : decode cX6_mark 7 = .ok (.aload_n 1, 1) := dk_43 (dk_at dksX6_mark_0 7 rfl rfl)
theorem dX6_mark_8 : decode cX6_mark 8 = .ok (.aload_n 2, 1) := dk_44 (dk_at dksX6_mark_0 8 rfl rfl)
theorem dX6_mark_9 : decode cX6_mark 9 = .ok (.invokespecial 18, 3) := dk_183 0 18 (dk_at dksX6_mark_0 9 rfl rfl)
theorem dX6_mark_12 : decode cX6_mark 12 = .ok (.sipush 1000, 3) := dk_17 3 232 (dk_at dksX6_mark_0 12 rfl rfl)
theorem dX6_mark_15 : decode cX6_mark 15 = .ok (.isub, 1) := dk_100 (dk_at dksX6_mark_0 15 rfl rfl)
theorem dX6_mark_16 : decode cX6_mark 16 = .ok (.ireturn, 1) := dk_172 (dk_at dksX6_mark_0 16 rfl rfl)
theorem q77 : (Jvm.Cond.initialized "ChairRanks$Cushioned") ∈ lw_all := lw_g (lw_at lw_m1 10 rfl) rfl
theorem q246 : (Jvm.Cond.instantiable "ChairRanks$Cushioned" (1 : Nat)) ∈ lw_all := lw_g (lw_at lw_m1 179 rfl) rfl
theorem q248 : (Jvm.Cond.instanceMethod ({ cls := "ChairRanks$Cushioned", name := "<init>", desc := "(I)V" } : Jvm.MethodName)) ∈ lw_all := lw_g (lw_at lw_m1 181 rfl) rfl
theorem q249 : (Jvm.Cond.code ({ cls := "ChairRanks$Cushioned", name := "<init>", desc := "(I)V" } : Jvm.MethodName) prog_3_method_1_code (2 : Nat) (Option.none : Option Jvm.ClassFile.FieldType)) ∈ lw_all := lw_g (lw_at lw_m1 182 rfl) rfl
theorem q250 : (Jvm.Cond.methodLink "ChairRanks$Cushioned" (3 : Nat) ({ cls := "ChairRanks$Plain", name := "<init>", desc := "(I)V" } : Jvm.MethodName)) ∈ lw_all := lw_g (lw_at lw_m1 183 rfl) rfl
theorem q251 : (Jvm.Cond.laysFinal "ChairRanks$Cushioned" "ChairRanks$Chair" "number" "I") ∈ lw_all := lw_g (lw_at lw_m1 184 rfl) rfl
theorem q252 : (Jvm.Cond.superclass "ChairRanks$Cushioned" "ChairRanks$Plain") ∈ lw_all := lw_g (lw_at lw_m1 185 rfl) rfl
theorem q690 : (Jvm.Cond.selects "ChairRanks$Cushioned" ({ cls := "java/lang/Object", name := "getClass", desc := "()Ljava/lang/Class;" } : Jvm.MethodName) ({ cls := "java/lang/Object", name := "getClass", desc := "()Ljava/lang/Class;" } : Jvm.MethodName)) ∈ lw_all := lw_g (lw_at lw_m3 143 rfl) rfl
theorem q797 : (Jvm.Cond.selects "ChairRanks$Cushioned" ({ cls := "ChairRanks$Chair", name := "high", desc := "(II)I" } : Jvm.MethodName) ({ cls := "ChairRanks$Cushioned", name := "high", desc := "(II)I" } : Jvm.MethodName)) ∈ lw_all := lw_g (lw_at lw_m4 10 rfl) rfl
theorem q798 : (Jvm.Cond.instanceMethod ({ cls := "ChairRanks$Cushioned", name := "high", desc := "(II)I" } : Jvm.MethodName)) ∈ lw_all := lw_g (lw_at lw_m4 11 rfl) rfl
theorem q799 : (Jvm.Cond.code ({ cls := "ChairRanks$Cushioned", name := "high", desc := "(II)I" } : Jvm.MethodName) prog_3_method_3_code (3 : Nat) (Option.some Jvm.ClassFile.FieldType.int)) ∈ lw_all := lw_g (lw_at lw_m4 12 rfl) rfl
theorem q800 : (Jvm.Cond.methodLink "ChairRanks$Cushioned" (9 : Nat) ({ cls := "ChairRanks$Plain", name := "high", desc := "(II)I" } : Jvm.MethodName)) ∈ lw_all := lw_g (lw_at lw_m4 13 rfl) rfl
theorem q826 : (Jvm.Cond.selects "ChairRanks$Cushioned" ({ cls := "ChairRanks$Chair", name := "sawn", desc := "(I)I" } : Jvm.MethodName) ({ cls := "ChairRanks$Chair", name := "sawn", desc := "(I)I" } : Jvm.MethodName)) ∈ lw_all := lw_g (lw_at lw_m4 39 rfl) rfl
theorem q1080 : (Jvm.Cond.selects "ChairRanks$Cushioned" ({ cls := "ChairRanks$Chair", name := "kind", desc := "()I" } : Jvm.MethodName) ({ cls := "ChairRanks$Cushioned", name := "kind", desc := "()I" } : Jvm.MethodName)) ∈ lw_all := lw_g (lw_at lw_m5 53 rfl) rfl
theorem q1081 : (Jvm.Cond.instanceMethod ({ cls := "ChairRanks$Cushioned", name := "kind", desc := "()I" } : Jvm.MethodName)) ∈ lw_all := lw_g (lw_at lw_m5 54 rfl) rfl
theorem q1082 : (Jvm.Cond.code ({ cls := "ChairRanks$Cushioned", name := "kind", desc := "()I" } : Jvm.MethodName) prog_3_method_2_code (1 : Nat) (Option.some Jvm.ClassFile.FieldType.int)) ∈ lw_all := lw_g (lw_at lw_m5 55 rfl) rfl
theorem q1116 : (Jvm.Cond.selects "ChairRanks$Cushioned" ({ cls := "ChairRanks$Chair", name := "number", desc := "()I" } : Jvm.MethodName) ({ cls := "ChairRanks$Chair", name := "number", desc := "()I" } : Jvm.MethodName)) ∈ lw_all := lw_g (lw_at lw_m5 89 rfl) rfl
theorem q1129 : (Jvm.Cond.selects "ChairRanks$Cushioned" ({ cls := "ChairRanks$Chair", name := "size", desc := "(LChairRanks$Trail;LChairRanks$Ministry;)I" } : Jvm.MethodName) ({ cls := "ChairRanks$Plain", name := "size", desc := "(LChairRanks$Trail;LChairRanks$Ministry;)I" } : Jvm.MethodName)) ∈ lw_all := lw_g (lw_at lw_m5 102 rfl) rfl
theorem q1141 : (Jvm.Cond.selects "ChairRanks$Cushioned" ({ cls := "ChairRanks$Plain", name := "mark", desc := "(LChairRanks$Trail;LChairRanks$Ministry;)I" } : Jvm.MethodName) ({ cls := "ChairRanks$Cushioned", name := "mark", desc := "(LChairRanks$Trail;LChairRanks$Ministry;)I" } : Jvm.MethodName)) ∈ lw_all := lw_g (lw_at lw_m5 114 rfl) rfl
theorem q1142 : (Jvm.Cond.instanceMethod ({ cls := "ChairRanks$Cushioned", name := "mark", desc := "(LChairRanks$Trail;LChairRanks$Ministry;)I" } : Jvm.MethodName)) ∈ lw_all := lw_g (lw_at lw_m5 115 rfl) rfl
theorem q1143 : (Jvm.Cond.code ({ cls := "ChairRanks$Cushioned", name := "mark", desc := "(LChairRanks$Trail;LChairRanks$Ministry;)I" } : Jvm.MethodName) prog_3_method_4_code (3 : Nat) (Option.some Jvm.ClassFile.FieldType.int)) ∈ lw_all := lw_g (lw_at lw_m5 116 rfl) rfl
theorem q1144 : (Jvm.Cond.methodLink "ChairRanks$Cushioned" (13 : Nat) ({ cls := "ChairRanks$Trail", name := "begins", desc := "(I)V" } : Jvm.MethodName)) ∈ lw_all := lw_g (lw_at lw_m5 117 rfl) rfl
theorem q1145 : (Jvm.Cond.methodLink "ChairRanks$Cushioned" (18 : Nat) ({ cls := "ChairRanks$Plain", name := "mark", desc := "(LChairRanks$Trail;LChairRanks$Ministry;)I" } : Jvm.MethodName)) ∈ lw_all := lw_g (lw_at lw_m5 118 rfl) rfl
theorem q1161 : (Jvm.Cond.castable "ChairRanks$Cushioned" "ChairRanks$Marked") ∈ lw_tbl := lw_at lw_m5 134 rfl
theorem q1162 : (Jvm.Cond.selects "ChairRanks$Cushioned" ({ cls := "ChairRanks$Marked", name := "number", desc := "()I" } : Jvm.MethodName) ({ cls := "ChairRanks$Chair", name := "number", desc := "()I" } : Jvm.MethodName)) ∈ lw_all := lw_g (lw_at lw_m5 135 rfl) rfl
theorem q1163 : (Jvm.Cond.unhidden "ChairRanks$Cushioned" "number" "()I") ∈ lw_tbl := lw_at lw_m5 136 rfl
theorem q1180 : (Jvm.Cond.selects "ChairRanks$Cushioned" ({ cls := "ChairRanks$Plain", name := "number", desc := "()I" } : Jvm.MethodName) ({ cls := "ChairRanks$Chair", name := "number", desc := "()I" } : Jvm.MethodName)) ∈ lw_all := lw_g (lw_at lw_m5 153 rfl) rfl
theorem q1200 : (Jvm.Cond.selects "ChairRanks$Cushioned" ({ cls := "ChairRanks$Marked", name := "mark", desc := "(LChairRanks$Trail;LChairRanks$Ministry;)I" } : Jvm.MethodName) ({ cls := "ChairRanks$Cushioned", name := "mark", desc := "(LChairRanks$Trail;LChairRanks$Ministry;)I" } : Jvm.MethodName)) ∈ lw_all := lw_g (lw_at lw_m5 173 rfl) rfl
theorem q1679 : (Jvm.Cond.castable "ChairRanks$Cushioned" "ChairRanks$Chair") ∈ lw_tbl := lw_at lw_m7 172 rfl
theorem q1684 : (Jvm.Cond.castable "ChairRanks$Cushioned" "ChairRanks$Plain") ∈ lw_tbl := lw_at lw_m7 177 rfl
theorem q1695 : (Jvm.Cond.castable "ChairRanks$Cushioned" "java/lang/Object") ∈ lw_tbl := lw_at lw_m7 188 rfl
theorem in_X6 : ∀ w ∈ wsX60, w ∈ lw_all := lw_in wsX60 [251] (by decide +kernel) (by decide +kernel)

/-! ChairRanks$Oak -/
set_option maxRecDepth 100000
def RX7 : String := "ChairRanks$Oak"
def TX7 : u_T := fun k => match k with
  | _ => ("ChairRanks$Chair", "number", "I", true)
def tyX7 : Nat → FieldType := fun k => match k with
  | _ => .int
abbrev wsX70 : List Cond := u_ws RX7 TX7 1
theorem nmX7 : ∀ a, a < 1 → ∀ b, b < 1 → a ≠ b → (TX7 a).2.1 ≠ (TX7 b).2.1 := by decide +kernel
theorem tyX7_ok : ∀ k, k < 1 → parseFieldDescriptor (TX7 k).2.2.1 = some (tyX7 k) := by decide +kernel
abbrev cX7_init : ByteArray := prog_8_method_1_code
def yX7_init : MethodName := ⟨RX7, "<init>", "(I)V"⟩
def dkwX7_init_0 : List UInt8 := [42, 27, 183, 0, 3, 177]
abbrev dktX7_init_0 : List UInt8 := dkwX7_init_0 ++ []
theorem dksX7_init_0 : cX7_init.data.toList.drop 0 = dktX7_init_0 := by decide +kernel
theorem dX7_init_0 : decode cX7_init 0 = .ok (.aload_n 0, 1) := dk_42 (dk_at dksX7_init_0 0 rfl rfl)
theorem dX7_init_1 : decode cX7_init 1 = .ok (.iload_n 1, 1) := dk_27 (dk_at dksX7_init_0 1 rfl rfl)
theorem dX7_init_2 : decode cX7_init 2 = .ok (.invokespecial 3, 3) := dk_183 0 3 (dk_at dksX7_init_0 2 rfl rfl)
theorem dX7_init_5 : decode cX7_init 5 = .ok (.return_, 1) := dk_177 (dk_at dksX7_init_0 5 rfl rfl)
abbrev cX7_high : ByteArray := prog_8_method_3_code
def yX7_high : MethodName := ⟨RX7, "high", "(II)I"⟩
theorem dX7_high_0 : decode cX7_high 0 = .ok (.iload_n 1, 1) := by decide +kernel
theorem dX7_high_1 : decode cX7_high 1 = .ok (.ireturn, 1) := by decide +kernel
abbrev cX7_sawn : ByteArray := prog_8_method_4_code
def yX7_sawn : MethodName := ⟨RX7, "sawn", "(I)I"⟩
def dkwX7_sawn_0 : List UInt8 := [42, 27, 183, 0, 9, 5, 108, 172]
abbrev dktX7_sawn_0 : List UInt8 := dkwX7_sawn_0 ++ []
theorem dksX7_sawn_0 : cX7_sawn.data.toList.drop 0 = dktX7_sawn_0 := by decide +kernel
theorem dX7_sawn_0 : decode cX7_sawn 0 = .ok (.aload_n 0, 1) := dk_42 (dk_at dksX7_sawn_0 0 rfl rfl)
theorem dX7_sawn_1 : decode cX7_sawn 1 = .ok (.iload_n 1, 1) := dk_27 (dk_at dksX7_sawn_0 1 rfl rfl)
theorem dX7_sawn_2 : decode cX7_sawn 2 = .ok (.invokespecial 9, 3) := dk_183 0 9 (dk_at dksX7_sawn_0 2 rfl rfl)
theorem dX7_sawn_5 : decode cX7_sawn 5 = .ok (.iconst 2, 1) := dk_5 (dk_at dksX7_sawn_0 5 rfl rfl)
theorem dX7_sawn_6 : decode cX7_sawn 6 = .ok (.idiv, 1) := dk_108 (dk_at dksX7_sawn_0 6 rfl rfl)
theorem dX7_sawn_7 : decode cX7_sawn 7 = .ok (.ireturn, 1) := dk_172 (dk_at dksX7_sawn_0 7 rfl rfl)
abbrev cX7_kind : ByteArray := prog_8_method_2_code
def yX7_kind : MethodName := ⟨RX7, "kind", "()I"⟩
theorem dX7_kind_0 : decode cX7_kind 0 = .ok (.iconst 4, 1) := by decide +kernel
theorem dX7_kind_1 : decode cX7_kind 1 = .ok (.ireturn, 1) := by decide +kernel
abbrev cX7_size : ByteArray := prog_8_method_5_code
def yX7_size : MethodName := ⟨RX7, "size", "(LChairRanks$Trail;LChairRanks$Ministry;)I"⟩
def dkwX7_size_0 : List UInt8 := [43, 16, 13, 182, 0, 13, 42, 43, 44, 183, 0, 18, 16, 100, 100, 172]
abbrev dktX7_size_0 : List UInt8 := dkwX7_size_0 ++ []
theorem dksX7_size_0 : cX7_size.data.toList.drop 0 = dktX7_size_0 := by decide +kernel
theorem dX7_size_0 : decode cX7_size 0 = .ok (.aload_n 1, 1) := dk_43 (dk_at dksX7_size_0 0 rfl rfl)
theorem dX7_size_1 : decode cX7_size 1 = .ok (.bipush 13, 2) := dk_16 13 (dk_at dksX7_size_0 1 rfl rfl)
theorem dX7_size_3 : decode cX7_size 3 = .ok (.invokevirtual 13, 3) := dk_182 0 13 (dk_at dksX7_size_0 3 rfl rfl)
theorem dX7_size_6 : decode cX7_size 6 = .ok (.aload_n 0, 1) := dk_42 (dk_at dksX7_size_0 6 rfl rfl)
theorem dX7_size_7 : decode cX7_size 7 = .ok (.aload_n 1, 1) := dk_43 (dk_at dksX7_size_0 7 rfl rfl)
theorem dX7_size_8 : decode cX7_size 8 = .ok (.aload_n 2, 1) := dk_44 (dk_at dksX7_size_0 8 rfl rfl)
theorem dX7_size_9 : decode cX7_size 9 = .ok (.invokespecial 18, 3) := dk_183 0 18 (dk_at dksX7_size_0 9 rfl rfl)
theorem dX7_size_12 : decode cX7_size 12 = .ok (.bipush 100, 2) := dk_16 100 (dk_at dksX7_size_0 12 rfl rfl)
theorem dX7_size_14 : decode cX7_size 14 = .ok (.isub, 1) := dk_100 (dk_at dksX7_size_0 14 rfl rfl)
theorem dX7_size_15 : decode cX7_size 15 = .ok (.ireturn, 1) := dk_172 (dk_at dksX7_size_0 15 rfl rfl)
abbrev cX7_mark : ByteArray := prog_8_method_6_code
def yX7_mark : MethodName := ⟨RX7, "mark", "(LChairRanks$Trail;LChairRanks$Ministry;)I"⟩
def dkwX7_mark_0 : List UInt8 := [43, 16, 23, 182, 0, 13, 42, 43, 44, 183, 0, 22, 42, 43, 44, 182, 0, 25, 100, 172]
abbrev dktX7_mark_0 : List UInt8 := dkwX7_mark_0 ++ []
theorem dksX7_mark_0 : cX7_mark.data.toList.drop 0 = dktX7_mark_0 := by decide +kernel
theorem dX7_mark_0 : decode cX7_mark 0 = .ok (.aload_n 1, 1) := dk_43 (dk_at dksX7_mark_0 0 rfl rfl)
theorem dX7_mark_1 : decode cX7_mark 1 = .ok (.bipush 23, 2) := dk_16 23 (dk_at dksX7_mark_0 1 rfl rfl)
theorem dX7_mark_3 : decode cX7_mark 3 = .ok (.invokevirtual 13, 3) := dk_182 0 13 (dk_at dksX7_mark_0 3 rfl rfl)
theorem dX7_mark_6 : decode cX7_mark 6 = .ok (.aload_n 0, 1) := dk_42 (dk_at dksX7_mark_0 6 rfl rfl)
theorem dX7_mark_7 : decode cX7_mark 7 = .ok (.aload_n 1, 1) := dk_43 (dk_at dksX7_mark_0 7 rfl rfl)
theorem dX7_mark_8 : decode cX7_mark 8 = .ok (.aload_n 2, 1) := dk_44 (dk_at dksX7_mark_0 8 rfl rfl)
theorem dX7_mark_9 : decode cX7_mark 9 = .ok (.invokespecial 22, 3) := dk_183 0 22 (dk_at dksX7_mark_0 9 rfl rfl)
theorem dX7_mark_12 : decode cX7_mark 12 = .ok (.aload_n 0, 1) := dk_42 (dk_at dksX7_mark_0 12 rfl rfl)
theorem dX7_mark_13 : decode cX7_mark 13 = .ok (.aload_n 1, 1) := dk_43 (dk_at dksX7_mark_0 13 rfl rfl)
theorem dX7_mark_14 : decode cX7_mark 14 = .ok (.aload_n 2, 1) := dk_44 (dk_at dksX7_mark_0 14 rfl rfl)
theorem dX7_mark_15 : decode cX7_mark 15 = .ok (.invokevirtual 25, 3) := dk_182 0 25 (dk_at dksX7_mark_0 15 rfl rfl)
theorem dX7_mark_18 : decode cX7_mark 18 = .ok (.isub, 1) := dk_100 (dk_at dksX7_mark_0 18 rfl rfl)
theorem dX7_mark_19 : decode cX7_mark 19 = .ok (.ireturn, 1) := dk_172 (dk_at dksX7_mark_0 19 rfl rfl)
theorem q78 : (Jvm.Cond.initialized "ChairRanks$Oak") ∈ lw_all := lw_g (lw_at lw_m1 11 rfl) rfl
theorem q254 : (Jvm.Cond.instantiable "ChairRanks$Oak" (1 : Nat)) ∈ lw_all := lw_g (lw_at lw_m1 187 rfl) rfl
theorem q256 : (Jvm.Cond.instanceMethod ({ cls := "ChairRanks$Oak", name := "<init>", desc := "(I)V" } : Jvm.MethodName)) ∈ lw_all := lw_g (lw_at lw_m1 189 rfl) rfl
theorem q257 : (Jvm.Cond.code ({ cls := "ChairRanks$Oak", name := "<init>", desc := "(I)V" } : Jvm.MethodName) prog_8_method_1_code (2 : Nat) (Option.none : Option Jvm.ClassFile.FieldType)) ∈ lw_all := lw_g (lw_at lw_m1 190 rfl) rfl
theorem q258 : (Jvm.Cond.methodLink "ChairRanks$Oak" (3 : Nat) ({ cls := "ChairRanks$Chair", name := "<init>", desc := "(I)V" } : Jvm.MethodName)) ∈ lw_all := lw_g (lw_at lw_m1 191 rfl) rfl
theorem q259 : (Jvm.Cond.laysFinal "ChairRanks$Oak" "ChairRanks$Chair" "number" "I") ∈ lw_all := lw_g (lw_at lw_m1 192 rfl) rfl
theorem q260 : (Jvm.Cond.superclass "ChairRanks$Oak" "ChairRanks$Chair") ∈ lw_all := lw_g (lw_at lw_m1 193 rfl) rfl
theorem q694 : (Jvm.Cond.selects "ChairRanks$Oak" ({ cls := "java/lang/Object", name := "getClass", desc := "()Ljava/lang/Class;" } : Jvm.MethodName) ({ cls := "java/lang/Object", name := "getClass", desc := "()Ljava/lang/Class;" } : Jvm.MethodName)) ∈ lw_all := lw_g (lw_at lw_m3 147 rfl) rfl
theorem q803 : (Jvm.Cond.selects "ChairRanks$Oak" ({ cls := "ChairRanks$Chair", name := "high", desc := "(II)I" } : Jvm.MethodName) ({ cls := "ChairRanks$Oak", name := "high", desc := "(II)I" } : Jvm.MethodName)) ∈ lw_all := lw_g (lw_at lw_m4 16 rfl) rfl
theorem q804 : (Jvm.Cond.instanceMethod ({ cls := "ChairRanks$Oak", name := "high", desc := "(II)I" } : Jvm.MethodName)) ∈ lw_all := lw_g (lw_at lw_m4 17 rfl) rfl
theorem q805 : (Jvm.Cond.code ({ cls := "ChairRanks$Oak", name := "high", desc := "(II)I" } : Jvm.MethodName) prog_8_method_3_code (3 : Nat) (Option.some Jvm.ClassFile.FieldType.int)) ∈ lw_all := lw_g (lw_at lw_m4 18 rfl) rfl
theorem q827 : (Jvm.Cond.selects "ChairRanks$Oak" ({ cls := "ChairRanks$Chair", name := "sawn", desc := "(I)I" } : Jvm.MethodName) ({ cls := "ChairRanks$Oak", name := "sawn", desc := "(I)I" } : Jvm.MethodName)) ∈ lw_all := lw_g (lw_at lw_m4 40 rfl) rfl
theorem q828 : (Jvm.Cond.instanceMethod ({ cls := "ChairRanks$Oak", name := "sawn", desc := "(I)I" } : Jvm.MethodName)) ∈ lw_all := lw_g (lw_at lw_m4 41 rfl) rfl
theorem q829 : (Jvm.Cond.code ({ cls := "ChairRanks$Oak", name := "sawn", desc := "(I)I" } : Jvm.MethodName) prog_8_method_4_code (2 : Nat) (Option.some Jvm.ClassFile.FieldType.int)) ∈ lw_all := lw_g (lw_at lw_m4 42 rfl) rfl
theorem q830 : (Jvm.Cond.methodLink "ChairRanks$Oak" (9 : Nat) ({ cls := "ChairRanks$Chair", name := "sawn", desc := "(I)I" } : Jvm.MethodName)) ∈ lw_all := lw_g (lw_at lw_m4 43 rfl) rfl
theorem q1083 : (Jvm.Cond.selects "ChairRanks$Oak" ({ cls := "ChairRanks$Chair", name := "kind", desc := "()I" } : Jvm.MethodName) ({ cls := "ChairRanks$Oak", name := "kind", desc := "()I" } : Jvm.MethodName)) ∈ lw_all := lw_g (lw_at lw_m5 56 rfl) rfl
theorem q1084 : (Jvm.Cond.instanceMethod ({ cls := "ChairRanks$Oak", name := "kind", desc := "()I" } : Jvm.MethodName)) ∈ lw_all := lw_g (lw_at lw_m5 57 rfl) rfl
theorem q1085 : (Jvm.Cond.code ({ cls := "ChairRanks$Oak", name := "kind", desc := "()I" } : Jvm.MethodName) prog_8_method_2_code (1 : Nat) (Option.some Jvm.ClassFile.FieldType.int)) ∈ lw_all := lw_g (lw_at lw_m5 58 rfl) rfl
theorem q1117 : (Jvm.Cond.selects "ChairRanks$Oak" ({ cls := "ChairRanks$Chair", name := "number", desc := "()I" } : Jvm.MethodName) ({ cls := "ChairRanks$Chair", name := "number", desc := "()I" } : Jvm.MethodName)) ∈ lw_all := lw_g (lw_at lw_m5 90 rfl) rfl
theorem q1165 : (Jvm.Cond.castable "ChairRanks$Oak" "ChairRanks$Marked") ∈ lw_tbl := lw_at lw_m5 138 rfl
theorem q1166 : (Jvm.Cond.selects "ChairRanks$Oak" ({ cls := "ChairRanks$Marked", name := "number", desc := "()I" } : Jvm.MethodName) ({ cls := "ChairRanks$Chair", name := "number", desc := "()I" } : Jvm.MethodName)) ∈ lw_all := lw_g (lw_at lw_m5 139 rfl) rfl
theorem q1167 : (Jvm.Cond.unhidden "ChairRanks$Oak" "number" "()I") ∈ lw_tbl := lw_at lw_m5 140 rfl
theorem q1183 : (Jvm.Cond.selects "ChairRanks$Oak" ({ cls := "ChairRanks$Chair", name := "size", desc := "(LChairRanks$Trail;LChairRanks$Ministry;)I" } : Jvm.MethodName) ({ cls := "ChairRanks$Oak", name := "size", desc := "(LChairRanks$Trail;LChairRanks$Ministry;)I" } : Jvm.MethodName)) ∈ lw_all := lw_g (lw_at lw_m5 156 rfl) rfl
theorem q1184 : (Jvm.Cond.instanceMethod ({ cls := "ChairRanks$Oak", name := "size", desc := "(LChairRanks$Trail;LChairRanks$Ministry;)I" } : Jvm.MethodName)) ∈ lw_all := lw_g (lw_at lw_m5 157 rfl) rfl
theorem q1185 : (Jvm.Cond.code ({ cls := "ChairRanks$Oak", name := "size", desc := "(LChairRanks$Trail;LChairRanks$Ministry;)I" } : Jvm.MethodName) prog_8_method_5_code (3 : Nat) (Option.some Jvm.ClassFile.FieldType.int)) ∈ lw_all := lw_g (lw_at lw_m5 158 rfl) rfl
theorem q1186 : (Jvm.Cond.methodLink "ChairRanks$Oak" (13 : Nat) ({ cls := "ChairRanks$Trail", name := "begins", desc := "(I)V" } : Jvm.MethodName)) ∈ lw_all := lw_g (lw_at lw_m5 159 rfl) rfl
theorem q1187 : (Jvm.Cond.methodLink "ChairRanks$Oak" (18 : Nat) ({ cls := "ChairRanks$Chair", name := "size", desc := "(LChairRanks$Trail;LChairRanks$Ministry;)I" } : Jvm.MethodName)) ∈ lw_all := lw_g (lw_at lw_m5 160 rfl) rfl
theorem q1201 : (Jvm.Cond.selects "ChairRanks$Oak" ({ cls := "ChairRanks$Marked", name := "mark", desc := "(LChairRanks$Trail;LChairRanks$Ministry;)I" } : Jvm.MethodName) ({ cls := "ChairRanks$Oak", name := "mark", desc := "(LChairRanks$Trail;LChairRanks$Ministry;)I" } : Jvm.MethodName)) ∈ lw_all := lw_g (lw_at lw_m5 174 rfl) rfl
theorem q1202 : (Jvm.Cond.instanceMethod ({ cls := "ChairRanks$Oak", name := "mark", desc := "(LChairRanks$Trail;LChairRanks$Ministry;)I" } : Jvm.MethodName)) ∈ lw_all := lw_g (lw_at lw_m5 175 rfl) rfl
theorem q1203 : (Jvm.Cond.code ({ cls := "ChairRanks$Oak", name := "mark", desc := "(LChairRanks$Trail;LChairRanks$Ministry;)I" } : Jvm.MethodName) prog_8_method_6_code (3 : Nat) (Option.some Jvm.ClassFile.FieldType.int)) ∈ lw_all := lw_g (lw_at lw_m5 176 rfl) rfl
theorem q1204 : (Jvm.Cond.methodLink "ChairRanks$Oak" (25 : Nat) ({ cls := "ChairRanks$Oak", name := "size", desc := "(LChairRanks$Trail;LChairRanks$Ministry;)I" } : Jvm.MethodName)) ∈ lw_all := lw_g (lw_at lw_m5 177 rfl) rfl
theorem q1673 : (Jvm.Cond.sameMethod "ChairRanks$Oak" "ChairRanks$Oak" "high" "(II)I") ∈ lw_all := lw_g (lw_at lw_m7 166 rfl) rfl
theorem q1675 : (Jvm.Cond.sameMethod "ChairRanks$Oak" "ChairRanks$Oak" "size" "(LChairRanks$Trail;LChairRanks$Ministry;)I") ∈ lw_all := lw_g (lw_at lw_m7 168 rfl) rfl
theorem q1676 : (Jvm.Cond.selects "ChairRanks$Oak" ({ cls := "ChairRanks$Oak", name := "size", desc := "(LChairRanks$Trail;LChairRanks$Ministry;)I" } : Jvm.MethodName) ({ cls := "ChairRanks$Oak", name := "size", desc := "(LChairRanks$Trail;LChairRanks$Ministry;)I" } : Jvm.MethodName)) ∈ lw_all := lw_g (lw_at lw_m7 169 rfl) rfl
theorem q1680 : (Jvm.Cond.castable "ChairRanks$Oak" "ChairRanks$Chair") ∈ lw_tbl := lw_at lw_m7 173 rfl
theorem q1696 : (Jvm.Cond.castable "ChairRanks$Oak" "java/lang/Object") ∈ lw_tbl := lw_at lw_m7 189 rfl
theorem in_X7 : ∀ w ∈ wsX70, w ∈ lw_all := lw_in wsX70 [259] (by decide +kernel) (by decide +kernel)

/-! ChairRanks$Throne -/
set_option maxRecDepth 100000
def RX8 : String := "ChairRanks$Throne"
def TX8 : u_T := fun k => match k with
  | _ => ("ChairRanks$Chair", "number", "I", true)
def tyX8 : Nat → FieldType := fun k => match k with
  | _ => .int
abbrev wsX80 : List Cond := u_ws RX8 TX8 1
theorem nmX8 : ∀ a, a < 1 → ∀ b, b < 1 → a ≠ b → (TX8 a).2.1 ≠ (TX8 b).2.1 := by decide +kernel
theorem tyX8_ok : ∀ k, k < 1 → parseFieldDescriptor (TX8 k).2.2.1 = some (tyX8 k) := by decide +kernel
abbrev cX8_init : ByteArray := prog_13_method_1_code
def yX8_init : MethodName := ⟨RX8, "<init>", "(I)V"⟩
def dkwX8_init_0 : List UInt8 := [42, 27, 183, 0, 3, 177]
abbrev dktX8_init_0 : List UInt8 := dkwX8_init_0 ++ []
theorem dksX8_init_0 : cX8_init.data.toList.drop 0 = dktX8_init_0 := by decide +kernel
theorem dX8_init_0 : decode cX8_init 0 = .ok (.aload_n 0, 1) := dk_42 (dk_at dksX8_init_0 0 rfl rfl)
theorem dX8_init_1 : decode cX8_init 1 = .ok (.iload_n 1, 1) := dk_27 (dk_at dksX8_init_0 1 rfl rfl)
theorem dX8_init_2 : decode cX8_init 2 = .ok (.invokespecial 3, 3) := dk_183 0 3 (dk_at dksX8_init_0 2 rfl rfl)
theorem dX8_init_5 : decode cX8_init 5 = .ok (.return_, 1) := dk_177 (dk_at dksX8_init_0 5 rfl rfl)
abbrev cX8_high : ByteArray := prog_13_method_3_code
def yX8_high : MethodName := ⟨RX8, "high", "(II)I"⟩
def dkwX8_high_0 : List UInt8 := [42, 27, 28, 183, 0, 9, 27, 158, 0, 7, 8, 167, 0, 4, 3, 96, 172]
abbrev dktX8_high_0 : List UInt8 := dkwX8_high_0 ++ []
theorem dksX8_high_0 : cX8_high.data.toList.drop 0 = dktX8_high_0 := by decide +kernel
theorem dX8_high_0 : decode cX8_high 0 = .ok (.aload_n 0, 1) := dk_42 (dk_at dksX8_high_0 0 rfl rfl)
theorem dX8_high_1 : decode cX8_high 1 = .ok (.iload_n 1, 1) := dk_27 (dk_at dksX8_high_0 1 rfl rfl)
theorem dX8_high_2 : decode cX8_high 2 = .ok (.iload_n 2, 1) := dk_28 (dk_at dksX8_high_0 2 rfl rfl)
theorem dX8_high_3 : decode cX8_high 3 = .ok (.invokespecial 9, 3) := dk_183 0 9 (dk_at dksX8_high_0 3 rfl rfl)
theorem dX8_high_6 : decode cX8_high 6 = .ok (.iload_n 1, 1) := dk_27 (dk_at dksX8_high_0 6 rfl rfl)
theorem dX8_high_7 : decode cX8_high 7 = .ok (.ifCond .le 7, 3) := dk_158 0 7 (dk_at dksX8_high_0 7 rfl rfl)
theorem dX8_high_10 : decode cX8_high 10 = .ok (.iconst 5, 1) := dk_8 (dk_at dksX8_high_0 10 rfl rfl)
theorem dX8_high_11 : decode cX8_high 11 = .ok (.goto 4, 3) := dk_167 0 4 (dk_at dksX8_high_0 11 rfl rfl)
theorem dX8_high_14 : decode cX8_high 14 = .ok (.iconst 0, 1) := dk_3 (dk_at dksX8_high_0 14 rfl rfl)
theorem dX8_high_15 : decode cX8_high 15 = .ok (.iadd, 1) := dk_96 (dk_at dksX8_high_0 15 rfl rfl)
theorem dX8_high_16 : decode cX8_high 16 = .ok (.ireturn, 1) := dk_172 (dk_at dksX8_high_0 16 rfl rfl)
abbrev cX8_kind : ByteArray := prog_13_method_2_code
def yX8_kind : MethodName := ⟨RX8, "kind", "()I"⟩
theorem dX8_kind_0 : decode cX8_kind 0 = .ok (.iconst 5, 1) := by decide +kernel
theorem dX8_kind_1 : decode cX8_kind 1 = .ok (.ireturn, 1) := by decide +kernel
abbrev cX8_size : ByteArray := prog_13_method_4_code
def yX8_size : MethodName := ⟨RX8, "size", "(LChairRanks$Trail;LChairRanks$Ministry;)I"⟩
def dkwX8_size_0 : List UInt8 := [43, 16, 14, 182, 0, 13, 5, 42, 43, 44, 183, 0, 18, 104, 172]
abbrev dktX8_size_0 : List UInt8 := dkwX8_size_0 ++ []
theorem dksX8_size_0 : cX8_size.data.toList.drop 0 = dktX8_size_0 := by decide +kernel
theorem dX8_size_0 : decode cX8_size 0 = .ok (.aload_n 1, 1) := dk_43 (dk_at dksX8_size_0 0 rfl rfl)
theorem dX8_size_1 : decode cX8_size 1 = .ok (.bipush 14, 2) := dk_16 14 (dk_at dksX8_size_0 1 rfl rfl)
theorem dX8_size_3 : decode cX8_size 3 = .ok (.invokevirtual 13, 3) := dk_182 0 13 (dk_at dksX8_size_0 3 rfl rfl)
theorem dX8_size_6 : decode cX8_size 6 = .ok (.iconst 2, 1) := dk_5 (dk_at dksX8_size_0 6 rfl rfl)
theorem dX8_size_7 : decode cX8_size 7 = .ok (.aload_n 0, 1) := dk_42 (dk_at dksX8_size_0 7 rfl rfl)
theorem dX8_size_8 : decode cX8_size 8 = .ok (.aload_n 1, 1) := dk_43 (dk_at dksX8_size_0 8 rfl rfl)
theorem dX8_size_9 : decode cX8_size 9 = .ok (.aload_n 2, 1) := dk_44 (dk_at dksX8_size_0 9 rfl rfl)
theorem dX8_size_10 : decode cX8_size 10 = .ok (.invokespecial 18, 3) := dk_183 0 18 (dk_at dksX8_size_0 10 rfl rfl)
theorem dX8_size_13 : decode cX8_size 13 = .ok (.imul, 1) := dk_104 (dk_at dksX8_size_0 13 rfl rfl)
theorem dX8_size_14 : decode cX8_size 14 = .ok (.ireturn, 1) := dk_172 (dk_at dksX8_size_0 14 rfl rfl)
theorem q79 : (Jvm.Cond.initialized "ChairRanks$Throne") ∈ lw_all := lw_g (lw_at lw_m1 12 rfl) rfl
theorem q262 : (Jvm.Cond.instantiable "ChairRanks$Throne" (1 : Nat)) ∈ lw_all := lw_g (lw_at lw_m1 195 rfl) rfl
theorem q264 : (Jvm.Cond.instanceMethod ({ cls := "ChairRanks$Throne", name := "<init>", desc := "(I)V" } : Jvm.MethodName)) ∈ lw_all := lw_g (lw_at lw_m1 197 rfl) rfl
theorem q265 : (Jvm.Cond.code ({ cls := "ChairRanks$Throne", name := "<init>", desc := "(I)V" } : Jvm.MethodName) prog_13_method_1_code (2 : Nat) (Option.none : Option Jvm.ClassFile.FieldType)) ∈ lw_all := lw_g (lw_at lw_m1 198 rfl) rfl
theorem q266 : (Jvm.Cond.methodLink "ChairRanks$Throne" (3 : Nat) ({ cls := "ChairRanks$Oak", name := "<init>", desc := "(I)V" } : Jvm.MethodName)) ∈ lw_all := lw_g (lw_at lw_m1 199 rfl) rfl
theorem q267 : (Jvm.Cond.laysFinal "ChairRanks$Throne" "ChairRanks$Chair" "number" "I") ∈ lw_all := lw_g (lw_at lw_m1 200 rfl) rfl
theorem q268 : (Jvm.Cond.superclass "ChairRanks$Throne" "ChairRanks$Oak") ∈ lw_all := lw_g (lw_at lw_m1 201 rfl) rfl
theorem q699 : (Jvm.Cond.selects "ChairRanks$Throne" ({ cls := "java/lang/Object", name := "getClass", desc := "()Ljava/lang/Class;" } : Jvm.MethodName) ({ cls := "java/lang/Object", name := "getClass", desc := "()Ljava/lang/Class;" } : Jvm.MethodName)) ∈ lw_all := lw_g (lw_at lw_m3 152 rfl) rfl
theorem q811 : (Jvm.Cond.selects "ChairRanks$Throne" ({ cls := "ChairRanks$Chair", name := "high", desc := "(II)I" } : Jvm.MethodName) ({ cls := "ChairRanks$Throne", name := "high", desc := "(II)I" } : Jvm.MethodName)) ∈ lw_all := lw_g (lw_at lw_m4 24 rfl) rfl
theorem q812 : (Jvm.Cond.instanceMethod ({ cls := "ChairRanks$Throne", name := "high", desc := "(II)I" } : Jvm.MethodName)) ∈ lw_all := lw_g (lw_at lw_m4 25 rfl) rfl
theorem q813 : (Jvm.Cond.code ({ cls := "ChairRanks$Throne", name := "high", desc := "(II)I" } : Jvm.MethodName) prog_13_method_3_code (3 : Nat) (Option.some Jvm.ClassFile.FieldType.int)) ∈ lw_all := lw_g (lw_at lw_m4 26 rfl) rfl
theorem q814 : (Jvm.Cond.methodLink "ChairRanks$Throne" (9 : Nat) ({ cls := "ChairRanks$Oak", name := "high", desc := "(II)I" } : Jvm.MethodName)) ∈ lw_all := lw_g (lw_at lw_m4 27 rfl) rfl
theorem q833 : (Jvm.Cond.selects "ChairRanks$Throne" ({ cls := "ChairRanks$Chair", name := "sawn", desc := "(I)I" } : Jvm.MethodName) ({ cls := "ChairRanks$Oak", name := "sawn", desc := "(I)I" } : Jvm.MethodName)) ∈ lw_all := lw_g (lw_at lw_m4 46 rfl) rfl
theorem q1092 : (Jvm.Cond.selects "ChairRanks$Throne" ({ cls := "ChairRanks$Chair", name := "kind", desc := "()I" } : Jvm.MethodName) ({ cls := "ChairRanks$Throne", name := "kind", desc := "()I" } : Jvm.MethodName)) ∈ lw_all := lw_g (lw_at lw_m5 65 rfl) rfl
theorem q1093 : (Jvm.Cond.instanceMethod ({ cls := "ChairRanks$Throne", name := "kind", desc := "()I" } : Jvm.MethodName)) ∈ lw_all := lw_g (lw_at lw_m5 66 rfl) rfl
theorem q1094 : (Jvm.Cond.code ({ cls := "ChairRanks$Throne", name := "kind", desc := "()I" } : Jvm.MethodName) prog_13_method_2_code (1 : Nat) (Option.some Jvm.ClassFile.FieldType.int)) ∈ lw_all := lw_g (lw_at lw_m5 67 rfl) rfl
theorem q1120 : (Jvm.Cond.selects "ChairRanks$Throne" ({ cls := "ChairRanks$Chair", name := "number", desc := "()I" } : Jvm.MethodName) ({ cls := "ChairRanks$Chair", name := "number", desc := "()I" } : Jvm.MethodName)) ∈ lw_all := lw_g (lw_at lw_m5 93 rfl) rfl
theorem q1174 : (Jvm.Cond.castable "ChairRanks$Throne" "ChairRanks$Marked") ∈ lw_tbl := lw_at lw_m5 147 rfl
theorem q1175 : (Jvm.Cond.selects "ChairRanks$Throne" ({ cls := "ChairRanks$Marked", name := "number", desc := "()I" } : Jvm.MethodName) ({ cls := "ChairRanks$Chair", name := "number", desc := "()I" } : Jvm.MethodName)) ∈ lw_all := lw_g (lw_at lw_m5 148 rfl) rfl
theorem q1176 : (Jvm.Cond.unhidden "ChairRanks$Throne" "number" "()I") ∈ lw_tbl := lw_at lw_m5 149 rfl
theorem q1193 : (Jvm.Cond.selects "ChairRanks$Throne" ({ cls := "ChairRanks$Chair", name := "size", desc := "(LChairRanks$Trail;LChairRanks$Ministry;)I" } : Jvm.MethodName) ({ cls := "ChairRanks$Throne", name := "size", desc := "(LChairRanks$Trail;LChairRanks$Ministry;)I" } : Jvm.MethodName)) ∈ lw_all := lw_g (lw_at lw_m5 166 rfl) rfl
theorem q1194 : (Jvm.Cond.instanceMethod ({ cls := "ChairRanks$Throne", name := "size", desc := "(LChairRanks$Trail;LChairRanks$Ministry;)I" } : Jvm.MethodName)) ∈ lw_all := lw_g (lw_at lw_m5 167 rfl) rfl
theorem q1195 : (Jvm.Cond.code ({ cls := "ChairRanks$Throne", name := "size", desc := "(LChairRanks$Trail;LChairRanks$Ministry;)I" } : Jvm.MethodName) prog_13_method_4_code (3 : Nat) (Option.some Jvm.ClassFile.FieldType.int)) ∈ lw_all := lw_g (lw_at lw_m5 168 rfl) rfl
theorem q1196 : (Jvm.Cond.methodLink "ChairRanks$Throne" (13 : Nat) ({ cls := "ChairRanks$Trail", name := "begins", desc := "(I)V" } : Jvm.MethodName)) ∈ lw_all := lw_g (lw_at lw_m5 169 rfl) rfl
theorem q1197 : (Jvm.Cond.methodLink "ChairRanks$Throne" (18 : Nat) ({ cls := "ChairRanks$Oak", name := "size", desc := "(LChairRanks$Trail;LChairRanks$Ministry;)I" } : Jvm.MethodName)) ∈ lw_all := lw_g (lw_at lw_m5 170 rfl) rfl
theorem q1207 : (Jvm.Cond.selects "ChairRanks$Throne" ({ cls := "ChairRanks$Marked", name := "mark", desc := "(LChairRanks$Trail;LChairRanks$Ministry;)I" } : Jvm.MethodName) ({ cls := "ChairRanks$Oak", name := "mark", desc := "(LChairRanks$Trail;LChairRanks$Ministry;)I" } : Jvm.MethodName)) ∈ lw_all := lw_g (lw_at lw_m5 180 rfl) rfl
theorem q1677 : (Jvm.Cond.selects "ChairRanks$Throne" ({ cls := "ChairRanks$Oak", name := "size", desc := "(LChairRanks$Trail;LChairRanks$Ministry;)I" } : Jvm.MethodName) ({ cls := "ChairRanks$Throne", name := "size", desc := "(LChairRanks$Trail;LChairRanks$Ministry;)I" } : Jvm.MethodName)) ∈ lw_all := lw_g (lw_at lw_m7 170 rfl) rfl
theorem q1683 : (Jvm.Cond.castable "ChairRanks$Throne" "ChairRanks$Chair") ∈ lw_tbl := lw_at lw_m7 176 rfl
theorem q1686 : (Jvm.Cond.castable "ChairRanks$Throne" "ChairRanks$Oak") ∈ lw_tbl := lw_at lw_m7 179 rfl
theorem q1697 : (Jvm.Cond.castable "ChairRanks$Throne" "java/lang/Object") ∈ lw_tbl := lw_at lw_m7 190 rfl
theorem in_X8 : ∀ w ∈ wsX80, w ∈ lw_all := lw_in wsX80 [267] (by decide +kernel) (by decide +kernel)

