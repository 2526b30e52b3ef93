/-! ChairRanks -/
set_option maxRecDepth 100000
def RX0 : String := "ChairRanks"
def TX0 : u_T := fun k => match k with
  | 0 => ("ChairRanks", "rows", "[LChairRanks$Row;", true)
  | 1 => ("ChairRanks", "tape", "[B", true)
  | 2 => ("ChairRanks", "taped", "I", false)
  | 3 => ("ChairRanks", "faultKind", "I", false)
  | 4 => ("ChairRanks", "ministry", "LChairRanks$Ministry;", true)
  | 5 => ("ChairRanks", "trial", "LChairRanks$Ministry;", true)
  | 6 => ("ChairRanks", "past", "[LChairRanks$Ministry;", true)
  | 7 => ("ChairRanks", "acts", "I", false)
  | 8 => ("ChairRanks", "images", "[LChairRanks$Ministry;", true)
  | 9 => ("ChairRanks", "trail", "LChairRanks$Trail;", false)
  | 10 => ("ChairRanks", "status", "I", false)
  | _ => ("ChairRanks", "takens", "[LChairRanks$Chair;", true)
def tyX0 : Nat → FieldType := fun k => match k with
  | 0 => .array (.object "ChairRanks$Row")
  | 1 => .array .byte
  | 2 => .int
  | 3 => .int
  | 4 => .object "ChairRanks$Ministry"
  | 5 => .object "ChairRanks$Ministry"
  | 6 => .array (.object "ChairRanks$Ministry")
  | 7 => .int
  | 8 => .array (.object "ChairRanks$Ministry")
  | 9 => .object "ChairRanks$Trail"
  | 10 => .int
  | _ => .array (.object "ChairRanks$Chair")
abbrev wsX00 : List Cond := u_ws RX0 TX0 12
theorem nmX0 : ∀ a, a < 12 → ∀ b, b < 12 → a ≠ b → (TX0 a).2.1 ≠ (TX0 b).2.1 := by decide +kernel
theorem tyX0_ok : ∀ k, k < 12 → parseFieldDescriptor (TX0 k).2.2.1 = some (tyX0 k) := by decide +kernel
abbrev cX0_init : ByteArray := prog_1_method_4_code
def yX0_init : MethodName := ⟨RX0, "<init>", "()V"⟩
def dkwX0_init_5 : List UInt8 := [183, 0, 15, 83, 89, 7, 187, 0, 16, 89, 3, 183, 0, 18, 83, 181, 0, 62, 177]
abbrev dktX0_init_5 : List UInt8 := dkwX0_init_5 ++ []
def dkwX0_init_4 : List UInt8 := [89, 3, 183, 0, 9, 83, 89, 5, 187, 0, 10, 89, 3, 183, 0, 12, 83, 89, 6, 187, 0, 13, 89, 3]
abbrev dktX0_init_4 : List UInt8 := dkwX0_init_4 ++ dktX0_init_5
def dkwX0_init_3 : List UInt8 := [181, 0, 56, 42, 8, 189, 0, 60, 89, 3, 187, 0, 1, 89, 3, 183, 0, 3, 83, 89, 4, 187, 0, 7]
abbrev dktX0_init_3 : List UInt8 := dkwX0_init_3 ++ dktX0_init_4
def dkwX0_init_2 : List UInt8 := [189, 0, 36, 181, 0, 46, 42, 5, 189, 0, 36, 181, 0, 50, 42, 187, 0, 53, 89, 183, 0, 55]
abbrev dktX0_init_2 : List UInt8 := dkwX0_init_2 ++ dktX0_init_3
def dkwX0_init_1 : List UInt8 := [187, 0, 36, 89, 183, 0, 38, 181, 0, 39, 42, 187, 0, 36, 89, 183, 0, 38, 181, 0, 43, 42, 16, 24]
abbrev dktX0_init_1 : List UInt8 := dkwX0_init_1 ++ dktX0_init_2
def dkwX0_init_0 : List UInt8 := [42, 183, 0, 19, 42, 16, 8, 189, 0, 26, 181, 0, 28, 42, 16, 120, 188, 8, 181, 0, 32, 42]
abbrev dktX0_init_0 : List UInt8 := dkwX0_init_0 ++ dktX0_init_1
theorem dksX0_init_0 : cX0_init.data.toList.drop 0 = dktX0_init_0 := by decide +kernel
theorem dksX0_init_1 : cX0_init.data.toList.drop 22 = dktX0_init_1 := dk_seg dksX0_init_0 22 rfl rfl
theorem dksX0_init_2 : cX0_init.data.toList.drop 46 = dktX0_init_2 := dk_seg dksX0_init_1 24 rfl rfl
theorem dksX0_init_3 : cX0_init.data.toList.drop 68 = dktX0_init_3 := dk_seg dksX0_init_2 22 rfl rfl
theorem dksX0_init_4 : cX0_init.data.toList.drop 92 = dktX0_init_4 := dk_seg dksX0_init_3 24 rfl rfl
theorem dksX0_init_5 : cX0_init.data.toList.drop 116 = dktX0_init_5 := dk_seg dksX0_init_4 24 rfl rfl
theorem dX0_init_0 : decode cX0_init 0 = .ok (.aload_n 0, 1) := dk_42 (dk_at dksX0_init_0 0 rfl rfl)
theorem dX0_init_1 : decode cX0_init 1 = .ok (.invokespecial 19, 3) := dk_183 0 19 (dk_at dksX0_init_0 1 rfl rfl)
theorem dX0_init_4 : decode cX0_init 4 = .ok (.aload_n 0, 1) := dk_42 (dk_at dksX0_init_0 4 rfl rfl)
theorem dX0_init_5 : decode cX0_init 5 = .ok (.bipush 8, 2) := dk_16 8 (dk_at dksX0_init_0 5 rfl rfl)
theorem dX0_init_7 : decode cX0_init 7 = .ok (.anewarray 26, 3) := dk_189 0 26 (dk_at dksX0_init_0 7 rfl rfl)
theorem dX0_init_10 : decode cX0_init 10 = .ok (.putfield 28, 3) := dk_181 0 28 (dk_at dksX0_init_0 10 rfl rfl)
theorem dX0_init_13 : decode cX0_init 13 = .ok (.aload_n 0, 1) := dk_42 (dk_at dksX0_init_0 13 rfl rfl)
theorem dX0_init_14 : decode cX0_init 14 = .ok (.bipush 120, 2) := dk_16 120 (dk_at dksX0_init_0 14 rfl rfl)
theorem dX0_init_16 : decode cX0_init 16 = .ok (.newarray .byte, 2) := dk_188_8 (dk_at dksX0_init_0 16 rfl rfl)
theorem dX0_init_18 : decode cX0_init 18 = .ok (.putfield 32, 3) := dk_181 0 32 (dk_at dksX0_init_0 18 rfl rfl)
theorem dX0_init_21 : decode cX0_init 21 = .ok (.aload_n 0, 1) := dk_42 (dk_at dksX0_init_0 21 rfl rfl)
theorem dX0_init_22 : decode cX0_init 22 = .ok (.new 36, 3) := dk_187 0 36 (dk_at dksX0_init_1 0 rfl rfl)
theorem dX0_init_25 : decode cX0_init 25 = .ok (.dup, 1) := dk_89 (dk_at dksX0_init_1 3 rfl rfl)
theorem dX0_init_26 : decode cX0_init 26 = .ok (.invokespecial 38, 3) := dk_183 0 38 (dk_at dksX0_init_1 4 rfl rfl)
theorem dX0_init_29 : decode cX0_init 29 = .ok (.putfield 39, 3) := dk_181 0 39 (dk_at dksX0_init_1 7 rfl rfl)
theorem dX0_init_32 : decode cX0_init 32 = .ok (.aload_n 0, 1) := dk_42 (dk_at dksX0_init_1 10 rfl rfl)
theorem dX0_init_33 : decode cX0_init 33 = .ok (.new 36, 3) := dk_187 0 36 (dk_at dksX0_init_1 11 rfl rfl)
theorem dX0_init_36 : decode cX0_init 36 = .ok (.dup, 1) := dk_89 (dk_at dksX0_init_1 14 rfl rfl)
theorem dX0_init_37 : decode cX0_init 37 = .ok (.invokespecial 38, 3) := dk_183 0 38 (dk_at dksX0_init_1 15 rfl rfl)
theorem dX0_init_40 : decode cX0_init 40 = .ok (.putfield 43, 3) := dk_181 0 43 (dk_at dksX0_init_1 18 rfl rfl)
theorem dX0_init_43 : decode cX0_init 43 = .ok (.aload_n 0, 1) := dk_42 (dk_at dksX0_init_1 21 rfl rfl)
theorem dX0_init_44 : decode cX0_init 44 = .ok (.bipush 24, 2) := dk_16 24 (dk_at dksX0_init_1 22 rfl rfl)
theorem dX0_init_46 : decode cX0_init 46 = .ok (.anewarray 36, 3) := dk_189 0 36 (dk_at dksX0_init_2 0 rfl rfl)
theorem dX0_init_49 : decode cX0_init 49 = .ok (.putfield 46, 3) := dk_181 0 46 (dk_at dksX0_init_2 3 rfl rfl)
theorem dX0_init_52 : decode cX0_init 52 = .ok (.aload_n 0, 1) := dk_42 (dk_at dksX0_init_2 6 rfl rfl)
theorem dX0_init_53 : decode cX0_init 53 = .ok (.iconst 2, 1) := dk_5 (dk_at dksX0_init_2 7 rfl rfl)
theorem dX0_init_54 : decode cX0_init 54 = .ok (.anewarray 36, 3) := dk_189 0 36 (dk_at dksX0_init_2 8 rfl rfl)
theorem dX0_init_57 : decode cX0_init 57 = .ok (.putfield 50, 3) := dk_181 0 50 (dk_at dksX0_init_2 11 rfl rfl)
theorem dX0_init_60 : decode cX0_init 60 = .ok (.aload_n 0, 1) := dk_42 (dk_at dksX0_init_2 14 rfl rfl)
theorem dX0_init_61 : decode cX0_init 61 = .ok (.new 53, 3) := dk_187 0 53 (dk_at dksX0_init_2 15 rfl rfl)
theorem dX0_init_64 : decode cX0_init 64 = .ok (.dup, 1) := dk_89 (dk_at dksX0_init_2 18 rfl rfl)
theorem dX0_init_65 : decode cX0_init 65 = .ok (.invokespecial 55, 3) := dk_183 0 55 (dk_at dksX0_init_2 19 rfl rfl)
theorem dX0_init_68 : decode cX0_init 68 = .ok (.putfield 56, 3) := dk_181 0 56 (dk_at dksX0_init_3 0 rfl rfl)
theorem dX0_init_71 : decode cX0_init 71 = .ok (.aload_n 0, 1) := dk_42 (dk_at dksX0_init_3 3 rfl rfl)
theorem dX0_init_72 : decode cX0_init 72 = .ok (.iconst 5, 1) := dk_8 (dk_at dksX0_init_3 4 rfl rfl)
theorem dX0_init_73 : decode cX0_init 73 = .ok (.anewarray 60, 3) := dk_189 0 60 (dk_at dksX0_init_3 5 rfl rfl)
theorem dX0_init_76 : decode cX0_init 76 = .ok (.dup, 1) := dk_89 (dk_at dksX0_init_3 8 rfl rfl)
theorem dX0_init_77 : decode cX0_init 77 = .ok (.iconst 0, 1) := dk_3 (dk_at dksX0_init_3 9 rfl rfl)
theorem dX0_init_78 : decode cX0_init 78 = .ok (.new 1, 3) := dk_187 0 1 (dk_at dksX0_init_3 10 rfl rfl)
theorem dX0_init_81 : decode cX0_init 81 = .ok (.dup, 1) := dk_89 (dk_at dksX0_init_3 13 rfl rfl)
theorem dX0_init_82 : decode cX0_init 82 = .ok (.iconst 0, 1) := dk_3 (dk_at dksX0_init_3 14 rfl rfl)
theorem dX0_init_83 : decode cX0_init 83 = .ok (.invokespecial 3, 3) := dk_183 0 3 (dk_at dksX0_init_3 15 rfl rfl)
theorem dX0_init_86 : decode cX0_init 86 = .ok (.aastore, 1) := dk_83 (dk_at dksX0_init_3 18 rfl rfl)
theorem dX0_init_87 : decode cX0_init 87 = .ok (.dup, 1) := dk_89 (dk_at dksX0_init_3 19 rfl rfl)
theorem dX0_init_88 : decode cX0_init 88 = .ok (.iconst 1, 1) := dk_4 (dk_at dksX0_init_3 20 rfl rfl)
theorem dX0_init_89 : decode cX0_init 89 = .ok (.new 7, 3) := dk_187 0 7 (dk_at dksX0_init_3 21 rfl rfl)
theorem dX0_init_92 : decode cX0_init 92 = .ok (.dup, 1) := dk_89 (dk_at dksX0_init_4 0 rfl rfl)
theorem dX0_init_93 : decode cX0_init 93 = .ok (.iconst 0, 1) := dk_3 (dk_at dksX0_init_4 1 rfl rfl)
theorem dX0_init_94 : decode cX0_init 94 = .ok (.invokespecial 9, 3) := dk_183 0 9 (dk_at dksX0_init_4 2 rfl rfl)
theorem dX0_init_97 : decode cX0_init 97 = .ok (.aastore, 1) := dk_83 (dk_at dksX0_init_4 5 rfl rfl)
theorem dX0_init_98 : decode cX0_init 98 = .ok (.dup, 1) := dk_89 (dk_at dksX0_init_4 6 rfl rfl)
theorem dX0_init_99 : decode cX0_init 99 = .ok (.iconst 2, 1) := dk_5 (dk_at dksX0_init_4 7 rfl rfl)
theorem dX0_init_100 : decode cX0_init 100 = .ok (.new 10, 3) := dk_187 0 10 (dk_at dksX0_init_4 8 rfl rfl)
theorem dX0_init_103 : decode cX0_init 103 = .ok (.dup, 1) := dk_89 (dk_at dksX0_init_4 11 rfl rfl)
theorem dX0_init_104 : decode cX0_init 104 = .ok (.iconst 0, 1) := dk_3 (dk_at dksX0_init_4 12 rfl rfl)
theorem dX0_init_105 : decode cX0_init 105 = .ok (.invokespecial 12, 3) := dk_183 0 12 (dk_at dksX0_init_4 13 rfl rfl)
theorem dX0_init_108 : decode cX0_init 108 = .ok (.aastore, 1) := dk_83 (dk_at dksX0_init_4 16 rfl rfl)
theorem dX0_init_109 : decode cX0_init 109 = .ok (.dup, 1) := dk_89 (dk_at dksX0_init_4 17 rfl rfl)
theorem dX0_init_110 : decode cX0_init 110 = .ok (.iconst 3, 1) := dk_6 (dk_at dksX0_init_4 18 rfl rfl)
theorem dX0_init_111 : decode cX0_init 111 = .ok (.new 13, 3) := dk_187 0 13 (dk_at dksX0_init_4 19 rfl rfl)
theorem dX0_init_114 : decode cX0_init 114 = .ok (.dup, 1) := dk_89 (dk_at dksX0_init_4 22 rfl rfl)
theorem dX0_init_115 : decode cX0_init 115 = .ok (.iconst 0, 1) := dk_3 (dk_at dksX0_init_4 23 rfl rfl)
theorem dX0_init_116 : decode cX0_init 116 = .ok (.invokespecial 15, 3) := dk_183 0 15 (dk_at dksX0_init_5 0 rfl rfl)
theorem dX0_init_119 : decode cX0_init 119 = .ok (.aastore, 1) := dk_83 (dk_at dksX0_init_5 3 rfl rfl)
theorem dX0_init_120 : decode cX0_init 120 = .ok (.dup, 1) := dk_89 (dk_at dksX0_init_5 4 rfl rfl)
theorem dX0_init_121 : decode cX0_init 121 = .ok (.iconst 4, 1) := dk_7 (dk_at dksX0_init_5 5 rfl rfl)
theorem dX0_init_122 : decode cX0_init 122 = .ok (.new 16, 3) := dk_187 0 16 (dk_at dksX0_init_5 6 rfl rfl)
theorem dX0_init_125 : decode cX0_init 125 = .ok (.dup, 1) := dk_89 (dk_at dksX0_init_5 9 rfl rfl)
theorem dX0_init_126 : decode cX0_init 126 = .ok (.iconst 0, 1) := dk_3 (dk_at dksX0_init_5 10 rfl rfl)
theorem dX0_init_127 : decode cX0_init 127 = .ok (.invokespecial 18, 3) := dk_183 0 18 (dk_at dksX0_init_5 11 rfl rfl)
theorem dX0_init_130 : decode cX0_init 130 = .ok (.aastore, 1) := dk_83 (dk_at dksX0_init_5 14 rfl rfl)
theorem dX0_init_131 : decode cX0_init 131 = .ok (.putfield 62, 3) := dk_181 0 62 (dk_at dksX0_init_5 15 rfl rfl)
theorem dX0_init_134 : decode cX0_init 134 = .ok (.return_, 1) := dk_177 (dk_at dksX0_init_5 18 rfl rfl)
abbrev cX0_row : ByteArray := prog_1_method_10_code
def yX0_row : MethodName := ⟨RX0, "row", "(III)I"⟩
def dkwX0_row_3 : List UInt8 := [172]
abbrev dktX0_row_3 : List UInt8 := dkwX0_row_3 ++ []
def dkwX0_row_2 : List UInt8 := [187, 0, 26, 89, 28, 29, 183, 0, 94, 83, 42, 29, 182, 0, 97, 172, 58, 4, 42, 25, 4, 182, 0, 101]
abbrev dktX0_row_2 : List UInt8 := dkwX0_row_2 ++ dktX0_row_3
def dkwX0_row_1 : List UInt8 := [164, 0, 6, 18, 93, 172, 29, 155, 0, 7, 4, 167, 0, 4, 3, 7, 184, 0, 83, 42, 180, 0, 28, 27]
abbrev dktX0_row_1 : List UInt8 := dkwX0_row_1 ++ dktX0_row_2
def dkwX0_row_0 : List UInt8 := [27, 184, 0, 87, 153, 0, 21, 28, 133, 9, 20, 0, 91, 184, 0, 79, 153, 0, 9, 29, 16, 40]
abbrev dktX0_row_0 : List UInt8 := dkwX0_row_0 ++ dktX0_row_1
theorem dksX0_row_0 : cX0_row.data.toList.drop 0 = dktX0_row_0 := by decide +kernel
theorem dksX0_row_1 : cX0_row.data.toList.drop 22 = dktX0_row_1 := dk_seg dksX0_row_0 22 rfl rfl
theorem dksX0_row_2 : cX0_row.data.toList.drop 46 = dktX0_row_2 := dk_seg dksX0_row_1 24 rfl rfl
theorem dksX0_row_3 : cX0_row.data.toList.drop 70 = dktX0_row_3 := dk_seg dksX0_row_2 24 rfl rfl
theorem dX0_row_0 : decode cX0_row 0 = .ok (.iload_n 1, 1) := dk_27 (dk_at dksX0_row_0 0 rfl rfl)
theorem dX0_row_1 : decode cX0_row 1 = .ok (.invokestatic 87, 3) := dk_184 0 87 (dk_at dksX0_row_0 1 rfl rfl)
theorem dX0_row_4 : decode cX0_row 4 = .ok (.ifCond .eq 21, 3) := dk_153 0 21 (dk_at dksX0_row_0 4 rfl rfl)
theorem dX0_row_7 : decode cX0_row 7 = .ok (.iload_n 2, 1) := dk_28 (dk_at dksX0_row_0 7 rfl rfl)
theorem dX0_row_8 : decode cX0_row 8 = .ok (.i2l, 1) := dk_133 (dk_at dksX0_row_0 8 rfl rfl)
theorem dX0_row_9 : decode cX0_row 9 = .ok (.lconst 0, 1) := dk_9 (dk_at dksX0_row_0 9 rfl rfl)
theorem dX0_row_10 : decode cX0_row 10 = .ok (.ldc2_w 91, 3) := dk_20 0 91 (dk_at dksX0_row_0 10 rfl rfl)
theorem dX0_row_13 : decode cX0_row 13 = .ok (.invokestatic 79, 3) := dk_184 0 79 (dk_at dksX0_row_0 13 rfl rfl)
theorem dX0_row_16 : decode cX0_row 16 = .ok (.ifCond .eq 9, 3) := dk_153 0 9 (dk_at dksX0_row_0 16 rfl rfl)
theorem dX0_row_19 : decode cX0_row 19 = .ok (.iload_n 3, 1) := dk_29 (dk_at dksX0_row_0 19 rfl rfl)
theorem dX0_row_20 : decode cX0_row 20 = .ok (.bipush 40, 2) := dk_16 40 (dk_at dksX0_row_0 20 rfl rfl)
theorem dX0_row_22 : decode cX0_row 22 = .ok (.if_icmp .le 6, 3) := dk_164 0 6 (dk_at dksX0_row_1 0 rfl rfl)
theorem dX0_row_25 : decode cX0_row 25 = .ok (.ldc 93, 2) := dk_18 93 (dk_at dksX0_row_1 3 rfl rfl)
theorem dX0_row_27 : decode cX0_row 27 = .ok (.ireturn, 1) := dk_172 (dk_at dksX0_row_1 5 rfl rfl)
theorem dX0_row_28 : decode cX0_row 28 = .ok (.iload_n 3, 1) := dk_29 (dk_at dksX0_row_1 6 rfl rfl)
theorem dX0_row_29 : decode cX0_row 29 = .ok (.ifCond .lt 7, 3) := dk_155 0 7 (dk_at dksX0_row_1 7 rfl rfl)
theorem dX0_row_32 : decode cX0_row 32 = .ok (.iconst 1, 1) := dk_4 (dk_at dksX0_row_1 10 rfl rfl)
theorem dX0_row_33 : decode cX0_row 33 = .ok (.goto 4, 3) := dk_167 0 4 (dk_at dksX0_row_1 11 rfl rfl)
theorem dX0_row_36 : decode cX0_row 36 = .ok (.iconst 0, 1) := dk_3 (dk_at dksX0_row_1 14 rfl rfl)
theorem dX0_row_37 : decode cX0_row 37 = .ok (.iconst 4, 1) := dk_7 (dk_at dksX0_row_1 15 rfl rfl)
theorem dX0_row_38 : decode cX0_row 38 = .ok (.invokestatic 83, 3) := dk_184 0 83 (dk_at dksX0_row_1 16 rfl rfl)
theorem dX0_row_41 : decode cX0_row 41 = .ok (.aload_n 0, 1) := dk_42 (dk_at dksX0_row_1 19 rfl rfl)
theorem dX0_row_42 : decode cX0_row 42 = .ok (.getfield 28, 3) := dk_180 0 28 (dk_at dksX0_row_1 20 rfl rfl)
theorem dX0_row_45 : decode cX0_row 45 = .ok (.iload_n 1, 1) := dk_27 (dk_at dksX0_row_1 23 rfl rfl)
theorem dX0_row_46 : decode cX0_row 46 = .ok (.new 26, 3) := dk_187 0 26 (dk_at dksX0_row_2 0 rfl rfl)
theorem dX0_row_49 : decode cX0_row 49 = .ok (.dup, 1) := dk_89 (dk_at dksX0_row_2 3 rfl rfl)
theorem dX0_row_50 : decode cX0_row 50 = .ok (.iload_n 2, 1) := dk_28 (dk_at dksX0_row_2 4 rfl rfl)
theorem dX0_row_51 : decode cX0_row 51 = .ok (.iload_n 3, 1) := dk_29 (dk_at dksX0_row_2 5 rfl rfl)
theorem dX0_row_52 : decode cX0_row 52 = .ok (.invokespecial 94, 3) := dk_183 0 94 (dk_at dksX0_row_2 6 rfl rfl)
theorem dX0_row_55 : decode cX0_row 55 = .ok (.aastore, 1) := dk_83 (dk_at dksX0_row_2 9 rfl rfl)
theorem dX0_row_56 : decode cX0_row 56 = .ok (.aload_n 0, 1) := dk_42 (dk_at dksX0_row_2 10 rfl rfl)
theorem dX0_row_57 : decode cX0_row 57 = .ok (.iload_n 3, 1) := dk_29 (dk_at dksX0_row_2 11 rfl rfl)
theorem dX0_row_58 : decode cX0_row 58 = .ok (.invokevirtual 97, 3) := dk_182 0 97 (dk_at dksX0_row_2 12 rfl rfl)
theorem dX0_row_61 : decode cX0_row 61 = .ok (.ireturn, 1) := dk_172 (dk_at dksX0_row_2 15 rfl rfl)
theorem dX0_row_62 : decode cX0_row 62 = .ok (.astore 4, 2) := dk_58 4 (dk_at dksX0_row_2 16 rfl rfl)
theorem dX0_row_64 : decode cX0_row 64 = .ok (.aload_n 0, 1) := dk_42 (dk_at dksX0_row_2 18 rfl rfl)
theorem dX0_row_65 : decode cX0_row 65 = .ok (.aload 4, 2) := dk_25 4 (dk_at dksX0_row_2 19 rfl rfl)
theorem dX0_row_67 : decode cX0_row 67 = .ok (.invokevirtual 101, 3) := dk_182 0 101 (dk_at dksX0_row_2 21 rfl rfl)
theorem dX0_row_70 : decode cX0_row 70 = .ok (.ireturn, 1) := dk_172 (dk_at dksX0_row_3 0 rfl rfl)
abbrev cX0_isRow : ByteArray := prog_1_method_8_code
def yX0_isRow : MethodName := ⟨RX0, "isRow", "(I)Z"⟩
def dkwX0_isRow_0 : List UInt8 := [26, 133, 9, 20, 0, 77, 184, 0, 79, 172]
abbrev dktX0_isRow_0 : List UInt8 := dkwX0_isRow_0 ++ []
theorem dksX0_isRow_0 : cX0_isRow.data.toList.drop 0 = dktX0_isRow_0 := by decide +kernel
theorem dX0_isRow_0 : decode cX0_isRow 0 = .ok (.iload_n 0, 1) := dk_26 (dk_at dksX0_isRow_0 0 rfl rfl)
theorem dX0_isRow_1 : decode cX0_isRow 1 = .ok (.i2l, 1) := dk_133 (dk_at dksX0_isRow_0 1 rfl rfl)
theorem dX0_isRow_2 : decode cX0_isRow 2 = .ok (.lconst 0, 1) := dk_9 (dk_at dksX0_isRow_0 2 rfl rfl)
theorem dX0_isRow_3 : decode cX0_isRow 3 = .ok (.ldc2_w 77, 3) := dk_20 0 77 (dk_at dksX0_isRow_0 3 rfl rfl)
theorem dX0_isRow_6 : decode cX0_isRow 6 = .ok (.invokestatic 79, 3) := dk_184 0 79 (dk_at dksX0_isRow_0 6 rfl rfl)
theorem dX0_isRow_9 : decode cX0_isRow 9 = .ok (.ireturn, 1) := dk_172 (dk_at dksX0_isRow_0 9 rfl rfl)
abbrev cX0_isIn : ByteArray := prog_1_method_1_code
def yX0_isIn : MethodName := ⟨RX0, "isIn", "(JJJ)Z"⟩
def dkwX0_isIn_0 : List UInt8 := [30, 32, 148, 155, 0, 14, 30, 22, 4, 148, 157, 0, 7, 4, 167, 0, 4, 3, 172]
abbrev dktX0_isIn_0 : List UInt8 := dkwX0_isIn_0 ++ []
theorem dksX0_isIn_0 : cX0_isIn.data.toList.drop 0 = dktX0_isIn_0 := by decide +kernel
theorem dX0_isIn_0 : decode cX0_isIn 0 = .ok (.lload_n 0, 1) := dk_30 (dk_at dksX0_isIn_0 0 rfl rfl)
theorem dX0_isIn_1 : decode cX0_isIn 1 = .ok (.lload_n 2, 1) := dk_32 (dk_at dksX0_isIn_0 1 rfl rfl)
theorem dX0_isIn_2 : decode cX0_isIn 2 = .ok (.lcmp, 1) := dk_148 (dk_at dksX0_isIn_0 2 rfl rfl)
theorem dX0_isIn_3 : decode cX0_isIn 3 = .ok (.ifCond .lt 14, 3) := dk_155 0 14 (dk_at dksX0_isIn_0 3 rfl rfl)
theorem dX0_isIn_6 : decode cX0_isIn 6 = .ok (.lload_n 0, 1) := dk_30 (dk_at dksX0_isIn_0 6 rfl rfl)
theorem dX0_isIn_7 : decode cX0_isIn 7 = .ok (.lload 4, 2) := dk_22 4 (dk_at dksX0_isIn_0 7 rfl rfl)
theorem dX0_isIn_9 : decode cX0_isIn 9 = .ok (.lcmp, 1) := dk_148 (dk_at dksX0_isIn_0 9 rfl rfl)
theorem dX0_isIn_10 : decode cX0_isIn 10 = .ok (.ifCond .gt 7, 3) := dk_157 0 7 (dk_at dksX0_isIn_0 10 rfl rfl)
theorem dX0_isIn_13 : decode cX0_isIn 13 = .ok (.iconst 1, 1) := dk_4 (dk_at dksX0_isIn_0 13 rfl rfl)
theorem dX0_isIn_14 : decode cX0_isIn 14 = .ok (.goto 4, 3) := dk_167 0 4 (dk_at dksX0_isIn_0 14 rfl rfl)
theorem dX0_isIn_17 : decode cX0_isIn 17 = .ok (.iconst 0, 1) := dk_3 (dk_at dksX0_isIn_0 17 rfl rfl)
theorem dX0_isIn_18 : decode cX0_isIn 18 = .ok (.ireturn, 1) := dk_172 (dk_at dksX0_isIn_0 18 rfl rfl)
abbrev cX0_must : ByteArray := prog_1_method_7_code
def yX0_must : MethodName := ⟨RX0, "must", "(ZI)V"⟩
def dkwX0_must_0 : List UInt8 := [26, 154, 0, 12, 187, 0, 67, 89, 27, 183, 0, 76, 191, 177]
abbrev dktX0_must_0 : List UInt8 := dkwX0_must_0 ++ []
theorem dksX0_must_0 : cX0_must.data.toList.drop 0 = dktX0_must_0 := by decide +kernel
theorem dX0_must_0 : decode cX0_must 0 = .ok (.iload_n 0, 1) := dk_26 (dk_at dksX0_must_0 0 rfl rfl)
theorem dX0_must_1 : decode cX0_must 1 = .ok (.ifCond .ne 12, 3) := dk_154 0 12 (dk_at dksX0_must_0 1 rfl rfl)
theorem dX0_must_4 : decode cX0_must 4 = .ok (.new 67, 3) := dk_187 0 67 (dk_at dksX0_must_0 4 rfl rfl)
theorem dX0_must_7 : decode cX0_must 7 = .ok (.dup, 1) := dk_89 (dk_at dksX0_must_0 7 rfl rfl)
theorem dX0_must_8 : decode cX0_must 8 = .ok (.iload_n 1, 1) := dk_27 (dk_at dksX0_must_0 8 rfl rfl)
theorem dX0_must_9 : decode cX0_must 9 = .ok (.invokespecial 76, 3) := dk_183 0 76 (dk_at dksX0_must_0 9 rfl rfl)
theorem dX0_must_12 : decode cX0_must 12 = .ok (.athrow, 1) := dk_191 (dk_at dksX0_must_0 12 rfl rfl)
theorem dX0_must_13 : decode cX0_must 13 = .ok (.return_, 1) := dk_177 (dk_at dksX0_must_0 13 rfl rfl)
abbrev cX0_well : ByteArray := prog_1_method_6_code
def yX0_well : MethodName := ⟨RX0, "well", "(I)I"⟩
def dkwX0_well_0 : List UInt8 := [42, 3, 181, 0, 72, 27, 172]
abbrev dktX0_well_0 : List UInt8 := dkwX0_well_0 ++ []
theorem dksX0_well_0 : cX0_well.data.toList.drop 0 = dktX0_well_0 := by decide +kernel
theorem dX0_well_0 : decode cX0_well 0 = .ok (.aload_n 0, 1) := dk_42 (dk_at dksX0_well_0 0 rfl rfl)
theorem dX0_well_1 : decode cX0_well 1 = .ok (.iconst 0, 1) := dk_3 (dk_at dksX0_well_0 1 rfl rfl)
theorem dX0_well_2 : decode cX0_well 2 = .ok (.putfield 72, 3) := dk_181 0 72 (dk_at dksX0_well_0 2 rfl rfl)
theorem dX0_well_5 : decode cX0_well 5 = .ok (.iload_n 1, 1) := dk_27 (dk_at dksX0_well_0 5 rfl rfl)
theorem dX0_well_6 : decode cX0_well 6 = .ok (.ireturn, 1) := dk_172 (dk_at dksX0_well_0 6 rfl rfl)
abbrev cX0_found : ByteArray := prog_1_method_5_code
def yX0_found : MethodName := ⟨RX0, "found", "(LChairRanks$Finding;)I"⟩
def dkwX0_found_0 : List UInt8 := [42, 43, 180, 0, 66, 181, 0, 72, 18, 75, 43, 180, 0, 66, 100, 172]
abbrev dktX0_found_0 : List UInt8 := dkwX0_found_0 ++ []
theorem dksX0_found_0 : cX0_found.data.toList.drop 0 = dktX0_found_0 := by decide +kernel
theorem dX0_found_0 : decode cX0_found 0 = .ok (.aload_n 0, 1) := dk_42 (dk_at dksX0_found_0 0 rfl rfl)
theorem dX0_found_1 : decode cX0_found 1 = .ok (.aload_n 1, 1) := dk_43 (dk_at dksX0_found_0 1 rfl rfl)
theorem dX0_found_2 : decode cX0_found 2 = .ok (.getfield 66, 3) := dk_180 0 66 (dk_at dksX0_found_0 2 rfl rfl)
theorem dX0_found_5 : decode cX0_found 5 = .ok (.putfield 72, 3) := dk_181 0 72 (dk_at dksX0_found_0 5 rfl rfl)
theorem dX0_found_8 : decode cX0_found 8 = .ok (.ldc 75, 2) := dk_18 75 (dk_at dksX0_found_0 8 rfl rfl)
theorem dX0_found_10 : decode cX0_found 10 = .ok (.aload_n 1, 1) := dk_43 (dk_at dksX0_found_0 10 rfl rfl)
theorem dX0_found_11 : decode cX0_found 11 = .ok (.getfield 66, 3) := dk_180 0 66 (dk_at dksX0_found_0 11 rfl rfl)
theorem dX0_found_14 : decode cX0_found 14 = .ok (.isub, 1) := dk_100 (dk_at dksX0_found_0 14 rfl rfl)
theorem dX0_found_15 : decode cX0_found 15 = .ok (.ireturn, 1) := dk_172 (dk_at dksX0_found_0 15 rfl rfl)
abbrev cX0_set : ByteArray := prog_1_method_11_code
def yX0_set : MethodName := ⟨RX0, "set", "(III)I"⟩
def dkwX0_set_3 : List UInt8 := [172]
abbrev dktX0_set_3 : List UInt8 := dkwX0_set_3 ++ []
def dkwX0_set_2 : List UInt8 := [182, 0, 113, 79, 42, 25, 4, 180, 0, 109, 28, 46, 182, 0, 97, 172, 58, 4, 42, 25, 4, 182, 0, 101]
abbrev dktX0_set_2 : List UInt8 := dkwX0_set_2 ++ dktX0_set_3
def dkwX0_set_1 : List UInt8 := [180, 0, 109, 190, 4, 100, 133, 184, 0, 79, 5, 184, 0, 83, 25, 4, 180, 0, 109, 28, 25, 4, 29]
abbrev dktX0_set_1 : List UInt8 := dkwX0_set_1 ++ dktX0_set_2
def dkwX0_set_0 : List UInt8 := [27, 184, 0, 87, 154, 0, 6, 18, 93, 172, 42, 27, 182, 0, 105, 58, 4, 28, 133, 9, 25, 4]
abbrev dktX0_set_0 : List UInt8 := dkwX0_set_0 ++ dktX0_set_1
theorem dksX0_set_0 : cX0_set.data.toList.drop 0 = dktX0_set_0 := by decide +kernel
theorem dksX0_set_1 : cX0_set.data.toList.drop 22 = dktX0_set_1 := dk_seg dksX0_set_0 22 rfl rfl
theorem dksX0_set_2 : cX0_set.data.toList.drop 45 = dktX0_set_2 := dk_seg dksX0_set_1 23 rfl rfl
theorem dksX0_set_3 : cX0_set.data.toList.drop 69 = dktX0_set_3 := dk_seg dksX0_set_2 24 rfl rfl
theorem dX0_set_0 : decode cX0_set 0 = .ok (.iload_n 1, 1) := dk_27 (dk_at dksX0_set_0 0 rfl rfl)
theorem dX0_set_1 : decode cX0_set 1 = .ok (.invokestatic 87, 3) := dk_184 0 87 (dk_at dksX0_set_0 1 rfl rfl)
theorem dX0_set_4 : decode cX0_set 4 = .ok (.ifCond .ne 6, 3) := dk_154 0 6 (dk_at dksX0_set_0 4 rfl rfl)
theorem dX0_set_7 : decode cX0_set 7 = .ok (.ldc 93, 2) := dk_18 93 (dk_at dksX0_set_0 7 rfl rfl)
theorem dX0_set_9 : decode cX0_set 9 = .ok (.ireturn, 1) := dk_172 (dk_at dksX0_set_0 9 rfl rfl)
theorem dX0_set_10 : decode cX0_set 10 = .ok (.aload_n 0, 1) := dk_42 (dk_at dksX0_set_0 10 rfl rfl)
theorem dX0_set_11 : decode cX0_set 11 = .ok (.iload_n 1, 1) := dk_27 (dk_at dksX0_set_0 11 rfl rfl)
theorem dX0_set_12 : decode cX0_set 12 = .ok (.invokevirtual 105, 3) := dk_182 0 105 (dk_at dksX0_set_0 12 rfl rfl)
theorem dX0_set_15 : decode cX0_set 15 = .ok (.astore 4, 2) := dk_58 4 (dk_at dksX0_set_0 15 rfl rfl)
theorem dX0_set_17 : decode cX0_set 17 = .ok (.iload_n 2, 1) := dk_28 (dk_at dksX0_set_0 17 rfl rfl)
theorem dX0_set_18 : decode cX0_set 18 = .ok (.i2l, 1) := dk_133 (dk_at dksX0_set_0 18 rfl rfl)
theorem dX0_set_19 : decode cX0_set 19 = .ok (.lconst 0, 1) := dk_9 (dk_at dksX0_set_0 19 rfl rfl)
theorem dX0_set_20 : decode cX0_set 20 = .ok (.aload 4, 2) := dk_25 4 (dk_at dksX0_set_0 20 rfl rfl)
theorem dX0_set_22 : decode cX0_set 22 = .ok (.getfield 109, 3) := dk_180 0 109 (dk_at dksX0_set_1 0 rfl rfl)
theorem dX0_set_25 : decode cX0_set 25 = .ok (.arraylength, 1) := dk_190 (dk_at dksX0_set_1 3 rfl rfl)
theorem dX0_set_26 : decode cX0_set 26 = .ok (.iconst 1, 1) := dk_4 (dk_at dksX0_set_1 4 rfl rfl)
theorem dX0_set_27 : decode cX0_set 27 = .ok (.isub, 1) := dk_100 (dk_at dksX0_set_1 5 rfl rfl)
theorem dX0_set_28 : decode cX0_set 28 = .ok (.i2l, 1) := dk_133 (dk_at dksX0_set_1 6 rfl rfl)
theorem dX0_set_29 : decode cX0_set 29 = .ok (.invokestatic 79, 3) := dk_184 0 79 (dk_at dksX0_set_1 7 rfl rfl)
theorem dX0_set_32 : decode cX0_set 32 = .ok (.iconst 2, 1) := dk_5 (dk_at dksX0_set_1 10 rfl rfl)
theorem dX0_set_33 : decode cX0_set 33 = .ok (.invokestatic 83, 3) := dk_184 0 83 (dk_at dksX0_set_1 11 rfl rfl)
theorem dX0_set_36 : decode cX0_set 36 = .ok (.aload 4, 2) := dk_25 4 (dk_at dksX0_set_1 14 rfl rfl)
theorem dX0_set_38 : decode cX0_set 38 = .ok (.getfield 109, 3) := dk_180 0 109 (dk_at dksX0_set_1 16 rfl rfl)
theorem dX0_set_41 : decode cX0_set 41 = .ok (.iload_n 2, 1) := dk_28 (dk_at dksX0_set_1 19 rfl rfl)
theorem dX0_set_42 : decode cX0_set 42 = .ok (.aload 4, 2) := dk_25 4 (dk_at dksX0_set_1 20 rfl rfl)
theorem dX0_set_44 : decode cX0_set 44 = .ok (.iload_n 3, 1) := dk_29 (dk_at dksX0_set_1 22 rfl rfl)
theorem dX0_set_45 : decode cX0_set 45 = .ok (.invokevirtual 113, 3) := dk_182 0 113 (dk_at dksX0_set_2 0 rfl rfl)
theorem dX0_set_48 : decode cX0_set 48 = .ok (.iastore, 1) := dk_79 (dk_at dksX0_set_2 3 rfl rfl)
theorem dX0_set_49 : decode cX0_set 49 = .ok (.aload_n 0, 1) := dk_42 (dk_at dksX0_set_2 4 rfl rfl)
theorem dX0_set_50 : decode cX0_set 50 = .ok (.aload 4, 2) := dk_25 4 (dk_at dksX0_set_2 5 rfl rfl)
theorem dX0_set_52 : decode cX0_set 52 = .ok (.getfield 109, 3) := dk_180 0 109 (dk_at dksX0_set_2 7 rfl rfl)
theorem dX0_set_55 : decode cX0_set 55 = .ok (.iload_n 2, 1) := dk_28 (dk_at dksX0_set_2 10 rfl rfl)
theorem dX0_set_56 : decode cX0_set 56 = .ok (.iaload, 1) := dk_46 (dk_at dksX0_set_2 11 rfl rfl)
theorem dX0_set_57 : decode cX0_set 57 = .ok (.invokevirtual 97, 3) := dk_182 0 97 (dk_at dksX0_set_2 12 rfl rfl)
theorem dX0_set_60 : decode cX0_set 60 = .ok (.ireturn, 1) := dk_172 (dk_at dksX0_set_2 15 rfl rfl)
theorem dX0_set_61 : decode cX0_set 61 = .ok (.astore 4, 2) := dk_58 4 (dk_at dksX0_set_2 16 rfl rfl)
theorem dX0_set_63 : decode cX0_set 63 = .ok (.aload_n 0, 1) := dk_42 (dk_at dksX0_set_2 18 rfl rfl)
theorem dX0_set_64 : decode cX0_set 64 = .ok (.aload 4, 2) := dk_25 4 (dk_at dksX0_set_2 19 rfl rfl)
theorem dX0_set_66 : decode cX0_set 66 = .ok (.invokevirtual 101, 3) := dk_182 0 101 (dk_at dksX0_set_2 21 rfl rfl)
theorem dX0_set_69 : decode cX0_set 69 = .ok (.ireturn, 1) := dk_172 (dk_at dksX0_set_3 0 rfl rfl)
abbrev cX0_rowAt : ByteArray := prog_1_method_9_code
def yX0_rowAt : MethodName := ⟨RX0, "rowAt", "(I)LChairRanks$Row;"⟩
def dkwX0_rowAt_1 : List UInt8 := [176]
abbrev dktX0_rowAt_1 : List UInt8 := dkwX0_rowAt_1 ++ []
def dkwX0_rowAt_0 : List UInt8 := [42, 180, 0, 28, 27, 50, 198, 0, 7, 4, 167, 0, 4, 3, 4, 184, 0, 83, 42, 180, 0, 28, 27, 50]
abbrev dktX0_rowAt_0 : List UInt8 := dkwX0_rowAt_0 ++ dktX0_rowAt_1
theorem dksX0_rowAt_0 : cX0_rowAt.data.toList.drop 0 = dktX0_rowAt_0 := by decide +kernel
theorem dksX0_rowAt_1 : cX0_rowAt.data.toList.drop 24 = dktX0_rowAt_1 := dk_seg dksX0_rowAt_0 24 rfl rfl
theorem dX0_rowAt_0 : decode cX0_rowAt 0 = .ok (.aload_n 0, 1) := dk_42 (dk_at dksX0_rowAt_0 0 rfl rfl)
theorem dX0_rowAt_1 : decode cX0_rowAt 1 = .ok (.getfield 28, 3) := dk_180 0 28 (dk_at dksX0_rowAt_0 1 rfl rfl)
theorem dX0_rowAt_4 : decode cX0_rowAt 4 = .ok (.iload_n 1, 1) := dk_27 (dk_at dksX0_rowAt_0 4 rfl rfl)
theorem dX0_rowAt_5 : decode cX0_rowAt 5 = .ok (.aaload, 1) := dk_50 (dk_at dksX0_rowAt_0 5 rfl rfl)
theorem dX0_rowAt_6 : decode cX0_rowAt 6 = .ok (.ifnull 7, 3) := dk_198 0 7 (dk_at dksX0_rowAt_0 6 rfl rfl)
theorem dX0_rowAt_9 : decode cX0_rowAt 9 = .ok (.iconst 1, 1) := dk_4 (dk_at dksX0_rowAt_0 9 rfl rfl)
theorem dX0_rowAt_10 : decode cX0_rowAt 10 = .ok (.goto 4, 3) := dk_167 0 4 (dk_at dksX0_rowAt_0 10 rfl rfl)
theorem dX0_rowAt_13 : decode cX0_rowAt 13 = .ok (.iconst 0, 1) := dk_3 (dk_at dksX0_rowAt_0 13 rfl rfl)
theorem dX0_rowAt_14 : decode cX0_rowAt 14 = .ok (.iconst 1, 1) := dk_4 (dk_at dksX0_rowAt_0 14 rfl rfl)
theorem dX0_rowAt_15 : decode cX0_rowAt 15 = .ok (.invokestatic 83, 3) := dk_184 0 83 (dk_at dksX0_rowAt_0 15 rfl rfl)
theorem dX0_rowAt_18 : decode cX0_rowAt 18 = .ok (.aload_n 0, 1) := dk_42 (dk_at dksX0_rowAt_0 18 rfl rfl)
theorem dX0_rowAt_19 : decode cX0_rowAt 19 = .ok (.getfield 28, 3) := dk_180 0 28 (dk_at dksX0_rowAt_0 19 rfl rfl)
theorem dX0_rowAt_22 : decode cX0_rowAt 22 = .ok (.iload_n 1, 1) := dk_27 (dk_at dksX0_rowAt_0 22 rfl rfl)
theorem dX0_rowAt_23 : decode cX0_rowAt 23 = .ok (.aaload, 1) := dk_50 (dk_at dksX0_rowAt_0 23 rfl rfl)
theorem dX0_rowAt_24 : decode cX0_rowAt 24 = .ok (.areturn, 1) := dk_176 (dk_at dksX0_rowAt_1 0 rfl rfl)
abbrev cX0_copy : ByteArray := prog_1_method_12_code
def yX0_copy : MethodName := ⟨RX0, "copy", "(IIIII)I"⟩
def dkwX0_copy_4 : List UInt8 := [25, 6, 182, 0, 101, 172]
abbrev dktX0_copy_4 : List UInt8 := dkwX0_copy_4 ++ []
def dkwX0_copy_3 : List UInt8 := [167, 0, 14, 58, 8, 187, 0, 67, 89, 5, 183, 0, 76, 191, 42, 21, 5, 182, 0, 97, 172, 58, 6, 42]
abbrev dktX0_copy_3 : List UInt8 := dkwX0_copy_3 ++ dktX0_copy_4
def dkwX0_copy_2 : List UInt8 := [3, 8, 184, 0, 83, 25, 6, 180, 0, 109, 28, 25, 7, 180, 0, 109, 21, 4, 21, 5, 184, 0, 119]
abbrev dktX0_copy_2 : List UInt8 := dkwX0_copy_2 ++ dktX0_copy_3
def dkwX0_copy_1 : List UInt8 := [42, 29, 182, 0, 105, 58, 7, 25, 6, 180, 0, 116, 25, 7, 180, 0, 116, 160, 0, 7, 4, 167, 0, 4]
abbrev dktX0_copy_1 : List UInt8 := dkwX0_copy_1 ++ dktX0_copy_2
def dkwX0_copy_0 : List UInt8 := [27, 184, 0, 87, 153, 0, 10, 29, 184, 0, 87, 154, 0, 6, 18, 93, 172, 42, 27, 182, 0, 105, 58, 6]
abbrev dktX0_copy_0 : List UInt8 := dkwX0_copy_0 ++ dktX0_copy_1
theorem dksX0_copy_0 : cX0_copy.data.toList.drop 0 = dktX0_copy_0 := by decide +kernel
theorem dksX0_copy_1 : cX0_copy.data.toList.drop 24 = dktX0_copy_1 := dk_seg dksX0_copy_0 24 rfl rfl
theorem dksX0_copy_2 : cX0_copy.data.toList.drop 48 = dktX0_copy_2 := dk_seg dksX0_copy_1 24 rfl rfl
theorem dksX0_copy_3 : cX0_copy.data.toList.drop 71 = dktX0_copy_3 := dk_seg dksX0_copy_2 23 rfl rfl
theorem dksX0_copy_4 : cX0_copy.data.toList.drop 95 = dktX0_copy_4 := dk_seg dksX0_copy_3 24 rfl rfl
theorem dX0_copy_0 : decode cX0_copy 0 = .ok (.iload_n 1, 1) := dk_27 (dk_at dksX0_copy_0 0 rfl rfl)
theorem dX0_copy_1 : decode cX0_copy 1 = .ok (.invokestatic 87, 3) := dk_184 0 87 (dk_at dksX0_copy_0 1 rfl rfl)
theorem dX0_copy_4 : decode cX0_copy 4 = .ok (.ifCond .eq 10, 3) := dk_153 0 10 (dk_at dksX0_copy_0 4 rfl rfl)
theorem dX0_copy_7 : decode cX0_copy 7 = .ok (.iload_n 3, 1) := dk_29 (dk_at dksX0_copy_0 7 rfl rfl)
theorem dX0_copy_8 : decode cX0_copy 8 = .ok (.invokestatic 87, 3) := dk_184 0 87 (dk_at dksX0_copy_0 8 rfl rfl)
theorem dX0_copy_11 : decode cX0_copy 11 = .ok (.ifCond .ne 6, 3) := dk_154 0 6 (dk_at dksX0_copy_0 11 rfl rfl)
theorem dX0_copy_14 : decode cX0_copy 14 = .ok (.ldc 93, 2) := dk_18 93 (dk_at dksX0_copy_0 14 rfl rfl)
theorem dX0_copy_16 : decode cX0_copy 16 = .ok (.ireturn, 1) := dk_172 (dk_at dksX0_copy_0 16 rfl rfl)
theorem dX0_copy_17 : decode cX0_copy 17 = .ok (.aload_n 0, 1) := dk_42 (dk_at dksX0_copy_0 17 rfl rfl)
theorem dX0_copy_18 : decode cX0_copy 18 = .ok (.iload_n 1, 1) := dk_27 (dk_at dksX0_copy_0 18 rfl rfl)
theorem dX0_copy_19 : decode cX0_copy 19 = .ok (.invokevirtual 105, 3) := dk_182 0 105 (dk_at dksX0_copy_0 19 rfl rfl)
theorem dX0_copy_22 : decode cX0_copy 22 = .ok (.astore 6, 2) := dk_58 6 (dk_at dksX0_copy_0 22 rfl rfl)
theorem dX0_copy_24 : decode cX0_copy 24 = .ok (.aload_n 0, 1) := dk_42 (dk_at dksX0_copy_1 0 rfl rfl)
theorem dX0_copy_25 : decode cX0_copy 25 = .ok (.iload_n 3, 1) := dk_29 (dk_at dksX0_copy_1 1 rfl rfl)
theorem dX0_copy_26 : decode cX0_copy 26 = .ok (.invokevirtual 105, 3) := dk_182 0 105 (dk_at dksX0_copy_1 2 rfl rfl)
theorem dX0_copy_29 : decode cX0_copy 29 = .ok (.astore 7, 2) := dk_58 7 (dk_at dksX0_copy_1 5 rfl rfl)
theorem dX0_copy_31 : decode cX0_copy 31 = .ok (.aload 6, 2) := dk_25 6 (dk_at dksX0_copy_1 7 rfl rfl)
theorem dX0_copy_33 : decode cX0_copy 33 = .ok (.getfield 116, 3) := dk_180 0 116 (dk_at dksX0_copy_1 9 rfl rfl)
theorem dX0_copy_36 : decode cX0_copy 36 = .ok (.aload 7, 2) := dk_25 7 (dk_at dksX0_copy_1 12 rfl rfl)
theorem dX0_copy_38 : decode cX0_copy 38 = .ok (.getfield 116, 3) := dk_180 0 116 (dk_at dksX0_copy_1 14 rfl rfl)
theorem dX0_copy_41 : decode cX0_copy 41 = .ok (.if_icmp .ne 7, 3) := dk_160 0 7 (dk_at dksX0_copy_1 17 rfl rfl)
theorem dX0_copy_44 : decode cX0_copy 44 = .ok (.iconst 1, 1) := dk_4 (dk_at dksX0_copy_1 20 rfl rfl)
theorem dX0_copy_45 : decode cX0_copy 45 = .ok (.goto 4, 3) := dk_167 0 4 (dk_at dksX0_copy_1 21 rfl rfl)
theorem dX0_copy_48 : decode cX0_copy 48 = .ok (.iconst 0, 1) := dk_3 (dk_at dksX0_copy_2 0 rfl rfl)
theorem dX0_copy_49 : decode cX0_copy 49 = .ok (.iconst 5, 1) := dk_8 (dk_at dksX0_copy_2 1 rfl rfl)
theorem dX0_copy_50 : decode cX0_copy 50 = .ok (.invokestatic 83, 3) := dk_184 0 83 (dk_at dksX0_copy_2 2 rfl rfl)
theorem dX0_copy_53 : decode cX0_copy 53 = .ok (.aload 6, 2) := dk_25 6 (dk_at dksX0_copy_2 5 rfl rfl)
theorem dX0_copy_55 : decode cX0_copy 55 = .ok (.getfield 109, 3) := dk_180 0 109 (dk_at dksX0_copy_2 7 rfl rfl)
theorem dX0_copy_58 : decode cX0_copy 58 = .ok (.iload_n 2, 1) := dk_28 (dk_at dksX0_copy_2 10 rfl rfl)
theorem dX0_copy_59 : decode cX0_copy 59 = .ok (.aload 7, 2) := dk_25 7 (dk_at dksX0_copy_2 11 rfl rfl)
theorem dX0_copy_61 : decode cX0_copy 61 = .ok (.getfield 109, 3) := dk_180 0 109 (dk_at dksX0_copy_2 13 rfl rfl)
theorem dX0_copy_64 : decode cX0_copy 64 = .ok (.iload 4, 2) := dk_21 4 (dk_at dksX0_copy_2 16 rfl rfl)
theorem dX0_copy_66 : decode cX0_copy 66 = .ok (.iload 5, 2) := dk_21 5 (dk_at dksX0_copy_2 18 rfl rfl)
theorem dX0_copy_68 : decode cX0_copy 68 = .ok (.invokestatic 119, 3) := dk_184 0 119 (dk_at dksX0_copy_2 20 rfl rfl)
theorem dX0_copy_71 : decode cX0_copy 71 = .ok (.goto 14, 3) := dk_167 0 14 (dk_at dksX0_copy_3 0 rfl rfl)
theorem dX0_copy_74 : decode cX0_copy 74 = .ok (.astore 8, 2) := dk_58 8 (dk_at dksX0_copy_3 3 rfl rfl)
theorem dX0_copy_76 : decode cX0_copy 76 = .ok (.new 67, 3) := dk_187 0 67 (dk_at dksX0_copy_3 5 rfl rfl)
theorem dX0_copy_79 : decode cX0_copy 79 = .ok (.dup, 1) := dk_89 (dk_at dksX0_copy_3 8 rfl rfl)
theorem dX0_copy_80 : decode cX0_copy 80 = .ok (.iconst 2, 1) := dk_5 (dk_at dksX0_copy_3 9 rfl rfl)
theorem dX0_copy_81 : decode cX0_copy 81 = .ok (.invokespecial 76, 3) := dk_183 0 76 (dk_at dksX0_copy_3 10 rfl rfl)
theorem dX0_copy_84 : decode cX0_copy 84 = .ok (.athrow, 1) := dk_191 (dk_at dksX0_copy_3 13 rfl rfl)
theorem dX0_copy_85 : decode cX0_copy 85 = .ok (.aload_n 0, 1) := dk_42 (dk_at dksX0_copy_3 14 rfl rfl)
theorem dX0_copy_86 : decode cX0_copy 86 = .ok (.iload 5, 2) := dk_21 5 (dk_at dksX0_copy_3 15 rfl rfl)
theorem dX0_copy_88 : decode cX0_copy 88 = .ok (.invokevirtual 97, 3) := dk_182 0 97 (dk_at dksX0_copy_3 17 rfl rfl)
theorem dX0_copy_91 : decode cX0_copy 91 = .ok (.ireturn, 1) := dk_172 (dk_at dksX0_copy_3 20 rfl rfl)
theorem dX0_copy_92 : decode cX0_copy 92 = .ok (.astore 6, 2) := dk_58 6 (dk_at dksX0_copy_3 21 rfl rfl)
theorem dX0_copy_94 : decode cX0_copy 94 = .ok (.aload_n 0, 1) := dk_42 (dk_at dksX0_copy_3 23 rfl rfl)
theorem dX0_copy_95 : decode cX0_copy 95 = .ok (.aload 6, 2) := dk_25 6 (dk_at dksX0_copy_4 0 rfl rfl)
theorem dX0_copy_97 : decode cX0_copy 97 = .ok (.invokevirtual 101, 3) := dk_182 0 101 (dk_at dksX0_copy_4 2 rfl rfl)
theorem dX0_copy_100 : decode cX0_copy 100 = .ok (.ireturn, 1) := dk_172 (dk_at dksX0_copy_4 5 rfl rfl)
abbrev cX0_drop : ByteArray := prog_1_method_13_code
def yX0_drop : MethodName := ⟨RX0, "drop", "(I)I"⟩
def dkwX0_drop_1 : List UInt8 := [27, 1, 83, 42, 28, 182, 0, 97, 172, 77, 42, 44, 182, 0, 101, 172]
abbrev dktX0_drop_1 : List UInt8 := dkwX0_drop_1 ++ []
def dkwX0_drop_0 : List UInt8 := [27, 184, 0, 87, 154, 0, 6, 18, 93, 172, 42, 27, 182, 0, 105, 180, 0, 109, 190, 61, 42, 180, 0, 28]
abbrev dktX0_drop_0 : List UInt8 := dkwX0_drop_0 ++ dktX0_drop_1
theorem dksX0_drop_0 : cX0_drop.data.toList.drop 0 = dktX0_drop_0 := by decide +kernel
theorem dksX0_drop_1 : cX0_drop.data.toList.drop 24 = dktX0_drop_1 := dk_seg dksX0_drop_0 24 rfl rfl
theorem dX0_drop_0 : decode cX0_drop 0 = .ok (.iload_n 1, 1) := dk_27 (dk_at dksX0_drop_0 0 rfl rfl)
theorem dX0_drop_1 : decode cX0_drop 1 = .ok (.invokestatic 87, 3) := dk_184 0 87 (dk_at dksX0_drop_0 1 rfl rfl)
theorem dX0_drop_4 : decode cX0_drop 4 = .ok (.ifCond .ne 6, 3) := dk_154 0 6 (dk_at dksX0_drop_0 4 rfl rfl)
theorem dX0_drop_7 : decode cX0_drop 7 = .ok (.ldc 93, 2) := dk_18 93 (dk_at dksX0_drop_0 7 rfl rfl)
theorem dX0_drop_9 : decode cX0_drop 9 = .ok (.ireturn, 1) := dk_172 (dk_at dksX0_drop_0 9 rfl rfl)
theorem dX0_drop_10 : decode cX0_drop 10 = .ok (.aload_n 0, 1) := dk_42 (dk_at dksX0_drop_0 10 rfl rfl)
theorem dX0_drop_11 : decode cX0_drop 11 = .ok (.iload_n 1, 1) := dk_27 (dk_at dksX0_drop_0 11 rfl rfl)
theorem dX0_drop_12 : decode cX0_drop 12 = .ok (.invokevirtual 105, 3) := dk_182 0 105 (dk_at dksX0_drop_0 12 rfl rfl)
theorem dX0_drop_15 : decode cX0_drop 15 = .ok (.getfield 109, 3) := dk_180 0 109 (dk_at dksX0_drop_0 15 rfl rfl)
theorem dX0_drop_18 : decode cX0_drop 18 = .ok (.arraylength, 1) := dk_190 (dk_at dksX0_drop_0 18 rfl rfl)
theorem dX0_drop_19 : decode cX0_drop 19 = .ok (.istore_n 2, 1) := dk_61 (dk_at dksX0_drop_0 19 rfl rfl)
theorem dX0_drop_20 : decode cX0_drop 20 = .ok (.aload_n 0, 1) := dk_42 (dk_at dksX0_drop_0 20 rfl rfl)
theorem dX0_drop_21 : decode cX0_drop 21 = .ok (.getfield 28, 3) := dk_180 0 28 (dk_at dksX0_drop_0 21 rfl rfl)
theorem dX0_drop_24 : decode cX0_drop 24 = .ok (.iload_n 1, 1) := dk_27 (dk_at dksX0_drop_1 0 rfl rfl)
theorem dX0_drop_25 : decode cX0_drop 25 = .ok (.aconst_null, 1) := dk_1 (dk_at dksX0_drop_1 1 rfl rfl)
theorem dX0_drop_26 : decode cX0_drop 26 = .ok (.aastore, 1) := dk_83 (dk_at dksX0_drop_1 2 rfl rfl)
theorem dX0_drop_27 : decode cX0_drop 27 = .ok (.aload_n 0, 1) := dk_42 (dk_at dksX0_drop_1 3 rfl rfl)
theorem dX0_drop_28 : decode cX0_drop 28 = .ok (.iload_n 2, 1) := dk_28 (dk_at dksX0_drop_1 4 rfl rfl)
theorem dX0_drop_29 : decode cX0_drop 29 = .ok (.invokevirtual 97, 3) := dk_182 0 97 (dk_at dksX0_drop_1 5 rfl rfl)
theorem dX0_drop_32 : decode cX0_drop 32 = .ok (.ireturn, 1) := dk_172 (dk_at dksX0_drop_1 8 rfl rfl)
theorem dX0_drop_33 : decode cX0_drop 33 = .ok (.astore_n 2, 1) := dk_77 (dk_at dksX0_drop_1 9 rfl rfl)
theorem dX0_drop_34 : decode cX0_drop 34 = .ok (.aload_n 0, 1) := dk_42 (dk_at dksX0_drop_1 10 rfl rfl)
theorem dX0_drop_35 : decode cX0_drop 35 = .ok (.aload_n 2, 1) := dk_44 (dk_at dksX0_drop_1 11 rfl rfl)
theorem dX0_drop_36 : decode cX0_drop 36 = .ok (.invokevirtual 101, 3) := dk_182 0 101 (dk_at dksX0_drop_1 12 rfl rfl)
theorem dX0_drop_39 : decode cX0_drop 39 = .ok (.ireturn, 1) := dk_172 (dk_at dksX0_drop_1 15 rfl rfl)
abbrev cX0_feed : ByteArray := prog_1_method_14_code
def yX0_feed : MethodName := ⟨RX0, "feed", "(I)I"⟩
def dkwX0_feed_2 : List UInt8 := [180, 0, 129, 172]
abbrev dktX0_feed_2 : List UInt8 := dkwX0_feed_2 ++ []
def dkwX0_feed_1 : List UInt8 := [18, 132, 172, 42, 180, 0, 32, 42, 89, 180, 0, 129, 90, 4, 96, 181, 0, 129, 27, 145, 84, 42]
abbrev dktX0_feed_1 : List UInt8 := dkwX0_feed_1 ++ dktX0_feed_2
def dkwX0_feed_0 : List UInt8 := [27, 133, 9, 20, 0, 127, 184, 0, 79, 154, 0, 6, 18, 93, 172, 42, 180, 0, 129, 16, 120, 160, 0, 6]
abbrev dktX0_feed_0 : List UInt8 := dkwX0_feed_0 ++ dktX0_feed_1
theorem dksX0_feed_0 : cX0_feed.data.toList.drop 0 = dktX0_feed_0 := by decide +kernel
theorem dksX0_feed_1 : cX0_feed.data.toList.drop 24 = dktX0_feed_1 := dk_seg dksX0_feed_0 24 rfl rfl
theorem dksX0_feed_2 : cX0_feed.data.toList.drop 46 = dktX0_feed_2 := dk_seg dksX0_feed_1 22 rfl rfl
theorem dX0_feed_0 : decode cX0_feed 0 = .ok (.iload_n 1, 1) := dk_27 (dk_at dksX0_feed_0 0 rfl rfl)
theorem dX0_feed_1 : decode cX0_feed 1 = .ok (.i2l, 1) := dk_133 (dk_at dksX0_feed_0 1 rfl rfl)
theorem dX0_feed_2 : decode cX0_feed 2 = .ok (.lconst 0, 1) := dk_9 (dk_at dksX0_feed_0 2 rfl rfl)
theorem dX0_feed_3 : decode cX0_feed 3 = .ok (.ldc2_w 127, 3) := dk_20 0 127 (dk_at dksX0_feed_0 3 rfl rfl)
theorem dX0_feed_6 : decode cX0_feed 6 = .ok (.invokestatic 79, 3) := dk_184 0 79 (dk_at dksX0_feed_0 6 rfl rfl)
theorem dX0_feed_9 : decode cX0_feed 9 = .ok (.ifCond .ne 6, 3) := dk_154 0 6 (dk_at dksX0_feed_0 9 rfl rfl)
theorem dX0_feed_12 : decode cX0_feed 12 = .ok (.ldc 93, 2) := dk_18 93 (dk_at dksX0_feed_0 12 rfl rfl)
theorem dX0_feed_14 : decode cX0_feed 14 = .ok (.ireturn, 1) := dk_172 (dk_at dksX0_feed_0 14 rfl rfl)
theorem dX0_feed_15 : decode cX0_feed 15 = .ok (.aload_n 0, 1) := dk_42 (dk_at dksX0_feed_0 15 rfl rfl)
theorem dX0_feed_16 : decode cX0_feed 16 = .ok (.getfield 129, 3) := dk_180 0 129 (dk_at dksX0_feed_0 16 rfl rfl)
theorem dX0_feed_19 : decode cX0_feed 19 = .ok (.bipush 120, 2) := dk_16 120 (dk_at dksX0_feed_0 19 rfl rfl)
theorem dX0_feed_21 : decode cX0_feed 21 = .ok (.if_icmp .ne 6, 3) := dk_160 0 6 (dk_at dksX0_feed_0 21 rfl rfl)
theorem dX0_feed_24 : decode cX0_feed 24 = .ok (.ldc 132, 2) := dk_18 132 (dk_at dksX0_feed_1 0 rfl rfl)
theorem dX0_feed_26 : decode cX0_feed 26 = .ok (.ireturn, 1) := dk_172 (dk_at dksX0_feed_1 2 rfl rfl)
theorem dX0_feed_27 : decode cX0_feed 27 = .ok (.aload_n 0, 1) := dk_42 (dk_at dksX0_feed_1 3 rfl rfl)
theorem dX0_feed_28 : decode cX0_feed 28 = .ok (.getfield 32, 3) := dk_180 0 32 (dk_at dksX0_feed_1 4 rfl rfl)
theorem dX0_feed_31 : decode cX0_feed 31 = .ok (.aload_n 0, 1) := dk_42 (dk_at dksX0_feed_1 7 rfl rfl)
theorem dX0_feed_32 : decode cX0_feed 32 = .ok (.dup, 1) := dk_89 (dk_at dksX0_feed_1 8 rfl rfl)
theorem dX0_feed_33 : decode cX0_feed 33 = .ok (.getfield 129, 3) := dk_180 0 129 (dk_at dksX0_feed_1 9 rfl rfl)
theorem dX0_feed_36 : decode cX0_feed 36 = .ok (.dup_x1, 1) := dk_90 (dk_at dksX0_feed_1 12 rfl rfl)
theorem dX0_feed_37 : decode cX0_feed 37 = .ok (.iconst 1, 1) := dk_4 (dk_at dksX0_feed_1 13 rfl rfl)
theorem dX0_feed_38 : decode cX0_feed 38 = .ok (.iadd, 1) := dk_96 (dk_at dksX0_feed_1 14 rfl rfl)
theorem dX0_feed_39 : decode cX0_feed 39 = .ok (.putfield 129, 3) := dk_181 0 129 (dk_at dksX0_feed_1 15 rfl rfl)
theorem dX0_feed_42 : decode cX0_feed 42 = .ok (.iload_n 1, 1) := dk_27 (dk_at dksX0_feed_1 18 rfl rfl)
theorem dX0_feed_43 : decode cX0_feed 43 = .ok (.i2b, 1) := dk_145 (dk_at dksX0_feed_1 19 rfl rfl)
theorem dX0_feed_44 : decode cX0_feed 44 = .ok (.bastore, 1) := dk_84 (dk_at dksX0_feed_1 20 rfl rfl)
theorem dX0_feed_45 : decode cX0_feed 45 = .ok (.aload_n 0, 1) := dk_42 (dk_at dksX0_feed_1 21 rfl rfl)
theorem dX0_feed_46 : decode cX0_feed 46 = .ok (.getfield 129, 3) := dk_180 0 129 (dk_at dksX0_feed_2 0 rfl rfl)
theorem dX0_feed_49 : decode cX0_feed 49 = .ok (.ireturn, 1) := dk_172 (dk_at dksX0_feed_2 3 rfl rfl)
abbrev cX0_ministry : ByteArray := prog_1_method_15_code
def yX0_ministry : MethodName := ⟨RX0, "ministry", "()I"⟩
def dkwX0_ministry_2 : List UInt8 := [180, 0, 39, 43, 180, 0, 153, 182, 0, 156, 87, 42, 3, 181, 0, 160, 42, 180, 0, 39, 182, 0, 163, 172]
abbrev dktX0_ministry_2 : List UInt8 := dkwX0_ministry_2 ++ []
def dkwX0_ministry_1 : List UInt8 := [182, 0, 138, 167, 0, 20, 77, 42, 44, 180, 0, 143, 181, 0, 146, 18, 149, 44, 180, 0, 150, 100, 172, 42]
abbrev dktX0_ministry_1 : List UInt8 := dkwX0_ministry_1 ++ dktX0_ministry_2
def dkwX0_ministry_0 : List UInt8 := [187, 0, 133, 89, 42, 180, 0, 32, 42, 180, 0, 129, 183, 0, 135, 76, 42, 3, 181, 0, 129, 43]
abbrev dktX0_ministry_0 : List UInt8 := dkwX0_ministry_0 ++ dktX0_ministry_1
theorem dksX0_ministry_0 : cX0_ministry.data.toList.drop 0 = dktX0_ministry_0 := by decide +kernel
theorem dksX0_ministry_1 : cX0_ministry.data.toList.drop 22 = dktX0_ministry_1 := dk_seg dksX0_ministry_0 22 rfl rfl
theorem dksX0_ministry_2 : cX0_ministry.data.toList.drop 46 = dktX0_ministry_2 := dk_seg dksX0_ministry_1 24 rfl rfl
theorem dX0_ministry_0 : decode cX0_ministry 0 = .ok (.new 133, 3) := dk_187 0 133 (dk_at dksX0_ministry_0 0 rfl rfl)
theorem dX0_ministry_3 : decode cX0_ministry 3 = .ok (.dup, 1) := dk_89 (dk_at dksX0_ministry_0 3 rfl rfl)
theorem dX0_ministry_4 : decode cX0_ministry 4 = .ok (.aload_n 0, 1) := dk_42 (dk_at dksX0_ministry_0 4 rfl rfl)
theorem dX0_ministry_5 : decode cX0_ministry 5 = .ok (.getfield 32, 3) := dk_180 0 32 (dk_at dksX0_ministry_0 5 rfl rfl)
theorem dX0_ministry_8 : decode cX0_ministry 8 = .ok (.aload_n 0, 1) := dk_42 (dk_at dksX0_ministry_0 8 rfl rfl)
theorem dX0_ministry_9 : decode cX0_ministry 9 = .ok (.getfield 129, 3) := dk_180 0 129 (dk_at dksX0_ministry_0 9 rfl rfl)
theorem dX0_ministry_12 : decode cX0_ministry 12 = .ok (.invokespecial 135, 3) := dk_183 0 135 (dk_at dksX0_ministry_0 12 rfl rfl)
theorem dX0_ministry_15 : decode cX0_ministry 15 = .ok (.astore_n 1, 1) := dk_76 (dk_at dksX0_ministry_0 15 rfl rfl)
theorem dX0_ministry_16 : decode cX0_ministry 16 = .ok (.aload_n 0, 1) := dk_42 (dk_at dksX0_ministry_0 16 rfl rfl)
theorem dX0_ministry_17 : decode cX0_ministry 17 = .ok (.iconst 0, 1) := dk_3 (dk_at dksX0_ministry_0 17 rfl rfl)
theorem dX0_ministry_18 : decode cX0_ministry 18 = .ok (.putfield 129, 3) := dk_181 0 129 (dk_at dksX0_ministry_0 18 rfl rfl)
theorem dX0_ministry_21 : decode cX0_ministry 21 = .ok (.aload_n 1, 1) := dk_43 (dk_at dksX0_ministry_0 21 rfl rfl)
theorem dX0_ministry_22 : decode cX0_ministry 22 = .ok (.invokevirtual 138, 3) := dk_182 0 138 (dk_at dksX0_ministry_1 0 rfl rfl)
theorem dX0_ministry_25 : decode cX0_ministry 25 = .ok (.goto 20, 3) := dk_167 0 20 (dk_at dksX0_ministry_1 3 rfl rfl)
theorem dX0_ministry_28 : decode cX0_ministry 28 = .ok (.astore_n 2, 1) := dk_77 (dk_at dksX0_ministry_1 6 rfl rfl)
theorem dX0_ministry_29 : decode cX0_ministry 29 = .ok (.aload_n 0, 1) := dk_42 (dk_at dksX0_ministry_1 7 rfl rfl)
theorem dX0_ministry_30 : decode cX0_ministry 30 = .ok (.aload_n 2, 1) := dk_44 (dk_at dksX0_ministry_1 8 rfl rfl)
theorem dX0_ministry_31 : decode cX0_ministry 31 = .ok (.getfield 143, 3) := dk_180 0 143 (dk_at dksX0_ministry_1 9 rfl rfl)
theorem dX0_ministry_34 : decode cX0_ministry 34 = .ok (.putfield 146, 3) := dk_181 0 146 (dk_at dksX0_ministry_1 12 rfl rfl)
theorem dX0_ministry_37 : decode cX0_ministry 37 = .ok (.ldc 149, 2) := dk_18 149 (dk_at dksX0_ministry_1 15 rfl rfl)
theorem dX0_ministry_39 : decode cX0_ministry 39 = .ok (.aload_n 2, 1) := dk_44 (dk_at dksX0_ministry_1 17 rfl rfl)
theorem dX0_ministry_40 : decode cX0_ministry 40 = .ok (.getfield 150, 3) := dk_180 0 150 (dk_at dksX0_ministry_1 18 rfl rfl)
theorem dX0_ministry_43 : decode cX0_ministry 43 = .ok (.isub, 1) := dk_100 (dk_at dksX0_ministry_1 21 rfl rfl)
theorem dX0_ministry_44 : decode cX0_ministry 44 = .ok (.ireturn, 1) := dk_172 (dk_at dksX0_ministry_1 22 rfl rfl)
theorem dX0_ministry_45 : decode cX0_ministry 45 = .ok (.aload_n 0, 1) := dk_42 (dk_at dksX0_ministry_1 23 rfl rfl)
theorem dX0_ministry_46 : decode cX0_ministry 46 = .ok (.getfield 39, 3) := dk_180 0 39 (dk_at dksX0_ministry_2 0 rfl rfl)
theorem dX0_ministry_49 : decode cX0_ministry 49 = .ok (.aload_n 1, 1) := dk_43 (dk_at dksX0_ministry_2 3 rfl rfl)
theorem dX0_ministry_50 : decode cX0_ministry 50 = .ok (.getfield 153, 3) := dk_180 0 153 (dk_at dksX0_ministry_2 4 rfl rfl)
theorem dX0_ministry_53 : decode cX0_ministry 53 = .ok (.invokevirtual 156, 3) := dk_182 0 156 (dk_at dksX0_ministry_2 7 rfl rfl)
theorem dX0_ministry_56 : decode cX0_ministry 56 = .ok (.pop, 1) := dk_87 (dk_at dksX0_ministry_2 10 rfl rfl)
theorem dX0_ministry_57 : decode cX0_ministry 57 = .ok (.aload_n 0, 1) := dk_42 (dk_at dksX0_ministry_2 11 rfl rfl)
theorem dX0_ministry_58 : decode cX0_ministry 58 = .ok (.iconst 0, 1) := dk_3 (dk_at dksX0_ministry_2 12 rfl rfl)
theorem dX0_ministry_59 : decode cX0_ministry 59 = .ok (.putfield 160, 3) := dk_181 0 160 (dk_at dksX0_ministry_2 13 rfl rfl)
theorem dX0_ministry_62 : decode cX0_ministry 62 = .ok (.aload_n 0, 1) := dk_42 (dk_at dksX0_ministry_2 16 rfl rfl)
theorem dX0_ministry_63 : decode cX0_ministry 63 = .ok (.getfield 39, 3) := dk_180 0 39 (dk_at dksX0_ministry_2 17 rfl rfl)
theorem dX0_ministry_66 : decode cX0_ministry 66 = .ok (.invokevirtual 163, 3) := dk_182 0 163 (dk_at dksX0_ministry_2 20 rfl rfl)
theorem dX0_ministry_69 : decode cX0_ministry 69 = .ok (.ireturn, 1) := dk_172 (dk_at dksX0_ministry_2 23 rfl rfl)
abbrev cX0_chairBy : ByteArray := prog_1_method_3_code
def yX0_chairBy : MethodName := ⟨RX0, "chairBy", "(II)LChairRanks$Chair;"⟩
def dkwX0_chairBy_3 : List UInt8 := [183, 0, 12, 176, 187, 0, 13, 89, 27, 183, 0, 15, 176, 187, 0, 16, 89, 27, 183, 0, 18, 176]
abbrev dktX0_chairBy_3 : List UInt8 := dkwX0_chairBy_3 ++ []
def dkwX0_chairBy_2 : List UInt8 := [187, 0, 1, 89, 27, 183, 0, 3, 176, 187, 0, 7, 89, 27, 183, 0, 9, 176, 187, 0, 10, 89, 27]
abbrev dktX0_chairBy_2 : List UInt8 := dkwX0_chairBy_2 ++ dktX0_chairBy_3
def dkwX0_chairBy_1 : List UInt8 := [170, 0, 0, 0, 0, 0, 67, 0, 0, 0, 0, 0, 0, 0, 3, 0, 0, 0, 31, 0, 0, 0, 40, 0, 0, 0, 49, 0, 0, 0, 58]
abbrev dktX0_chairBy_1 : List UInt8 := dkwX0_chairBy_1 ++ dktX0_chairBy_2
def dkwX0_chairBy_0 : List UInt8 := [26]
abbrev dktX0_chairBy_0 : List UInt8 := dkwX0_chairBy_0 ++ dktX0_chairBy_1
theorem dksX0_chairBy_0 : cX0_chairBy.data.toList.drop 0 = dktX0_chairBy_0 := by decide +kernel
theorem dksX0_chairBy_1 : cX0_chairBy.data.toList.drop 1 = dktX0_chairBy_1 := dk_seg dksX0_chairBy_0 1 rfl rfl
theorem dksX0_chairBy_2 : cX0_chairBy.data.toList.drop 32 = dktX0_chairBy_2 := dk_seg dksX0_chairBy_1 31 rfl rfl
theorem dksX0_chairBy_3 : cX0_chairBy.data.toList.drop 55 = dktX0_chairBy_3 := dk_seg dksX0_chairBy_2 23 rfl rfl
theorem dX0_chairBy_0 : decode cX0_chairBy 0 = .ok (.iload_n 0, 1) := dk_26 (dk_at dksX0_chairBy_0 0 rfl rfl)
theorem dX0_chairBy_1 : decode cX0_chairBy 1 = .ok (.tableswitch 67 0 3 #[31, 40, 49, 58], 31) := by decide +kernel
theorem dX0_chairBy_32 : decode cX0_chairBy 32 = .ok (.new 1, 3) := dk_187 0 1 (dk_at dksX0_chairBy_2 0 rfl rfl)
theorem dX0_chairBy_35 : decode cX0_chairBy 35 = .ok (.dup, 1) := dk_89 (dk_at dksX0_chairBy_2 3 rfl rfl)
theorem dX0_chairBy_36 : decode cX0_chairBy 36 = .ok (.iload_n 1, 1) := dk_27 (dk_at dksX0_chairBy_2 4 rfl rfl)
theorem dX0_chairBy_37 : decode cX0_chairBy 37 = .ok (.invokespecial 3, 3) := dk_183 0 3 (dk_at dksX0_chairBy_2 5 rfl rfl)
theorem dX0_chairBy_40 : decode cX0_chairBy 40 = .ok (.areturn, 1) := dk_176 (dk_at dksX0_chairBy_2 8 rfl rfl)
theorem dX0_chairBy_41 : decode cX0_chairBy 41 = .ok (.new 7, 3) := dk_187 0 7 (dk_at dksX0_chairBy_2 9 rfl rfl)
theorem dX0_chairBy_44 : decode cX0_chairBy 44 = .ok (.dup, 1) := dk_89 (dk_at dksX0_chairBy_2 12 rfl rfl)
theorem dX0_chairBy_45 : decode cX0_chairBy 45 = .ok (.iload_n 1, 1) := dk_27 (dk_at dksX0_chairBy_2 13 rfl rfl)
theorem dX0_chairBy_46 : decode cX0_chairBy 46 = .ok (.invokespecial 9, 3) := dk_183 0 9 (dk_at dksX0_chairBy_2 14 rfl rfl)
theorem dX0_chairBy_49 : decode cX0_chairBy 49 = .ok (.areturn, 1) := dk_176 (dk_at dksX0_chairBy_2 17 rfl rfl)
theorem dX0_chairBy_50 : decode cX0_chairBy 50 = .ok (.new 10, 3) := dk_187 0 10 (dk_at dksX0_chairBy_2 18 rfl rfl)
theorem dX0_chairBy_53 : decode cX0_chairBy 53 = .ok (.dup, 1) := dk_89 (dk_at dksX0_chairBy_2 21 rfl rfl)
theorem dX0_chairBy_54 : decode cX0_chairBy 54 = .ok (.iload_n 1, 1) := dk_27 (dk_at dksX0_chairBy_2 22 rfl rfl)
theorem dX0_chairBy_55 : decode cX0_chairBy 55 = .ok (.invokespecial 12, 3) := dk_183 0 12 (dk_at dksX0_chairBy_3 0 rfl rfl)
theorem dX0_chairBy_58 : decode cX0_chairBy 58 = .ok (.areturn, 1) := dk_176 (dk_at dksX0_chairBy_3 3 rfl rfl)
theorem dX0_chairBy_59 : decode cX0_chairBy 59 = .ok (.new 13, 3) := dk_187 0 13 (dk_at dksX0_chairBy_3 4 rfl rfl)
theorem dX0_chairBy_62 : decode cX0_chairBy 62 = .ok (.dup, 1) := dk_89 (dk_at dksX0_chairBy_3 7 rfl rfl)
theorem dX0_chairBy_63 : decode cX0_chairBy 63 = .ok (.iload_n 1, 1) := dk_27 (dk_at dksX0_chairBy_3 8 rfl rfl)
theorem dX0_chairBy_64 : decode cX0_chairBy 64 = .ok (.invokespecial 15, 3) := dk_183 0 15 (dk_at dksX0_chairBy_3 9 rfl rfl)
theorem dX0_chairBy_67 : decode cX0_chairBy 67 = .ok (.areturn, 1) := dk_176 (dk_at dksX0_chairBy_3 12 rfl rfl)
theorem dX0_chairBy_68 : decode cX0_chairBy 68 = .ok (.new 16, 3) := dk_187 0 16 (dk_at dksX0_chairBy_3 13 rfl rfl)
theorem dX0_chairBy_71 : decode cX0_chairBy 71 = .ok (.dup, 1) := dk_89 (dk_at dksX0_chairBy_3 16 rfl rfl)
theorem dX0_chairBy_72 : decode cX0_chairBy 72 = .ok (.iload_n 1, 1) := dk_27 (dk_at dksX0_chairBy_3 17 rfl rfl)
theorem dX0_chairBy_73 : decode cX0_chairBy 73 = .ok (.invokespecial 18, 3) := dk_183 0 18 (dk_at dksX0_chairBy_3 18 rfl rfl)
theorem dX0_chairBy_76 : decode cX0_chairBy 76 = .ok (.areturn, 1) := dk_176 (dk_at dksX0_chairBy_3 21 rfl rfl)
abbrev cX0_fault : ByteArray := prog_1_method_16_code
def yX0_fault : MethodName := ⟨RX0, "fault", "()I"⟩
theorem dX0_fault_0 : decode cX0_fault 0 = .ok (.aload_n 0, 1) := by decide +kernel
theorem dX0_fault_1 : decode cX0_fault 1 = .ok (.getfield 146, 3) := by decide +kernel
theorem dX0_fault_4 : decode cX0_fault 4 = .ok (.ireturn, 1) := by decide +kernel
abbrev cX0_undo : ByteArray := prog_1_method_19_code
def yX0_undo : MethodName := ⟨RX0, "undo", "()I"⟩
def dkwX0_undo_1 : List UInt8 := [42, 180, 0, 46, 42, 180, 0, 160, 50, 182, 0, 156, 87, 42, 180, 0, 160, 172]
abbrev dktX0_undo_1 : List UInt8 := dkwX0_undo_1 ++ []
def dkwX0_undo_0 : List UInt8 := [42, 180, 0, 160, 154, 0, 6, 18, 167, 172, 42, 89, 180, 0, 160, 4, 100, 181, 0, 160, 42, 180, 0, 39]
abbrev dktX0_undo_0 : List UInt8 := dkwX0_undo_0 ++ dktX0_undo_1
theorem dksX0_undo_0 : cX0_undo.data.toList.drop 0 = dktX0_undo_0 := by decide +kernel
theorem dksX0_undo_1 : cX0_undo.data.toList.drop 24 = dktX0_undo_1 := dk_seg dksX0_undo_0 24 rfl rfl
theorem dX0_undo_0 : decode cX0_undo 0 = .ok (.aload_n 0, 1) := dk_42 (dk_at dksX0_undo_0 0 rfl rfl)
theorem dX0_undo_1 : decode cX0_undo 1 = .ok (.getfield 160, 3) := dk_180 0 160 (dk_at dksX0_undo_0 1 rfl rfl)
theorem dX0_undo_4 : decode cX0_undo 4 = .ok (.ifCond .ne 6, 3) := dk_154 0 6 (dk_at dksX0_undo_0 4 rfl rfl)
theorem dX0_undo_7 : decode cX0_undo 7 = .ok (.ldc 167, 2) := dk_18 167 (dk_at dksX0_undo_0 7 rfl rfl)
theorem dX0_undo_9 : decode cX0_undo 9 = .ok (.ireturn, 1) := dk_172 (dk_at dksX0_undo_0 9 rfl rfl)
theorem dX0_undo_10 : decode cX0_undo 10 = .ok (.aload_n 0, 1) := dk_42 (dk_at dksX0_undo_0 10 rfl rfl)
theorem dX0_undo_11 : decode cX0_undo 11 = .ok (.dup, 1) := dk_89 (dk_at dksX0_undo_0 11 rfl rfl)
theorem dX0_undo_12 : decode cX0_undo 12 = .ok (.getfield 160, 3) := dk_180 0 160 (dk_at dksX0_undo_0 12 rfl rfl)
theorem dX0_undo_15 : decode cX0_undo 15 = .ok (.iconst 1, 1) := dk_4 (dk_at dksX0_undo_0 15 rfl rfl)
theorem dX0_undo_16 : decode cX0_undo 16 = .ok (.isub, 1) := dk_100 (dk_at dksX0_undo_0 16 rfl rfl)
theorem dX0_undo_17 : decode cX0_undo 17 = .ok (.putfield 160, 3) := dk_181 0 160 (dk_at dksX0_undo_0 17 rfl rfl)
theorem dX0_undo_20 : decode cX0_undo 20 = .ok (.aload_n 0, 1) := dk_42 (dk_at dksX0_undo_0 20 rfl rfl)
theorem dX0_undo_21 : decode cX0_undo 21 = .ok (.getfield 39, 3) := dk_180 0 39 (dk_at dksX0_undo_0 21 rfl rfl)
theorem dX0_undo_24 : decode cX0_undo 24 = .ok (.aload_n 0, 1) := dk_42 (dk_at dksX0_undo_1 0 rfl rfl)
theorem dX0_undo_25 : decode cX0_undo 25 = .ok (.getfield 46, 3) := dk_180 0 46 (dk_at dksX0_undo_1 1 rfl rfl)
theorem dX0_undo_28 : decode cX0_undo 28 = .ok (.aload_n 0, 1) := dk_42 (dk_at dksX0_undo_1 4 rfl rfl)
theorem dX0_undo_29 : decode cX0_undo 29 = .ok (.getfield 160, 3) := dk_180 0 160 (dk_at dksX0_undo_1 5 rfl rfl)
theorem dX0_undo_32 : decode cX0_undo 32 = .ok (.aaload, 1) := dk_50 (dk_at dksX0_undo_1 8 rfl rfl)
theorem dX0_undo_33 : decode cX0_undo 33 = .ok (.invokevirtual 156, 3) := dk_182 0 156 (dk_at dksX0_undo_1 9 rfl rfl)
theorem dX0_undo_36 : decode cX0_undo 36 = .ok (.pop, 1) := dk_87 (dk_at dksX0_undo_1 12 rfl rfl)
theorem dX0_undo_37 : decode cX0_undo 37 = .ok (.aload_n 0, 1) := dk_42 (dk_at dksX0_undo_1 13 rfl rfl)
theorem dX0_undo_38 : decode cX0_undo 38 = .ok (.getfield 160, 3) := dk_180 0 160 (dk_at dksX0_undo_1 14 rfl rfl)
theorem dX0_undo_41 : decode cX0_undo 41 = .ok (.ireturn, 1) := dk_172 (dk_at dksX0_undo_1 17 rfl rfl)
abbrev cX0_nights : ByteArray := prog_1_method_25_code
def yX0_nights : MethodName := ⟨RX0, "nights", "(I)I"⟩
def dkwX0_nights_3 : List UInt8 := [180, 0, 39, 3, 182, 0, 193, 172]
abbrev dktX0_nights_3 : List UInt8 := dkwX0_nights_3 ++ []
def dkwX0_nights_2 : List UInt8 := [162, 0, 21, 42, 182, 0, 186, 42, 180, 0, 39, 182, 0, 189, 87, 132, 2, 1, 167, 255, 236, 42]
abbrev dktX0_nights_2 : List UInt8 := dkwX0_nights_2 ++ dktX0_nights_3
def dkwX0_nights_1 : List UInt8 := [172, 42, 180, 0, 39, 180, 0, 183, 27, 96, 17, 3, 231, 164, 0, 6, 18, 132, 172, 3, 61, 28, 27]
abbrev dktX0_nights_1 : List UInt8 := dkwX0_nights_1 ++ dktX0_nights_2
def dkwX0_nights_0 : List UInt8 := [42, 182, 0, 177, 154, 0, 6, 18, 167, 172, 27, 133, 10, 20, 0, 181, 184, 0, 79, 154, 0, 6, 18, 93]
abbrev dktX0_nights_0 : List UInt8 := dkwX0_nights_0 ++ dktX0_nights_1
theorem dksX0_nights_0 : cX0_nights.data.toList.drop 0 = dktX0_nights_0 := by decide +kernel
theorem dksX0_nights_1 : cX0_nights.data.toList.drop 24 = dktX0_nights_1 := dk_seg dksX0_nights_0 24 rfl rfl
theorem dksX0_nights_2 : cX0_nights.data.toList.drop 47 = dktX0_nights_2 := dk_seg dksX0_nights_1 23 rfl rfl
theorem dksX0_nights_3 : cX0_nights.data.toList.drop 69 = dktX0_nights_3 := dk_seg dksX0_nights_2 22 rfl rfl
theorem dX0_nights_0 : decode cX0_nights 0 = .ok (.aload_n 0, 1) := dk_42 (dk_at dksX0_nights_0 0 rfl rfl)
theorem dX0_nights_1 : decode cX0_nights 1 = .ok (.invokevirtual 177, 3) := dk_182 0 177 (dk_at dksX0_nights_0 1 rfl rfl)
theorem dX0_nights_4 : decode cX0_nights 4 = .ok (.ifCond .ne 6, 3) := dk_154 0 6 (dk_at dksX0_nights_0 4 rfl rfl)
theorem dX0_nights_7 : decode cX0_nights 7 = .ok (.ldc 167, 2) := dk_18 167 (dk_at dksX0_nights_0 7 rfl rfl)
theorem dX0_nights_9 : decode cX0_nights 9 = .ok (.ireturn, 1) := dk_172 (dk_at dksX0_nights_0 9 rfl rfl)
theorem dX0_nights_10 : decode cX0_nights 10 = .ok (.iload_n 1, 1) := dk_27 (dk_at dksX0_nights_0 10 rfl rfl)
theorem dX0_nights_11 : decode cX0_nights 11 = .ok (.i2l, 1) := dk_133 (dk_at dksX0_nights_0 11 rfl rfl)
theorem dX0_nights_12 : decode cX0_nights 12 = .ok (.lconst 1, 1) := dk_10 (dk_at dksX0_nights_0 12 rfl rfl)
theorem dX0_nights_13 : decode cX0_nights 13 = .ok (.ldc2_w 181, 3) := dk_20 0 181 (dk_at dksX0_nights_0 13 rfl rfl)
theorem dX0_nights_16 : decode cX0_nights 16 = .ok (.invokestatic 79, 3) := dk_184 0 79 (dk_at dksX0_nights_0 16 rfl rfl)
theorem dX0_nights_19 : decode cX0_nights 19 = .ok (.ifCond .ne 6, 3) := dk_154 0 6 (dk_at dksX0_nights_0 19 rfl rfl)
theorem dX0_nights_22 : decode cX0_nights 22 = .ok (.ldc 93, 2) := dk_18 93 (dk_at dksX0_nights_0 22 rfl rfl)
theorem dX0_nights_24 : decode cX0_nights 24 = .ok (.ireturn, 1) := dk_172 (dk_at dksX0_nights_1 0 rfl rfl)
theorem dX0_nights_25 : decode cX0_nights 25 = .ok (.aload_n 0, 1) := dk_42 (dk_at dksX0_nights_1 1 rfl rfl)
theorem dX0_nights_26 : decode cX0_nights 26 = .ok (.getfield 39, 3) := dk_180 0 39 (dk_at dksX0_nights_1 2 rfl rfl)
theorem dX0_nights_29 : decode cX0_nights 29 = .ok (.getfield 183, 3) := dk_180 0 183 (dk_at dksX0_nights_1 5 rfl rfl)
theorem dX0_nights_32 : decode cX0_nights 32 = .ok (.iload_n 1, 1) := dk_27 (dk_at dksX0_nights_1 8 rfl rfl)
theorem dX0_nights_33 : decode cX0_nights 33 = .ok (.iadd, 1) := dk_96 (dk_at dksX0_nights_1 9 rfl rfl)
theorem dX0_nights_34 : decode cX0_nights 34 = .ok (.sipush 999, 3) := dk_17 3 231 (dk_at dksX0_nights_1 10 rfl rfl)
theorem dX0_nights_37 : decode cX0_nights 37 = .ok (.if_icmp .le 6, 3) := dk_164 0 6 (dk_at dksX0_nights_1 13 rfl rfl)
theorem dX0_nights_40 : decode cX0_nights 40 = .ok (.ldc 132, 2) := dk_18 132 (dk_at dksX0_nights_1 16 rfl rfl)
theorem dX0_nights_42 : decode cX0_nights 42 = .ok (.ireturn, 1) := dk_172 (dk_at dksX0_nights_1 18 rfl rfl)
theorem dX0_nights_43 : decode cX0_nights 43 = .ok (.iconst 0, 1) := dk_3 (dk_at dksX0_nights_1 19 rfl rfl)
theorem dX0_nights_44 : decode cX0_nights 44 = .ok (.istore_n 2, 1) := dk_61 (dk_at dksX0_nights_1 20 rfl rfl)
theorem dX0_nights_45 : decode cX0_nights 45 = .ok (.iload_n 2, 1) := dk_28 (dk_at dksX0_nights_1 21 rfl rfl)
theorem dX0_nights_46 : decode cX0_nights 46 = .ok (.iload_n 1, 1) := dk_27 (dk_at dksX0_nights_1 22 rfl rfl)
theorem dX0_nights_47 : decode cX0_nights 47 = .ok (.if_icmp .ge 21, 3) := dk_162 0 21 (dk_at dksX0_nights_2 0 rfl rfl)
theorem dX0_nights_50 : decode cX0_nights 50 = .ok (.aload_n 0, 1) := dk_42 (dk_at dksX0_nights_2 3 rfl rfl)
theorem dX0_nights_51 : decode cX0_nights 51 = .ok (.invokevirtual 186, 3) := dk_182 0 186 (dk_at dksX0_nights_2 4 rfl rfl)
theorem dX0_nights_54 : decode cX0_nights 54 = .ok (.aload_n 0, 1) := dk_42 (dk_at dksX0_nights_2 7 rfl rfl)
theorem dX0_nights_55 : decode cX0_nights 55 = .ok (.getfield 39, 3) := dk_180 0 39 (dk_at dksX0_nights_2 8 rfl rfl)
theorem dX0_nights_58 : decode cX0_nights 58 = .ok (.invokevirtual 189, 3) := dk_182 0 189 (dk_at dksX0_nights_2 11 rfl rfl)
theorem dX0_nights_61 : decode cX0_nights 61 = .ok (.pop, 1) := dk_87 (dk_at dksX0_nights_2 14 rfl rfl)
theorem dX0_nights_62 : decode cX0_nights 62 = .ok (.iinc 2 1, 3) := dk_132 2 1 (dk_at dksX0_nights_2 15 rfl rfl)
theorem dX0_nights_65 : decode cX0_nights 65 = .ok (.goto (-20), 3) := dk_167 255 236 (dk_at dksX0_nights_2 18 rfl rfl)
theorem dX0_nights_68 : decode cX0_nights 68 = .ok (.aload_n 0, 1) := dk_42 (dk_at dksX0_nights_2 21 rfl rfl)
theorem dX0_nights_69 : decode cX0_nights 69 = .ok (.getfield 39, 3) := dk_180 0 39 (dk_at dksX0_nights_3 0 rfl rfl)
theorem dX0_nights_72 : decode cX0_nights 72 = .ok (.iconst 0, 1) := dk_3 (dk_at dksX0_nights_3 3 rfl rfl)
theorem dX0_nights_73 : decode cX0_nights 73 = .ok (.invokevirtual 193, 3) := dk_182 0 193 (dk_at dksX0_nights_3 4 rfl rfl)
theorem dX0_nights_76 : decode cX0_nights 76 = .ok (.ireturn, 1) := dk_172 (dk_at dksX0_nights_3 7 rfl rfl)
abbrev cX0_isMinistry : ByteArray := prog_1_method_20_code
def yX0_isMinistry : MethodName := ⟨RX0, "isMinistry", "()Z"⟩
def dkwX0_isMinistry_0 : List UInt8 := [42, 180, 0, 39, 180, 0, 168, 158, 0, 7, 4, 167, 0, 4, 3, 172]
abbrev dktX0_isMinistry_0 : List UInt8 := dkwX0_isMinistry_0 ++ []
theorem dksX0_isMinistry_0 : cX0_isMinistry.data.toList.drop 0 = dktX0_isMinistry_0 := by decide +kernel
theorem dX0_isMinistry_0 : decode cX0_isMinistry 0 = .ok (.aload_n 0, 1) := dk_42 (dk_at dksX0_isMinistry_0 0 rfl rfl)
theorem dX0_isMinistry_1 : decode cX0_isMinistry 1 = .ok (.getfield 39, 3) := dk_180 0 39 (dk_at dksX0_isMinistry_0 1 rfl rfl)
theorem dX0_isMinistry_4 : decode cX0_isMinistry 4 = .ok (.getfield 168, 3) := dk_180 0 168 (dk_at dksX0_isMinistry_0 4 rfl rfl)
theorem dX0_isMinistry_7 : decode cX0_isMinistry 7 = .ok (.ifCond .le 7, 3) := dk_158 0 7 (dk_at dksX0_isMinistry_0 7 rfl rfl)
theorem dX0_isMinistry_10 : decode cX0_isMinistry 10 = .ok (.iconst 1, 1) := dk_4 (dk_at dksX0_isMinistry_0 10 rfl rfl)
theorem dX0_isMinistry_11 : decode cX0_isMinistry 11 = .ok (.goto 4, 3) := dk_167 0 4 (dk_at dksX0_isMinistry_0 11 rfl rfl)
theorem dX0_isMinistry_14 : decode cX0_isMinistry 14 = .ok (.iconst 0, 1) := dk_3 (dk_at dksX0_isMinistry_0 14 rfl rfl)
theorem dX0_isMinistry_15 : decode cX0_isMinistry 15 = .ok (.ireturn, 1) := dk_172 (dk_at dksX0_isMinistry_0 15 rfl rfl)
abbrev cX0_keep : ByteArray := prog_1_method_18_code
def yX0_keep : MethodName := ⟨RX0, "keep", "()V"⟩
def dkwX0_keep_4 : List UInt8 := [180, 0, 160, 50, 42, 180, 0, 39, 182, 0, 156, 87, 42, 89, 180, 0, 160, 4, 96, 181, 0, 160, 177]
abbrev dktX0_keep_4 : List UInt8 := dkwX0_keep_4 ++ []
def dkwX0_keep_3 : List UInt8 := [199, 0, 19, 42, 180, 0, 46, 42, 180, 0, 160, 187, 0, 36, 89, 183, 0, 38, 83, 42, 180, 0, 46, 42]
abbrev dktX0_keep_3 : List UInt8 := dkwX0_keep_3 ++ dktX0_keep_4
def dkwX0_keep_2 : List UInt8 := [16, 23, 43, 83, 42, 89, 180, 0, 160, 4, 100, 181, 0, 160, 42, 180, 0, 46, 42, 180, 0, 160, 50]
abbrev dktX0_keep_2 : List UInt8 := dkwX0_keep_2 ++ dktX0_keep_3
def dkwX0_keep_1 : List UInt8 := [42, 180, 0, 46, 28, 4, 100, 42, 180, 0, 46, 28, 50, 83, 132, 2, 1, 167, 255, 233, 42, 180, 0, 46]
abbrev dktX0_keep_1 : List UInt8 := dkwX0_keep_1 ++ dktX0_keep_2
def dkwX0_keep_0 : List UInt8 := [42, 180, 0, 160, 16, 24, 160, 0, 56, 42, 180, 0, 46, 3, 50, 76, 4, 61, 28, 16, 24, 162, 0, 23]
abbrev dktX0_keep_0 : List UInt8 := dkwX0_keep_0 ++ dktX0_keep_1
theorem dksX0_keep_0 : cX0_keep.data.toList.drop 0 = dktX0_keep_0 := by decide +kernel
theorem dksX0_keep_1 : cX0_keep.data.toList.drop 24 = dktX0_keep_1 := dk_seg dksX0_keep_0 24 rfl rfl
theorem dksX0_keep_2 : cX0_keep.data.toList.drop 48 = dktX0_keep_2 := dk_seg dksX0_keep_1 24 rfl rfl
theorem dksX0_keep_3 : cX0_keep.data.toList.drop 71 = dktX0_keep_3 := dk_seg dksX0_keep_2 23 rfl rfl
theorem dksX0_keep_4 : cX0_keep.data.toList.drop 95 = dktX0_keep_4 := dk_seg dksX0_keep_3 24 rfl rfl
theorem dX0_keep_0 : decode cX0_keep 0 = .ok (.aload_n 0, 1) := dk_42 (dk_at dksX0_keep_0 0 rfl rfl)
theorem dX0_keep_1 : decode cX0_keep 1 = .ok (.getfield 160, 3) := dk_180 0 160 (dk_at dksX0_keep_0 1 rfl rfl)
theorem dX0_keep_4 : decode cX0_keep 4 = .ok (.bipush 24, 2) := dk_16 24 (dk_at dksX0_keep_0 4 rfl rfl)
theorem dX0_keep_6 : decode cX0_keep 6 = .ok (.if_icmp .ne 56, 3) := dk_160 0 56 (dk_at dksX0_keep_0 6 rfl rfl)
theorem dX0_keep_9 : decode cX0_keep 9 = .ok (.aload_n 0, 1) := dk_42 (dk_at dksX0_keep_0 9 rfl rfl)
theorem dX0_keep_10 : decode cX0_keep 10 = .ok (.getfield 46, 3) := dk_180 0 46 (dk_at dksX0_keep_0 10 rfl rfl)
theorem dX0_keep_13 : decode cX0_keep 13 = .ok (.iconst 0, 1) := dk_3 (dk_at dksX0_keep_0 13 rfl rfl)
theorem dX0_keep_14 : decode cX0_keep 14 = .ok (.aaload, 1) := dk_50 (dk_at dksX0_keep_0 14 rfl rfl)
theorem dX0_keep_15 : decode cX0_keep 15 = .ok (.astore_n 1, 1) := dk_76 (dk_at dksX0_keep_0 15 rfl rfl)
theorem dX0_keep_16 : decode cX0_keep 16 = .ok (.iconst 1, 1) := dk_4 (dk_at dksX0_keep_0 16 rfl rfl)
theorem dX0_keep_17 : decode cX0_keep 17 = .ok (.istore_n 2, 1) := dk_61 (dk_at dksX0_keep_0 17 rfl rfl)
theorem dX0_keep_18 : decode cX0_keep 18 = .ok (.iload_n 2, 1) := dk_28 (dk_at dksX0_keep_0 18 rfl rfl)
theorem dX0_keep_19 : decode cX0_keep 19 = .ok (.bipush 24, 2) := dk_16 24 (dk_at dksX0_keep_0 19 rfl rfl)
theorem dX0_keep_21 : decode cX0_keep 21 = .ok (.if_icmp .ge 23, 3) := dk_162 0 23 (dk_at dksX0_keep_0 21 rfl rfl)
theorem dX0_keep_24 : decode cX0_keep 24 = .ok (.aload_n 0, 1) := dk_42 (dk_at dksX0_keep_1 0 rfl rfl)
theorem dX0_keep_25 : decode cX0_keep 25 = .ok (.getfield 46, 3) := dk_180 0 46 (dk_at dksX0_keep_1 1 rfl rfl)
theorem dX0_keep_28 : decode cX0_keep 28 = .ok (.iload_n 2, 1) := dk_28 (dk_at dksX0_keep_1 4 rfl rfl)
theorem dX0_keep_29 : decode cX0_keep 29 = .ok (.iconst 1, 1) := dk_4 (dk_at dksX0_keep_1 5 rfl rfl)
theorem dX0_keep_30 : decode cX0_keep 30 = .ok (.isub, 1) := dk_100 (dk_at dksX0_keep_1 6 rfl rfl)
theorem dX0_keep_31 : decode cX0_keep 31 = .ok (.aload_n 0, 1) := dk_42 (dk_at dksX0_keep_1 7 rfl rfl)
theorem dX0_keep_32 : decode cX0_keep 32 = .ok (.getfield 46, 3) := dk_180 0 46 (dk_at dksX0_keep_1 8 rfl rfl)
theorem dX0_keep_35 : decode cX0_keep 35 = .ok (.iload_n 2, 1) := dk_28 (dk_at dksX0_keep_1 11 rfl rfl)
theorem dX0_keep_36 : decode cX0_keep 36 = .ok (.aaload, 1) := dk_50 (dk_at dksX0_keep_1 12 rfl rfl)
theorem dX0_keep_37 : decode cX0_keep 37 = .ok (.aastore, 1) := dk_83 (dk_at dksX0_keep_1 13 rfl rfl)
theorem dX0_keep_38 : decode cX0_keep 38 = .ok (.iinc 2 1, 3) := dk_132 2 1 (dk_at dksX0_keep_1 14 rfl rfl)
theorem dX0_keep_41 : decode cX0_keep 41 = .ok (.goto (-23), 3) := dk_167 255 233 (dk_at dksX0_keep_1 17 rfl rfl)
theorem dX0_keep_44 : decode cX0_keep 44 = .ok (.aload_n 0, 1) := dk_42 (dk_at dksX0_keep_1 20 rfl rfl)
theorem dX0_keep_45 : decode cX0_keep 45 = .ok (.getfield 46, 3) := dk_180 0 46 (dk_at dksX0_keep_1 21 rfl rfl)
theorem dX0_keep_48 : decode cX0_keep 48 = .ok (.bipush 23, 2) := dk_16 23 (dk_at dksX0_keep_2 0 rfl rfl)
theorem dX0_keep_50 : decode cX0_keep 50 = .ok (.aload_n 1, 1) := dk_43 (dk_at dksX0_keep_2 2 rfl rfl)
theorem dX0_keep_51 : decode cX0_keep 51 = .ok (.aastore, 1) := dk_83 (dk_at dksX0_keep_2 3 rfl rfl)
theorem dX0_keep_52 : decode cX0_keep 52 = .ok (.aload_n 0, 1) := dk_42 (dk_at dksX0_keep_2 4 rfl rfl)
theorem dX0_keep_53 : decode cX0_keep 53 = .ok (.dup, 1) := dk_89 (dk_at dksX0_keep_2 5 rfl rfl)
theorem dX0_keep_54 : decode cX0_keep 54 = .ok (.getfield 160, 3) := dk_180 0 160 (dk_at dksX0_keep_2 6 rfl rfl)
theorem dX0_keep_57 : decode cX0_keep 57 = .ok (.iconst 1, 1) := dk_4 (dk_at dksX0_keep_2 9 rfl rfl)
theorem dX0_keep_58 : decode cX0_keep 58 = .ok (.isub, 1) := dk_100 (dk_at dksX0_keep_2 10 rfl rfl)
theorem dX0_keep_59 : decode cX0_keep 59 = .ok (.putfield 160, 3) := dk_181 0 160 (dk_at dksX0_keep_2 11 rfl rfl)
theorem dX0_keep_62 : decode cX0_keep 62 = .ok (.aload_n 0, 1) := dk_42 (dk_at dksX0_keep_2 14 rfl rfl)
theorem dX0_keep_63 : decode cX0_keep 63 = .ok (.getfield 46, 3) := dk_180 0 46 (dk_at dksX0_keep_2 15 rfl rfl)
theorem dX0_keep_66 : decode cX0_keep 66 = .ok (.aload_n 0, 1) := dk_42 (dk_at dksX0_keep_2 18 rfl rfl)
theorem dX0_keep_67 : decode cX0_keep 67 = .ok (.getfield 160, 3) := dk_180 0 160 (dk_at dksX0_keep_2 19 rfl rfl)
theorem dX0_keep_70 : decode cX0_keep 70 = .ok (.aaload, 1) := dk_50 (dk_at dksX0_keep_2 22 rfl rfl)
theorem dX0_keep_71 : decode cX0_keep 71 = .ok (.ifnonnull 19, 3) := dk_199 0 19 (dk_at dksX0_keep_3 0 rfl rfl)
theorem dX0_keep_74 : decode cX0_keep 74 = .ok (.aload_n 0, 1) := dk_42 (dk_at dksX0_keep_3 3 rfl rfl)
theorem dX0_keep_75 : decode cX0_keep 75 = .ok (.getfield 46, 3) := dk_180 0 46 (dk_at dksX0_keep_3 4 rfl rfl)
theorem dX0_keep_78 : decode cX0_keep 78 = .ok (.aload_n 0, 1) := dk_42 (dk_at dksX0_keep_3 7 rfl rfl)
theorem dX0_keep_79 : decode cX0_keep 79 = .ok (.getfield 160, 3) := dk_180 0 160 (dk_at dksX0_keep_3 8 rfl rfl)
theorem dX0_keep_82 : decode cX0_keep 82 = .ok (.new 36, 3) := dk_187 0 36 (dk_at dksX0_keep_3 11 rfl rfl)
theorem dX0_keep_85 : decode cX0_keep 85 = .ok (.dup, 1) := dk_89 (dk_at dksX0_keep_3 14 rfl rfl)
theorem dX0_keep_86 : decode cX0_keep 86 = .ok (.invokespecial 38, 3) := dk_183 0 38 (dk_at dksX0_keep_3 15 rfl rfl)
theorem dX0_keep_89 : decode cX0_keep 89 = .ok (.aastore, 1) := dk_83 (dk_at dksX0_keep_3 18 rfl rfl)
theorem dX0_keep_90 : decode cX0_keep 90 = .ok (.aload_n 0, 1) := dk_42 (dk_at dksX0_keep_3 19 rfl rfl)
theorem dX0_keep_91 : decode cX0_keep 91 = .ok (.getfield 46, 3) := dk_180 0 46 (dk_at dksX0_keep_3 20 rfl rfl)
theorem dX0_keep_94 : decode cX0_keep 94 = .ok (.aload_n 0, 1) := dk_42 (dk_at dksX0_keep_3 23 rfl rfl)
theorem dX0_keep_95 : decode cX0_keep 95 = .ok (.getfield 160, 3) := dk_180 0 160 (dk_at dksX0_keep_4 0 rfl rfl)
theorem dX0_keep_98 : decode cX0_keep 98 = .ok (.aaload, 1) := dk_50 (dk_at dksX0_keep_4 3 rfl rfl)
theorem dX0_keep_99 : decode cX0_keep 99 = .ok (.aload_n 0, 1) := dk_42 (dk_at dksX0_keep_4 4 rfl rfl)
theorem dX0_keep_100 : decode cX0_keep 100 = .ok (.getfield 39, 3) := dk_180 0 39 (dk_at dksX0_keep_4 5 rfl rfl)
theorem dX0_keep_103 : decode cX0_keep 103 = .ok (.invokevirtual 156, 3) := dk_182 0 156 (dk_at dksX0_keep_4 8 rfl rfl)
theorem dX0_keep_106 : decode cX0_keep 106 = .ok (.pop, 1) := dk_87 (dk_at dksX0_keep_4 11 rfl rfl)
theorem dX0_keep_107 : decode cX0_keep 107 = .ok (.aload_n 0, 1) := dk_42 (dk_at dksX0_keep_4 12 rfl rfl)
theorem dX0_keep_108 : decode cX0_keep 108 = .ok (.dup, 1) := dk_89 (dk_at dksX0_keep_4 13 rfl rfl)
theorem dX0_keep_109 : decode cX0_keep 109 = .ok (.getfield 160, 3) := dk_180 0 160 (dk_at dksX0_keep_4 14 rfl rfl)
theorem dX0_keep_112 : decode cX0_keep 112 = .ok (.iconst 1, 1) := dk_4 (dk_at dksX0_keep_4 17 rfl rfl)
theorem dX0_keep_113 : decode cX0_keep 113 = .ok (.iadd, 1) := dk_96 (dk_at dksX0_keep_4 18 rfl rfl)
theorem dX0_keep_114 : decode cX0_keep 114 = .ok (.putfield 160, 3) := dk_181 0 160 (dk_at dksX0_keep_4 19 rfl rfl)
theorem dX0_keep_117 : decode cX0_keep 117 = .ok (.return_, 1) := dk_177 (dk_at dksX0_keep_4 22 rfl rfl)
abbrev cX0_cushions : ByteArray := prog_1_method_27_code
def yX0_cushions : MethodName := ⟨RX0, "cushions", "(II)I"⟩
def dkwX0_cushions_1 : List UInt8 := [180, 0, 39, 180, 0, 201, 27, 28, 182, 0, 204, 167, 0, 5, 18, 93, 172]
abbrev dktX0_cushions_1 : List UInt8 := dkwX0_cushions_1 ++ []
def dkwX0_cushions_0 : List UInt8 := [42, 27, 182, 0, 196, 153, 0, 31, 28, 133, 9, 20, 0, 199, 184, 0, 79, 153, 0, 19, 42, 42]
abbrev dktX0_cushions_0 : List UInt8 := dkwX0_cushions_0 ++ dktX0_cushions_1
theorem dksX0_cushions_0 : cX0_cushions.data.toList.drop 0 = dktX0_cushions_0 := by decide +kernel
theorem dksX0_cushions_1 : cX0_cushions.data.toList.drop 22 = dktX0_cushions_1 := dk_seg dksX0_cushions_0 22 rfl rfl
theorem dX0_cushions_0 : decode cX0_cushions 0 = .ok (.aload_n 0, 1) := dk_42 (dk_at dksX0_cushions_0 0 rfl rfl)
theorem dX0_cushions_1 : decode cX0_cushions 1 = .ok (.iload_n 1, 1) := dk_27 (dk_at dksX0_cushions_0 1 rfl rfl)
theorem dX0_cushions_2 : decode cX0_cushions 2 = .ok (.invokevirtual 196, 3) := dk_182 0 196 (dk_at dksX0_cushions_0 2 rfl rfl)
theorem dX0_cushions_5 : decode cX0_cushions 5 = .ok (.ifCond .eq 31, 3) := dk_153 0 31 (dk_at dksX0_cushions_0 5 rfl rfl)
theorem dX0_cushions_8 : decode cX0_cushions 8 = .ok (.iload_n 2, 1) := dk_28 (dk_at dksX0_cushions_0 8 rfl rfl)
theorem dX0_cushions_9 : decode cX0_cushions 9 = .ok (.i2l, 1) := dk_133 (dk_at dksX0_cushions_0 9 rfl rfl)
theorem dX0_cushions_10 : decode cX0_cushions 10 = .ok (.lconst 0, 1) := dk_9 (dk_at dksX0_cushions_0 10 rfl rfl)
theorem dX0_cushions_11 : decode cX0_cushions 11 = .ok (.ldc2_w 199, 3) := dk_20 0 199 (dk_at dksX0_cushions_0 11 rfl rfl)
theorem dX0_cushions_14 : decode cX0_cushions 14 = .ok (.invokestatic 79, 3) := dk_184 0 79 (dk_at dksX0_cushions_0 14 rfl rfl)
theorem dX0_cushions_17 : decode cX0_cushions 17 = .ok (.ifCond .eq 19, 3) := dk_153 0 19 (dk_at dksX0_cushions_0 17 rfl rfl)
theorem dX0_cushions_20 : decode cX0_cushions 20 = .ok (.aload_n 0, 1) := dk_42 (dk_at dksX0_cushions_0 20 rfl rfl)
theorem dX0_cushions_21 : decode cX0_cushions 21 = .ok (.aload_n 0, 1) := dk_42 (dk_at dksX0_cushions_0 21 rfl rfl)
theorem dX0_cushions_22 : decode cX0_cushions 22 = .ok (.getfield 39, 3) := dk_180 0 39 (dk_at dksX0_cushions_1 0 rfl rfl)
theorem dX0_cushions_25 : decode cX0_cushions 25 = .ok (.getfield 201, 3) := dk_180 0 201 (dk_at dksX0_cushions_1 3 rfl rfl)
theorem dX0_cushions_28 : decode cX0_cushions 28 = .ok (.iload_n 1, 1) := dk_27 (dk_at dksX0_cushions_1 6 rfl rfl)
theorem dX0_cushions_29 : decode cX0_cushions 29 = .ok (.iload_n 2, 1) := dk_28 (dk_at dksX0_cushions_1 7 rfl rfl)
theorem dX0_cushions_30 : decode cX0_cushions 30 = .ok (.invokevirtual 204, 3) := dk_182 0 204 (dk_at dksX0_cushions_1 8 rfl rfl)
theorem dX0_cushions_33 : decode cX0_cushions 33 = .ok (.goto 5, 3) := dk_167 0 5 (dk_at dksX0_cushions_1 11 rfl rfl)
theorem dX0_cushions_36 : decode cX0_cushions 36 = .ok (.ldc 93, 2) := dk_18 93 (dk_at dksX0_cushions_1 14 rfl rfl)
theorem dX0_cushions_38 : decode cX0_cushions 38 = .ok (.ireturn, 1) := dk_172 (dk_at dksX0_cushions_1 16 rfl rfl)
abbrev cX0_isChair : ByteArray := prog_1_method_21_code
def yX0_isChair : MethodName := ⟨RX0, "isChair", "(I)Z"⟩
def dkwX0_isChair_0 : List UInt8 := [27, 133, 9, 42, 180, 0, 39, 182, 0, 163, 4, 100, 133, 184, 0, 79, 172]
abbrev dktX0_isChair_0 : List UInt8 := dkwX0_isChair_0 ++ []
theorem dksX0_isChair_0 : cX0_isChair.data.toList.drop 0 = dktX0_isChair_0 := by decide +kernel
theorem dX0_isChair_0 : decode cX0_isChair 0 = .ok (.iload_n 1, 1) := dk_27 (dk_at dksX0_isChair_0 0 rfl rfl)
theorem dX0_isChair_1 : decode cX0_isChair 1 = .ok (.i2l, 1) := dk_133 (dk_at dksX0_isChair_0 1 rfl rfl)
theorem dX0_isChair_2 : decode cX0_isChair 2 = .ok (.lconst 0, 1) := dk_9 (dk_at dksX0_isChair_0 2 rfl rfl)
theorem dX0_isChair_3 : decode cX0_isChair 3 = .ok (.aload_n 0, 1) := dk_42 (dk_at dksX0_isChair_0 3 rfl rfl)
theorem dX0_isChair_4 : decode cX0_isChair 4 = .ok (.getfield 39, 3) := dk_180 0 39 (dk_at dksX0_isChair_0 4 rfl rfl)
theorem dX0_isChair_7 : decode cX0_isChair 7 = .ok (.invokevirtual 163, 3) := dk_182 0 163 (dk_at dksX0_isChair_0 7 rfl rfl)
theorem dX0_isChair_10 : decode cX0_isChair 10 = .ok (.iconst 1, 1) := dk_4 (dk_at dksX0_isChair_0 10 rfl rfl)
theorem dX0_isChair_11 : decode cX0_isChair 11 = .ok (.isub, 1) := dk_100 (dk_at dksX0_isChair_0 11 rfl rfl)
theorem dX0_isChair_12 : decode cX0_isChair 12 = .ok (.i2l, 1) := dk_133 (dk_at dksX0_isChair_0 12 rfl rfl)
theorem dX0_isChair_13 : decode cX0_isChair 13 = .ok (.invokestatic 79, 3) := dk_184 0 79 (dk_at dksX0_isChair_0 13 rfl rfl)
theorem dX0_isChair_16 : decode cX0_isChair 16 = .ok (.ireturn, 1) := dk_172 (dk_at dksX0_isChair_0 16 rfl rfl)
abbrev cX0_puts : ByteArray := prog_1_method_26_code
def yX0_puts : MethodName := ⟨RX0, "puts", "([III)I"⟩
def dkwX0_puts_0 : List UInt8 := [42, 182, 0, 186, 43, 28, 46, 54, 4, 43, 28, 29, 79, 21, 4, 172]
abbrev dktX0_puts_0 : List UInt8 := dkwX0_puts_0 ++ []
theorem dksX0_puts_0 : cX0_puts.data.toList.drop 0 = dktX0_puts_0 := by decide +kernel
theorem dX0_puts_0 : decode cX0_puts 0 = .ok (.aload_n 0, 1) := dk_42 (dk_at dksX0_puts_0 0 rfl rfl)
theorem dX0_puts_1 : decode cX0_puts 1 = .ok (.invokevirtual 186, 3) := dk_182 0 186 (dk_at dksX0_puts_0 1 rfl rfl)
theorem dX0_puts_4 : decode cX0_puts 4 = .ok (.aload_n 1, 1) := dk_43 (dk_at dksX0_puts_0 4 rfl rfl)
theorem dX0_puts_5 : decode cX0_puts 5 = .ok (.iload_n 2, 1) := dk_28 (dk_at dksX0_puts_0 5 rfl rfl)
theorem dX0_puts_6 : decode cX0_puts 6 = .ok (.iaload, 1) := dk_46 (dk_at dksX0_puts_0 6 rfl rfl)
theorem dX0_puts_7 : decode cX0_puts 7 = .ok (.istore 4, 2) := dk_54 4 (dk_at dksX0_puts_0 7 rfl rfl)
theorem dX0_puts_9 : decode cX0_puts 9 = .ok (.aload_n 1, 1) := dk_43 (dk_at dksX0_puts_0 9 rfl rfl)
theorem dX0_puts_10 : decode cX0_puts 10 = .ok (.iload_n 2, 1) := dk_28 (dk_at dksX0_puts_0 10 rfl rfl)
theorem dX0_puts_11 : decode cX0_puts 11 = .ok (.iload_n 3, 1) := dk_29 (dk_at dksX0_puts_0 11 rfl rfl)
theorem dX0_puts_12 : decode cX0_puts 12 = .ok (.iastore, 1) := dk_79 (dk_at dksX0_puts_0 12 rfl rfl)
theorem dX0_puts_13 : decode cX0_puts 13 = .ok (.iload 4, 2) := dk_21 4 (dk_at dksX0_puts_0 13 rfl rfl)
theorem dX0_puts_15 : decode cX0_puts 15 = .ok (.ireturn, 1) := dk_172 (dk_at dksX0_puts_0 15 rfl rfl)
abbrev cX0_mend : ByteArray := prog_1_method_28_code
def yX0_mend : MethodName := ⟨RX0, "mend", "(I)I"⟩
def dkwX0_mend_1 : List UInt8 := [160, 0, 6, 18, 132, 172, 42, 182, 0, 186, 42, 180, 0, 39, 27, 182, 0, 211, 172]
abbrev dktX0_mend_1 : List UInt8 := dkwX0_mend_1 ++ []
def dkwX0_mend_0 : List UInt8 := [42, 27, 182, 0, 196, 154, 0, 6, 18, 93, 172, 42, 180, 0, 39, 180, 0, 208, 27, 46, 16, 60]
abbrev dktX0_mend_0 : List UInt8 := dkwX0_mend_0 ++ dktX0_mend_1
theorem dksX0_mend_0 : cX0_mend.data.toList.drop 0 = dktX0_mend_0 := by decide +kernel
theorem dksX0_mend_1 : cX0_mend.data.toList.drop 22 = dktX0_mend_1 := dk_seg dksX0_mend_0 22 rfl rfl
theorem dX0_mend_0 : decode cX0_mend 0 = .ok (.aload_n 0, 1) := dk_42 (dk_at dksX0_mend_0 0 rfl rfl)
theorem dX0_mend_1 : decode cX0_mend 1 = .ok (.iload_n 1, 1) := dk_27 (dk_at dksX0_mend_0 1 rfl rfl)
theorem dX0_mend_2 : decode cX0_mend 2 = .ok (.invokevirtual 196, 3) := dk_182 0 196 (dk_at dksX0_mend_0 2 rfl rfl)
theorem dX0_mend_5 : decode cX0_mend 5 = .ok (.ifCond .ne 6, 3) := dk_154 0 6 (dk_at dksX0_mend_0 5 rfl rfl)
theorem dX0_mend_8 : decode cX0_mend 8 = .ok (.ldc 93, 2) := dk_18 93 (dk_at dksX0_mend_0 8 rfl rfl)
theorem dX0_mend_10 : decode cX0_mend 10 = .ok (.ireturn, 1) := dk_172 (dk_at dksX0_mend_0 10 rfl rfl)
theorem dX0_mend_11 : decode cX0_mend 11 = .ok (.aload_n 0, 1) := dk_42 (dk_at dksX0_mend_0 11 rfl rfl)
theorem dX0_mend_12 : decode cX0_mend 12 = .ok (.getfield 39, 3) := dk_180 0 39 (dk_at dksX0_mend_0 12 rfl rfl)
theorem dX0_mend_15 : decode cX0_mend 15 = .ok (.getfield 208, 3) := dk_180 0 208 (dk_at dksX0_mend_0 15 rfl rfl)
theorem dX0_mend_18 : decode cX0_mend 18 = .ok (.iload_n 1, 1) := dk_27 (dk_at dksX0_mend_0 18 rfl rfl)
theorem dX0_mend_19 : decode cX0_mend 19 = .ok (.iaload, 1) := dk_46 (dk_at dksX0_mend_0 19 rfl rfl)
theorem dX0_mend_20 : decode cX0_mend 20 = .ok (.bipush 60, 2) := dk_16 60 (dk_at dksX0_mend_0 20 rfl rfl)
theorem dX0_mend_22 : decode cX0_mend 22 = .ok (.if_icmp .ne 6, 3) := dk_160 0 6 (dk_at dksX0_mend_1 0 rfl rfl)
theorem dX0_mend_25 : decode cX0_mend 25 = .ok (.ldc 132, 2) := dk_18 132 (dk_at dksX0_mend_1 3 rfl rfl)
theorem dX0_mend_27 : decode cX0_mend 27 = .ok (.ireturn, 1) := dk_172 (dk_at dksX0_mend_1 5 rfl rfl)
theorem dX0_mend_28 : decode cX0_mend 28 = .ok (.aload_n 0, 1) := dk_42 (dk_at dksX0_mend_1 6 rfl rfl)
theorem dX0_mend_29 : decode cX0_mend 29 = .ok (.invokevirtual 186, 3) := dk_182 0 186 (dk_at dksX0_mend_1 7 rfl rfl)
theorem dX0_mend_32 : decode cX0_mend 32 = .ok (.aload_n 0, 1) := dk_42 (dk_at dksX0_mend_1 10 rfl rfl)
theorem dX0_mend_33 : decode cX0_mend 33 = .ok (.getfield 39, 3) := dk_180 0 39 (dk_at dksX0_mend_1 11 rfl rfl)
theorem dX0_mend_36 : decode cX0_mend 36 = .ok (.iload_n 1, 1) := dk_27 (dk_at dksX0_mend_1 14 rfl rfl)
theorem dX0_mend_37 : decode cX0_mend 37 = .ok (.invokevirtual 211, 3) := dk_182 0 211 (dk_at dksX0_mend_1 15 rfl rfl)
theorem dX0_mend_40 : decode cX0_mend 40 = .ok (.ireturn, 1) := dk_172 (dk_at dksX0_mend_1 18 rfl rfl)
abbrev cX0_watch : ByteArray := prog_1_method_29_code
def yX0_watch : MethodName := ⟨RX0, "watch", "(II)I"⟩
def dkwX0_watch_3 : List UInt8 := [180, 0, 39, 89, 180, 0, 217, 4, 27, 120, 130, 181, 0, 217, 42, 180, 0, 39, 180, 0, 217, 172]
abbrev dktX0_watch_3 : List UInt8 := dkwX0_watch_3 ++ []
def dkwX0_watch_2 : List UInt8 := [180, 0, 217, 184, 0, 220, 42, 180, 0, 39, 180, 0, 225, 161, 0, 6, 18, 132, 172, 42, 182, 0, 186, 42]
abbrev dktX0_watch_2 : List UInt8 := dkwX0_watch_2 ++ dktX0_watch_3
def dkwX0_watch_1 : List UInt8 := [180, 0, 217, 27, 122, 4, 126, 28, 160, 0, 6, 18, 167, 172, 28, 4, 160, 0, 26, 42, 180, 0, 39]
abbrev dktX0_watch_1 : List UInt8 := dkwX0_watch_1 ++ dktX0_watch_2
def dkwX0_watch_0 : List UInt8 := [42, 27, 182, 0, 196, 153, 0, 10, 28, 184, 0, 214, 154, 0, 6, 18, 93, 172, 42, 180, 0, 39]
abbrev dktX0_watch_0 : List UInt8 := dkwX0_watch_0 ++ dktX0_watch_1
theorem dksX0_watch_0 : cX0_watch.data.toList.drop 0 = dktX0_watch_0 := by decide +kernel
theorem dksX0_watch_1 : cX0_watch.data.toList.drop 22 = dktX0_watch_1 := dk_seg dksX0_watch_0 22 rfl rfl
theorem dksX0_watch_2 : cX0_watch.data.toList.drop 45 = dktX0_watch_2 := dk_seg dksX0_watch_1 23 rfl rfl
theorem dksX0_watch_3 : cX0_watch.data.toList.drop 69 = dktX0_watch_3 := dk_seg dksX0_watch_2 24 rfl rfl
theorem dX0_watch_0 : decode cX0_watch 0 = .ok (.aload_n 0, 1) := dk_42 (dk_at dksX0_watch_0 0 rfl rfl)
theorem dX0_watch_1 : decode cX0_watch 1 = .ok (.iload_n 1, 1) := dk_27 (dk_at dksX0_watch_0 1 rfl rfl)
theorem dX0_watch_2 : decode cX0_watch 2 = .ok (.invokevirtual 196, 3) := dk_182 0 196 (dk_at dksX0_watch_0 2 rfl rfl)
theorem dX0_watch_5 : decode cX0_watch 5 = .ok (.ifCond .eq 10, 3) := dk_153 0 10 (dk_at dksX0_watch_0 5 rfl rfl)
theorem dX0_watch_8 : decode cX0_watch 8 = .ok (.iload_n 2, 1) := dk_28 (dk_at dksX0_watch_0 8 rfl rfl)
theorem dX0_watch_9 : decode cX0_watch 9 = .ok (.invokestatic 214, 3) := dk_184 0 214 (dk_at dksX0_watch_0 9 rfl rfl)
theorem dX0_watch_12 : decode cX0_watch 12 = .ok (.ifCond .ne 6, 3) := dk_154 0 6 (dk_at dksX0_watch_0 12 rfl rfl)
theorem dX0_watch_15 : decode cX0_watch 15 = .ok (.ldc 93, 2) := dk_18 93 (dk_at dksX0_watch_0 15 rfl rfl)
theorem dX0_watch_17 : decode cX0_watch 17 = .ok (.ireturn, 1) := dk_172 (dk_at dksX0_watch_0 17 rfl rfl)
theorem dX0_watch_18 : decode cX0_watch 18 = .ok (.aload_n 0, 1) := dk_42 (dk_at dksX0_watch_0 18 rfl rfl)
theorem dX0_watch_19 : decode cX0_watch 19 = .ok (.getfield 39, 3) := dk_180 0 39 (dk_at dksX0_watch_0 19 rfl rfl)
theorem dX0_watch_22 : decode cX0_watch 22 = .ok (.getfield 217, 3) := dk_180 0 217 (dk_at dksX0_watch_1 0 rfl rfl)
theorem dX0_watch_25 : decode cX0_watch 25 = .ok (.iload_n 1, 1) := dk_27 (dk_at dksX0_watch_1 3 rfl rfl)
theorem dX0_watch_26 : decode cX0_watch 26 = .ok (.ishr, 1) := dk_122 (dk_at dksX0_watch_1 4 rfl rfl)
theorem dX0_watch_27 : decode cX0_watch 27 = .ok (.iconst 1, 1) := dk_4 (dk_at dksX0_watch_1 5 rfl rfl)
theorem dX0_watch_28 : decode cX0_watch 28 = .ok (.iand, 1) := dk_126 (dk_at dksX0_watch_1 6 rfl rfl)
theorem dX0_watch_29 : decode cX0_watch 29 = .ok (.iload_n 2, 1) := dk_28 (dk_at dksX0_watch_1 7 rfl rfl)
theorem dX0_watch_30 : decode cX0_watch 30 = .ok (.if_icmp .ne 6, 3) := dk_160 0 6 (dk_at dksX0_watch_1 8 rfl rfl)
theorem dX0_watch_33 : decode cX0_watch 33 = .ok (.ldc 167, 2) := dk_18 167 (dk_at dksX0_watch_1 11 rfl rfl)
theorem dX0_watch_35 : decode cX0_watch 35 = .ok (.ireturn, 1) := dk_172 (dk_at dksX0_watch_1 13 rfl rfl)
theorem dX0_watch_36 : decode cX0_watch 36 = .ok (.iload_n 2, 1) := dk_28 (dk_at dksX0_watch_1 14 rfl rfl)
theorem dX0_watch_37 : decode cX0_watch 37 = .ok (.iconst 1, 1) := dk_4 (dk_at dksX0_watch_1 15 rfl rfl)
theorem dX0_watch_38 : decode cX0_watch 38 = .ok (.if_icmp .ne 26, 3) := dk_160 0 26 (dk_at dksX0_watch_1 16 rfl rfl)
theorem dX0_watch_41 : decode cX0_watch 41 = .ok (.aload_n 0, 1) := dk_42 (dk_at dksX0_watch_1 19 rfl rfl)
theorem dX0_watch_42 : decode cX0_watch 42 = .ok (.getfield 39, 3) := dk_180 0 39 (dk_at dksX0_watch_1 20 rfl rfl)
theorem dX0_watch_45 : decode cX0_watch 45 = .ok (.getfield 217, 3) := dk_180 0 217 (dk_at dksX0_watch_2 0 rfl rfl)
theorem dX0_watch_48 : decode cX0_watch 48 = .ok (.invokestatic 220, 3) := dk_184 0 220 (dk_at dksX0_watch_2 3 rfl rfl)
theorem dX0_watch_51 : decode cX0_watch 51 = .ok (.aload_n 0, 1) := dk_42 (dk_at dksX0_watch_2 6 rfl rfl)
theorem dX0_watch_52 : decode cX0_watch 52 = .ok (.getfield 39, 3) := dk_180 0 39 (dk_at dksX0_watch_2 7 rfl rfl)
theorem dX0_watch_55 : decode cX0_watch 55 = .ok (.getfield 225, 3) := dk_180 0 225 (dk_at dksX0_watch_2 10 rfl rfl)
theorem dX0_watch_58 : decode cX0_watch 58 = .ok (.if_icmp .lt 6, 3) := dk_161 0 6 (dk_at dksX0_watch_2 13 rfl rfl)
theorem dX0_watch_61 : decode cX0_watch 61 = .ok (.ldc 132, 2) := dk_18 132 (dk_at dksX0_watch_2 16 rfl rfl)
theorem dX0_watch_63 : decode cX0_watch 63 = .ok (.ireturn, 1) := dk_172 (dk_at dksX0_watch_2 18 rfl rfl)
theorem dX0_watch_64 : decode cX0_watch 64 = .ok (.aload_n 0, 1) := dk_42 (dk_at dksX0_watch_2 19 rfl rfl)
theorem dX0_watch_65 : decode cX0_watch 65 = .ok (.invokevirtual 186, 3) := dk_182 0 186 (dk_at dksX0_watch_2 20 rfl rfl)
theorem dX0_watch_68 : decode cX0_watch 68 = .ok (.aload_n 0, 1) := dk_42 (dk_at dksX0_watch_2 23 rfl rfl)
theorem dX0_watch_69 : decode cX0_watch 69 = .ok (.getfield 39, 3) := dk_180 0 39 (dk_at dksX0_watch_3 0 rfl rfl)
theorem dX0_watch_72 : decode cX0_watch 72 = .ok (.dup, 1) := dk_89 (dk_at dksX0_watch_3 3 rfl rfl)
theorem dX0_watch_73 : decode cX0_watch 73 = .ok (.getfield 217, 3) := dk_180 0 217 (dk_at dksX0_watch_3 4 rfl rfl)
theorem dX0_watch_76 : decode cX0_watch 76 = .ok (.iconst 1, 1) := dk_4 (dk_at dksX0_watch_3 7 rfl rfl)
theorem dX0_watch_77 : decode cX0_watch 77 = .ok (.iload_n 1, 1) := dk_27 (dk_at dksX0_watch_3 8 rfl rfl)
theorem dX0_watch_78 : decode cX0_watch 78 = .ok (.ishl, 1) := dk_120 (dk_at dksX0_watch_3 9 rfl rfl)
theorem dX0_watch_79 : decode cX0_watch 79 = .ok (.ixor, 1) := dk_130 (dk_at dksX0_watch_3 10 rfl rfl)
theorem dX0_watch_80 : decode cX0_watch 80 = .ok (.putfield 217, 3) := dk_181 0 217 (dk_at dksX0_watch_3 11 rfl rfl)
theorem dX0_watch_83 : decode cX0_watch 83 = .ok (.aload_n 0, 1) := dk_42 (dk_at dksX0_watch_3 14 rfl rfl)
theorem dX0_watch_84 : decode cX0_watch 84 = .ok (.getfield 39, 3) := dk_180 0 39 (dk_at dksX0_watch_3 15 rfl rfl)
theorem dX0_watch_87 : decode cX0_watch 87 = .ok (.getfield 217, 3) := dk_180 0 217 (dk_at dksX0_watch_3 18 rfl rfl)
theorem dX0_watch_90 : decode cX0_watch 90 = .ok (.ireturn, 1) := dk_172 (dk_at dksX0_watch_3 21 rfl rfl)
abbrev cX0_isHalf : ByteArray := prog_1_method_17_code
def yX0_isHalf : MethodName := ⟨RX0, "isHalf", "(I)Z"⟩
def dkwX0_isHalf_0 : List UInt8 := [26, 133, 9, 10, 184, 0, 79, 172]
abbrev dktX0_isHalf_0 : List UInt8 := dkwX0_isHalf_0 ++ []
theorem dksX0_isHalf_0 : cX0_isHalf.data.toList.drop 0 = dktX0_isHalf_0 := by decide +kernel
theorem dX0_isHalf_0 : decode cX0_isHalf 0 = .ok (.iload_n 0, 1) := dk_26 (dk_at dksX0_isHalf_0 0 rfl rfl)
theorem dX0_isHalf_1 : decode cX0_isHalf 1 = .ok (.i2l, 1) := dk_133 (dk_at dksX0_isHalf_0 1 rfl rfl)
theorem dX0_isHalf_2 : decode cX0_isHalf 2 = .ok (.lconst 0, 1) := dk_9 (dk_at dksX0_isHalf_0 2 rfl rfl)
theorem dX0_isHalf_3 : decode cX0_isHalf 3 = .ok (.lconst 1, 1) := dk_10 (dk_at dksX0_isHalf_0 3 rfl rfl)
theorem dX0_isHalf_4 : decode cX0_isHalf 4 = .ok (.invokestatic 79, 3) := dk_184 0 79 (dk_at dksX0_isHalf_0 4 rfl rfl)
theorem dX0_isHalf_7 : decode cX0_isHalf 7 = .ok (.ireturn, 1) := dk_172 (dk_at dksX0_isHalf_0 7 rfl rfl)
abbrev cX0_change : ByteArray := prog_1_method_30_code
def yX0_change : MethodName := ⟨RX0, "change", "(II)I"⟩
def dkwX0_change_1 : List UInt8 := [42, 182, 0, 186, 42, 180, 0, 39, 27, 28, 182, 0, 228, 42, 180, 0, 39, 27, 182, 0, 231, 172]
abbrev dktX0_change_1 : List UInt8 := dkwX0_change_1 ++ []
def dkwX0_change_0 : List UInt8 := [42, 27, 182, 0, 196, 153, 0, 16, 42, 28, 182, 0, 196, 153, 0, 8, 27, 28, 160, 0, 6, 18, 93, 172]
abbrev dktX0_change_0 : List UInt8 := dkwX0_change_0 ++ dktX0_change_1
theorem dksX0_change_0 : cX0_change.data.toList.drop 0 = dktX0_change_0 := by decide +kernel
theorem dksX0_change_1 : cX0_change.data.toList.drop 24 = dktX0_change_1 := dk_seg dksX0_change_0 24 rfl rfl
theorem dX0_change_0 : decode cX0_change 0 = .ok (.aload_n 0, 1) := dk_42 (dk_at dksX0_change_0 0 rfl rfl)
theorem dX0_change_1 : decode cX0_change 1 = .ok (.iload_n 1, 1) := dk_27 (dk_at dksX0_change_0 1 rfl rfl)
theorem dX0_change_2 : decode cX0_change 2 = .ok (.invokevirtual 196, 3) := dk_182 0 196 (dk_at dksX0_change_0 2 rfl rfl)
theorem dX0_change_5 : decode cX0_change 5 = .ok (.ifCond .eq 16, 3) := dk_153 0 16 (dk_at dksX0_change_0 5 rfl rfl)
theorem dX0_change_8 : decode cX0_change 8 = .ok (.aload_n 0, 1) := dk_42 (dk_at dksX0_change_0 8 rfl rfl)
theorem dX0_change_9 : decode cX0_change 9 = .ok (.iload_n 2, 1) := dk_28 (dk_at dksX0_change_0 9 rfl rfl)
theorem dX0_change_10 : decode cX0_change 10 = .ok (.invokevirtual 196, 3) := dk_182 0 196 (dk_at dksX0_change_0 10 rfl rfl)
theorem dX0_change_13 : decode cX0_change 13 = .ok (.ifCond .eq 8, 3) := dk_153 0 8 (dk_at dksX0_change_0 13 rfl rfl)
theorem dX0_change_16 : decode cX0_change 16 = .ok (.iload_n 1, 1) := dk_27 (dk_at dksX0_change_0 16 rfl rfl)
theorem dX0_change_17 : decode cX0_change 17 = .ok (.iload_n 2, 1) := dk_28 (dk_at dksX0_change_0 17 rfl rfl)
theorem dX0_change_18 : decode cX0_change 18 = .ok (.if_icmp .ne 6, 3) := dk_160 0 6 (dk_at dksX0_change_0 18 rfl rfl)
theorem dX0_change_21 : decode cX0_change 21 = .ok (.ldc 93, 2) := dk_18 93 (dk_at dksX0_change_0 21 rfl rfl)
theorem dX0_change_23 : decode cX0_change 23 = .ok (.ireturn, 1) := dk_172 (dk_at dksX0_change_0 23 rfl rfl)
theorem dX0_change_24 : decode cX0_change 24 = .ok (.aload_n 0, 1) := dk_42 (dk_at dksX0_change_1 0 rfl rfl)
theorem dX0_change_25 : decode cX0_change 25 = .ok (.invokevirtual 186, 3) := dk_182 0 186 (dk_at dksX0_change_1 1 rfl rfl)
theorem dX0_change_28 : decode cX0_change 28 = .ok (.aload_n 0, 1) := dk_42 (dk_at dksX0_change_1 4 rfl rfl)
theorem dX0_change_29 : decode cX0_change 29 = .ok (.getfield 39, 3) := dk_180 0 39 (dk_at dksX0_change_1 5 rfl rfl)
theorem dX0_change_32 : decode cX0_change 32 = .ok (.iload_n 1, 1) := dk_27 (dk_at dksX0_change_1 8 rfl rfl)
theorem dX0_change_33 : decode cX0_change 33 = .ok (.iload_n 2, 1) := dk_28 (dk_at dksX0_change_1 9 rfl rfl)
theorem dX0_change_34 : decode cX0_change 34 = .ok (.invokevirtual 228, 3) := dk_182 0 228 (dk_at dksX0_change_1 10 rfl rfl)
theorem dX0_change_37 : decode cX0_change 37 = .ok (.aload_n 0, 1) := dk_42 (dk_at dksX0_change_1 13 rfl rfl)
theorem dX0_change_38 : decode cX0_change 38 = .ok (.getfield 39, 3) := dk_180 0 39 (dk_at dksX0_change_1 14 rfl rfl)
theorem dX0_change_41 : decode cX0_change 41 = .ok (.iload_n 1, 1) := dk_27 (dk_at dksX0_change_1 17 rfl rfl)
theorem dX0_change_42 : decode cX0_change 42 = .ok (.invokevirtual 231, 3) := dk_182 0 231 (dk_at dksX0_change_1 18 rfl rfl)
theorem dX0_change_45 : decode cX0_change 45 = .ok (.ireturn, 1) := dk_172 (dk_at dksX0_change_1 21 rfl rfl)
abbrev cX0_saw : ByteArray := prog_1_method_31_code
def yX0_saw : MethodName := ⟨RX0, "saw", "(II)I"⟩
def dkwX0_saw_1 : List UInt8 := [180, 0, 39, 180, 0, 236, 27, 28, 182, 0, 204, 167, 0, 5, 18, 93, 172]
abbrev dktX0_saw_1 : List UInt8 := dkwX0_saw_1 ++ []
def dkwX0_saw_0 : List UInt8 := [42, 27, 182, 0, 196, 153, 0, 31, 28, 133, 9, 20, 0, 234, 184, 0, 79, 153, 0, 19, 42, 42]
abbrev dktX0_saw_0 : List UInt8 := dkwX0_saw_0 ++ dktX0_saw_1
theorem dksX0_saw_0 : cX0_saw.data.toList.drop 0 = dktX0_saw_0 := by decide +kernel
theorem dksX0_saw_1 : cX0_saw.data.toList.drop 22 = dktX0_saw_1 := dk_seg dksX0_saw_0 22 rfl rfl
theorem dX0_saw_0 : decode cX0_saw 0 = .ok (.aload_n 0, 1) := dk_42 (dk_at dksX0_saw_0 0 rfl rfl)
theorem dX0_saw_1 : decode cX0_saw 1 = .ok (.iload_n 1, 1) := dk_27 (dk_at dksX0_saw_0 1 rfl rfl)
theorem dX0_saw_2 : decode cX0_saw 2 = .ok (.invokevirtual 196, 3) := dk_182 0 196 (dk_at dksX0_saw_0 2 rfl rfl)
theorem dX0_saw_5 : decode cX0_saw 5 = .ok (.ifCond .eq 31, 3) := dk_153 0 31 (dk_at dksX0_saw_0 5 rfl rfl)
theorem dX0_saw_8 : decode cX0_saw 8 = .ok (.iload_n 2, 1) := dk_28 (dk_at dksX0_saw_0 8 rfl rfl)
theorem dX0_saw_9 : decode cX0_saw 9 = .ok (.i2l, 1) := dk_133 (dk_at dksX0_saw_0 9 rfl rfl)
theorem dX0_saw_10 : decode cX0_saw 10 = .ok (.lconst 0, 1) := dk_9 (dk_at dksX0_saw_0 10 rfl rfl)
theorem dX0_saw_11 : decode cX0_saw 11 = .ok (.ldc2_w 234, 3) := dk_20 0 234 (dk_at dksX0_saw_0 11 rfl rfl)
theorem dX0_saw_14 : decode cX0_saw 14 = .ok (.invokestatic 79, 3) := dk_184 0 79 (dk_at dksX0_saw_0 14 rfl rfl)
theorem dX0_saw_17 : decode cX0_saw 17 = .ok (.ifCond .eq 19, 3) := dk_153 0 19 (dk_at dksX0_saw_0 17 rfl rfl)
theorem dX0_saw_20 : decode cX0_saw 20 = .ok (.aload_n 0, 1) := dk_42 (dk_at dksX0_saw_0 20 rfl rfl)
theorem dX0_saw_21 : decode cX0_saw 21 = .ok (.aload_n 0, 1) := dk_42 (dk_at dksX0_saw_0 21 rfl rfl)
theorem dX0_saw_22 : decode cX0_saw 22 = .ok (.getfield 39, 3) := dk_180 0 39 (dk_at dksX0_saw_1 0 rfl rfl)
theorem dX0_saw_25 : decode cX0_saw 25 = .ok (.getfield 236, 3) := dk_180 0 236 (dk_at dksX0_saw_1 3 rfl rfl)
theorem dX0_saw_28 : decode cX0_saw 28 = .ok (.iload_n 1, 1) := dk_27 (dk_at dksX0_saw_1 6 rfl rfl)
theorem dX0_saw_29 : decode cX0_saw 29 = .ok (.iload_n 2, 1) := dk_28 (dk_at dksX0_saw_1 7 rfl rfl)
theorem dX0_saw_30 : decode cX0_saw 30 = .ok (.invokevirtual 204, 3) := dk_182 0 204 (dk_at dksX0_saw_1 8 rfl rfl)
theorem dX0_saw_33 : decode cX0_saw 33 = .ok (.goto 5, 3) := dk_167 0 5 (dk_at dksX0_saw_1 11 rfl rfl)
theorem dX0_saw_36 : decode cX0_saw 36 = .ok (.ldc 93, 2) := dk_18 93 (dk_at dksX0_saw_1 14 rfl rfl)
theorem dX0_saw_38 : decode cX0_saw 38 = .ok (.ireturn, 1) := dk_172 (dk_at dksX0_saw_1 16 rfl rfl)
abbrev cX0_chair : ByteArray := prog_1_method_32_code
def yX0_chair : MethodName := ⟨RX0, "chair", "(II)I"⟩
def dkwX0_chair_5 : List UInt8 := [180, 0, 39, 27, 182, 0, 231, 172, 42, 180, 0, 39, 180, 0, 248, 27, 46, 172, 18, 93, 172]
abbrev dktX0_chair_5 : List UInt8 := dkwX0_chair_5 ++ []
def dkwX0_chair_4 : List UInt8 := [126, 172, 42, 180, 0, 39, 180, 0, 236, 27, 46, 172, 42, 180, 0, 39, 180, 0, 245, 27, 46, 172, 42]
abbrev dktX0_chair_4 : List UInt8 := dkwX0_chair_4 ++ dktX0_chair_5
def dkwX0_chair_3 : List UInt8 := [27, 182, 0, 239, 172, 42, 180, 0, 39, 27, 182, 0, 242, 172, 42, 180, 0, 39, 180, 0, 217, 27, 122, 4]
abbrev dktX0_chair_3 : List UInt8 := dkwX0_chair_3 ++ dktX0_chair_4
def dkwX0_chair_2 : List UInt8 := [42, 180, 0, 39, 180, 0, 208, 27, 46, 172, 42, 180, 0, 39, 180, 0, 201, 27, 46, 172, 42, 180, 0, 39]
abbrev dktX0_chair_2 : List UInt8 := dkwX0_chair_2 ++ dktX0_chair_3
def dkwX0_chair_1 : List UInt8 := [170, 0, 0, 0, 0, 0, 0, 141, 0, 0, 0, 0, 0, 0, 0, 8, 0, 0, 0, 52, 0, 0, 0, 62, 0, 0, 0, 72, 0, 0, 0, 81, 0, 0, 0, 90, 0, 0, 0, 102, 0, 0, 0, 112, 0, 0, 0, 122, 0, 0, 0, 131]
abbrev dktX0_chair_1 : List UInt8 := dkwX0_chair_1 ++ dktX0_chair_2
def dkwX0_chair_0 : List UInt8 := [42, 27, 182, 0, 196, 154, 0, 6, 18, 93, 172, 28]
abbrev dktX0_chair_0 : List UInt8 := dkwX0_chair_0 ++ dktX0_chair_1
theorem dksX0_chair_0 : cX0_chair.data.toList.drop 0 = dktX0_chair_0 := by decide +kernel
theorem dksX0_chair_1 : cX0_chair.data.toList.drop 12 = dktX0_chair_1 := dk_seg dksX0_chair_0 12 rfl rfl
theorem dksX0_chair_2 : cX0_chair.data.toList.drop 64 = dktX0_chair_2 := dk_seg dksX0_chair_1 52 rfl rfl
theorem dksX0_chair_3 : cX0_chair.data.toList.drop 88 = dktX0_chair_3 := dk_seg dksX0_chair_2 24 rfl rfl
theorem dksX0_chair_4 : cX0_chair.data.toList.drop 112 = dktX0_chair_4 := dk_seg dksX0_chair_3 24 rfl rfl
theorem dksX0_chair_5 : cX0_chair.data.toList.drop 135 = dktX0_chair_5 := dk_seg dksX0_chair_4 23 rfl rfl
theorem dX0_chair_0 : decode cX0_chair 0 = .ok (.aload_n 0, 1) := dk_42 (dk_at dksX0_chair_0 0 rfl rfl)
theorem dX0_chair_1 : decode cX0_chair 1 = .ok (.iload_n 1, 1) := dk_27 (dk_at dksX0_chair_0 1 rfl rfl)
theorem dX0_chair_2 : decode cX0_chair 2 = .ok (.invokevirtual 196, 3) := dk_182 0 196 (dk_at dksX0_chair_0 2 rfl rfl)
theorem dX0_chair_5 : decode cX0_chair 5 = .ok (.ifCond .ne 6, 3) := dk_154 0 6 (dk_at dksX0_chair_0 5 rfl rfl)
theorem dX0_chair_8 : decode cX0_chair 8 = .ok (.ldc 93, 2) := dk_18 93 (dk_at dksX0_chair_0 8 rfl rfl)
theorem dX0_chair_10 : decode cX0_chair 10 = .ok (.ireturn, 1) := dk_172 (dk_at dksX0_chair_0 10 rfl rfl)
theorem dX0_chair_11 : decode cX0_chair 11 = .ok (.iload_n 2, 1) := dk_28 (dk_at dksX0_chair_0 11 rfl rfl)
theorem dX0_chair_12 : decode cX0_chair 12 = .ok (.tableswitch 141 0 8 #[52, 62, 72, 81, 90, 102, 112, 122, 131], 52) := by decide +kernel
theorem dX0_chair_64 : decode cX0_chair 64 = .ok (.aload_n 0, 1) := dk_42 (dk_at dksX0_chair_2 0 rfl rfl)
theorem dX0_chair_65 : decode cX0_chair 65 = .ok (.getfield 39, 3) := dk_180 0 39 (dk_at dksX0_chair_2 1 rfl rfl)
theorem dX0_chair_68 : decode cX0_chair 68 = .ok (.getfield 208, 3) := dk_180 0 208 (dk_at dksX0_chair_2 4 rfl rfl)
theorem dX0_chair_71 : decode cX0_chair 71 = .ok (.iload_n 1, 1) := dk_27 (dk_at dksX0_chair_2 7 rfl rfl)
theorem dX0_chair_72 : decode cX0_chair 72 = .ok (.iaload, 1) := dk_46 (dk_at dksX0_chair_2 8 rfl rfl)
theorem dX0_chair_73 : decode cX0_chair 73 = .ok (.ireturn, 1) := dk_172 (dk_at dksX0_chair_2 9 rfl rfl)
theorem dX0_chair_74 : decode cX0_chair 74 = .ok (.aload_n 0, 1) := dk_42 (dk_at dksX0_chair_2 10 rfl rfl)
theorem dX0_chair_75 : decode cX0_chair 75 = .ok (.getfield 39, 3) := dk_180 0 39 (dk_at dksX0_chair_2 11 rfl rfl)
theorem dX0_chair_78 : decode cX0_chair 78 = .ok (.getfield 201, 3) := dk_180 0 201 (dk_at dksX0_chair_2 14 rfl rfl)
theorem dX0_chair_81 : decode cX0_chair 81 = .ok (.iload_n 1, 1) := dk_27 (dk_at dksX0_chair_2 17 rfl rfl)
theorem dX0_chair_82 : decode cX0_chair 82 = .ok (.iaload, 1) := dk_46 (dk_at dksX0_chair_2 18 rfl rfl)
theorem dX0_chair_83 : decode cX0_chair 83 = .ok (.ireturn, 1) := dk_172 (dk_at dksX0_chair_2 19 rfl rfl)
theorem dX0_chair_84 : decode cX0_chair 84 = .ok (.aload_n 0, 1) := dk_42 (dk_at dksX0_chair_2 20 rfl rfl)
theorem dX0_chair_85 : decode cX0_chair 85 = .ok (.getfield 39, 3) := dk_180 0 39 (dk_at dksX0_chair_2 21 rfl rfl)
theorem dX0_chair_88 : decode cX0_chair 88 = .ok (.iload_n 1, 1) := dk_27 (dk_at dksX0_chair_3 0 rfl rfl)
theorem dX0_chair_89 : decode cX0_chair 89 = .ok (.invokevirtual 239, 3) := dk_182 0 239 (dk_at dksX0_chair_3 1 rfl rfl)
theorem dX0_chair_92 : decode cX0_chair 92 = .ok (.ireturn, 1) := dk_172 (dk_at dksX0_chair_3 4 rfl rfl)
theorem dX0_chair_93 : decode cX0_chair 93 = .ok (.aload_n 0, 1) := dk_42 (dk_at dksX0_chair_3 5 rfl rfl)
theorem dX0_chair_94 : decode cX0_chair 94 = .ok (.getfield 39, 3) := dk_180 0 39 (dk_at dksX0_chair_3 6 rfl rfl)
theorem dX0_chair_97 : decode cX0_chair 97 = .ok (.iload_n 1, 1) := dk_27 (dk_at dksX0_chair_3 9 rfl rfl)
theorem dX0_chair_98 : decode cX0_chair 98 = .ok (.invokevirtual 242, 3) := dk_182 0 242 (dk_at dksX0_chair_3 10 rfl rfl)
theorem dX0_chair_101 : decode cX0_chair 101 = .ok (.ireturn, 1) := dk_172 (dk_at dksX0_chair_3 13 rfl rfl)
theorem dX0_chair_102 : decode cX0_chair 102 = .ok (.aload_n 0, 1) := dk_42 (dk_at dksX0_chair_3 14 rfl rfl)
theorem dX0_chair_103 : decode cX0_chair 103 = .ok (.getfield 39, 3) := dk_180 0 39 (dk_at dksX0_chair_3 15 rfl rfl)
theorem dX0_chair_106 : decode cX0_chair 106 = .ok (.getfield 217, 3) := dk_180 0 217 (dk_at dksX0_chair_3 18 rfl rfl)
theorem dX0_chair_109 : decode cX0_chair 109 = .ok (.iload_n 1, 1) := dk_27 (dk_at dksX0_chair_3 21 rfl rfl)
theorem dX0_chair_110 : decode cX0_chair 110 = .ok (.ishr, 1) := dk_122 (dk_at dksX0_chair_3 22 rfl rfl)
theorem dX0_chair_111 : decode cX0_chair 111 = .ok (.iconst 1, 1) := dk_4 (dk_at dksX0_chair_3 23 rfl rfl)
theorem dX0_chair_112 : decode cX0_chair 112 = .ok (.iand, 1) := dk_126 (dk_at dksX0_chair_4 0 rfl rfl)
theorem dX0_chair_113 : decode cX0_chair 113 = .ok (.ireturn, 1) := dk_172 (dk_at dksX0_chair_4 1 rfl rfl)
theorem dX0_chair_114 : decode cX0_chair 114 = .ok (.aload_n 0, 1) := dk_42 (dk_at dksX0_chair_4 2 rfl rfl)
theorem dX0_chair_115 : decode cX0_chair 115 = .ok (.getfield 39, 3) := dk_180 0 39 (dk_at dksX0_chair_4 3 rfl rfl)
theorem dX0_chair_118 : decode cX0_chair 118 = .ok (.getfield 236, 3) := dk_180 0 236 (dk_at dksX0_chair_4 6 rfl rfl)
theorem dX0_chair_121 : decode cX0_chair 121 = .ok (.iload_n 1, 1) := dk_27 (dk_at dksX0_chair_4 9 rfl rfl)
theorem dX0_chair_122 : decode cX0_chair 122 = .ok (.iaload, 1) := dk_46 (dk_at dksX0_chair_4 10 rfl rfl)
theorem dX0_chair_123 : decode cX0_chair 123 = .ok (.ireturn, 1) := dk_172 (dk_at dksX0_chair_4 11 rfl rfl)
theorem dX0_chair_124 : decode cX0_chair 124 = .ok (.aload_n 0, 1) := dk_42 (dk_at dksX0_chair_4 12 rfl rfl)
theorem dX0_chair_125 : decode cX0_chair 125 = .ok (.getfield 39, 3) := dk_180 0 39 (dk_at dksX0_chair_4 13 rfl rfl)
theorem dX0_chair_128 : decode cX0_chair 128 = .ok (.getfield 245, 3) := dk_180 0 245 (dk_at dksX0_chair_4 16 rfl rfl)
theorem dX0_chair_131 : decode cX0_chair 131 = .ok (.iload_n 1, 1) := dk_27 (dk_at dksX0_chair_4 19 rfl rfl)
theorem dX0_chair_132 : decode cX0_chair 132 = .ok (.iaload, 1) := dk_46 (dk_at dksX0_chair_4 20 rfl rfl)
theorem dX0_chair_133 : decode cX0_chair 133 = .ok (.ireturn, 1) := dk_172 (dk_at dksX0_chair_4 21 rfl rfl)
theorem dX0_chair_134 : decode cX0_chair 134 = .ok (.aload_n 0, 1) := dk_42 (dk_at dksX0_chair_4 22 rfl rfl)
theorem dX0_chair_135 : decode cX0_chair 135 = .ok (.getfield 39, 3) := dk_180 0 39 (dk_at dksX0_chair_5 0 rfl rfl)
theorem dX0_chair_138 : decode cX0_chair 138 = .ok (.iload_n 1, 1) := dk_27 (dk_at dksX0_chair_5 3 rfl rfl)
theorem dX0_chair_139 : decode cX0_chair 139 = .ok (.invokevirtual 231, 3) := dk_182 0 231 (dk_at dksX0_chair_5 4 rfl rfl)
theorem dX0_chair_142 : decode cX0_chair 142 = .ok (.ireturn, 1) := dk_172 (dk_at dksX0_chair_5 7 rfl rfl)
theorem dX0_chair_143 : decode cX0_chair 143 = .ok (.aload_n 0, 1) := dk_42 (dk_at dksX0_chair_5 8 rfl rfl)
theorem dX0_chair_144 : decode cX0_chair 144 = .ok (.getfield 39, 3) := dk_180 0 39 (dk_at dksX0_chair_5 9 rfl rfl)
theorem dX0_chair_147 : decode cX0_chair 147 = .ok (.getfield 248, 3) := dk_180 0 248 (dk_at dksX0_chair_5 12 rfl rfl)
theorem dX0_chair_150 : decode cX0_chair 150 = .ok (.iload_n 1, 1) := dk_27 (dk_at dksX0_chair_5 15 rfl rfl)
theorem dX0_chair_151 : decode cX0_chair 151 = .ok (.iaload, 1) := dk_46 (dk_at dksX0_chair_5 16 rfl rfl)
theorem dX0_chair_152 : decode cX0_chair 152 = .ok (.ireturn, 1) := dk_172 (dk_at dksX0_chair_5 17 rfl rfl)
theorem dX0_chair_153 : decode cX0_chair 153 = .ok (.ldc 93, 2) := dk_18 93 (dk_at dksX0_chair_5 18 rfl rfl)
theorem dX0_chair_155 : decode cX0_chair 155 = .ok (.ireturn, 1) := dk_172 (dk_at dksX0_chair_5 20 rfl rfl)
abbrev cX0_ranked : ByteArray := prog_1_method_33_code
def yX0_ranked : MethodName := ⟨RX0, "ranked", "(I)I"⟩
def dkwX0_ranked_0 : List UInt8 := [42, 27, 182, 0, 196, 153, 0, 14, 42, 180, 0, 39, 27, 182, 0, 193, 167, 0, 5, 18, 93, 172]
abbrev dktX0_ranked_0 : List UInt8 := dkwX0_ranked_0 ++ []
theorem dksX0_ranked_0 : cX0_ranked.data.toList.drop 0 = dktX0_ranked_0 := by decide +kernel
theorem dX0_ranked_0 : decode cX0_ranked 0 = .ok (.aload_n 0, 1) := dk_42 (dk_at dksX0_ranked_0 0 rfl rfl)
theorem dX0_ranked_1 : decode cX0_ranked 1 = .ok (.iload_n 1, 1) := dk_27 (dk_at dksX0_ranked_0 1 rfl rfl)
theorem dX0_ranked_2 : decode cX0_ranked 2 = .ok (.invokevirtual 196, 3) := dk_182 0 196 (dk_at dksX0_ranked_0 2 rfl rfl)
theorem dX0_ranked_5 : decode cX0_ranked 5 = .ok (.ifCond .eq 14, 3) := dk_153 0 14 (dk_at dksX0_ranked_0 5 rfl rfl)
theorem dX0_ranked_8 : decode cX0_ranked 8 = .ok (.aload_n 0, 1) := dk_42 (dk_at dksX0_ranked_0 8 rfl rfl)
theorem dX0_ranked_9 : decode cX0_ranked 9 = .ok (.getfield 39, 3) := dk_180 0 39 (dk_at dksX0_ranked_0 9 rfl rfl)
theorem dX0_ranked_12 : decode cX0_ranked 12 = .ok (.iload_n 1, 1) := dk_27 (dk_at dksX0_ranked_0 12 rfl rfl)
theorem dX0_ranked_13 : decode cX0_ranked 13 = .ok (.invokevirtual 193, 3) := dk_182 0 193 (dk_at dksX0_ranked_0 13 rfl rfl)
theorem dX0_ranked_16 : decode cX0_ranked 16 = .ok (.goto 5, 3) := dk_167 0 5 (dk_at dksX0_ranked_0 16 rfl rfl)
theorem dX0_ranked_19 : decode cX0_ranked 19 = .ok (.ldc 93, 2) := dk_18 93 (dk_at dksX0_ranked_0 19 rfl rfl)
theorem dX0_ranked_21 : decode cX0_ranked 21 = .ok (.ireturn, 1) := dk_172 (dk_at dksX0_ranked_0 21 rfl rfl)
abbrev cX0_ahead : ByteArray := prog_1_method_36_code
def yX0_ahead : MethodName := ⟨RX0, "ahead", "(III)I"⟩
def dkwX0_ahead_3 : List UInt8 := [167, 0, 12, 42, 180, 0, 43, 180, 0, 208, 27, 46, 172]
abbrev dktX0_ahead_3 : List UInt8 := dkwX0_ahead_3 ++ []
def dkwX0_ahead_2 : List UInt8 := [180, 0, 43, 27, 182, 0, 239, 167, 0, 28, 29, 4, 160, 0, 14, 42, 180, 0, 43, 27, 182, 0, 242]
abbrev dktX0_ahead_2 : List UInt8 := dkwX0_ahead_2 ++ dktX0_ahead_3
def dkwX0_ahead_1 : List UInt8 := [154, 0, 6, 18, 93, 172, 42, 182, 0, 254, 87, 42, 28, 182, 1, 1, 87, 29, 154, 0, 14, 42]
abbrev dktX0_ahead_1 : List UInt8 := dkwX0_ahead_1 ++ dktX0_ahead_2
def dkwX0_ahead_0 : List UInt8 := [42, 27, 182, 0, 196, 153, 0, 22, 28, 184, 0, 251, 153, 0, 15, 29, 133, 9, 20, 0, 91, 184, 0, 79]
abbrev dktX0_ahead_0 : List UInt8 := dkwX0_ahead_0 ++ dktX0_ahead_1
theorem dksX0_ahead_0 : cX0_ahead.data.toList.drop 0 = dktX0_ahead_0 := by decide +kernel
theorem dksX0_ahead_1 : cX0_ahead.data.toList.drop 24 = dktX0_ahead_1 := dk_seg dksX0_ahead_0 24 rfl rfl
theorem dksX0_ahead_2 : cX0_ahead.data.toList.drop 46 = dktX0_ahead_2 := dk_seg dksX0_ahead_1 22 rfl rfl
theorem dksX0_ahead_3 : cX0_ahead.data.toList.drop 69 = dktX0_ahead_3 := dk_seg dksX0_ahead_2 23 rfl rfl
theorem dX0_ahead_0 : decode cX0_ahead 0 = .ok (.aload_n 0, 1) := dk_42 (dk_at dksX0_ahead_0 0 rfl rfl)
theorem dX0_ahead_1 : decode cX0_ahead 1 = .ok (.iload_n 1, 1) := dk_27 (dk_at dksX0_ahead_0 1 rfl rfl)
theorem dX0_ahead_2 : decode cX0_ahead 2 = .ok (.invokevirtual 196, 3) := dk_182 0 196 (dk_at dksX0_ahead_0 2 rfl rfl)
theorem dX0_ahead_5 : decode cX0_ahead 5 = .ok (.ifCond .eq 22, 3) := dk_153 0 22 (dk_at dksX0_ahead_0 5 rfl rfl)
theorem dX0_ahead_8 : decode cX0_ahead 8 = .ok (.iload_n 2, 1) := dk_28 (dk_at dksX0_ahead_0 8 rfl rfl)
theorem dX0_ahead_9 : decode cX0_ahead 9 = .ok (.invokestatic 251, 3) := dk_184 0 251 (dk_at dksX0_ahead_0 9 rfl rfl)
theorem dX0_ahead_12 : decode cX0_ahead 12 = .ok (.ifCond .eq 15, 3) := dk_153 0 15 (dk_at dksX0_ahead_0 12 rfl rfl)
theorem dX0_ahead_15 : decode cX0_ahead 15 = .ok (.iload_n 3, 1) := dk_29 (dk_at dksX0_ahead_0 15 rfl rfl)
theorem dX0_ahead_16 : decode cX0_ahead 16 = .ok (.i2l, 1) := dk_133 (dk_at dksX0_ahead_0 16 rfl rfl)
theorem dX0_ahead_17 : decode cX0_ahead 17 = .ok (.lconst 0, 1) := dk_9 (dk_at dksX0_ahead_0 17 rfl rfl)
theorem dX0_ahead_18 : decode cX0_ahead 18 = .ok (.ldc2_w 91, 3) := dk_20 0 91 (dk_at dksX0_ahead_0 18 rfl rfl)
theorem dX0_ahead_21 : decode cX0_ahead 21 = .ok (.invokestatic 79, 3) := dk_184 0 79 (dk_at dksX0_ahead_0 21 rfl rfl)
theorem dX0_ahead_24 : decode cX0_ahead 24 = .ok (.ifCond .ne 6, 3) := dk_154 0 6 (dk_at dksX0_ahead_1 0 rfl rfl)
theorem dX0_ahead_27 : decode cX0_ahead 27 = .ok (.ldc 93, 2) := dk_18 93 (dk_at dksX0_ahead_1 3 rfl rfl)
theorem dX0_ahead_29 : decode cX0_ahead 29 = .ok (.ireturn, 1) := dk_172 (dk_at dksX0_ahead_1 5 rfl rfl)
theorem dX0_ahead_30 : decode cX0_ahead 30 = .ok (.aload_n 0, 1) := dk_42 (dk_at dksX0_ahead_1 6 rfl rfl)
theorem dX0_ahead_31 : decode cX0_ahead 31 = .ok (.invokevirtual 254, 3) := dk_182 0 254 (dk_at dksX0_ahead_1 7 rfl rfl)
theorem dX0_ahead_34 : decode cX0_ahead 34 = .ok (.pop, 1) := dk_87 (dk_at dksX0_ahead_1 10 rfl rfl)
theorem dX0_ahead_35 : decode cX0_ahead 35 = .ok (.aload_n 0, 1) := dk_42 (dk_at dksX0_ahead_1 11 rfl rfl)
theorem dX0_ahead_36 : decode cX0_ahead 36 = .ok (.iload_n 2, 1) := dk_28 (dk_at dksX0_ahead_1 12 rfl rfl)
theorem dX0_ahead_37 : decode cX0_ahead 37 = .ok (.invokevirtual 257, 3) := dk_182 1 1 (dk_at dksX0_ahead_1 13 rfl rfl)
theorem dX0_ahead_40 : decode cX0_ahead 40 = .ok (.pop, 1) := dk_87 (dk_at dksX0_ahead_1 16 rfl rfl)
theorem dX0_ahead_41 : decode cX0_ahead 41 = .ok (.iload_n 3, 1) := dk_29 (dk_at dksX0_ahead_1 17 rfl rfl)
theorem dX0_ahead_42 : decode cX0_ahead 42 = .ok (.ifCond .ne 14, 3) := dk_154 0 14 (dk_at dksX0_ahead_1 18 rfl rfl)
theorem dX0_ahead_45 : decode cX0_ahead 45 = .ok (.aload_n 0, 1) := dk_42 (dk_at dksX0_ahead_1 21 rfl rfl)
theorem dX0_ahead_46 : decode cX0_ahead 46 = .ok (.getfield 43, 3) := dk_180 0 43 (dk_at dksX0_ahead_2 0 rfl rfl)
theorem dX0_ahead_49 : decode cX0_ahead 49 = .ok (.iload_n 1, 1) := dk_27 (dk_at dksX0_ahead_2 3 rfl rfl)
theorem dX0_ahead_50 : decode cX0_ahead 50 = .ok (.invokevirtual 239, 3) := dk_182 0 239 (dk_at dksX0_ahead_2 4 rfl rfl)
theorem dX0_ahead_53 : decode cX0_ahead 53 = .ok (.goto 28, 3) := dk_167 0 28 (dk_at dksX0_ahead_2 7 rfl rfl)
theorem dX0_ahead_56 : decode cX0_ahead 56 = .ok (.iload_n 3, 1) := dk_29 (dk_at dksX0_ahead_2 10 rfl rfl)
theorem dX0_ahead_57 : decode cX0_ahead 57 = .ok (.iconst 1, 1) := dk_4 (dk_at dksX0_ahead_2 11 rfl rfl)
theorem dX0_ahead_58 : decode cX0_ahead 58 = .ok (.if_icmp .ne 14, 3) := dk_160 0 14 (dk_at dksX0_ahead_2 12 rfl rfl)
theorem dX0_ahead_61 : decode cX0_ahead 61 = .ok (.aload_n 0, 1) := dk_42 (dk_at dksX0_ahead_2 15 rfl rfl)
theorem dX0_ahead_62 : decode cX0_ahead 62 = .ok (.getfield 43, 3) := dk_180 0 43 (dk_at dksX0_ahead_2 16 rfl rfl)
theorem dX0_ahead_65 : decode cX0_ahead 65 = .ok (.iload_n 1, 1) := dk_27 (dk_at dksX0_ahead_2 19 rfl rfl)
theorem dX0_ahead_66 : decode cX0_ahead 66 = .ok (.invokevirtual 242, 3) := dk_182 0 242 (dk_at dksX0_ahead_2 20 rfl rfl)
theorem dX0_ahead_69 : decode cX0_ahead 69 = .ok (.goto 12, 3) := dk_167 0 12 (dk_at dksX0_ahead_3 0 rfl rfl)
theorem dX0_ahead_72 : decode cX0_ahead 72 = .ok (.aload_n 0, 1) := dk_42 (dk_at dksX0_ahead_3 3 rfl rfl)
theorem dX0_ahead_73 : decode cX0_ahead 73 = .ok (.getfield 43, 3) := dk_180 0 43 (dk_at dksX0_ahead_3 4 rfl rfl)
theorem dX0_ahead_76 : decode cX0_ahead 76 = .ok (.getfield 208, 3) := dk_180 0 208 (dk_at dksX0_ahead_3 7 rfl rfl)
theorem dX0_ahead_79 : decode cX0_ahead 79 = .ok (.iload_n 1, 1) := dk_27 (dk_at dksX0_ahead_3 10 rfl rfl)
theorem dX0_ahead_80 : decode cX0_ahead 80 = .ok (.iaload, 1) := dk_46 (dk_at dksX0_ahead_3 11 rfl rfl)
theorem dX0_ahead_81 : decode cX0_ahead 81 = .ok (.ireturn, 1) := dk_172 (dk_at dksX0_ahead_3 12 rfl rfl)
abbrev cX0_isFar : ByteArray := prog_1_method_23_code
def yX0_isFar : MethodName := ⟨RX0, "isFar", "(I)Z"⟩
def dkwX0_isFar_0 : List UInt8 := [26, 133, 9, 20, 0, 173, 184, 0, 79, 172]
abbrev dktX0_isFar_0 : List UInt8 := dkwX0_isFar_0 ++ []
theorem dksX0_isFar_0 : cX0_isFar.data.toList.drop 0 = dktX0_isFar_0 := by decide +kernel
theorem dX0_isFar_0 : decode cX0_isFar 0 = .ok (.iload_n 0, 1) := dk_26 (dk_at dksX0_isFar_0 0 rfl rfl)
theorem dX0_isFar_1 : decode cX0_isFar 1 = .ok (.i2l, 1) := dk_133 (dk_at dksX0_isFar_0 1 rfl rfl)
theorem dX0_isFar_2 : decode cX0_isFar 2 = .ok (.lconst 0, 1) := dk_9 (dk_at dksX0_isFar_0 2 rfl rfl)
theorem dX0_isFar_3 : decode cX0_isFar 3 = .ok (.ldc2_w 173, 3) := dk_20 0 173 (dk_at dksX0_isFar_0 3 rfl rfl)
theorem dX0_isFar_6 : decode cX0_isFar 6 = .ok (.invokestatic 79, 3) := dk_184 0 79 (dk_at dksX0_isFar_0 6 rfl rfl)
theorem dX0_isFar_9 : decode cX0_isFar 9 = .ok (.ireturn, 1) := dk_172 (dk_at dksX0_isFar_0 9 rfl rfl)
abbrev cX0_tried : ByteArray := prog_1_method_34_code
def yX0_tried : MethodName := ⟨RX0, "tried", "()LChairRanks$Ministry;"⟩
def dkwX0_tried_0 : List UInt8 := [42, 180, 0, 43, 42, 180, 0, 39, 182, 0, 156, 176]
abbrev dktX0_tried_0 : List UInt8 := dkwX0_tried_0 ++ []
theorem dksX0_tried_0 : cX0_tried.data.toList.drop 0 = dktX0_tried_0 := by decide +kernel
theorem dX0_tried_0 : decode cX0_tried 0 = .ok (.aload_n 0, 1) := dk_42 (dk_at dksX0_tried_0 0 rfl rfl)
theorem dX0_tried_1 : decode cX0_tried 1 = .ok (.getfield 43, 3) := dk_180 0 43 (dk_at dksX0_tried_0 1 rfl rfl)
theorem dX0_tried_4 : decode cX0_tried 4 = .ok (.aload_n 0, 1) := dk_42 (dk_at dksX0_tried_0 4 rfl rfl)
theorem dX0_tried_5 : decode cX0_tried 5 = .ok (.getfield 39, 3) := dk_180 0 39 (dk_at dksX0_tried_0 5 rfl rfl)
theorem dX0_tried_8 : decode cX0_tried 8 = .ok (.invokevirtual 156, 3) := dk_182 0 156 (dk_at dksX0_tried_0 8 rfl rfl)
theorem dX0_tried_11 : decode cX0_tried 11 = .ok (.areturn, 1) := dk_176 (dk_at dksX0_tried_0 11 rfl rfl)
abbrev cX0_goOn : ByteArray := prog_1_method_35_code
def yX0_goOn : MethodName := ⟨RX0, "goOn", "(I)LChairRanks$Ministry;"⟩
def dkwX0_goOn_1 : List UInt8 := [180, 0, 43, 176]
abbrev dktX0_goOn_1 : List UInt8 := dkwX0_goOn_1 ++ []
def dkwX0_goOn_0 : List UInt8 := [3, 61, 28, 27, 162, 0, 17, 42, 180, 0, 43, 182, 0, 189, 87, 132, 2, 1, 167, 255, 240, 42]
abbrev dktX0_goOn_0 : List UInt8 := dkwX0_goOn_0 ++ dktX0_goOn_1
theorem dksX0_goOn_0 : cX0_goOn.data.toList.drop 0 = dktX0_goOn_0 := by decide +kernel
theorem dksX0_goOn_1 : cX0_goOn.data.toList.drop 22 = dktX0_goOn_1 := dk_seg dksX0_goOn_0 22 rfl rfl
theorem dX0_goOn_0 : decode cX0_goOn 0 = .ok (.iconst 0, 1) := dk_3 (dk_at dksX0_goOn_0 0 rfl rfl)
theorem dX0_goOn_1 : decode cX0_goOn 1 = .ok (.istore_n 2, 1) := dk_61 (dk_at dksX0_goOn_0 1 rfl rfl)
theorem dX0_goOn_2 : decode cX0_goOn 2 = .ok (.iload_n 2, 1) := dk_28 (dk_at dksX0_goOn_0 2 rfl rfl)
theorem dX0_goOn_3 : decode cX0_goOn 3 = .ok (.iload_n 1, 1) := dk_27 (dk_at dksX0_goOn_0 3 rfl rfl)
theorem dX0_goOn_4 : decode cX0_goOn 4 = .ok (.if_icmp .ge 17, 3) := dk_162 0 17 (dk_at dksX0_goOn_0 4 rfl rfl)
theorem dX0_goOn_7 : decode cX0_goOn 7 = .ok (.aload_n 0, 1) := dk_42 (dk_at dksX0_goOn_0 7 rfl rfl)
theorem dX0_goOn_8 : decode cX0_goOn 8 = .ok (.getfield 43, 3) := dk_180 0 43 (dk_at dksX0_goOn_0 8 rfl rfl)
theorem dX0_goOn_11 : decode cX0_goOn 11 = .ok (.invokevirtual 189, 3) := dk_182 0 189 (dk_at dksX0_goOn_0 11 rfl rfl)
theorem dX0_goOn_14 : decode cX0_goOn 14 = .ok (.pop, 1) := dk_87 (dk_at dksX0_goOn_0 14 rfl rfl)
theorem dX0_goOn_15 : decode cX0_goOn 15 = .ok (.iinc 2 1, 3) := dk_132 2 1 (dk_at dksX0_goOn_0 15 rfl rfl)
theorem dX0_goOn_18 : decode cX0_goOn 18 = .ok (.goto (-16), 3) := dk_167 255 240 (dk_at dksX0_goOn_0 18 rfl rfl)
theorem dX0_goOn_21 : decode cX0_goOn 21 = .ok (.aload_n 0, 1) := dk_42 (dk_at dksX0_goOn_0 21 rfl rfl)
theorem dX0_goOn_22 : decode cX0_goOn 22 = .ok (.getfield 43, 3) := dk_180 0 43 (dk_at dksX0_goOn_1 0 rfl rfl)
theorem dX0_goOn_25 : decode cX0_goOn 25 = .ok (.areturn, 1) := dk_176 (dk_at dksX0_goOn_1 3 rfl rfl)
abbrev cX0_minister : ByteArray := prog_1_method_37_code
def yX0_minister : MethodName := ⟨RX0, "minister", "(I)I"⟩
def dkwX0_minister_1 : List UInt8 := [87, 42, 27, 182, 1, 1, 3, 182, 0, 193, 172]
abbrev dktX0_minister_1 : List UInt8 := dkwX0_minister_1 ++ []
def dkwX0_minister_0 : List UInt8 := [42, 182, 0, 177, 154, 0, 6, 18, 167, 172, 27, 184, 0, 251, 154, 0, 6, 18, 93, 172, 42, 182, 0, 254]
abbrev dktX0_minister_0 : List UInt8 := dkwX0_minister_0 ++ dktX0_minister_1
theorem dksX0_minister_0 : cX0_minister.data.toList.drop 0 = dktX0_minister_0 := by decide +kernel
theorem dksX0_minister_1 : cX0_minister.data.toList.drop 24 = dktX0_minister_1 := dk_seg dksX0_minister_0 24 rfl rfl
theorem dX0_minister_0 : decode cX0_minister 0 = .ok (.aload_n 0, 1) := dk_42 (dk_at dksX0_minister_0 0 rfl rfl)
theorem dX0_minister_1 : decode cX0_minister 1 = .ok (.invokevirtual 177, 3) := dk_182 0 177 (dk_at dksX0_minister_0 1 rfl rfl)
theorem dX0_minister_4 : decode cX0_minister 4 = .ok (.ifCond .ne 6, 3) := dk_154 0 6 (dk_at dksX0_minister_0 4 rfl rfl)
theorem dX0_minister_7 : decode cX0_minister 7 = .ok (.ldc 167, 2) := dk_18 167 (dk_at dksX0_minister_0 7 rfl rfl)
theorem dX0_minister_9 : decode cX0_minister 9 = .ok (.ireturn, 1) := dk_172 (dk_at dksX0_minister_0 9 rfl rfl)
theorem dX0_minister_10 : decode cX0_minister 10 = .ok (.iload_n 1, 1) := dk_27 (dk_at dksX0_minister_0 10 rfl rfl)
theorem dX0_minister_11 : decode cX0_minister 11 = .ok (.invokestatic 251, 3) := dk_184 0 251 (dk_at dksX0_minister_0 11 rfl rfl)
theorem dX0_minister_14 : decode cX0_minister 14 = .ok (.ifCond .ne 6, 3) := dk_154 0 6 (dk_at dksX0_minister_0 14 rfl rfl)
theorem dX0_minister_17 : decode cX0_minister 17 = .ok (.ldc 93, 2) := dk_18 93 (dk_at dksX0_minister_0 17 rfl rfl)
theorem dX0_minister_19 : decode cX0_minister 19 = .ok (.ireturn, 1) := dk_172 (dk_at dksX0_minister_0 19 rfl rfl)
theorem dX0_minister_20 : decode cX0_minister 20 = .ok (.aload_n 0, 1) := dk_42 (dk_at dksX0_minister_0 20 rfl rfl)
theorem dX0_minister_21 : decode cX0_minister 21 = .ok (.invokevirtual 254, 3) := dk_182 0 254 (dk_at dksX0_minister_0 21 rfl rfl)
theorem dX0_minister_24 : decode cX0_minister 24 = .ok (.pop, 1) := dk_87 (dk_at dksX0_minister_1 0 rfl rfl)
theorem dX0_minister_25 : decode cX0_minister 25 = .ok (.aload_n 0, 1) := dk_42 (dk_at dksX0_minister_1 1 rfl rfl)
theorem dX0_minister_26 : decode cX0_minister 26 = .ok (.iload_n 1, 1) := dk_27 (dk_at dksX0_minister_1 2 rfl rfl)
theorem dX0_minister_27 : decode cX0_minister 27 = .ok (.invokevirtual 257, 3) := dk_182 1 1 (dk_at dksX0_minister_1 3 rfl rfl)
theorem dX0_minister_30 : decode cX0_minister 30 = .ok (.iconst 0, 1) := dk_3 (dk_at dksX0_minister_1 6 rfl rfl)
theorem dX0_minister_31 : decode cX0_minister 31 = .ok (.invokevirtual 193, 3) := dk_182 0 193 (dk_at dksX0_minister_1 7 rfl rfl)
theorem dX0_minister_34 : decode cX0_minister 34 = .ok (.ireturn, 1) := dk_172 (dk_at dksX0_minister_1 10 rfl rfl)
abbrev cX0_floor : ByteArray := prog_1_method_38_code
def yX0_floor : MethodName := ⟨RX0, "floor", "(I)I"⟩
def dkwX0_floor_2 : List UInt8 := [132, 2, 1, 167, 255, 225, 19, 1, 5, 172]
abbrev dktX0_floor_2 : List UInt8 := dkwX0_floor_2 ++ []
def dkwX0_floor_1 : List UInt8 := [42, 180, 0, 43, 180, 0, 208, 27, 46, 154, 0, 5, 28, 172, 42, 180, 0, 43, 182, 0, 189, 87]
abbrev dktX0_floor_1 : List UInt8 := dkwX0_floor_1 ++ dktX0_floor_2
def dkwX0_floor_0 : List UInt8 := [42, 27, 182, 0, 196, 154, 0, 6, 18, 93, 172, 42, 182, 0, 254, 87, 3, 61, 28, 16, 60, 163, 0, 31]
abbrev dktX0_floor_0 : List UInt8 := dkwX0_floor_0 ++ dktX0_floor_1
theorem dksX0_floor_0 : cX0_floor.data.toList.drop 0 = dktX0_floor_0 := by decide +kernel
theorem dksX0_floor_1 : cX0_floor.data.toList.drop 24 = dktX0_floor_1 := dk_seg dksX0_floor_0 24 rfl rfl
theorem dksX0_floor_2 : cX0_floor.data.toList.drop 46 = dktX0_floor_2 := dk_seg dksX0_floor_1 22 rfl rfl
theorem dX0_floor_0 : decode cX0_floor 0 = .ok (.aload_n 0, 1) := dk_42 (dk_at dksX0_floor_0 0 rfl rfl)
theorem dX0_floor_1 : decode cX0_floor 1 = .ok (.iload_n 1, 1) := dk_27 (dk_at dksX0_floor_0 1 rfl rfl)
theorem dX0_floor_2 : decode cX0_floor 2 = .ok (.invokevirtual 196, 3) := dk_182 0 196 (dk_at dksX0_floor_0 2 rfl rfl)
theorem dX0_floor_5 : decode cX0_floor 5 = .ok (.ifCond .ne 6, 3) := dk_154 0 6 (dk_at dksX0_floor_0 5 rfl rfl)
theorem dX0_floor_8 : decode cX0_floor 8 = .ok (.ldc 93, 2) := dk_18 93 (dk_at dksX0_floor_0 8 rfl rfl)
theorem dX0_floor_10 : decode cX0_floor 10 = .ok (.ireturn, 1) := dk_172 (dk_at dksX0_floor_0 10 rfl rfl)
theorem dX0_floor_11 : decode cX0_floor 11 = .ok (.aload_n 0, 1) := dk_42 (dk_at dksX0_floor_0 11 rfl rfl)
theorem dX0_floor_12 : decode cX0_floor 12 = .ok (.invokevirtual 254, 3) := dk_182 0 254 (dk_at dksX0_floor_0 12 rfl rfl)
theorem dX0_floor_15 : decode cX0_floor 15 = .ok (.pop, 1) := dk_87 (dk_at dksX0_floor_0 15 rfl rfl)
theorem dX0_floor_16 : decode cX0_floor 16 = .ok (.iconst 0, 1) := dk_3 (dk_at dksX0_floor_0 16 rfl rfl)
theorem dX0_floor_17 : decode cX0_floor 17 = .ok (.istore_n 2, 1) := dk_61 (dk_at dksX0_floor_0 17 rfl rfl)
theorem dX0_floor_18 : decode cX0_floor 18 = .ok (.iload_n 2, 1) := dk_28 (dk_at dksX0_floor_0 18 rfl rfl)
theorem dX0_floor_19 : decode cX0_floor 19 = .ok (.bipush 60, 2) := dk_16 60 (dk_at dksX0_floor_0 19 rfl rfl)
theorem dX0_floor_21 : decode cX0_floor 21 = .ok (.if_icmp .gt 31, 3) := dk_163 0 31 (dk_at dksX0_floor_0 21 rfl rfl)
theorem dX0_floor_24 : decode cX0_floor 24 = .ok (.aload_n 0, 1) := dk_42 (dk_at dksX0_floor_1 0 rfl rfl)
theorem dX0_floor_25 : decode cX0_floor 25 = .ok (.getfield 43, 3) := dk_180 0 43 (dk_at dksX0_floor_1 1 rfl rfl)
theorem dX0_floor_28 : decode cX0_floor 28 = .ok (.getfield 208, 3) := dk_180 0 208 (dk_at dksX0_floor_1 4 rfl rfl)
theorem dX0_floor_31 : decode cX0_floor 31 = .ok (.iload_n 1, 1) := dk_27 (dk_at dksX0_floor_1 7 rfl rfl)
theorem dX0_floor_32 : decode cX0_floor 32 = .ok (.iaload, 1) := dk_46 (dk_at dksX0_floor_1 8 rfl rfl)
theorem dX0_floor_33 : decode cX0_floor 33 = .ok (.ifCond .ne 5, 3) := dk_154 0 5 (dk_at dksX0_floor_1 9 rfl rfl)
theorem dX0_floor_36 : decode cX0_floor 36 = .ok (.iload_n 2, 1) := dk_28 (dk_at dksX0_floor_1 12 rfl rfl)
theorem dX0_floor_37 : decode cX0_floor 37 = .ok (.ireturn, 1) := dk_172 (dk_at dksX0_floor_1 13 rfl rfl)
theorem dX0_floor_38 : decode cX0_floor 38 = .ok (.aload_n 0, 1) := dk_42 (dk_at dksX0_floor_1 14 rfl rfl)
theorem dX0_floor_39 : decode cX0_floor 39 = .ok (.getfield 43, 3) := dk_180 0 43 (dk_at dksX0_floor_1 15 rfl rfl)
theorem dX0_floor_42 : decode cX0_floor 42 = .ok (.invokevirtual 189, 3) := dk_182 0 189 (dk_at dksX0_floor_1 18 rfl rfl)
theorem dX0_floor_45 : decode cX0_floor 45 = .ok (.pop, 1) := dk_87 (dk_at dksX0_floor_1 21 rfl rfl)
theorem dX0_floor_46 : decode cX0_floor 46 = .ok (.iinc 2 1, 3) := dk_132 2 1 (dk_at dksX0_floor_2 0 rfl rfl)
theorem dX0_floor_49 : decode cX0_floor 49 = .ok (.goto (-31), 3) := dk_167 255 225 (dk_at dksX0_floor_2 3 rfl rfl)
theorem dX0_floor_52 : decode cX0_floor 52 = .ok (.ldc_w 261, 3) := dk_19 1 5 (dk_at dksX0_floor_2 6 rfl rfl)
theorem dX0_floor_55 : decode cX0_floor 55 = .ok (.ireturn, 1) := dk_172 (dk_at dksX0_floor_2 9 rfl rfl)
abbrev cX0_rises : ByteArray := prog_1_method_39_code
def yX0_rises : MethodName := ⟨RX0, "rises", "(II)I"⟩
def dkwX0_rises_2 : List UInt8 := [180, 0, 43, 182, 0, 189, 87, 132, 3, 1, 167, 255, 225, 19, 1, 5, 172]
abbrev dktX0_rises_2 : List UInt8 := dkwX0_rises_2 ++ []
def dkwX0_rises_1 : List UInt8 := [62, 29, 16, 60, 163, 0, 31, 42, 180, 0, 43, 27, 182, 0, 242, 28, 163, 0, 5, 29, 172, 42]
abbrev dktX0_rises_1 : List UInt8 := dkwX0_rises_1 ++ dktX0_rises_2
def dkwX0_rises_0 : List UInt8 := [42, 27, 182, 0, 196, 153, 0, 10, 28, 184, 1, 6, 154, 0, 6, 18, 93, 172, 42, 182, 0, 254, 87, 3]
abbrev dktX0_rises_0 : List UInt8 := dkwX0_rises_0 ++ dktX0_rises_1
theorem dksX0_rises_0 : cX0_rises.data.toList.drop 0 = dktX0_rises_0 := by decide +kernel
theorem dksX0_rises_1 : cX0_rises.data.toList.drop 24 = dktX0_rises_1 := dk_seg dksX0_rises_0 24 rfl rfl
theorem dksX0_rises_2 : cX0_rises.data.toList.drop 46 = dktX0_rises_2 := dk_seg dksX0_rises_1 22 rfl rfl
theorem dX0_rises_0 : decode cX0_rises 0 = .ok (.aload_n 0, 1) := dk_42 (dk_at dksX0_rises_0 0 rfl rfl)
theorem dX0_rises_1 : decode cX0_rises 1 = .ok (.iload_n 1, 1) := dk_27 (dk_at dksX0_rises_0 1 rfl rfl)
theorem dX0_rises_2 : decode cX0_rises 2 = .ok (.invokevirtual 196, 3) := dk_182 0 196 (dk_at dksX0_rises_0 2 rfl rfl)
theorem dX0_rises_5 : decode cX0_rises 5 = .ok (.ifCond .eq 10, 3) := dk_153 0 10 (dk_at dksX0_rises_0 5 rfl rfl)
theorem dX0_rises_8 : decode cX0_rises 8 = .ok (.iload_n 2, 1) := dk_28 (dk_at dksX0_rises_0 8 rfl rfl)
theorem dX0_rises_9 : decode cX0_rises 9 = .ok (.invokestatic 262, 3) := dk_184 1 6 (dk_at dksX0_rises_0 9 rfl rfl)
theorem dX0_rises_12 : decode cX0_rises 12 = .ok (.ifCond .ne 6, 3) := dk_154 0 6 (dk_at dksX0_rises_0 12 rfl rfl)
theorem dX0_rises_15 : decode cX0_rises 15 = .ok (.ldc 93, 2) := dk_18 93 (dk_at dksX0_rises_0 15 rfl rfl)
theorem dX0_rises_17 : decode cX0_rises 17 = .ok (.ireturn, 1) := dk_172 (dk_at dksX0_rises_0 17 rfl rfl)
theorem dX0_rises_18 : decode cX0_rises 18 = .ok (.aload_n 0, 1) := dk_42 (dk_at dksX0_rises_0 18 rfl rfl)
theorem dX0_rises_19 : decode cX0_rises 19 = .ok (.invokevirtual 254, 3) := dk_182 0 254 (dk_at dksX0_rises_0 19 rfl rfl)
theorem dX0_rises_22 : decode cX0_rises 22 = .ok (.pop, 1) := dk_87 (dk_at dksX0_rises_0 22 rfl rfl)
theorem dX0_rises_23 : decode cX0_rises 23 = .ok (.iconst 0, 1) := dk_3 (dk_at dksX0_rises_0 23 rfl rfl)
theorem dX0_rises_24 : decode cX0_rises 24 = .ok (.istore_n 3, 1) := dk_62 (dk_at dksX0_rises_1 0 rfl rfl)
theorem dX0_rises_25 : decode cX0_rises 25 = .ok (.iload_n 3, 1) := dk_29 (dk_at dksX0_rises_1 1 rfl rfl)
theorem dX0_rises_26 : decode cX0_rises 26 = .ok (.bipush 60, 2) := dk_16 60 (dk_at dksX0_rises_1 2 rfl rfl)
theorem dX0_rises_28 : decode cX0_rises 28 = .ok (.if_icmp .gt 31, 3) := dk_163 0 31 (dk_at dksX0_rises_1 4 rfl rfl)
theorem dX0_rises_31 : decode cX0_rises 31 = .ok (.aload_n 0, 1) := dk_42 (dk_at dksX0_rises_1 7 rfl rfl)
theorem dX0_rises_32 : decode cX0_rises 32 = .ok (.getfield 43, 3) := dk_180 0 43 (dk_at dksX0_rises_1 8 rfl rfl)
theorem dX0_rises_35 : decode cX0_rises 35 = .ok (.iload_n 1, 1) := dk_27 (dk_at dksX0_rises_1 11 rfl rfl)
theorem dX0_rises_36 : decode cX0_rises 36 = .ok (.invokevirtual 242, 3) := dk_182 0 242 (dk_at dksX0_rises_1 12 rfl rfl)
theorem dX0_rises_39 : decode cX0_rises 39 = .ok (.iload_n 2, 1) := dk_28 (dk_at dksX0_rises_1 15 rfl rfl)
theorem dX0_rises_40 : decode cX0_rises 40 = .ok (.if_icmp .gt 5, 3) := dk_163 0 5 (dk_at dksX0_rises_1 16 rfl rfl)
theorem dX0_rises_43 : decode cX0_rises 43 = .ok (.iload_n 3, 1) := dk_29 (dk_at dksX0_rises_1 19 rfl rfl)
theorem dX0_rises_44 : decode cX0_rises 44 = .ok (.ireturn, 1) := dk_172 (dk_at dksX0_rises_1 20 rfl rfl)
theorem dX0_rises_45 : decode cX0_rises 45 = .ok (.aload_n 0, 1) := dk_42 (dk_at dksX0_rises_1 21 rfl rfl)
theorem dX0_rises_46 : decode cX0_rises 46 = .ok (.getfield 43, 3) := dk_180 0 43 (dk_at dksX0_rises_2 0 rfl rfl)
theorem dX0_rises_49 : decode cX0_rises 49 = .ok (.invokevirtual 189, 3) := dk_182 0 189 (dk_at dksX0_rises_2 3 rfl rfl)
theorem dX0_rises_52 : decode cX0_rises 52 = .ok (.pop, 1) := dk_87 (dk_at dksX0_rises_2 6 rfl rfl)
theorem dX0_rises_53 : decode cX0_rises 53 = .ok (.iinc 3 1, 3) := dk_132 3 1 (dk_at dksX0_rises_2 7 rfl rfl)
theorem dX0_rises_56 : decode cX0_rises 56 = .ok (.goto (-31), 3) := dk_167 255 225 (dk_at dksX0_rises_2 10 rfl rfl)
theorem dX0_rises_59 : decode cX0_rises 59 = .ok (.ldc_w 261, 3) := dk_19 1 5 (dk_at dksX0_rises_2 13 rfl rfl)
theorem dX0_rises_62 : decode cX0_rises 62 = .ok (.ireturn, 1) := dk_172 (dk_at dksX0_rises_2 16 rfl rfl)
abbrev cX0_isRank : ByteArray := prog_1_method_22_code
def yX0_isRank : MethodName := ⟨RX0, "isRank", "(I)Z"⟩
def dkwX0_isRank_0 : List UInt8 := [26, 133, 9, 20, 0, 171, 184, 0, 79, 172]
abbrev dktX0_isRank_0 : List UInt8 := dkwX0_isRank_0 ++ []
theorem dksX0_isRank_0 : cX0_isRank.data.toList.drop 0 = dktX0_isRank_0 := by decide +kernel
theorem dX0_isRank_0 : decode cX0_isRank 0 = .ok (.iload_n 0, 1) := dk_26 (dk_at dksX0_isRank_0 0 rfl rfl)
theorem dX0_isRank_1 : decode cX0_isRank 1 = .ok (.i2l, 1) := dk_133 (dk_at dksX0_isRank_0 1 rfl rfl)
theorem dX0_isRank_2 : decode cX0_isRank 2 = .ok (.lconst 0, 1) := dk_9 (dk_at dksX0_isRank_0 2 rfl rfl)
theorem dX0_isRank_3 : decode cX0_isRank 3 = .ok (.ldc2_w 171, 3) := dk_20 0 171 (dk_at dksX0_isRank_0 3 rfl rfl)
theorem dX0_isRank_6 : decode cX0_isRank 6 = .ok (.invokestatic 79, 3) := dk_184 0 79 (dk_at dksX0_isRank_0 6 rfl rfl)
theorem dX0_isRank_9 : decode cX0_isRank 9 = .ok (.ireturn, 1) := dk_172 (dk_at dksX0_isRank_0 9 rfl rfl)
abbrev cX0_calm : ByteArray := prog_1_method_40_code
def yX0_calm : MethodName := ⟨RX0, "calm", "()I"⟩
def dkwX0_calm_2 : List UInt8 := [132, 1, 1, 167, 255, 223, 19, 1, 5, 172]
abbrev dktX0_calm_2 : List UInt8 := dkwX0_calm_2 ++ []
def dkwX0_calm_1 : List UInt8 := [180, 0, 43, 182, 1, 9, 61, 42, 180, 0, 43, 182, 0, 189, 182, 1, 9, 28, 160, 0, 5, 27, 172]
abbrev dktX0_calm_1 : List UInt8 := dkwX0_calm_1 ++ dktX0_calm_2
def dkwX0_calm_0 : List UInt8 := [42, 182, 0, 177, 154, 0, 6, 18, 167, 172, 42, 182, 0, 254, 87, 3, 60, 27, 16, 60, 163, 0, 33, 42]
abbrev dktX0_calm_0 : List UInt8 := dkwX0_calm_0 ++ dktX0_calm_1
theorem dksX0_calm_0 : cX0_calm.data.toList.drop 0 = dktX0_calm_0 := by decide +kernel
theorem dksX0_calm_1 : cX0_calm.data.toList.drop 24 = dktX0_calm_1 := dk_seg dksX0_calm_0 24 rfl rfl
theorem dksX0_calm_2 : cX0_calm.data.toList.drop 47 = dktX0_calm_2 := dk_seg dksX0_calm_1 23 rfl rfl
theorem dX0_calm_0 : decode cX0_calm 0 = .ok (.aload_n 0, 1) := dk_42 (dk_at dksX0_calm_0 0 rfl rfl)
theorem dX0_calm_1 : decode cX0_calm 1 = .ok (.invokevirtual 177, 3) := dk_182 0 177 (dk_at dksX0_calm_0 1 rfl rfl)
theorem dX0_calm_4 : decode cX0_calm 4 = .ok (.ifCond .ne 6, 3) := dk_154 0 6 (dk_at dksX0_calm_0 4 rfl rfl)
theorem dX0_calm_7 : decode cX0_calm 7 = .ok (.ldc 167, 2) := dk_18 167 (dk_at dksX0_calm_0 7 rfl rfl)
theorem dX0_calm_9 : decode cX0_calm 9 = .ok (.ireturn, 1) := dk_172 (dk_at dksX0_calm_0 9 rfl rfl)
theorem dX0_calm_10 : decode cX0_calm 10 = .ok (.aload_n 0, 1) := dk_42 (dk_at dksX0_calm_0 10 rfl rfl)
theorem dX0_calm_11 : decode cX0_calm 11 = .ok (.invokevirtual 254, 3) := dk_182 0 254 (dk_at dksX0_calm_0 11 rfl rfl)
theorem dX0_calm_14 : decode cX0_calm 14 = .ok (.pop, 1) := dk_87 (dk_at dksX0_calm_0 14 rfl rfl)
theorem dX0_calm_15 : decode cX0_calm 15 = .ok (.iconst 0, 1) := dk_3 (dk_at dksX0_calm_0 15 rfl rfl)
theorem dX0_calm_16 : decode cX0_calm 16 = .ok (.istore_n 1, 1) := dk_60 (dk_at dksX0_calm_0 16 rfl rfl)
theorem dX0_calm_17 : decode cX0_calm 17 = .ok (.iload_n 1, 1) := dk_27 (dk_at dksX0_calm_0 17 rfl rfl)
theorem dX0_calm_18 : decode cX0_calm 18 = .ok (.bipush 60, 2) := dk_16 60 (dk_at dksX0_calm_0 18 rfl rfl)
theorem dX0_calm_20 : decode cX0_calm 20 = .ok (.if_icmp .gt 33, 3) := dk_163 0 33 (dk_at dksX0_calm_0 20 rfl rfl)
theorem dX0_calm_23 : decode cX0_calm 23 = .ok (.aload_n 0, 1) := dk_42 (dk_at dksX0_calm_0 23 rfl rfl)
theorem dX0_calm_24 : decode cX0_calm 24 = .ok (.getfield 43, 3) := dk_180 0 43 (dk_at dksX0_calm_1 0 rfl rfl)
theorem dX0_calm_27 : decode cX0_calm 27 = .ok (.invokevirtual 265, 3) := dk_182 1 9 (dk_at dksX0_calm_1 3 rfl rfl)
theorem dX0_calm_30 : decode cX0_calm 30 = .ok (.istore_n 2, 1) := dk_61 (dk_at dksX0_calm_1 6 rfl rfl)
theorem dX0_calm_31 : decode cX0_calm 31 = .ok (.aload_n 0, 1) := dk_42 (dk_at dksX0_calm_1 7 rfl rfl)
theorem dX0_calm_32 : decode cX0_calm 32 = .ok (.getfield 43, 3) := dk_180 0 43 (dk_at dksX0_calm_1 8 rfl rfl)
theorem dX0_calm_35 : decode cX0_calm 35 = .ok (.invokevirtual 189, 3) := dk_182 0 189 (dk_at dksX0_calm_1 11 rfl rfl)
theorem dX0_calm_38 : decode cX0_calm 38 = .ok (.invokevirtual 265, 3) := dk_182 1 9 (dk_at dksX0_calm_1 14 rfl rfl)
theorem dX0_calm_41 : decode cX0_calm 41 = .ok (.iload_n 2, 1) := dk_28 (dk_at dksX0_calm_1 17 rfl rfl)
theorem dX0_calm_42 : decode cX0_calm 42 = .ok (.if_icmp .ne 5, 3) := dk_160 0 5 (dk_at dksX0_calm_1 18 rfl rfl)
theorem dX0_calm_45 : decode cX0_calm 45 = .ok (.iload_n 1, 1) := dk_27 (dk_at dksX0_calm_1 21 rfl rfl)
theorem dX0_calm_46 : decode cX0_calm 46 = .ok (.ireturn, 1) := dk_172 (dk_at dksX0_calm_1 22 rfl rfl)
theorem dX0_calm_47 : decode cX0_calm 47 = .ok (.iinc 1 1, 3) := dk_132 1 1 (dk_at dksX0_calm_2 0 rfl rfl)
theorem dX0_calm_50 : decode cX0_calm 50 = .ok (.goto (-33), 3) := dk_167 255 223 (dk_at dksX0_calm_2 3 rfl rfl)
theorem dX0_calm_53 : decode cX0_calm 53 = .ok (.ldc_w 261, 3) := dk_19 1 5 (dk_at dksX0_calm_2 6 rfl rfl)
theorem dX0_calm_56 : decode cX0_calm 56 = .ok (.ireturn, 1) := dk_172 (dk_at dksX0_calm_2 9 rfl rfl)
abbrev cX0_cushionFor : ByteArray := prog_1_method_42_code
def yX0_cushionFor : MethodName := ⟨RX0, "cushionFor", "(III)I"⟩
def dkwX0_cushionFor_2 : List UInt8 := [28, 29, 182, 1, 15, 153, 0, 6, 21, 4, 172, 132, 4, 1, 167, 255, 222, 19, 1, 5, 172]
abbrev dktX0_cushionFor_2 : List UInt8 := dkwX0_cushionFor_2 ++ []
def dkwX0_cushionFor_1 : List UInt8 := [172, 3, 54, 4, 21, 4, 16, 20, 163, 0, 33, 42, 182, 0, 254, 180, 0, 201, 27, 21, 4, 79, 42, 27]
abbrev dktX0_cushionFor_1 : List UInt8 := dkwX0_cushionFor_1 ++ dktX0_cushionFor_2
def dkwX0_cushionFor_0 : List UInt8 := [42, 27, 182, 0, 196, 153, 0, 17, 28, 184, 1, 6, 153, 0, 10, 29, 184, 1, 12, 154, 0, 6, 18, 93]
abbrev dktX0_cushionFor_0 : List UInt8 := dkwX0_cushionFor_0 ++ dktX0_cushionFor_1
theorem dksX0_cushionFor_0 : cX0_cushionFor.data.toList.drop 0 = dktX0_cushionFor_0 := by decide +kernel
theorem dksX0_cushionFor_1 : cX0_cushionFor.data.toList.drop 24 = dktX0_cushionFor_1 := dk_seg dksX0_cushionFor_0 24 rfl rfl
theorem dksX0_cushionFor_2 : cX0_cushionFor.data.toList.drop 48 = dktX0_cushionFor_2 := dk_seg dksX0_cushionFor_1 24 rfl rfl
theorem dX0_cushionFor_0 : decode cX0_cushionFor 0 = .ok (.aload_n 0, 1) := dk_42 (dk_at dksX0_cushionFor_0 0 rfl rfl)
theorem dX0_cushionFor_1 : decode cX0_cushionFor 1 = .ok (.iload_n 1, 1) := dk_27 (dk_at dksX0_cushionFor_0 1 rfl rfl)
theorem dX0_cushionFor_2 : decode cX0_cushionFor 2 = .ok (.invokevirtual 196, 3) := dk_182 0 196 (dk_at dksX0_cushionFor_0 2 rfl rfl)
theorem dX0_cushionFor_5 : decode cX0_cushionFor 5 = .ok (.ifCond .eq 17, 3) := dk_153 0 17 (dk_at dksX0_cushionFor_0 5 rfl rfl)
theorem dX0_cushionFor_8 : decode cX0_cushionFor 8 = .ok (.iload_n 2, 1) := dk_28 (dk_at dksX0_cushionFor_0 8 rfl rfl)
theorem dX0_cushionFor_9 : decode cX0_cushionFor 9 = .ok (.invokestatic 262, 3) := dk_184 1 6 (dk_at dksX0_cushionFor_0 9 rfl rfl)
theorem dX0_cushionFor_12 : decode cX0_cushionFor 12 = .ok (.ifCond .eq 10, 3) := dk_153 0 10 (dk_at dksX0_cushionFor_0 12 rfl rfl)
theorem dX0_cushionFor_15 : decode cX0_cushionFor 15 = .ok (.iload_n 3, 1) := dk_29 (dk_at dksX0_cushionFor_0 15 rfl rfl)
theorem dX0_cushionFor_16 : decode cX0_cushionFor 16 = .ok (.invokestatic 268, 3) := dk_184 1 12 (dk_at dksX0_cushionFor_0 16 rfl rfl)
theorem dX0_cushionFor_19 : decode cX0_cushionFor 19 = .ok (.ifCond .ne 6, 3) := dk_154 0 6 (dk_at dksX0_cushionFor_0 19 rfl rfl)
theorem dX0_cushionFor_22 : decode cX0_cushionFor 22 = .ok (.ldc 93, 2) := dk_18 93 (dk_at dksX0_cushionFor_0 22 rfl rfl)
theorem dX0_cushionFor_24 : decode cX0_cushionFor 24 = .ok (.ireturn, 1) := dk_172 (dk_at dksX0_cushionFor_1 0 rfl rfl)
theorem dX0_cushionFor_25 : decode cX0_cushionFor 25 = .ok (.iconst 0, 1) := dk_3 (dk_at dksX0_cushionFor_1 1 rfl rfl)
theorem dX0_cushionFor_26 : decode cX0_cushionFor 26 = .ok (.istore 4, 2) := dk_54 4 (dk_at dksX0_cushionFor_1 2 rfl rfl)
theorem dX0_cushionFor_28 : decode cX0_cushionFor 28 = .ok (.iload 4, 2) := dk_21 4 (dk_at dksX0_cushionFor_1 4 rfl rfl)
theorem dX0_cushionFor_30 : decode cX0_cushionFor 30 = .ok (.bipush 20, 2) := dk_16 20 (dk_at dksX0_cushionFor_1 6 rfl rfl)
theorem dX0_cushionFor_32 : decode cX0_cushionFor 32 = .ok (.if_icmp .gt 33, 3) := dk_163 0 33 (dk_at dksX0_cushionFor_1 8 rfl rfl)
theorem dX0_cushionFor_35 : decode cX0_cushionFor 35 = .ok (.aload_n 0, 1) := dk_42 (dk_at dksX0_cushionFor_1 11 rfl rfl)
theorem dX0_cushionFor_36 : decode cX0_cushionFor 36 = .ok (.invokevirtual 254, 3) := dk_182 0 254 (dk_at dksX0_cushionFor_1 12 rfl rfl)
theorem dX0_cushionFor_39 : decode cX0_cushionFor 39 = .ok (.getfield 201, 3) := dk_180 0 201 (dk_at dksX0_cushionFor_1 15 rfl rfl)
theorem dX0_cushionFor_42 : decode cX0_cushionFor 42 = .ok (.iload_n 1, 1) := dk_27 (dk_at dksX0_cushionFor_1 18 rfl rfl)
theorem dX0_cushionFor_43 : decode cX0_cushionFor 43 = .ok (.iload 4, 2) := dk_21 4 (dk_at dksX0_cushionFor_1 19 rfl rfl)
theorem dX0_cushionFor_45 : decode cX0_cushionFor 45 = .ok (.iastore, 1) := dk_79 (dk_at dksX0_cushionFor_1 21 rfl rfl)
theorem dX0_cushionFor_46 : decode cX0_cushionFor 46 = .ok (.aload_n 0, 1) := dk_42 (dk_at dksX0_cushionFor_1 22 rfl rfl)
theorem dX0_cushionFor_47 : decode cX0_cushionFor 47 = .ok (.iload_n 1, 1) := dk_27 (dk_at dksX0_cushionFor_1 23 rfl rfl)
theorem dX0_cushionFor_48 : decode cX0_cushionFor 48 = .ok (.iload_n 2, 1) := dk_28 (dk_at dksX0_cushionFor_2 0 rfl rfl)
theorem dX0_cushionFor_49 : decode cX0_cushionFor 49 = .ok (.iload_n 3, 1) := dk_29 (dk_at dksX0_cushionFor_2 1 rfl rfl)
theorem dX0_cushionFor_50 : decode cX0_cushionFor 50 = .ok (.invokevirtual 271, 3) := dk_182 1 15 (dk_at dksX0_cushionFor_2 2 rfl rfl)
theorem dX0_cushionFor_53 : decode cX0_cushionFor 53 = .ok (.ifCond .eq 6, 3) := dk_153 0 6 (dk_at dksX0_cushionFor_2 5 rfl rfl)
theorem dX0_cushionFor_56 : decode cX0_cushionFor 56 = .ok (.iload 4, 2) := dk_21 4 (dk_at dksX0_cushionFor_2 8 rfl rfl)
theorem dX0_cushionFor_58 : decode cX0_cushionFor 58 = .ok (.ireturn, 1) := dk_172 (dk_at dksX0_cushionFor_2 10 rfl rfl)
theorem dX0_cushionFor_59 : decode cX0_cushionFor 59 = .ok (.iinc 4 1, 3) := dk_132 4 1 (dk_at dksX0_cushionFor_2 11 rfl rfl)
theorem dX0_cushionFor_62 : decode cX0_cushionFor 62 = .ok (.goto (-34), 3) := dk_167 255 222 (dk_at dksX0_cushionFor_2 14 rfl rfl)
theorem dX0_cushionFor_65 : decode cX0_cushionFor 65 = .ok (.ldc_w 261, 3) := dk_19 1 5 (dk_at dksX0_cushionFor_2 17 rfl rfl)
theorem dX0_cushionFor_68 : decode cX0_cushionFor 68 = .ok (.ireturn, 1) := dk_172 (dk_at dksX0_cushionFor_2 20 rfl rfl)
abbrev cX0_isNear : ByteArray := prog_1_method_24_code
def yX0_isNear : MethodName := ⟨RX0, "isNear", "(I)Z"⟩
def dkwX0_isNear_0 : List UInt8 := [26, 133, 9, 20, 0, 175, 184, 0, 79, 172]
abbrev dktX0_isNear_0 : List UInt8 := dkwX0_isNear_0 ++ []
theorem dksX0_isNear_0 : cX0_isNear.data.toList.drop 0 = dktX0_isNear_0 := by decide +kernel
theorem dX0_isNear_0 : decode cX0_isNear 0 = .ok (.iload_n 0, 1) := dk_26 (dk_at dksX0_isNear_0 0 rfl rfl)
theorem dX0_isNear_1 : decode cX0_isNear 1 = .ok (.i2l, 1) := dk_133 (dk_at dksX0_isNear_0 1 rfl rfl)
theorem dX0_isNear_2 : decode cX0_isNear 2 = .ok (.lconst 0, 1) := dk_9 (dk_at dksX0_isNear_0 2 rfl rfl)
theorem dX0_isNear_3 : decode cX0_isNear 3 = .ok (.ldc2_w 175, 3) := dk_20 0 175 (dk_at dksX0_isNear_0 3 rfl rfl)
theorem dX0_isNear_6 : decode cX0_isNear 6 = .ok (.invokestatic 79, 3) := dk_184 0 79 (dk_at dksX0_isNear_0 6 rfl rfl)
theorem dX0_isNear_9 : decode cX0_isNear 9 = .ok (.ireturn, 1) := dk_172 (dk_at dksX0_isNear_0 9 rfl rfl)
abbrev cX0_isHighIn : ByteArray := prog_1_method_41_code
def yX0_isHighIn : MethodName := ⟨RX0, "isHighIn", "(III)Z"⟩
def dkwX0_isHighIn_0 : List UInt8 := [42, 29, 182, 1, 1, 27, 182, 0, 242, 28, 163, 0, 7, 4, 167, 0, 4, 3, 172]
abbrev dktX0_isHighIn_0 : List UInt8 := dkwX0_isHighIn_0 ++ []
theorem dksX0_isHighIn_0 : cX0_isHighIn.data.toList.drop 0 = dktX0_isHighIn_0 := by decide +kernel
theorem dX0_isHighIn_0 : decode cX0_isHighIn 0 = .ok (.aload_n 0, 1) := dk_42 (dk_at dksX0_isHighIn_0 0 rfl rfl)
theorem dX0_isHighIn_1 : decode cX0_isHighIn 1 = .ok (.iload_n 3, 1) := dk_29 (dk_at dksX0_isHighIn_0 1 rfl rfl)
theorem dX0_isHighIn_2 : decode cX0_isHighIn 2 = .ok (.invokevirtual 257, 3) := dk_182 1 1 (dk_at dksX0_isHighIn_0 2 rfl rfl)
theorem dX0_isHighIn_5 : decode cX0_isHighIn 5 = .ok (.iload_n 1, 1) := dk_27 (dk_at dksX0_isHighIn_0 5 rfl rfl)
theorem dX0_isHighIn_6 : decode cX0_isHighIn 6 = .ok (.invokevirtual 242, 3) := dk_182 0 242 (dk_at dksX0_isHighIn_0 6 rfl rfl)
theorem dX0_isHighIn_9 : decode cX0_isHighIn 9 = .ok (.iload_n 2, 1) := dk_28 (dk_at dksX0_isHighIn_0 9 rfl rfl)
theorem dX0_isHighIn_10 : decode cX0_isHighIn 10 = .ok (.if_icmp .gt 7, 3) := dk_163 0 7 (dk_at dksX0_isHighIn_0 10 rfl rfl)
theorem dX0_isHighIn_13 : decode cX0_isHighIn 13 = .ok (.iconst 1, 1) := dk_4 (dk_at dksX0_isHighIn_0 13 rfl rfl)
theorem dX0_isHighIn_14 : decode cX0_isHighIn 14 = .ok (.goto 4, 3) := dk_167 0 4 (dk_at dksX0_isHighIn_0 14 rfl rfl)
theorem dX0_isHighIn_17 : decode cX0_isHighIn 17 = .ok (.iconst 0, 1) := dk_3 (dk_at dksX0_isHighIn_0 17 rfl rfl)
theorem dX0_isHighIn_18 : decode cX0_isHighIn 18 = .ok (.ireturn, 1) := dk_172 (dk_at dksX0_isHighIn_0 18 rfl rfl)
abbrev cX0_guard : ByteArray := prog_1_method_44_code
def yX0_guard : MethodName := ⟨RX0, "guard", "(IIII)I"⟩
def dkwX0_guard_5 : List UInt8 := [21, 4, 184, 1, 19, 172]
abbrev dktX0_guard_5 : List UInt8 := dkwX0_guard_5 ++ []
def dkwX0_guard_4 : List UInt8 := [182, 1, 15, 153, 0, 8, 21, 6, 167, 0, 5, 21, 5, 54, 5, 132, 6, 1, 167, 255, 187, 21, 5]
abbrev dktX0_guard_4 : List UInt8 := dkwX0_guard_4 ++ dktX0_guard_5
def dkwX0_guard_3 : List UInt8 := [184, 0, 220, 161, 0, 6, 167, 0, 31, 42, 182, 0, 254, 21, 6, 181, 0, 217, 42, 27, 28, 29]
abbrev dktX0_guard_3 : List UInt8 := dkwX0_guard_3 ++ dktX0_guard_4
def dkwX0_guard_2 : List UInt8 := [182, 0, 163, 120, 162, 0, 61, 21, 5, 19, 1, 5, 159, 0, 19, 21, 6, 184, 0, 220, 21, 5]
abbrev dktX0_guard_2 : List UInt8 := dkwX0_guard_2 ++ dktX0_guard_3
def dkwX0_guard_1 : List UInt8 := [184, 0, 214, 154, 0, 6, 18, 93, 172, 19, 1, 5, 54, 5, 3, 54, 6, 21, 6, 4, 42, 180, 0, 39]
abbrev dktX0_guard_1 : List UInt8 := dkwX0_guard_1 ++ dktX0_guard_2
def dkwX0_guard_0 : List UInt8 := [42, 27, 182, 0, 196, 153, 0, 25, 28, 184, 1, 6, 153, 0, 18, 29, 184, 1, 12, 153, 0, 11, 21, 4]
abbrev dktX0_guard_0 : List UInt8 := dkwX0_guard_0 ++ dktX0_guard_1
theorem dksX0_guard_0 : cX0_guard.data.toList.drop 0 = dktX0_guard_0 := by decide +kernel
theorem dksX0_guard_1 : cX0_guard.data.toList.drop 24 = dktX0_guard_1 := dk_seg dksX0_guard_0 24 rfl rfl
theorem dksX0_guard_2 : cX0_guard.data.toList.drop 48 = dktX0_guard_2 := dk_seg dksX0_guard_1 24 rfl rfl
theorem dksX0_guard_3 : cX0_guard.data.toList.drop 70 = dktX0_guard_3 := dk_seg dksX0_guard_2 22 rfl rfl
theorem dksX0_guard_4 : cX0_guard.data.toList.drop 92 = dktX0_guard_4 := dk_seg dksX0_guard_3 22 rfl rfl
theorem dksX0_guard_5 : cX0_guard.data.toList.drop 115 = dktX0_guard_5 := dk_seg dksX0_guard_4 23 rfl rfl
theorem dX0_guard_0 : decode cX0_guard 0 = .ok (.aload_n 0, 1) := dk_42 (dk_at dksX0_guard_0 0 rfl rfl)
theorem dX0_guard_1 : decode cX0_guard 1 = .ok (.iload_n 1, 1) := dk_27 (dk_at dksX0_guard_0 1 rfl rfl)
theorem dX0_guard_2 : decode cX0_guard 2 = .ok (.invokevirtual 196, 3) := dk_182 0 196 (dk_at dksX0_guard_0 2 rfl rfl)
theorem dX0_guard_5 : decode cX0_guard 5 = .ok (.ifCond .eq 25, 3) := dk_153 0 25 (dk_at dksX0_guard_0 5 rfl rfl)
theorem dX0_guard_8 : decode cX0_guard 8 = .ok (.iload_n 2, 1) := dk_28 (dk_at dksX0_guard_0 8 rfl rfl)
theorem dX0_guard_9 : decode cX0_guard 9 = .ok (.invokestatic 262, 3) := dk_184 1 6 (dk_at dksX0_guard_0 9 rfl rfl)
theorem dX0_guard_12 : decode cX0_guard 12 = .ok (.ifCond .eq 18, 3) := dk_153 0 18 (dk_at dksX0_guard_0 12 rfl rfl)
theorem dX0_guard_15 : decode cX0_guard 15 = .ok (.iload_n 3, 1) := dk_29 (dk_at dksX0_guard_0 15 rfl rfl)
theorem dX0_guard_16 : decode cX0_guard 16 = .ok (.invokestatic 268, 3) := dk_184 1 12 (dk_at dksX0_guard_0 16 rfl rfl)
theorem dX0_guard_19 : decode cX0_guard 19 = .ok (.ifCond .eq 11, 3) := dk_153 0 11 (dk_at dksX0_guard_0 19 rfl rfl)
theorem dX0_guard_22 : decode cX0_guard 22 = .ok (.iload 4, 2) := dk_21 4 (dk_at dksX0_guard_0 22 rfl rfl)
theorem dX0_guard_24 : decode cX0_guard 24 = .ok (.invokestatic 214, 3) := dk_184 0 214 (dk_at dksX0_guard_1 0 rfl rfl)
theorem dX0_guard_27 : decode cX0_guard 27 = .ok (.ifCond .ne 6, 3) := dk_154 0 6 (dk_at dksX0_guard_1 3 rfl rfl)
theorem dX0_guard_30 : decode cX0_guard 30 = .ok (.ldc 93, 2) := dk_18 93 (dk_at dksX0_guard_1 6 rfl rfl)
theorem dX0_guard_32 : decode cX0_guard 32 = .ok (.ireturn, 1) := dk_172 (dk_at dksX0_guard_1 8 rfl rfl)
theorem dX0_guard_33 : decode cX0_guard 33 = .ok (.ldc_w 261, 3) := dk_19 1 5 (dk_at dksX0_guard_1 9 rfl rfl)
theorem dX0_guard_36 : decode cX0_guard 36 = .ok (.istore 5, 2) := dk_54 5 (dk_at dksX0_guard_1 12 rfl rfl)
theorem dX0_guard_38 : decode cX0_guard 38 = .ok (.iconst 0, 1) := dk_3 (dk_at dksX0_guard_1 14 rfl rfl)
theorem dX0_guard_39 : decode cX0_guard 39 = .ok (.istore 6, 2) := dk_54 6 (dk_at dksX0_guard_1 15 rfl rfl)
theorem dX0_guard_41 : decode cX0_guard 41 = .ok (.iload 6, 2) := dk_21 6 (dk_at dksX0_guard_1 17 rfl rfl)
theorem dX0_guard_43 : decode cX0_guard 43 = .ok (.iconst 1, 1) := dk_4 (dk_at dksX0_guard_1 19 rfl rfl)
theorem dX0_guard_44 : decode cX0_guard 44 = .ok (.aload_n 0, 1) := dk_42 (dk_at dksX0_guard_1 20 rfl rfl)
theorem dX0_guard_45 : decode cX0_guard 45 = .ok (.getfield 39, 3) := dk_180 0 39 (dk_at dksX0_guard_1 21 rfl rfl)
theorem dX0_guard_48 : decode cX0_guard 48 = .ok (.invokevirtual 163, 3) := dk_182 0 163 (dk_at dksX0_guard_2 0 rfl rfl)
theorem dX0_guard_51 : decode cX0_guard 51 = .ok (.ishl, 1) := dk_120 (dk_at dksX0_guard_2 3 rfl rfl)
theorem dX0_guard_52 : decode cX0_guard 52 = .ok (.if_icmp .ge 61, 3) := dk_162 0 61 (dk_at dksX0_guard_2 4 rfl rfl)
theorem dX0_guard_55 : decode cX0_guard 55 = .ok (.iload 5, 2) := dk_21 5 (dk_at dksX0_guard_2 7 rfl rfl)
theorem dX0_guard_57 : decode cX0_guard 57 = .ok (.ldc_w 261, 3) := dk_19 1 5 (dk_at dksX0_guard_2 9 rfl rfl)
theorem dX0_guard_60 : decode cX0_guard 60 = .ok (.if_icmp .eq 19, 3) := dk_159 0 19 (dk_at dksX0_guard_2 12 rfl rfl)
theorem dX0_guard_63 : decode cX0_guard 63 = .ok (.iload 6, 2) := dk_21 6 (dk_at dksX0_guard_2 15 rfl rfl)
theorem dX0_guard_65 : decode cX0_guard 65 = .ok (.invokestatic 220, 3) := dk_184 0 220 (dk_at dksX0_guard_2 17 rfl rfl)
theorem dX0_guard_68 : decode cX0_guard 68 = .ok (.iload 5, 2) := dk_21 5 (dk_at dksX0_guard_2 20 rfl rfl)
theorem dX0_guard_70 : decode cX0_guard 70 = .ok (.invokestatic 220, 3) := dk_184 0 220 (dk_at dksX0_guard_3 0 rfl rfl)
theorem dX0_guard_73 : decode cX0_guard 73 = .ok (.if_icmp .lt 6, 3) := dk_161 0 6 (dk_at dksX0_guard_3 3 rfl rfl)
theorem dX0_guard_76 : decode cX0_guard 76 = .ok (.goto 31, 3) := dk_167 0 31 (dk_at dksX0_guard_3 6 rfl rfl)
theorem dX0_guard_79 : decode cX0_guard 79 = .ok (.aload_n 0, 1) := dk_42 (dk_at dksX0_guard_3 9 rfl rfl)
theorem dX0_guard_80 : decode cX0_guard 80 = .ok (.invokevirtual 254, 3) := dk_182 0 254 (dk_at dksX0_guard_3 10 rfl rfl)
theorem dX0_guard_83 : decode cX0_guard 83 = .ok (.iload 6, 2) := dk_21 6 (dk_at dksX0_guard_3 13 rfl rfl)
theorem dX0_guard_85 : decode cX0_guard 85 = .ok (.putfield 217, 3) := dk_181 0 217 (dk_at dksX0_guard_3 15 rfl rfl)
theorem dX0_guard_88 : decode cX0_guard 88 = .ok (.aload_n 0, 1) := dk_42 (dk_at dksX0_guard_3 18 rfl rfl)
theorem dX0_guard_89 : decode cX0_guard 89 = .ok (.iload_n 1, 1) := dk_27 (dk_at dksX0_guard_3 19 rfl rfl)
theorem dX0_guard_90 : decode cX0_guard 90 = .ok (.iload_n 2, 1) := dk_28 (dk_at dksX0_guard_3 20 rfl rfl)
theorem dX0_guard_91 : decode cX0_guard 91 = .ok (.iload_n 3, 1) := dk_29 (dk_at dksX0_guard_3 21 rfl rfl)
theorem dX0_guard_92 : decode cX0_guard 92 = .ok (.invokevirtual 271, 3) := dk_182 1 15 (dk_at dksX0_guard_4 0 rfl rfl)
theorem dX0_guard_95 : decode cX0_guard 95 = .ok (.ifCond .eq 8, 3) := dk_153 0 8 (dk_at dksX0_guard_4 3 rfl rfl)
theorem dX0_guard_98 : decode cX0_guard 98 = .ok (.iload 6, 2) := dk_21 6 (dk_at dksX0_guard_4 6 rfl rfl)
theorem dX0_guard_100 : decode cX0_guard 100 = .ok (.goto 5, 3) := dk_167 0 5 (dk_at dksX0_guard_4 8 rfl rfl)
theorem dX0_guard_103 : decode cX0_guard 103 = .ok (.iload 5, 2) := dk_21 5 (dk_at dksX0_guard_4 11 rfl rfl)
theorem dX0_guard_105 : decode cX0_guard 105 = .ok (.istore 5, 2) := dk_54 5 (dk_at dksX0_guard_4 13 rfl rfl)
theorem dX0_guard_107 : decode cX0_guard 107 = .ok (.iinc 6 1, 3) := dk_132 6 1 (dk_at dksX0_guard_4 15 rfl rfl)
theorem dX0_guard_110 : decode cX0_guard 110 = .ok (.goto (-69), 3) := dk_167 255 187 (dk_at dksX0_guard_4 18 rfl rfl)
theorem dX0_guard_113 : decode cX0_guard 113 = .ok (.iload 5, 2) := dk_21 5 (dk_at dksX0_guard_4 21 rfl rfl)
theorem dX0_guard_115 : decode cX0_guard 115 = .ok (.iload 4, 2) := dk_21 4 (dk_at dksX0_guard_5 0 rfl rfl)
theorem dX0_guard_117 : decode cX0_guard 117 = .ok (.invokestatic 275, 3) := dk_184 1 19 (dk_at dksX0_guard_5 2 rfl rfl)
theorem dX0_guard_120 : decode cX0_guard 120 = .ok (.ireturn, 1) := dk_172 (dk_at dksX0_guard_5 5 rfl rfl)
abbrev cX0_told : ByteArray := prog_1_method_43_code
def yX0_told : MethodName := ⟨RX0, "told", "(II)I"⟩
def dkwX0_told_0 : List UInt8 := [26, 19, 1, 5, 159, 0, 8, 27, 4, 160, 0, 7, 26, 167, 0, 7, 26, 184, 0, 220, 172]
abbrev dktX0_told_0 : List UInt8 := dkwX0_told_0 ++ []
theorem dksX0_told_0 : cX0_told.data.toList.drop 0 = dktX0_told_0 := by decide +kernel
theorem dX0_told_0 : decode cX0_told 0 = .ok (.iload_n 0, 1) := dk_26 (dk_at dksX0_told_0 0 rfl rfl)
theorem dX0_told_1 : decode cX0_told 1 = .ok (.ldc_w 261, 3) := dk_19 1 5 (dk_at dksX0_told_0 1 rfl rfl)
theorem dX0_told_4 : decode cX0_told 4 = .ok (.if_icmp .eq 8, 3) := dk_159 0 8 (dk_at dksX0_told_0 4 rfl rfl)
theorem dX0_told_7 : decode cX0_told 7 = .ok (.iload_n 1, 1) := dk_27 (dk_at dksX0_told_0 7 rfl rfl)
theorem dX0_told_8 : decode cX0_told 8 = .ok (.iconst 1, 1) := dk_4 (dk_at dksX0_told_0 8 rfl rfl)
theorem dX0_told_9 : decode cX0_told 9 = .ok (.if_icmp .ne 7, 3) := dk_160 0 7 (dk_at dksX0_told_0 9 rfl rfl)
theorem dX0_told_12 : decode cX0_told 12 = .ok (.iload_n 0, 1) := dk_26 (dk_at dksX0_told_0 12 rfl rfl)
theorem dX0_told_13 : decode cX0_told 13 = .ok (.goto 7, 3) := dk_167 0 7 (dk_at dksX0_told_0 13 rfl rfl)
theorem dX0_told_16 : decode cX0_told 16 = .ok (.iload_n 0, 1) := dk_26 (dk_at dksX0_told_0 16 rfl rfl)
theorem dX0_told_17 : decode cX0_told 17 = .ok (.invokestatic 220, 3) := dk_184 0 220 (dk_at dksX0_told_0 17 rfl rfl)
theorem dX0_told_20 : decode cX0_told 20 = .ok (.ireturn, 1) := dk_172 (dk_at dksX0_told_0 20 rfl rfl)
abbrev cX0_bestWatch : ByteArray := prog_1_method_45_code
def yX0_bestWatch : MethodName := ⟨RX0, "bestWatch", "(II)I"⟩
def dkwX0_bestWatch_4 : List UInt8 := [184, 1, 23, 54, 4, 132, 5, 1, 167, 255, 197, 28, 154, 0, 7, 29, 167, 0, 5, 21, 4, 172]
abbrev dktX0_bestWatch_4 : List UInt8 := dkwX0_bestWatch_4 ++ []
def dkwX0_bestWatch_3 : List UInt8 := [182, 1, 9, 54, 6, 21, 6, 21, 4, 164, 0, 8, 21, 5, 167, 0, 4, 29, 62, 21, 4, 21, 6]
abbrev dktX0_bestWatch_3 : List UInt8 := dkwX0_bestWatch_3 ++ dktX0_bestWatch_4
def dkwX0_bestWatch_2 : List UInt8 := [182, 0, 163, 162, 0, 53, 42, 182, 0, 254, 4, 21, 5, 120, 181, 0, 217, 42, 27, 182, 1, 1]
abbrev dktX0_bestWatch_2 : List UInt8 := dkwX0_bestWatch_2 ++ dktX0_bestWatch_3
def dkwX0_bestWatch_1 : List UInt8 := [184, 0, 214, 154, 0, 6, 18, 93, 172, 3, 62, 2, 54, 4, 3, 54, 5, 21, 5, 42, 180, 0, 39]
abbrev dktX0_bestWatch_1 : List UInt8 := dkwX0_bestWatch_1 ++ dktX0_bestWatch_2
def dkwX0_bestWatch_0 : List UInt8 := [42, 182, 0, 177, 154, 0, 6, 18, 167, 172, 27, 133, 10, 20, 0, 175, 184, 0, 79, 153, 0, 10, 28]
abbrev dktX0_bestWatch_0 : List UInt8 := dkwX0_bestWatch_0 ++ dktX0_bestWatch_1
theorem dksX0_bestWatch_0 : cX0_bestWatch.data.toList.drop 0 = dktX0_bestWatch_0 := by decide +kernel
theorem dksX0_bestWatch_1 : cX0_bestWatch.data.toList.drop 23 = dktX0_bestWatch_1 := dk_seg dksX0_bestWatch_0 23 rfl rfl
theorem dksX0_bestWatch_2 : cX0_bestWatch.data.toList.drop 46 = dktX0_bestWatch_2 := dk_seg dksX0_bestWatch_1 23 rfl rfl
theorem dksX0_bestWatch_3 : cX0_bestWatch.data.toList.drop 68 = dktX0_bestWatch_3 := dk_seg dksX0_bestWatch_2 22 rfl rfl
theorem dksX0_bestWatch_4 : cX0_bestWatch.data.toList.drop 91 = dktX0_bestWatch_4 := dk_seg dksX0_bestWatch_3 23 rfl rfl
theorem dX0_bestWatch_0 : decode cX0_bestWatch 0 = .ok (.aload_n 0, 1) := dk_42 (dk_at dksX0_bestWatch_0 0 rfl rfl)
theorem dX0_bestWatch_1 : decode cX0_bestWatch 1 = .ok (.invokevirtual 177, 3) := dk_182 0 177 (dk_at dksX0_bestWatch_0 1 rfl rfl)
theorem dX0_bestWatch_4 : decode cX0_bestWatch 4 = .ok (.ifCond .ne 6, 3) := dk_154 0 6 (dk_at dksX0_bestWatch_0 4 rfl rfl)
theorem dX0_bestWatch_7 : decode cX0_bestWatch 7 = .ok (.ldc 167, 2) := dk_18 167 (dk_at dksX0_bestWatch_0 7 rfl rfl)
theorem dX0_bestWatch_9 : decode cX0_bestWatch 9 = .ok (.ireturn, 1) := dk_172 (dk_at dksX0_bestWatch_0 9 rfl rfl)
theorem dX0_bestWatch_10 : decode cX0_bestWatch 10 = .ok (.iload_n 1, 1) := dk_27 (dk_at dksX0_bestWatch_0 10 rfl rfl)
theorem dX0_bestWatch_11 : decode cX0_bestWatch 11 = .ok (.i2l, 1) := dk_133 (dk_at dksX0_bestWatch_0 11 rfl rfl)
theorem dX0_bestWatch_12 : decode cX0_bestWatch 12 = .ok (.lconst 1, 1) := dk_10 (dk_at dksX0_bestWatch_0 12 rfl rfl)
theorem dX0_bestWatch_13 : decode cX0_bestWatch 13 = .ok (.ldc2_w 175, 3) := dk_20 0 175 (dk_at dksX0_bestWatch_0 13 rfl rfl)
theorem dX0_bestWatch_16 : decode cX0_bestWatch 16 = .ok (.invokestatic 79, 3) := dk_184 0 79 (dk_at dksX0_bestWatch_0 16 rfl rfl)
theorem dX0_bestWatch_19 : decode cX0_bestWatch 19 = .ok (.ifCond .eq 10, 3) := dk_153 0 10 (dk_at dksX0_bestWatch_0 19 rfl rfl)
theorem dX0_bestWatch_22 : decode cX0_bestWatch 22 = .ok (.iload_n 2, 1) := dk_28 (dk_at dksX0_bestWatch_0 22 rfl rfl)
theorem dX0_bestWatch_23 : decode cX0_bestWatch 23 = .ok (.invokestatic 214, 3) := dk_184 0 214 (dk_at dksX0_bestWatch_1 0 rfl rfl)
theorem dX0_bestWatch_26 : decode cX0_bestWatch 26 = .ok (.ifCond .ne 6, 3) := dk_154 0 6 (dk_at dksX0_bestWatch_1 3 rfl rfl)
theorem dX0_bestWatch_29 : decode cX0_bestWatch 29 = .ok (.ldc 93, 2) := dk_18 93 (dk_at dksX0_bestWatch_1 6 rfl rfl)
theorem dX0_bestWatch_31 : decode cX0_bestWatch 31 = .ok (.ireturn, 1) := dk_172 (dk_at dksX0_bestWatch_1 8 rfl rfl)
theorem dX0_bestWatch_32 : decode cX0_bestWatch 32 = .ok (.iconst 0, 1) := dk_3 (dk_at dksX0_bestWatch_1 9 rfl rfl)
theorem dX0_bestWatch_33 : decode cX0_bestWatch 33 = .ok (.istore_n 3, 1) := dk_62 (dk_at dksX0_bestWatch_1 10 rfl rfl)
theorem dX0_bestWatch_34 : decode cX0_bestWatch 34 = .ok (.iconst (-1), 1) := dk_2 (dk_at dksX0_bestWatch_1 11 rfl rfl)
theorem dX0_bestWatch_35 : decode cX0_bestWatch 35 = .ok (.istore 4, 2) := dk_54 4 (dk_at dksX0_bestWatch_1 12 rfl rfl)
theorem dX0_bestWatch_37 : decode cX0_bestWatch 37 = .ok (.iconst 0, 1) := dk_3 (dk_at dksX0_bestWatch_1 14 rfl rfl)
theorem dX0_bestWatch_38 : decode cX0_bestWatch 38 = .ok (.istore 5, 2) := dk_54 5 (dk_at dksX0_bestWatch_1 15 rfl rfl)
theorem dX0_bestWatch_40 : decode cX0_bestWatch 40 = .ok (.iload 5, 2) := dk_21 5 (dk_at dksX0_bestWatch_1 17 rfl rfl)
theorem dX0_bestWatch_42 : decode cX0_bestWatch 42 = .ok (.aload_n 0, 1) := dk_42 (dk_at dksX0_bestWatch_1 19 rfl rfl)
theorem dX0_bestWatch_43 : decode cX0_bestWatch 43 = .ok (.getfield 39, 3) := dk_180 0 39 (dk_at dksX0_bestWatch_1 20 rfl rfl)
theorem dX0_bestWatch_46 : decode cX0_bestWatch 46 = .ok (.invokevirtual 163, 3) := dk_182 0 163 (dk_at dksX0_bestWatch_2 0 rfl rfl)
theorem dX0_bestWatch_49 : decode cX0_bestWatch 49 = .ok (.if_icmp .ge 53, 3) := dk_162 0 53 (dk_at dksX0_bestWatch_2 3 rfl rfl)
theorem dX0_bestWatch_52 : decode cX0_bestWatch 52 = .ok (.aload_n 0, 1) := dk_42 (dk_at dksX0_bestWatch_2 6 rfl rfl)
theorem dX0_bestWatch_53 : decode cX0_bestWatch 53 = .ok (.invokevirtual 254, 3) := dk_182 0 254 (dk_at dksX0_bestWatch_2 7 rfl rfl)
theorem dX0_bestWatch_56 : decode cX0_bestWatch 56 = .ok (.iconst 1, 1) := dk_4 (dk_at dksX0_bestWatch_2 10 rfl rfl)
theorem dX0_bestWatch_57 : decode cX0_bestWatch 57 = .ok (.iload 5, 2) := dk_21 5 (dk_at dksX0_bestWatch_2 11 rfl rfl)
theorem dX0_bestWatch_59 : decode cX0_bestWatch 59 = .ok (.ishl, 1) := dk_120 (dk_at dksX0_bestWatch_2 13 rfl rfl)
theorem dX0_bestWatch_60 : decode cX0_bestWatch 60 = .ok (.putfield 217, 3) := dk_181 0 217 (dk_at dksX0_bestWatch_2 14 rfl rfl)
theorem dX0_bestWatch_63 : decode cX0_bestWatch 63 = .ok (.aload_n 0, 1) := dk_42 (dk_at dksX0_bestWatch_2 17 rfl rfl)
theorem dX0_bestWatch_64 : decode cX0_bestWatch 64 = .ok (.iload_n 1, 1) := dk_27 (dk_at dksX0_bestWatch_2 18 rfl rfl)
theorem dX0_bestWatch_65 : decode cX0_bestWatch 65 = .ok (.invokevirtual 257, 3) := dk_182 1 1 (dk_at dksX0_bestWatch_2 19 rfl rfl)
theorem dX0_bestWatch_68 : decode cX0_bestWatch 68 = .ok (.invokevirtual 265, 3) := dk_182 1 9 (dk_at dksX0_bestWatch_3 0 rfl rfl)
theorem dX0_bestWatch_71 : decode cX0_bestWatch 71 = .ok (.istore 6, 2) := dk_54 6 (dk_at dksX0_bestWatch_3 3 rfl rfl)
theorem dX0_bestWatch_73 : decode cX0_bestWatch 73 = .ok (.iload 6, 2) := dk_21 6 (dk_at dksX0_bestWatch_3 5 rfl rfl)
theorem dX0_bestWatch_75 : decode cX0_bestWatch 75 = .ok (.iload 4, 2) := dk_21 4 (dk_at dksX0_bestWatch_3 7 rfl rfl)
theorem dX0_bestWatch_77 : decode cX0_bestWatch 77 = .ok (.if_icmp .le 8, 3) := dk_164 0 8 (dk_at dksX0_bestWatch_3 9 rfl rfl)
theorem dX0_bestWatch_80 : decode cX0_bestWatch 80 = .ok (.iload 5, 2) := dk_21 5 (dk_at dksX0_bestWatch_3 12 rfl rfl)
theorem dX0_bestWatch_82 : decode cX0_bestWatch 82 = .ok (.goto 4, 3) := dk_167 0 4 (dk_at dksX0_bestWatch_3 14 rfl rfl)
theorem dX0_bestWatch_85 : decode cX0_bestWatch 85 = .ok (.iload_n 3, 1) := dk_29 (dk_at dksX0_bestWatch_3 17 rfl rfl)
theorem dX0_bestWatch_86 : decode cX0_bestWatch 86 = .ok (.istore_n 3, 1) := dk_62 (dk_at dksX0_bestWatch_3 18 rfl rfl)
theorem dX0_bestWatch_87 : decode cX0_bestWatch 87 = .ok (.iload 4, 2) := dk_21 4 (dk_at dksX0_bestWatch_3 19 rfl rfl)
theorem dX0_bestWatch_89 : decode cX0_bestWatch 89 = .ok (.iload 6, 2) := dk_21 6 (dk_at dksX0_bestWatch_3 21 rfl rfl)
theorem dX0_bestWatch_91 : decode cX0_bestWatch 91 = .ok (.invokestatic 279, 3) := dk_184 1 23 (dk_at dksX0_bestWatch_4 0 rfl rfl)
theorem dX0_bestWatch_94 : decode cX0_bestWatch 94 = .ok (.istore 4, 2) := dk_54 4 (dk_at dksX0_bestWatch_4 3 rfl rfl)
theorem dX0_bestWatch_96 : decode cX0_bestWatch 96 = .ok (.iinc 5 1, 3) := dk_132 5 1 (dk_at dksX0_bestWatch_4 5 rfl rfl)
theorem dX0_bestWatch_99 : decode cX0_bestWatch 99 = .ok (.goto (-59), 3) := dk_167 255 197 (dk_at dksX0_bestWatch_4 8 rfl rfl)
theorem dX0_bestWatch_102 : decode cX0_bestWatch 102 = .ok (.iload_n 2, 1) := dk_28 (dk_at dksX0_bestWatch_4 11 rfl rfl)
theorem dX0_bestWatch_103 : decode cX0_bestWatch 103 = .ok (.ifCond .ne 7, 3) := dk_154 0 7 (dk_at dksX0_bestWatch_4 12 rfl rfl)
theorem dX0_bestWatch_106 : decode cX0_bestWatch 106 = .ok (.iload_n 3, 1) := dk_29 (dk_at dksX0_bestWatch_4 15 rfl rfl)
theorem dX0_bestWatch_107 : decode cX0_bestWatch 107 = .ok (.goto 5, 3) := dk_167 0 5 (dk_at dksX0_bestWatch_4 16 rfl rfl)
theorem dX0_bestWatch_110 : decode cX0_bestWatch 110 = .ok (.iload 4, 2) := dk_21 4 (dk_at dksX0_bestWatch_4 19 rfl rfl)
theorem dX0_bestWatch_112 : decode cX0_bestWatch 112 = .ok (.ireturn, 1) := dk_172 (dk_at dksX0_bestWatch_4 21 rfl rfl)
abbrev cX0_sawdust : ByteArray := prog_1_method_49_code
def yX0_sawdust : MethodName := ⟨RX0, "sawdust", "(II)I"⟩
def dkwX0_sawdust_1 : List UInt8 := [28, 182, 1, 42, 182, 1, 45, 182, 0, 97, 172, 78, 42, 45, 182, 0, 101, 172]
abbrev dktX0_sawdust_1 : List UInt8 := dkwX0_sawdust_1 ++ []
def dkwX0_sawdust_0 : List UInt8 := [42, 182, 0, 177, 154, 0, 6, 18, 167, 172, 27, 184, 0, 87, 154, 0, 6, 18, 93, 172, 42, 42, 42, 27]
abbrev dktX0_sawdust_0 : List UInt8 := dkwX0_sawdust_0 ++ dktX0_sawdust_1
theorem dksX0_sawdust_0 : cX0_sawdust.data.toList.drop 0 = dktX0_sawdust_0 := by decide +kernel
theorem dksX0_sawdust_1 : cX0_sawdust.data.toList.drop 24 = dktX0_sawdust_1 := dk_seg dksX0_sawdust_0 24 rfl rfl
theorem dX0_sawdust_0 : decode cX0_sawdust 0 = .ok (.aload_n 0, 1) := dk_42 (dk_at dksX0_sawdust_0 0 rfl rfl)
theorem dX0_sawdust_1 : decode cX0_sawdust 1 = .ok (.invokevirtual 177, 3) := dk_182 0 177 (dk_at dksX0_sawdust_0 1 rfl rfl)
theorem dX0_sawdust_4 : decode cX0_sawdust 4 = .ok (.ifCond .ne 6, 3) := dk_154 0 6 (dk_at dksX0_sawdust_0 4 rfl rfl)
theorem dX0_sawdust_7 : decode cX0_sawdust 7 = .ok (.ldc 167, 2) := dk_18 167 (dk_at dksX0_sawdust_0 7 rfl rfl)
theorem dX0_sawdust_9 : decode cX0_sawdust 9 = .ok (.ireturn, 1) := dk_172 (dk_at dksX0_sawdust_0 9 rfl rfl)
theorem dX0_sawdust_10 : decode cX0_sawdust 10 = .ok (.iload_n 1, 1) := dk_27 (dk_at dksX0_sawdust_0 10 rfl rfl)
theorem dX0_sawdust_11 : decode cX0_sawdust 11 = .ok (.invokestatic 87, 3) := dk_184 0 87 (dk_at dksX0_sawdust_0 11 rfl rfl)
theorem dX0_sawdust_14 : decode cX0_sawdust 14 = .ok (.ifCond .ne 6, 3) := dk_154 0 6 (dk_at dksX0_sawdust_0 14 rfl rfl)
theorem dX0_sawdust_17 : decode cX0_sawdust 17 = .ok (.ldc 93, 2) := dk_18 93 (dk_at dksX0_sawdust_0 17 rfl rfl)
theorem dX0_sawdust_19 : decode cX0_sawdust 19 = .ok (.ireturn, 1) := dk_172 (dk_at dksX0_sawdust_0 19 rfl rfl)
theorem dX0_sawdust_20 : decode cX0_sawdust 20 = .ok (.aload_n 0, 1) := dk_42 (dk_at dksX0_sawdust_0 20 rfl rfl)
theorem dX0_sawdust_21 : decode cX0_sawdust 21 = .ok (.aload_n 0, 1) := dk_42 (dk_at dksX0_sawdust_0 21 rfl rfl)
theorem dX0_sawdust_22 : decode cX0_sawdust 22 = .ok (.aload_n 0, 1) := dk_42 (dk_at dksX0_sawdust_0 22 rfl rfl)
theorem dX0_sawdust_23 : decode cX0_sawdust 23 = .ok (.iload_n 1, 1) := dk_27 (dk_at dksX0_sawdust_0 23 rfl rfl)
theorem dX0_sawdust_24 : decode cX0_sawdust 24 = .ok (.iload_n 2, 1) := dk_28 (dk_at dksX0_sawdust_1 0 rfl rfl)
theorem dX0_sawdust_25 : decode cX0_sawdust 25 = .ok (.invokevirtual 298, 3) := dk_182 1 42 (dk_at dksX0_sawdust_1 1 rfl rfl)
theorem dX0_sawdust_28 : decode cX0_sawdust 28 = .ok (.invokevirtual 301, 3) := dk_182 1 45 (dk_at dksX0_sawdust_1 4 rfl rfl)
theorem dX0_sawdust_31 : decode cX0_sawdust 31 = .ok (.invokevirtual 97, 3) := dk_182 0 97 (dk_at dksX0_sawdust_1 7 rfl rfl)
theorem dX0_sawdust_34 : decode cX0_sawdust 34 = .ok (.ireturn, 1) := dk_172 (dk_at dksX0_sawdust_1 10 rfl rfl)
theorem dX0_sawdust_35 : decode cX0_sawdust 35 = .ok (.astore_n 3, 1) := dk_78 (dk_at dksX0_sawdust_1 11 rfl rfl)
theorem dX0_sawdust_36 : decode cX0_sawdust 36 = .ok (.aload_n 0, 1) := dk_42 (dk_at dksX0_sawdust_1 12 rfl rfl)
theorem dX0_sawdust_37 : decode cX0_sawdust 37 = .ok (.aload_n 3, 1) := dk_45 (dk_at dksX0_sawdust_1 13 rfl rfl)
theorem dX0_sawdust_38 : decode cX0_sawdust 38 = .ok (.invokevirtual 101, 3) := dk_182 0 101 (dk_at dksX0_sawdust_1 14 rfl rfl)
theorem dX0_sawdust_41 : decode cX0_sawdust 41 = .ok (.ireturn, 1) := dk_172 (dk_at dksX0_sawdust_1 17 rfl rfl)
abbrev cX0_orderOf : ByteArray := prog_1_method_46_code
def yX0_orderOf : MethodName := ⟨RX0, "orderOf", "(II)[I"⟩
def dkwX0_orderOf_3 : List UInt8 := [54, 4, 132, 5, 1, 167, 255, 203, 45, 176]
abbrev dktX0_orderOf_3 : List UInt8 := dkwX0_orderOf_3 ++ []
def dkwX0_orderOf_2 : List UInt8 := [184, 1, 32, 154, 0, 7, 4, 167, 0, 4, 3, 6, 184, 0, 83, 21, 4, 4, 45, 21, 5, 46, 120, 128]
abbrev dktX0_orderOf_2 : List UInt8 := dkwX0_orderOf_2 ++ dktX0_orderOf_3
def dkwX0_orderOf_1 : List UInt8 := [21, 5, 45, 190, 162, 0, 52, 42, 45, 21, 5, 46, 182, 0, 196, 153, 0, 19, 21, 4, 45, 21, 5, 46]
abbrev dktX0_orderOf_1 : List UInt8 := dkwX0_orderOf_1 ++ dktX0_orderOf_2
def dkwX0_orderOf_0 : List UInt8 := [42, 27, 182, 0, 105, 28, 42, 180, 0, 39, 182, 0, 163, 182, 1, 28, 78, 3, 54, 4, 3, 54, 5]
abbrev dktX0_orderOf_0 : List UInt8 := dkwX0_orderOf_0 ++ dktX0_orderOf_1
theorem dksX0_orderOf_0 : cX0_orderOf.data.toList.drop 0 = dktX0_orderOf_0 := by decide +kernel
theorem dksX0_orderOf_1 : cX0_orderOf.data.toList.drop 23 = dktX0_orderOf_1 := dk_seg dksX0_orderOf_0 23 rfl rfl
theorem dksX0_orderOf_2 : cX0_orderOf.data.toList.drop 47 = dktX0_orderOf_2 := dk_seg dksX0_orderOf_1 24 rfl rfl
theorem dksX0_orderOf_3 : cX0_orderOf.data.toList.drop 71 = dktX0_orderOf_3 := dk_seg dksX0_orderOf_2 24 rfl rfl
theorem dX0_orderOf_0 : decode cX0_orderOf 0 = .ok (.aload_n 0, 1) := dk_42 (dk_at dksX0_orderOf_0 0 rfl rfl)
theorem dX0_orderOf_1 : decode cX0_orderOf 1 = .ok (.iload_n 1, 1) := dk_27 (dk_at dksX0_orderOf_0 1 rfl rfl)
theorem dX0_orderOf_2 : decode cX0_orderOf 2 = .ok (.invokevirtual 105, 3) := dk_182 0 105 (dk_at dksX0_orderOf_0 2 rfl rfl)
theorem dX0_orderOf_5 : decode cX0_orderOf 5 = .ok (.iload_n 2, 1) := dk_28 (dk_at dksX0_orderOf_0 5 rfl rfl)
theorem dX0_orderOf_6 : decode cX0_orderOf 6 = .ok (.aload_n 0, 1) := dk_42 (dk_at dksX0_orderOf_0 6 rfl rfl)
theorem dX0_orderOf_7 : decode cX0_orderOf 7 = .ok (.getfield 39, 3) := dk_180 0 39 (dk_at dksX0_orderOf_0 7 rfl rfl)
theorem dX0_orderOf_10 : decode cX0_orderOf 10 = .ok (.invokevirtual 163, 3) := dk_182 0 163 (dk_at dksX0_orderOf_0 10 rfl rfl)
theorem dX0_orderOf_13 : decode cX0_orderOf 13 = .ok (.invokevirtual 284, 3) := dk_182 1 28 (dk_at dksX0_orderOf_0 13 rfl rfl)
theorem dX0_orderOf_16 : decode cX0_orderOf 16 = .ok (.astore_n 3, 1) := dk_78 (dk_at dksX0_orderOf_0 16 rfl rfl)
theorem dX0_orderOf_17 : decode cX0_orderOf 17 = .ok (.iconst 0, 1) := dk_3 (dk_at dksX0_orderOf_0 17 rfl rfl)
theorem dX0_orderOf_18 : decode cX0_orderOf 18 = .ok (.istore 4, 2) := dk_54 4 (dk_at dksX0_orderOf_0 18 rfl rfl)
theorem dX0_orderOf_20 : decode cX0_orderOf 20 = .ok (.iconst 0, 1) := dk_3 (dk_at dksX0_orderOf_0 20 rfl rfl)
theorem dX0_orderOf_21 : decode cX0_orderOf 21 = .ok (.istore 5, 2) := dk_54 5 (dk_at dksX0_orderOf_0 21 rfl rfl)
theorem dX0_orderOf_23 : decode cX0_orderOf 23 = .ok (.iload 5, 2) := dk_21 5 (dk_at dksX0_orderOf_1 0 rfl rfl)
theorem dX0_orderOf_25 : decode cX0_orderOf 25 = .ok (.aload_n 3, 1) := dk_45 (dk_at dksX0_orderOf_1 2 rfl rfl)
theorem dX0_orderOf_26 : decode cX0_orderOf 26 = .ok (.arraylength, 1) := dk_190 (dk_at dksX0_orderOf_1 3 rfl rfl)
theorem dX0_orderOf_27 : decode cX0_orderOf 27 = .ok (.if_icmp .ge 52, 3) := dk_162 0 52 (dk_at dksX0_orderOf_1 4 rfl rfl)
theorem dX0_orderOf_30 : decode cX0_orderOf 30 = .ok (.aload_n 0, 1) := dk_42 (dk_at dksX0_orderOf_1 7 rfl rfl)
theorem dX0_orderOf_31 : decode cX0_orderOf 31 = .ok (.aload_n 3, 1) := dk_45 (dk_at dksX0_orderOf_1 8 rfl rfl)
theorem dX0_orderOf_32 : decode cX0_orderOf 32 = .ok (.iload 5, 2) := dk_21 5 (dk_at dksX0_orderOf_1 9 rfl rfl)
theorem dX0_orderOf_34 : decode cX0_orderOf 34 = .ok (.iaload, 1) := dk_46 (dk_at dksX0_orderOf_1 11 rfl rfl)
theorem dX0_orderOf_35 : decode cX0_orderOf 35 = .ok (.invokevirtual 196, 3) := dk_182 0 196 (dk_at dksX0_orderOf_1 12 rfl rfl)
theorem dX0_orderOf_38 : decode cX0_orderOf 38 = .ok (.ifCond .eq 19, 3) := dk_153 0 19 (dk_at dksX0_orderOf_1 15 rfl rfl)
theorem dX0_orderOf_41 : decode cX0_orderOf 41 = .ok (.iload 4, 2) := dk_21 4 (dk_at dksX0_orderOf_1 18 rfl rfl)
theorem dX0_orderOf_43 : decode cX0_orderOf 43 = .ok (.aload_n 3, 1) := dk_45 (dk_at dksX0_orderOf_1 20 rfl rfl)
theorem dX0_orderOf_44 : decode cX0_orderOf 44 = .ok (.iload 5, 2) := dk_21 5 (dk_at dksX0_orderOf_1 21 rfl rfl)
theorem dX0_orderOf_46 : decode cX0_orderOf 46 = .ok (.iaload, 1) := dk_46 (dk_at dksX0_orderOf_1 23 rfl rfl)
theorem dX0_orderOf_47 : decode cX0_orderOf 47 = .ok (.invokestatic 288, 3) := dk_184 1 32 (dk_at dksX0_orderOf_2 0 rfl rfl)
theorem dX0_orderOf_50 : decode cX0_orderOf 50 = .ok (.ifCond .ne 7, 3) := dk_154 0 7 (dk_at dksX0_orderOf_2 3 rfl rfl)
theorem dX0_orderOf_53 : decode cX0_orderOf 53 = .ok (.iconst 1, 1) := dk_4 (dk_at dksX0_orderOf_2 6 rfl rfl)
theorem dX0_orderOf_54 : decode cX0_orderOf 54 = .ok (.goto 4, 3) := dk_167 0 4 (dk_at dksX0_orderOf_2 7 rfl rfl)
theorem dX0_orderOf_57 : decode cX0_orderOf 57 = .ok (.iconst 0, 1) := dk_3 (dk_at dksX0_orderOf_2 10 rfl rfl)
theorem dX0_orderOf_58 : decode cX0_orderOf 58 = .ok (.iconst 3, 1) := dk_6 (dk_at dksX0_orderOf_2 11 rfl rfl)
theorem dX0_orderOf_59 : decode cX0_orderOf 59 = .ok (.invokestatic 83, 3) := dk_184 0 83 (dk_at dksX0_orderOf_2 12 rfl rfl)
theorem dX0_orderOf_62 : decode cX0_orderOf 62 = .ok (.iload 4, 2) := dk_21 4 (dk_at dksX0_orderOf_2 15 rfl rfl)
theorem dX0_orderOf_64 : decode cX0_orderOf 64 = .ok (.iconst 1, 1) := dk_4 (dk_at dksX0_orderOf_2 17 rfl rfl)
theorem dX0_orderOf_65 : decode cX0_orderOf 65 = .ok (.aload_n 3, 1) := dk_45 (dk_at dksX0_orderOf_2 18 rfl rfl)
theorem dX0_orderOf_66 : decode cX0_orderOf 66 = .ok (.iload 5, 2) := dk_21 5 (dk_at dksX0_orderOf_2 19 rfl rfl)
theorem dX0_orderOf_68 : decode cX0_orderOf 68 = .ok (.iaload, 1) := dk_46 (dk_at dksX0_orderOf_2 21 rfl rfl)
theorem dX0_orderOf_69 : decode cX0_orderOf 69 = .ok (.ishl, 1) := dk_120 (dk_at dksX0_orderOf_2 22 rfl rfl)
theorem dX0_orderOf_70 : decode cX0_orderOf 70 = .ok (.ior, 1) := dk_128 (dk_at dksX0_orderOf_2 23 rfl rfl)
theorem dX0_orderOf_71 : decode cX0_orderOf 71 = .ok (.istore 4, 2) := dk_54 4 (dk_at dksX0_orderOf_3 0 rfl rfl)
theorem dX0_orderOf_73 : decode cX0_orderOf 73 = .ok (.iinc 5 1, 3) := dk_132 5 1 (dk_at dksX0_orderOf_3 2 rfl rfl)
theorem dX0_orderOf_76 : decode cX0_orderOf 76 = .ok (.goto (-53), 3) := dk_167 255 203 (dk_at dksX0_orderOf_3 5 rfl rfl)
theorem dX0_orderOf_79 : decode cX0_orderOf 79 = .ok (.aload_n 3, 1) := dk_45 (dk_at dksX0_orderOf_3 8 rfl rfl)
theorem dX0_orderOf_80 : decode cX0_orderOf 80 = .ok (.areturn, 1) := dk_176 (dk_at dksX0_orderOf_3 9 rfl rfl)
abbrev cX0_has : ByteArray := prog_1_method_2_code
def yX0_has : MethodName := ⟨RX0, "has", "(II)Z"⟩
def dkwX0_has_0 : List UInt8 := [26, 27, 122, 4, 126, 4, 160, 0, 7, 4, 167, 0, 4, 3, 172]
abbrev dktX0_has_0 : List UInt8 := dkwX0_has_0 ++ []
theorem dksX0_has_0 : cX0_has.data.toList.drop 0 = dktX0_has_0 := by decide +kernel
theorem dX0_has_0 : decode cX0_has 0 = .ok (.iload_n 0, 1) := dk_26 (dk_at dksX0_has_0 0 rfl rfl)
theorem dX0_has_1 : decode cX0_has 1 = .ok (.iload_n 1, 1) := dk_27 (dk_at dksX0_has_0 1 rfl rfl)
theorem dX0_has_2 : decode cX0_has 2 = .ok (.ishr, 1) := dk_122 (dk_at dksX0_has_0 2 rfl rfl)
theorem dX0_has_3 : decode cX0_has 3 = .ok (.iconst 1, 1) := dk_4 (dk_at dksX0_has_0 3 rfl rfl)
theorem dX0_has_4 : decode cX0_has 4 = .ok (.iand, 1) := dk_126 (dk_at dksX0_has_0 4 rfl rfl)
theorem dX0_has_5 : decode cX0_has 5 = .ok (.iconst 1, 1) := dk_4 (dk_at dksX0_has_0 5 rfl rfl)
theorem dX0_has_6 : decode cX0_has 6 = .ok (.if_icmp .ne 7, 3) := dk_160 0 7 (dk_at dksX0_has_0 6 rfl rfl)
theorem dX0_has_9 : decode cX0_has 9 = .ok (.iconst 1, 1) := dk_4 (dk_at dksX0_has_0 9 rfl rfl)
theorem dX0_has_10 : decode cX0_has 10 = .ok (.goto 4, 3) := dk_167 0 4 (dk_at dksX0_has_0 10 rfl rfl)
theorem dX0_has_13 : decode cX0_has 13 = .ok (.iconst 0, 1) := dk_3 (dk_at dksX0_has_0 13 rfl rfl)
theorem dX0_has_14 : decode cX0_has 14 = .ok (.ireturn, 1) := dk_172 (dk_at dksX0_has_0 14 rfl rfl)
abbrev cX0_dustOf : ByteArray := prog_1_method_48_code
def yX0_dustOf : MethodName := ⟨RX0, "dustOf", "([I)I"⟩
def dkwX0_dustOf_2 : List UInt8 := [167, 0, 7, 28, 21, 4, 96, 61, 132, 3, 1, 167, 255, 207, 28, 172]
abbrev dktX0_dustOf_2 : List UInt8 := dkwX0_dustOf_2 ++ []
def dkwX0_dustOf_1 : List UInt8 := [29, 46, 43, 29, 4, 100, 46, 182, 1, 39, 54, 4, 21, 4, 19, 1, 5, 160, 0, 9, 19, 1, 5]
abbrev dktX0_dustOf_1 : List UInt8 := dkwX0_dustOf_1 ++ dktX0_dustOf_2
def dkwX0_dustOf_0 : List UInt8 := [42, 182, 0, 254, 87, 3, 61, 4, 62, 29, 43, 190, 162, 0, 49, 28, 19, 1, 5, 159, 0, 42, 42, 43]
abbrev dktX0_dustOf_0 : List UInt8 := dkwX0_dustOf_0 ++ dktX0_dustOf_1
theorem dksX0_dustOf_0 : cX0_dustOf.data.toList.drop 0 = dktX0_dustOf_0 := by decide +kernel
theorem dksX0_dustOf_1 : cX0_dustOf.data.toList.drop 24 = dktX0_dustOf_1 := dk_seg dksX0_dustOf_0 24 rfl rfl
theorem dksX0_dustOf_2 : cX0_dustOf.data.toList.drop 47 = dktX0_dustOf_2 := dk_seg dksX0_dustOf_1 23 rfl rfl
theorem dX0_dustOf_0 : decode cX0_dustOf 0 = .ok (.aload_n 0, 1) := dk_42 (dk_at dksX0_dustOf_0 0 rfl rfl)
theorem dX0_dustOf_1 : decode cX0_dustOf 1 = .ok (.invokevirtual 254, 3) := dk_182 0 254 (dk_at dksX0_dustOf_0 1 rfl rfl)
theorem dX0_dustOf_4 : decode cX0_dustOf 4 = .ok (.pop, 1) := dk_87 (dk_at dksX0_dustOf_0 4 rfl rfl)
theorem dX0_dustOf_5 : decode cX0_dustOf 5 = .ok (.iconst 0, 1) := dk_3 (dk_at dksX0_dustOf_0 5 rfl rfl)
theorem dX0_dustOf_6 : decode cX0_dustOf 6 = .ok (.istore_n 2, 1) := dk_61 (dk_at dksX0_dustOf_0 6 rfl rfl)
theorem dX0_dustOf_7 : decode cX0_dustOf 7 = .ok (.iconst 1, 1) := dk_4 (dk_at dksX0_dustOf_0 7 rfl rfl)
theorem dX0_dustOf_8 : decode cX0_dustOf 8 = .ok (.istore_n 3, 1) := dk_62 (dk_at dksX0_dustOf_0 8 rfl rfl)
theorem dX0_dustOf_9 : decode cX0_dustOf 9 = .ok (.iload_n 3, 1) := dk_29 (dk_at dksX0_dustOf_0 9 rfl rfl)
theorem dX0_dustOf_10 : decode cX0_dustOf 10 = .ok (.aload_n 1, 1) := dk_43 (dk_at dksX0_dustOf_0 10 rfl rfl)
theorem dX0_dustOf_11 : decode cX0_dustOf 11 = .ok (.arraylength, 1) := dk_190 (dk_at dksX0_dustOf_0 11 rfl rfl)
theorem dX0_dustOf_12 : decode cX0_dustOf 12 = .ok (.if_icmp .ge 49, 3) := dk_162 0 49 (dk_at dksX0_dustOf_0 12 rfl rfl)
theorem dX0_dustOf_15 : decode cX0_dustOf 15 = .ok (.iload_n 2, 1) := dk_28 (dk_at dksX0_dustOf_0 15 rfl rfl)
theorem dX0_dustOf_16 : decode cX0_dustOf 16 = .ok (.ldc_w 261, 3) := dk_19 1 5 (dk_at dksX0_dustOf_0 16 rfl rfl)
theorem dX0_dustOf_19 : decode cX0_dustOf 19 = .ok (.if_icmp .eq 42, 3) := dk_159 0 42 (dk_at dksX0_dustOf_0 19 rfl rfl)
theorem dX0_dustOf_22 : decode cX0_dustOf 22 = .ok (.aload_n 0, 1) := dk_42 (dk_at dksX0_dustOf_0 22 rfl rfl)
theorem dX0_dustOf_23 : decode cX0_dustOf 23 = .ok (.aload_n 1, 1) := dk_43 (dk_at dksX0_dustOf_0 23 rfl rfl)
theorem dX0_dustOf_24 : decode cX0_dustOf 24 = .ok (.iload_n 3, 1) := dk_29 (dk_at dksX0_dustOf_1 0 rfl rfl)
theorem dX0_dustOf_25 : decode cX0_dustOf 25 = .ok (.iaload, 1) := dk_46 (dk_at dksX0_dustOf_1 1 rfl rfl)
theorem dX0_dustOf_26 : decode cX0_dustOf 26 = .ok (.aload_n 1, 1) := dk_43 (dk_at dksX0_dustOf_1 2 rfl rfl)
theorem dX0_dustOf_27 : decode cX0_dustOf 27 = .ok (.iload_n 3, 1) := dk_29 (dk_at dksX0_dustOf_1 3 rfl rfl)
theorem dX0_dustOf_28 : decode cX0_dustOf 28 = .ok (.iconst 1, 1) := dk_4 (dk_at dksX0_dustOf_1 4 rfl rfl)
theorem dX0_dustOf_29 : decode cX0_dustOf 29 = .ok (.isub, 1) := dk_100 (dk_at dksX0_dustOf_1 5 rfl rfl)
theorem dX0_dustOf_30 : decode cX0_dustOf 30 = .ok (.iaload, 1) := dk_46 (dk_at dksX0_dustOf_1 6 rfl rfl)
theorem dX0_dustOf_31 : decode cX0_dustOf 31 = .ok (.invokevirtual 295, 3) := dk_182 1 39 (dk_at dksX0_dustOf_1 7 rfl rfl)
theorem dX0_dustOf_34 : decode cX0_dustOf 34 = .ok (.istore 4, 2) := dk_54 4 (dk_at dksX0_dustOf_1 10 rfl rfl)
theorem dX0_dustOf_36 : decode cX0_dustOf 36 = .ok (.iload 4, 2) := dk_21 4 (dk_at dksX0_dustOf_1 12 rfl rfl)
theorem dX0_dustOf_38 : decode cX0_dustOf 38 = .ok (.ldc_w 261, 3) := dk_19 1 5 (dk_at dksX0_dustOf_1 14 rfl rfl)
theorem dX0_dustOf_41 : decode cX0_dustOf 41 = .ok (.if_icmp .ne 9, 3) := dk_160 0 9 (dk_at dksX0_dustOf_1 17 rfl rfl)
theorem dX0_dustOf_44 : decode cX0_dustOf 44 = .ok (.ldc_w 261, 3) := dk_19 1 5 (dk_at dksX0_dustOf_1 20 rfl rfl)
theorem dX0_dustOf_47 : decode cX0_dustOf 47 = .ok (.goto 7, 3) := dk_167 0 7 (dk_at dksX0_dustOf_2 0 rfl rfl)
theorem dX0_dustOf_50 : decode cX0_dustOf 50 = .ok (.iload_n 2, 1) := dk_28 (dk_at dksX0_dustOf_2 3 rfl rfl)
theorem dX0_dustOf_51 : decode cX0_dustOf 51 = .ok (.iload 4, 2) := dk_21 4 (dk_at dksX0_dustOf_2 4 rfl rfl)
theorem dX0_dustOf_53 : decode cX0_dustOf 53 = .ok (.iadd, 1) := dk_96 (dk_at dksX0_dustOf_2 6 rfl rfl)
theorem dX0_dustOf_54 : decode cX0_dustOf 54 = .ok (.istore_n 2, 1) := dk_61 (dk_at dksX0_dustOf_2 7 rfl rfl)
theorem dX0_dustOf_55 : decode cX0_dustOf 55 = .ok (.iinc 3 1, 3) := dk_132 3 1 (dk_at dksX0_dustOf_2 8 rfl rfl)
theorem dX0_dustOf_58 : decode cX0_dustOf 58 = .ok (.goto (-49), 3) := dk_167 255 207 (dk_at dksX0_dustOf_2 11 rfl rfl)
theorem dX0_dustOf_61 : decode cX0_dustOf 61 = .ok (.iload_n 2, 1) := dk_28 (dk_at dksX0_dustOf_2 14 rfl rfl)
theorem dX0_dustOf_62 : decode cX0_dustOf 62 = .ok (.ireturn, 1) := dk_172 (dk_at dksX0_dustOf_2 15 rfl rfl)
abbrev cX0_cutBelow : ByteArray := prog_1_method_47_code
def yX0_cutBelow : MethodName := ⟨RX0, "cutBelow", "(II)I"⟩
def dkwX0_cutBelow_3 : List UInt8 := [46, 100, 167, 0, 6, 19, 1, 5, 172]
abbrev dktX0_cutBelow_3 : List UInt8 := dkwX0_cutBelow_3 ++ []
def dkwX0_cutBelow_2 : List UInt8 := [167, 255, 219, 42, 180, 0, 43, 28, 27, 182, 1, 36, 153, 0, 17, 29, 42, 180, 0, 43, 180, 0, 208, 27]
abbrev dktX0_cutBelow_2 : List UInt8 := dkwX0_cutBelow_2 ++ dktX0_cutBelow_3
def dkwX0_cutBelow_1 : List UInt8 := [180, 0, 43, 180, 0, 208, 27, 46, 158, 0, 19, 42, 180, 0, 43, 180, 0, 208, 27, 92, 46, 4, 100, 79]
abbrev dktX0_cutBelow_1 : List UInt8 := dkwX0_cutBelow_1 ++ dktX0_cutBelow_2
def dkwX0_cutBelow_0 : List UInt8 := [42, 180, 0, 43, 180, 0, 208, 27, 46, 62, 42, 180, 0, 43, 28, 27, 182, 1, 36, 154, 0, 31, 42]
abbrev dktX0_cutBelow_0 : List UInt8 := dkwX0_cutBelow_0 ++ dktX0_cutBelow_1
theorem dksX0_cutBelow_0 : cX0_cutBelow.data.toList.drop 0 = dktX0_cutBelow_0 := by decide +kernel
theorem dksX0_cutBelow_1 : cX0_cutBelow.data.toList.drop 23 = dktX0_cutBelow_1 := dk_seg dksX0_cutBelow_0 23 rfl rfl
theorem dksX0_cutBelow_2 : cX0_cutBelow.data.toList.drop 47 = dktX0_cutBelow_2 := dk_seg dksX0_cutBelow_1 24 rfl rfl
theorem dksX0_cutBelow_3 : cX0_cutBelow.data.toList.drop 71 = dktX0_cutBelow_3 := dk_seg dksX0_cutBelow_2 24 rfl rfl
theorem dX0_cutBelow_0 : decode cX0_cutBelow 0 = .ok (.aload_n 0, 1) := dk_42 (dk_at dksX0_cutBelow_0 0 rfl rfl)
theorem dX0_cutBelow_1 : decode cX0_cutBelow 1 = .ok (.getfield 43, 3) := dk_180 0 43 (dk_at dksX0_cutBelow_0 1 rfl rfl)
theorem dX0_cutBelow_4 : decode cX0_cutBelow 4 = .ok (.getfield 208, 3) := dk_180 0 208 (dk_at dksX0_cutBelow_0 4 rfl rfl)
theorem dX0_cutBelow_7 : decode cX0_cutBelow 7 = .ok (.iload_n 1, 1) := dk_27 (dk_at dksX0_cutBelow_0 7 rfl rfl)
theorem dX0_cutBelow_8 : decode cX0_cutBelow 8 = .ok (.iaload, 1) := dk_46 (dk_at dksX0_cutBelow_0 8 rfl rfl)
theorem dX0_cutBelow_9 : decode cX0_cutBelow 9 = .ok (.istore_n 3, 1) := dk_62 (dk_at dksX0_cutBelow_0 9 rfl rfl)
theorem dX0_cutBelow_10 : decode cX0_cutBelow 10 = .ok (.aload_n 0, 1) := dk_42 (dk_at dksX0_cutBelow_0 10 rfl rfl)
theorem dX0_cutBelow_11 : decode cX0_cutBelow 11 = .ok (.getfield 43, 3) := dk_180 0 43 (dk_at dksX0_cutBelow_0 11 rfl rfl)
theorem dX0_cutBelow_14 : decode cX0_cutBelow 14 = .ok (.iload_n 2, 1) := dk_28 (dk_at dksX0_cutBelow_0 14 rfl rfl)
theorem dX0_cutBelow_15 : decode cX0_cutBelow 15 = .ok (.iload_n 1, 1) := dk_27 (dk_at dksX0_cutBelow_0 15 rfl rfl)
theorem dX0_cutBelow_16 : decode cX0_cutBelow 16 = .ok (.invokevirtual 292, 3) := dk_182 1 36 (dk_at dksX0_cutBelow_0 16 rfl rfl)
theorem dX0_cutBelow_19 : decode cX0_cutBelow 19 = .ok (.ifCond .ne 31, 3) := dk_154 0 31 (dk_at dksX0_cutBelow_0 19 rfl rfl)
theorem dX0_cutBelow_22 : decode cX0_cutBelow 22 = .ok (.aload_n 0, 1) := dk_42 (dk_at dksX0_cutBelow_0 22 rfl rfl)
theorem dX0_cutBelow_23 : decode cX0_cutBelow 23 = .ok (.getfield 43, 3) := dk_180 0 43 (dk_at dksX0_cutBelow_1 0 rfl rfl)
theorem dX0_cutBelow_26 : decode cX0_cutBelow 26 = .ok (.getfield 208, 3) := dk_180 0 208 (dk_at dksX0_cutBelow_1 3 rfl rfl)
theorem dX0_cutBelow_29 : decode cX0_cutBelow 29 = .ok (.iload_n 1, 1) := dk_27 (dk_at dksX0_cutBelow_1 6 rfl rfl)
theorem dX0_cutBelow_30 : decode cX0_cutBelow 30 = .ok (.iaload, 1) := dk_46 (dk_at dksX0_cutBelow_1 7 rfl rfl)
theorem dX0_cutBelow_31 : decode cX0_cutBelow 31 = .ok (.ifCond .le 19, 3) := dk_158 0 19 (dk_at dksX0_cutBelow_1 8 rfl rfl)
theorem dX0_cutBelow_34 : decode cX0_cutBelow 34 = .ok (.aload_n 0, 1) := dk_42 (dk_at dksX0_cutBelow_1 11 rfl rfl)
theorem dX0_cutBelow_35 : decode cX0_cutBelow 35 = .ok (.getfield 43, 3) := dk_180 0 43 (dk_at dksX0_cutBelow_1 12 rfl rfl)
theorem dX0_cutBelow_38 : decode cX0_cutBelow 38 = .ok (.getfield 208, 3) := dk_180 0 208 (dk_at dksX0_cutBelow_1 15 rfl rfl)
theorem dX0_cutBelow_41 : decode cX0_cutBelow 41 = .ok (.iload_n 1, 1) := dk_27 (dk_at dksX0_cutBelow_1 18 rfl rfl)
theorem dX0_cutBelow_42 : decode cX0_cutBelow 42 = .ok (.dup2, 1) := dk_92 (dk_at dksX0_cutBelow_1 19 rfl rfl)
theorem dX0_cutBelow_43 : decode cX0_cutBelow 43 = .ok (.iaload, 1) := dk_46 (dk_at dksX0_cutBelow_1 20 rfl rfl)
theorem dX0_cutBelow_44 : decode cX0_cutBelow 44 = .ok (.iconst 1, 1) := dk_4 (dk_at dksX0_cutBelow_1 21 rfl rfl)
theorem dX0_cutBelow_45 : decode cX0_cutBelow 45 = .ok (.isub, 1) := dk_100 (dk_at dksX0_cutBelow_1 22 rfl rfl)
theorem dX0_cutBelow_46 : decode cX0_cutBelow 46 = .ok (.iastore, 1) := dk_79 (dk_at dksX0_cutBelow_1 23 rfl rfl)
theorem dX0_cutBelow_47 : decode cX0_cutBelow 47 = .ok (.goto (-37), 3) := dk_167 255 219 (dk_at dksX0_cutBelow_2 0 rfl rfl)
theorem dX0_cutBelow_50 : decode cX0_cutBelow 50 = .ok (.aload_n 0, 1) := dk_42 (dk_at dksX0_cutBelow_2 3 rfl rfl)
theorem dX0_cutBelow_51 : decode cX0_cutBelow 51 = .ok (.getfield 43, 3) := dk_180 0 43 (dk_at dksX0_cutBelow_2 4 rfl rfl)
theorem dX0_cutBelow_54 : decode cX0_cutBelow 54 = .ok (.iload_n 2, 1) := dk_28 (dk_at dksX0_cutBelow_2 7 rfl rfl)
theorem dX0_cutBelow_55 : decode cX0_cutBelow 55 = .ok (.iload_n 1, 1) := dk_27 (dk_at dksX0_cutBelow_2 8 rfl rfl)
theorem dX0_cutBelow_56 : decode cX0_cutBelow 56 = .ok (.invokevirtual 292, 3) := dk_182 1 36 (dk_at dksX0_cutBelow_2 9 rfl rfl)
theorem dX0_cutBelow_59 : decode cX0_cutBelow 59 = .ok (.ifCond .eq 17, 3) := dk_153 0 17 (dk_at dksX0_cutBelow_2 12 rfl rfl)
theorem dX0_cutBelow_62 : decode cX0_cutBelow 62 = .ok (.iload_n 3, 1) := dk_29 (dk_at dksX0_cutBelow_2 15 rfl rfl)
theorem dX0_cutBelow_63 : decode cX0_cutBelow 63 = .ok (.aload_n 0, 1) := dk_42 (dk_at dksX0_cutBelow_2 16 rfl rfl)
theorem dX0_cutBelow_64 : decode cX0_cutBelow 64 = .ok (.getfield 43, 3) := dk_180 0 43 (dk_at dksX0_cutBelow_2 17 rfl rfl)
theorem dX0_cutBelow_67 : decode cX0_cutBelow 67 = .ok (.getfield 208, 3) := dk_180 0 208 (dk_at dksX0_cutBelow_2 20 rfl rfl)
theorem dX0_cutBelow_70 : decode cX0_cutBelow 70 = .ok (.iload_n 1, 1) := dk_27 (dk_at dksX0_cutBelow_2 23 rfl rfl)
theorem dX0_cutBelow_71 : decode cX0_cutBelow 71 = .ok (.iaload, 1) := dk_46 (dk_at dksX0_cutBelow_3 0 rfl rfl)
theorem dX0_cutBelow_72 : decode cX0_cutBelow 72 = .ok (.isub, 1) := dk_100 (dk_at dksX0_cutBelow_3 1 rfl rfl)
theorem dX0_cutBelow_73 : decode cX0_cutBelow 73 = .ok (.goto 6, 3) := dk_167 0 6 (dk_at dksX0_cutBelow_3 2 rfl rfl)
theorem dX0_cutBelow_76 : decode cX0_cutBelow 76 = .ok (.ldc_w 261, 3) := dk_19 1 5 (dk_at dksX0_cutBelow_3 5 rfl rfl)
theorem dX0_cutBelow_79 : decode cX0_cutBelow 79 = .ok (.ireturn, 1) := dk_172 (dk_at dksX0_cutBelow_3 8 rfl rfl)
abbrev cX0_pile : ByteArray := prog_1_method_52_code
def yX0_pile : MethodName := ⟨RX0, "pile", "(II)I"⟩
def dkwX0_pile_1 : List UInt8 := [28, 182, 1, 42, 182, 1, 52, 182, 0, 97, 172, 78, 42, 45, 182, 0, 101, 172]
abbrev dktX0_pile_1 : List UInt8 := dkwX0_pile_1 ++ []
def dkwX0_pile_0 : List UInt8 := [42, 182, 0, 177, 154, 0, 6, 18, 167, 172, 27, 184, 0, 87, 154, 0, 6, 18, 93, 172, 42, 42, 42, 27]
abbrev dktX0_pile_0 : List UInt8 := dkwX0_pile_0 ++ dktX0_pile_1
theorem dksX0_pile_0 : cX0_pile.data.toList.drop 0 = dktX0_pile_0 := by decide +kernel
theorem dksX0_pile_1 : cX0_pile.data.toList.drop 24 = dktX0_pile_1 := dk_seg dksX0_pile_0 24 rfl rfl
theorem dX0_pile_0 : decode cX0_pile 0 = .ok (.aload_n 0, 1) := dk_42 (dk_at dksX0_pile_0 0 rfl rfl)
theorem dX0_pile_1 : decode cX0_pile 1 = .ok (.invokevirtual 177, 3) := dk_182 0 177 (dk_at dksX0_pile_0 1 rfl rfl)
theorem dX0_pile_4 : decode cX0_pile 4 = .ok (.ifCond .ne 6, 3) := dk_154 0 6 (dk_at dksX0_pile_0 4 rfl rfl)
theorem dX0_pile_7 : decode cX0_pile 7 = .ok (.ldc 167, 2) := dk_18 167 (dk_at dksX0_pile_0 7 rfl rfl)
theorem dX0_pile_9 : decode cX0_pile 9 = .ok (.ireturn, 1) := dk_172 (dk_at dksX0_pile_0 9 rfl rfl)
theorem dX0_pile_10 : decode cX0_pile 10 = .ok (.iload_n 1, 1) := dk_27 (dk_at dksX0_pile_0 10 rfl rfl)
theorem dX0_pile_11 : decode cX0_pile 11 = .ok (.invokestatic 87, 3) := dk_184 0 87 (dk_at dksX0_pile_0 11 rfl rfl)
theorem dX0_pile_14 : decode cX0_pile 14 = .ok (.ifCond .ne 6, 3) := dk_154 0 6 (dk_at dksX0_pile_0 14 rfl rfl)
theorem dX0_pile_17 : decode cX0_pile 17 = .ok (.ldc 93, 2) := dk_18 93 (dk_at dksX0_pile_0 17 rfl rfl)
theorem dX0_pile_19 : decode cX0_pile 19 = .ok (.ireturn, 1) := dk_172 (dk_at dksX0_pile_0 19 rfl rfl)
theorem dX0_pile_20 : decode cX0_pile 20 = .ok (.aload_n 0, 1) := dk_42 (dk_at dksX0_pile_0 20 rfl rfl)
theorem dX0_pile_21 : decode cX0_pile 21 = .ok (.aload_n 0, 1) := dk_42 (dk_at dksX0_pile_0 21 rfl rfl)
theorem dX0_pile_22 : decode cX0_pile 22 = .ok (.aload_n 0, 1) := dk_42 (dk_at dksX0_pile_0 22 rfl rfl)
theorem dX0_pile_23 : decode cX0_pile 23 = .ok (.iload_n 1, 1) := dk_27 (dk_at dksX0_pile_0 23 rfl rfl)
theorem dX0_pile_24 : decode cX0_pile 24 = .ok (.iload_n 2, 1) := dk_28 (dk_at dksX0_pile_1 0 rfl rfl)
theorem dX0_pile_25 : decode cX0_pile 25 = .ok (.invokevirtual 298, 3) := dk_182 1 42 (dk_at dksX0_pile_1 1 rfl rfl)
theorem dX0_pile_28 : decode cX0_pile 28 = .ok (.invokevirtual 308, 3) := dk_182 1 52 (dk_at dksX0_pile_1 4 rfl rfl)
theorem dX0_pile_31 : decode cX0_pile 31 = .ok (.invokevirtual 97, 3) := dk_182 0 97 (dk_at dksX0_pile_1 7 rfl rfl)
theorem dX0_pile_34 : decode cX0_pile 34 = .ok (.ireturn, 1) := dk_172 (dk_at dksX0_pile_1 10 rfl rfl)
theorem dX0_pile_35 : decode cX0_pile 35 = .ok (.astore_n 3, 1) := dk_78 (dk_at dksX0_pile_1 11 rfl rfl)
theorem dX0_pile_36 : decode cX0_pile 36 = .ok (.aload_n 0, 1) := dk_42 (dk_at dksX0_pile_1 12 rfl rfl)
theorem dX0_pile_37 : decode cX0_pile 37 = .ok (.aload_n 3, 1) := dk_45 (dk_at dksX0_pile_1 13 rfl rfl)
theorem dX0_pile_38 : decode cX0_pile 38 = .ok (.invokevirtual 101, 3) := dk_182 0 101 (dk_at dksX0_pile_1 14 rfl rfl)
theorem dX0_pile_41 : decode cX0_pile 41 = .ok (.ireturn, 1) := dk_172 (dk_at dksX0_pile_1 17 rfl rfl)
abbrev cX0_pileOf : ByteArray := prog_1_method_51_code
def yX0_pileOf : MethodName := ⟨RX0, "pileOf", "([I)I"⟩
def dkwX0_pileOf_2 : List UInt8 := [167, 0, 7, 28, 21, 4, 96, 61, 132, 3, 255, 167, 255, 209, 28, 172]
abbrev dktX0_pileOf_2 : List UInt8 := dkwX0_pileOf_2 ++ []
def dkwX0_pileOf_1 : List UInt8 := [43, 29, 46, 43, 29, 4, 96, 46, 182, 1, 49, 54, 4, 21, 4, 19, 1, 5, 160, 0, 9, 19, 1, 5]
abbrev dktX0_pileOf_1 : List UInt8 := dkwX0_pileOf_1 ++ dktX0_pileOf_2
def dkwX0_pileOf_0 : List UInt8 := [42, 182, 0, 254, 87, 3, 61, 43, 190, 5, 100, 62, 29, 155, 0, 49, 28, 19, 1, 5, 159, 0, 42, 42]
abbrev dktX0_pileOf_0 : List UInt8 := dkwX0_pileOf_0 ++ dktX0_pileOf_1
theorem dksX0_pileOf_0 : cX0_pileOf.data.toList.drop 0 = dktX0_pileOf_0 := by decide +kernel
theorem dksX0_pileOf_1 : cX0_pileOf.data.toList.drop 24 = dktX0_pileOf_1 := dk_seg dksX0_pileOf_0 24 rfl rfl
theorem dksX0_pileOf_2 : cX0_pileOf.data.toList.drop 48 = dktX0_pileOf_2 := dk_seg dksX0_pileOf_1 24 rfl rfl
theorem dX0_pileOf_0 : decode cX0_pileOf 0 = .ok (.aload_n 0, 1) := dk_42 (dk_at dksX0_pileOf_0 0 rfl rfl)
theorem dX0_pileOf_1 : decode cX0_pileOf 1 = .ok (.invokevirtual 254, 3) := dk_182 0 254 (dk_at dksX0_pileOf_0 1 rfl rfl)
theorem dX0_pileOf_4 : decode cX0_pileOf 4 = .ok (.pop, 1) := dk_87 (dk_at dksX0_pileOf_0 4 rfl rfl)
theorem dX0_pileOf_5 : decode cX0_pileOf 5 = .ok (.iconst 0, 1) := dk_3 (dk_at dksX0_pileOf_0 5 rfl rfl)
theorem dX0_pileOf_6 : decode cX0_pileOf 6 = .ok (.istore_n 2, 1) := dk_61 (dk_at dksX0_pileOf_0 6 rfl rfl)
theorem dX0_pileOf_7 : decode cX0_pileOf 7 = .ok (.aload_n 1, 1) := dk_43 (dk_at dksX0_pileOf_0 7 rfl rfl)
theorem dX0_pileOf_8 : decode cX0_pileOf 8 = .ok (.arraylength, 1) := dk_190 (dk_at dksX0_pileOf_0 8 rfl rfl)
theorem dX0_pileOf_9 : decode cX0_pileOf 9 = .ok (.iconst 2, 1) := dk_5 (dk_at dksX0_pileOf_0 9 rfl rfl)
theorem dX0_pileOf_10 : decode cX0_pileOf 10 = .ok (.isub, 1) := dk_100 (dk_at dksX0_pileOf_0 10 rfl rfl)
theorem dX0_pileOf_11 : decode cX0_pileOf 11 = .ok (.istore_n 3, 1) := dk_62 (dk_at dksX0_pileOf_0 11 rfl rfl)
theorem dX0_pileOf_12 : decode cX0_pileOf 12 = .ok (.iload_n 3, 1) := dk_29 (dk_at dksX0_pileOf_0 12 rfl rfl)
theorem dX0_pileOf_13 : decode cX0_pileOf 13 = .ok (.ifCond .lt 49, 3) := dk_155 0 49 (dk_at dksX0_pileOf_0 13 rfl rfl)
theorem dX0_pileOf_16 : decode cX0_pileOf 16 = .ok (.iload_n 2, 1) := dk_28 (dk_at dksX0_pileOf_0 16 rfl rfl)
theorem dX0_pileOf_17 : decode cX0_pileOf 17 = .ok (.ldc_w 261, 3) := dk_19 1 5 (dk_at dksX0_pileOf_0 17 rfl rfl)
theorem dX0_pileOf_20 : decode cX0_pileOf 20 = .ok (.if_icmp .eq 42, 3) := dk_159 0 42 (dk_at dksX0_pileOf_0 20 rfl rfl)
theorem dX0_pileOf_23 : decode cX0_pileOf 23 = .ok (.aload_n 0, 1) := dk_42 (dk_at dksX0_pileOf_0 23 rfl rfl)
theorem dX0_pileOf_24 : decode cX0_pileOf 24 = .ok (.aload_n 1, 1) := dk_43 (dk_at dksX0_pileOf_1 0 rfl rfl)
theorem dX0_pileOf_25 : decode cX0_pileOf 25 = .ok (.iload_n 3, 1) := dk_29 (dk_at dksX0_pileOf_1 1 rfl rfl)
theorem dX0_pileOf_26 : decode cX0_pileOf 26 = .ok (.iaload, 1) := dk_46 (dk_at dksX0_pileOf_1 2 rfl rfl)
theorem dX0_pileOf_27 : decode cX0_pileOf 27 = .ok (.aload_n 1, 1) := dk_43 (dk_at dksX0_pileOf_1 3 rfl rfl)
theorem dX0_pileOf_28 : decode cX0_pileOf 28 = .ok (.iload_n 3, 1) := dk_29 (dk_at dksX0_pileOf_1 4 rfl rfl)
theorem dX0_pileOf_29 : decode cX0_pileOf 29 = .ok (.iconst 1, 1) := dk_4 (dk_at dksX0_pileOf_1 5 rfl rfl)
theorem dX0_pileOf_30 : decode cX0_pileOf 30 = .ok (.iadd, 1) := dk_96 (dk_at dksX0_pileOf_1 6 rfl rfl)
theorem dX0_pileOf_31 : decode cX0_pileOf 31 = .ok (.iaload, 1) := dk_46 (dk_at dksX0_pileOf_1 7 rfl rfl)
theorem dX0_pileOf_32 : decode cX0_pileOf 32 = .ok (.invokevirtual 305, 3) := dk_182 1 49 (dk_at dksX0_pileOf_1 8 rfl rfl)
theorem dX0_pileOf_35 : decode cX0_pileOf 35 = .ok (.istore 4, 2) := dk_54 4 (dk_at dksX0_pileOf_1 11 rfl rfl)
theorem dX0_pileOf_37 : decode cX0_pileOf 37 = .ok (.iload 4, 2) := dk_21 4 (dk_at dksX0_pileOf_1 13 rfl rfl)
theorem dX0_pileOf_39 : decode cX0_pileOf 39 = .ok (.ldc_w 261, 3) := dk_19 1 5 (dk_at dksX0_pileOf_1 15 rfl rfl)
theorem dX0_pileOf_42 : decode cX0_pileOf 42 = .ok (.if_icmp .ne 9, 3) := dk_160 0 9 (dk_at dksX0_pileOf_1 18 rfl rfl)
theorem dX0_pileOf_45 : decode cX0_pileOf 45 = .ok (.ldc_w 261, 3) := dk_19 1 5 (dk_at dksX0_pileOf_1 21 rfl rfl)
theorem dX0_pileOf_48 : decode cX0_pileOf 48 = .ok (.goto 7, 3) := dk_167 0 7 (dk_at dksX0_pileOf_2 0 rfl rfl)
theorem dX0_pileOf_51 : decode cX0_pileOf 51 = .ok (.iload_n 2, 1) := dk_28 (dk_at dksX0_pileOf_2 3 rfl rfl)
theorem dX0_pileOf_52 : decode cX0_pileOf 52 = .ok (.iload 4, 2) := dk_21 4 (dk_at dksX0_pileOf_2 4 rfl rfl)
theorem dX0_pileOf_54 : decode cX0_pileOf 54 = .ok (.iadd, 1) := dk_96 (dk_at dksX0_pileOf_2 6 rfl rfl)
theorem dX0_pileOf_55 : decode cX0_pileOf 55 = .ok (.istore_n 2, 1) := dk_61 (dk_at dksX0_pileOf_2 7 rfl rfl)
theorem dX0_pileOf_56 : decode cX0_pileOf 56 = .ok (.iinc 3 (-1), 3) := dk_132 3 255 (dk_at dksX0_pileOf_2 8 rfl rfl)
theorem dX0_pileOf_59 : decode cX0_pileOf 59 = .ok (.goto (-47), 3) := dk_167 255 209 (dk_at dksX0_pileOf_2 11 rfl rfl)
theorem dX0_pileOf_62 : decode cX0_pileOf 62 = .ok (.iload_n 2, 1) := dk_28 (dk_at dksX0_pileOf_2 14 rfl rfl)
theorem dX0_pileOf_63 : decode cX0_pileOf 63 = .ok (.ireturn, 1) := dk_172 (dk_at dksX0_pileOf_2 15 rfl rfl)
abbrev cX0_pileAbove : ByteArray := prog_1_method_50_code
def yX0_pileAbove : MethodName := ⟨RX0, "pileAbove", "(II)I"⟩
def dkwX0_pileAbove_3 : List UInt8 := [27, 46, 29, 100, 167, 0, 6, 19, 1, 5, 172]
abbrev dktX0_pileAbove_3 : List UInt8 := dkwX0_pileAbove_3 ++ []
def dkwX0_pileAbove_2 : List UInt8 := [96, 79, 167, 255, 217, 42, 180, 0, 43, 27, 28, 182, 1, 36, 153, 0, 17, 42, 180, 0, 43, 180, 0, 201]
abbrev dktX0_pileAbove_2 : List UInt8 := dkwX0_pileAbove_2 ++ dktX0_pileAbove_3
def dkwX0_pileAbove_1 : List UInt8 := [180, 0, 43, 180, 0, 201, 27, 46, 16, 20, 162, 0, 19, 42, 180, 0, 43, 180, 0, 201, 27, 92, 46, 4]
abbrev dktX0_pileAbove_1 : List UInt8 := dkwX0_pileAbove_1 ++ dktX0_pileAbove_2
def dkwX0_pileAbove_0 : List UInt8 := [42, 180, 0, 43, 180, 0, 201, 27, 46, 62, 42, 180, 0, 43, 27, 28, 182, 1, 36, 154, 0, 33, 42]
abbrev dktX0_pileAbove_0 : List UInt8 := dkwX0_pileAbove_0 ++ dktX0_pileAbove_1
theorem dksX0_pileAbove_0 : cX0_pileAbove.data.toList.drop 0 = dktX0_pileAbove_0 := by decide +kernel
theorem dksX0_pileAbove_1 : cX0_pileAbove.data.toList.drop 23 = dktX0_pileAbove_1 := dk_seg dksX0_pileAbove_0 23 rfl rfl
theorem dksX0_pileAbove_2 : cX0_pileAbove.data.toList.drop 47 = dktX0_pileAbove_2 := dk_seg dksX0_pileAbove_1 24 rfl rfl
theorem dksX0_pileAbove_3 : cX0_pileAbove.data.toList.drop 71 = dktX0_pileAbove_3 := dk_seg dksX0_pileAbove_2 24 rfl rfl
theorem dX0_pileAbove_0 : decode cX0_pileAbove 0 = .ok (.aload_n 0, 1) := dk_42 (dk_at dksX0_pileAbove_0 0 rfl rfl)
theorem dX0_pileAbove_1 : decode cX0_pileAbove 1 = .ok (.getfield 43, 3) := dk_180 0 43 (dk_at dksX0_pileAbove_0 1 rfl rfl)
theorem dX0_pileAbove_4 : decode cX0_pileAbove 4 = .ok (.getfield 201, 3) := dk_180 0 201 (dk_at dksX0_pileAbove_0 4 rfl rfl)
theorem dX0_pileAbove_7 : decode cX0_pileAbove 7 = .ok (.iload_n 1, 1) := dk_27 (dk_at dksX0_pileAbove_0 7 rfl rfl)
theorem dX0_pileAbove_8 : decode cX0_pileAbove 8 = .ok (.iaload, 1) := dk_46 (dk_at dksX0_pileAbove_0 8 rfl rfl)
theorem dX0_pileAbove_9 : decode cX0_pileAbove 9 = .ok (.istore_n 3, 1) := dk_62 (dk_at dksX0_pileAbove_0 9 rfl rfl)
theorem dX0_pileAbove_10 : decode cX0_pileAbove 10 = .ok (.aload_n 0, 1) := dk_42 (dk_at dksX0_pileAbove_0 10 rfl rfl)
theorem dX0_pileAbove_11 : decode cX0_pileAbove 11 = .ok (.getfield 43, 3) := dk_180 0 43 (dk_at dksX0_pileAbove_0 11 rfl rfl)
theorem dX0_pileAbove_14 : decode cX0_pileAbove 14 = .ok (.iload_n 1, 1) := dk_27 (dk_at dksX0_pileAbove_0 14 rfl rfl)
theorem dX0_pileAbove_15 : decode cX0_pileAbove 15 = .ok (.iload_n 2, 1) := dk_28 (dk_at dksX0_pileAbove_0 15 rfl rfl)
theorem dX0_pileAbove_16 : decode cX0_pileAbove 16 = .ok (.invokevirtual 292, 3) := dk_182 1 36 (dk_at dksX0_pileAbove_0 16 rfl rfl)
theorem dX0_pileAbove_19 : decode cX0_pileAbove 19 = .ok (.ifCond .ne 33, 3) := dk_154 0 33 (dk_at dksX0_pileAbove_0 19 rfl rfl)
theorem dX0_pileAbove_22 : decode cX0_pileAbove 22 = .ok (.aload_n 0, 1) := dk_42 (dk_at dksX0_pileAbove_0 22 rfl rfl)
theorem dX0_pileAbove_23 : decode cX0_pileAbove 23 = .ok (.getfield 43, 3) := dk_180 0 43 (dk_at dksX0_pileAbove_1 0 rfl rfl)
theorem dX0_pileAbove_26 : decode cX0_pileAbove 26 = .ok (.getfield 201, 3) := dk_180 0 201 (dk_at dksX0_pileAbove_1 3 rfl rfl)
theorem dX0_pileAbove_29 : decode cX0_pileAbove 29 = .ok (.iload_n 1, 1) := dk_27 (dk_at dksX0_pileAbove_1 6 rfl rfl)
theorem dX0_pileAbove_30 : decode cX0_pileAbove 30 = .ok (.iaload, 1) := dk_46 (dk_at dksX0_pileAbove_1 7 rfl rfl)
theorem dX0_pileAbove_31 : decode cX0_pileAbove 31 = .ok (.bipush 20, 2) := dk_16 20 (dk_at dksX0_pileAbove_1 8 rfl rfl)
theorem dX0_pileAbove_33 : decode cX0_pileAbove 33 = .ok (.if_icmp .ge 19, 3) := dk_162 0 19 (dk_at dksX0_pileAbove_1 10 rfl rfl)
theorem dX0_pileAbove_36 : decode cX0_pileAbove 36 = .ok (.aload_n 0, 1) := dk_42 (dk_at dksX0_pileAbove_1 13 rfl rfl)
theorem dX0_pileAbove_37 : decode cX0_pileAbove 37 = .ok (.getfield 43, 3) := dk_180 0 43 (dk_at dksX0_pileAbove_1 14 rfl rfl)
theorem dX0_pileAbove_40 : decode cX0_pileAbove 40 = .ok (.getfield 201, 3) := dk_180 0 201 (dk_at dksX0_pileAbove_1 17 rfl rfl)
theorem dX0_pileAbove_43 : decode cX0_pileAbove 43 = .ok (.iload_n 1, 1) := dk_27 (dk_at dksX0_pileAbove_1 20 rfl rfl)
theorem dX0_pileAbove_44 : decode cX0_pileAbove 44 = .ok (.dup2, 1) := dk_92 (dk_at dksX0_pileAbove_1 21 rfl rfl)
theorem dX0_pileAbove_45 : decode cX0_pileAbove 45 = .ok (.iaload, 1) := dk_46 (dk_at dksX0_pileAbove_1 22 rfl rfl)
theorem dX0_pileAbove_46 : decode cX0_pileAbove 46 = .ok (.iconst 1, 1) := dk_4 (dk_at dksX0_pileAbove_1 23 rfl rfl)
theorem dX0_pileAbove_47 : decode cX0_pileAbove 47 = .ok (.iadd, 1) := dk_96 (dk_at dksX0_pileAbove_2 0 rfl rfl)
theorem dX0_pileAbove_48 : decode cX0_pileAbove 48 = .ok (.iastore, 1) := dk_79 (dk_at dksX0_pileAbove_2 1 rfl rfl)
theorem dX0_pileAbove_49 : decode cX0_pileAbove 49 = .ok (.goto (-39), 3) := dk_167 255 217 (dk_at dksX0_pileAbove_2 2 rfl rfl)
theorem dX0_pileAbove_52 : decode cX0_pileAbove 52 = .ok (.aload_n 0, 1) := dk_42 (dk_at dksX0_pileAbove_2 5 rfl rfl)
theorem dX0_pileAbove_53 : decode cX0_pileAbove 53 = .ok (.getfield 43, 3) := dk_180 0 43 (dk_at dksX0_pileAbove_2 6 rfl rfl)
theorem dX0_pileAbove_56 : decode cX0_pileAbove 56 = .ok (.iload_n 1, 1) := dk_27 (dk_at dksX0_pileAbove_2 9 rfl rfl)
theorem dX0_pileAbove_57 : decode cX0_pileAbove 57 = .ok (.iload_n 2, 1) := dk_28 (dk_at dksX0_pileAbove_2 10 rfl rfl)
theorem dX0_pileAbove_58 : decode cX0_pileAbove 58 = .ok (.invokevirtual 292, 3) := dk_182 1 36 (dk_at dksX0_pileAbove_2 11 rfl rfl)
theorem dX0_pileAbove_61 : decode cX0_pileAbove 61 = .ok (.ifCond .eq 17, 3) := dk_153 0 17 (dk_at dksX0_pileAbove_2 14 rfl rfl)
theorem dX0_pileAbove_64 : decode cX0_pileAbove 64 = .ok (.aload_n 0, 1) := dk_42 (dk_at dksX0_pileAbove_2 17 rfl rfl)
theorem dX0_pileAbove_65 : decode cX0_pileAbove 65 = .ok (.getfield 43, 3) := dk_180 0 43 (dk_at dksX0_pileAbove_2 18 rfl rfl)
theorem dX0_pileAbove_68 : decode cX0_pileAbove 68 = .ok (.getfield 201, 3) := dk_180 0 201 (dk_at dksX0_pileAbove_2 21 rfl rfl)
theorem dX0_pileAbove_71 : decode cX0_pileAbove 71 = .ok (.iload_n 1, 1) := dk_27 (dk_at dksX0_pileAbove_3 0 rfl rfl)
theorem dX0_pileAbove_72 : decode cX0_pileAbove 72 = .ok (.iaload, 1) := dk_46 (dk_at dksX0_pileAbove_3 1 rfl rfl)
theorem dX0_pileAbove_73 : decode cX0_pileAbove 73 = .ok (.iload_n 3, 1) := dk_29 (dk_at dksX0_pileAbove_3 2 rfl rfl)
theorem dX0_pileAbove_74 : decode cX0_pileAbove 74 = .ok (.isub, 1) := dk_100 (dk_at dksX0_pileAbove_3 3 rfl rfl)
theorem dX0_pileAbove_75 : decode cX0_pileAbove 75 = .ok (.goto 6, 3) := dk_167 0 6 (dk_at dksX0_pileAbove_3 4 rfl rfl)
theorem dX0_pileAbove_78 : decode cX0_pileAbove 78 = .ok (.ldc_w 261, 3) := dk_19 1 5 (dk_at dksX0_pileAbove_3 7 rfl rfl)
theorem dX0_pileAbove_81 : decode cX0_pileAbove 81 = .ok (.ireturn, 1) := dk_172 (dk_at dksX0_pileAbove_3 10 rfl rfl)
abbrev cX0_climb : ByteArray := prog_1_method_53_code
def yX0_climb : MethodName := ⟨RX0, "climb", "(I)I"⟩
def dkwX0_climb_3 : List UInt8 := [167, 255, 201, 28, 172]
abbrev dktX0_climb_3 : List UInt8 := dkwX0_climb_3 ++ []
def dkwX0_climb_2 : List UInt8 := [27, 182, 0, 239, 100, 29, 27, 162, 0, 7, 4, 167, 0, 4, 3, 96, 184, 1, 23, 61, 132, 3, 1]
abbrev dktX0_climb_2 : List UInt8 := dkwX0_climb_2 ++ dktX0_climb_3
def dkwX0_climb_1 : List UInt8 := [162, 0, 50, 29, 27, 160, 0, 6, 167, 0, 36, 28, 42, 180, 0, 39, 29, 182, 0, 239, 42, 180, 0, 39]
abbrev dktX0_climb_1 : List UInt8 := dkwX0_climb_1 ++ dktX0_climb_2
def dkwX0_climb_0 : List UInt8 := [42, 27, 182, 0, 196, 154, 0, 6, 18, 93, 172, 3, 61, 3, 62, 29, 42, 180, 0, 39, 182, 0, 163]
abbrev dktX0_climb_0 : List UInt8 := dkwX0_climb_0 ++ dktX0_climb_1
theorem dksX0_climb_0 : cX0_climb.data.toList.drop 0 = dktX0_climb_0 := by decide +kernel
theorem dksX0_climb_1 : cX0_climb.data.toList.drop 23 = dktX0_climb_1 := dk_seg dksX0_climb_0 23 rfl rfl
theorem dksX0_climb_2 : cX0_climb.data.toList.drop 47 = dktX0_climb_2 := dk_seg dksX0_climb_1 24 rfl rfl
theorem dksX0_climb_3 : cX0_climb.data.toList.drop 70 = dktX0_climb_3 := dk_seg dksX0_climb_2 23 rfl rfl
theorem dX0_climb_0 : decode cX0_climb 0 = .ok (.aload_n 0, 1) := dk_42 (dk_at dksX0_climb_0 0 rfl rfl)
theorem dX0_climb_1 : decode cX0_climb 1 = .ok (.iload_n 1, 1) := dk_27 (dk_at dksX0_climb_0 1 rfl rfl)
theorem dX0_climb_2 : decode cX0_climb 2 = .ok (.invokevirtual 196, 3) := dk_182 0 196 (dk_at dksX0_climb_0 2 rfl rfl)
theorem dX0_climb_5 : decode cX0_climb 5 = .ok (.ifCond .ne 6, 3) := dk_154 0 6 (dk_at dksX0_climb_0 5 rfl rfl)
theorem dX0_climb_8 : decode cX0_climb 8 = .ok (.ldc 93, 2) := dk_18 93 (dk_at dksX0_climb_0 8 rfl rfl)
theorem dX0_climb_10 : decode cX0_climb 10 = .ok (.ireturn, 1) := dk_172 (dk_at dksX0_climb_0 10 rfl rfl)
theorem dX0_climb_11 : decode cX0_climb 11 = .ok (.iconst 0, 1) := dk_3 (dk_at dksX0_climb_0 11 rfl rfl)
theorem dX0_climb_12 : decode cX0_climb 12 = .ok (.istore_n 2, 1) := dk_61 (dk_at dksX0_climb_0 12 rfl rfl)
theorem dX0_climb_13 : decode cX0_climb 13 = .ok (.iconst 0, 1) := dk_3 (dk_at dksX0_climb_0 13 rfl rfl)
theorem dX0_climb_14 : decode cX0_climb 14 = .ok (.istore_n 3, 1) := dk_62 (dk_at dksX0_climb_0 14 rfl rfl)
theorem dX0_climb_15 : decode cX0_climb 15 = .ok (.iload_n 3, 1) := dk_29 (dk_at dksX0_climb_0 15 rfl rfl)
theorem dX0_climb_16 : decode cX0_climb 16 = .ok (.aload_n 0, 1) := dk_42 (dk_at dksX0_climb_0 16 rfl rfl)
theorem dX0_climb_17 : decode cX0_climb 17 = .ok (.getfield 39, 3) := dk_180 0 39 (dk_at dksX0_climb_0 17 rfl rfl)
theorem dX0_climb_20 : decode cX0_climb 20 = .ok (.invokevirtual 163, 3) := dk_182 0 163 (dk_at dksX0_climb_0 20 rfl rfl)
theorem dX0_climb_23 : decode cX0_climb 23 = .ok (.if_icmp .ge 50, 3) := dk_162 0 50 (dk_at dksX0_climb_1 0 rfl rfl)
theorem dX0_climb_26 : decode cX0_climb 26 = .ok (.iload_n 3, 1) := dk_29 (dk_at dksX0_climb_1 3 rfl rfl)
theorem dX0_climb_27 : decode cX0_climb 27 = .ok (.iload_n 1, 1) := dk_27 (dk_at dksX0_climb_1 4 rfl rfl)
theorem dX0_climb_28 : decode cX0_climb 28 = .ok (.if_icmp .ne 6, 3) := dk_160 0 6 (dk_at dksX0_climb_1 5 rfl rfl)
theorem dX0_climb_31 : decode cX0_climb 31 = .ok (.goto 36, 3) := dk_167 0 36 (dk_at dksX0_climb_1 8 rfl rfl)
theorem dX0_climb_34 : decode cX0_climb 34 = .ok (.iload_n 2, 1) := dk_28 (dk_at dksX0_climb_1 11 rfl rfl)
theorem dX0_climb_35 : decode cX0_climb 35 = .ok (.aload_n 0, 1) := dk_42 (dk_at dksX0_climb_1 12 rfl rfl)
theorem dX0_climb_36 : decode cX0_climb 36 = .ok (.getfield 39, 3) := dk_180 0 39 (dk_at dksX0_climb_1 13 rfl rfl)
theorem dX0_climb_39 : decode cX0_climb 39 = .ok (.iload_n 3, 1) := dk_29 (dk_at dksX0_climb_1 16 rfl rfl)
theorem dX0_climb_40 : decode cX0_climb 40 = .ok (.invokevirtual 239, 3) := dk_182 0 239 (dk_at dksX0_climb_1 17 rfl rfl)
theorem dX0_climb_43 : decode cX0_climb 43 = .ok (.aload_n 0, 1) := dk_42 (dk_at dksX0_climb_1 20 rfl rfl)
theorem dX0_climb_44 : decode cX0_climb 44 = .ok (.getfield 39, 3) := dk_180 0 39 (dk_at dksX0_climb_1 21 rfl rfl)
theorem dX0_climb_47 : decode cX0_climb 47 = .ok (.iload_n 1, 1) := dk_27 (dk_at dksX0_climb_2 0 rfl rfl)
theorem dX0_climb_48 : decode cX0_climb 48 = .ok (.invokevirtual 239, 3) := dk_182 0 239 (dk_at dksX0_climb_2 1 rfl rfl)
theorem dX0_climb_51 : decode cX0_climb 51 = .ok (.isub, 1) := dk_100 (dk_at dksX0_climb_2 4 rfl rfl)
theorem dX0_climb_52 : decode cX0_climb 52 = .ok (.iload_n 3, 1) := dk_29 (dk_at dksX0_climb_2 5 rfl rfl)
theorem dX0_climb_53 : decode cX0_climb 53 = .ok (.iload_n 1, 1) := dk_27 (dk_at dksX0_climb_2 6 rfl rfl)
theorem dX0_climb_54 : decode cX0_climb 54 = .ok (.if_icmp .ge 7, 3) := dk_162 0 7 (dk_at dksX0_climb_2 7 rfl rfl)
theorem dX0_climb_57 : decode cX0_climb 57 = .ok (.iconst 1, 1) := dk_4 (dk_at dksX0_climb_2 10 rfl rfl)
theorem dX0_climb_58 : decode cX0_climb 58 = .ok (.goto 4, 3) := dk_167 0 4 (dk_at dksX0_climb_2 11 rfl rfl)
theorem dX0_climb_61 : decode cX0_climb 61 = .ok (.iconst 0, 1) := dk_3 (dk_at dksX0_climb_2 14 rfl rfl)
theorem dX0_climb_62 : decode cX0_climb 62 = .ok (.iadd, 1) := dk_96 (dk_at dksX0_climb_2 15 rfl rfl)
theorem dX0_climb_63 : decode cX0_climb 63 = .ok (.invokestatic 279, 3) := dk_184 1 23 (dk_at dksX0_climb_2 16 rfl rfl)
theorem dX0_climb_66 : decode cX0_climb 66 = .ok (.istore_n 2, 1) := dk_61 (dk_at dksX0_climb_2 19 rfl rfl)
theorem dX0_climb_67 : decode cX0_climb 67 = .ok (.iinc 3 1, 3) := dk_132 3 1 (dk_at dksX0_climb_2 20 rfl rfl)
theorem dX0_climb_70 : decode cX0_climb 70 = .ok (.goto (-55), 3) := dk_167 255 201 (dk_at dksX0_climb_3 0 rfl rfl)
theorem dX0_climb_73 : decode cX0_climb 73 = .ok (.iload_n 2, 1) := dk_28 (dk_at dksX0_climb_3 3 rfl rfl)
theorem dX0_climb_74 : decode cX0_climb 74 = .ok (.ireturn, 1) := dk_172 (dk_at dksX0_climb_3 4 rfl rfl)
abbrev cX0_coalition : ByteArray := prog_1_method_54_code
def yX0_coalition : MethodName := ⟨RX0, "coalition", "(I)I"⟩
def dkwX0_coalition_4 : List UInt8 := [62, 132, 4, 1, 167, 255, 195, 29, 27, 184, 1, 19, 172]
abbrev dktX0_coalition_4 : List UInt8 := dkwX0_coalition_4 ++ []
def dkwX0_coalition_3 : List UInt8 := [167, 0, 25, 5, 42, 180, 0, 39, 21, 4, 182, 1, 55, 104, 28, 164, 0, 8, 21, 4, 167, 0, 4, 29]
abbrev dktX0_coalition_3 : List UInt8 := dkwX0_coalition_3 ++ dktX0_coalition_4
def dkwX0_coalition_2 : List UInt8 := [162, 0, 53, 29, 19, 1, 5, 159, 0, 18, 21, 4, 184, 0, 220, 29, 184, 0, 220, 161, 0, 6]
abbrev dktX0_coalition_2 : List UInt8 := dkwX0_coalition_2 ++ dktX0_coalition_3
def dkwX0_coalition_1 : List UInt8 := [2, 182, 1, 55, 61, 19, 1, 5, 62, 3, 54, 4, 21, 4, 4, 42, 180, 0, 39, 182, 0, 163, 120]
abbrev dktX0_coalition_1 : List UInt8 := dkwX0_coalition_1 ++ dktX0_coalition_2
def dkwX0_coalition_0 : List UInt8 := [42, 182, 0, 177, 154, 0, 6, 18, 167, 172, 27, 184, 0, 214, 154, 0, 6, 18, 93, 172, 42, 180, 0, 39]
abbrev dktX0_coalition_0 : List UInt8 := dkwX0_coalition_0 ++ dktX0_coalition_1
theorem dksX0_coalition_0 : cX0_coalition.data.toList.drop 0 = dktX0_coalition_0 := by decide +kernel
theorem dksX0_coalition_1 : cX0_coalition.data.toList.drop 24 = dktX0_coalition_1 := dk_seg dksX0_coalition_0 24 rfl rfl
theorem dksX0_coalition_2 : cX0_coalition.data.toList.drop 47 = dktX0_coalition_2 := dk_seg dksX0_coalition_1 23 rfl rfl
theorem dksX0_coalition_3 : cX0_coalition.data.toList.drop 69 = dktX0_coalition_3 := dk_seg dksX0_coalition_2 22 rfl rfl
theorem dksX0_coalition_4 : cX0_coalition.data.toList.drop 93 = dktX0_coalition_4 := dk_seg dksX0_coalition_3 24 rfl rfl
theorem dX0_coalition_0 : decode cX0_coalition 0 = .ok (.aload_n 0, 1) := dk_42 (dk_at dksX0_coalition_0 0 rfl rfl)
theorem dX0_coalition_1 : decode cX0_coalition 1 = .ok (.invokevirtual 177, 3) := dk_182 0 177 (dk_at dksX0_coalition_0 1 rfl rfl)
theorem dX0_coalition_4 : decode cX0_coalition 4 = .ok (.ifCond .ne 6, 3) := dk_154 0 6 (dk_at dksX0_coalition_0 4 rfl rfl)
theorem dX0_coalition_7 : decode cX0_coalition 7 = .ok (.ldc 167, 2) := dk_18 167 (dk_at dksX0_coalition_0 7 rfl rfl)
theorem dX0_coalition_9 : decode cX0_coalition 9 = .ok (.ireturn, 1) := dk_172 (dk_at dksX0_coalition_0 9 rfl rfl)
theorem dX0_coalition_10 : decode cX0_coalition 10 = .ok (.iload_n 1, 1) := dk_27 (dk_at dksX0_coalition_0 10 rfl rfl)
theorem dX0_coalition_11 : decode cX0_coalition 11 = .ok (.invokestatic 214, 3) := dk_184 0 214 (dk_at dksX0_coalition_0 11 rfl rfl)
theorem dX0_coalition_14 : decode cX0_coalition 14 = .ok (.ifCond .ne 6, 3) := dk_154 0 6 (dk_at dksX0_coalition_0 14 rfl rfl)
theorem dX0_coalition_17 : decode cX0_coalition 17 = .ok (.ldc 93, 2) := dk_18 93 (dk_at dksX0_coalition_0 17 rfl rfl)
theorem dX0_coalition_19 : decode cX0_coalition 19 = .ok (.ireturn, 1) := dk_172 (dk_at dksX0_coalition_0 19 rfl rfl)
theorem dX0_coalition_20 : decode cX0_coalition 20 = .ok (.aload_n 0, 1) := dk_42 (dk_at dksX0_coalition_0 20 rfl rfl)
theorem dX0_coalition_21 : decode cX0_coalition 21 = .ok (.getfield 39, 3) := dk_180 0 39 (dk_at dksX0_coalition_0 21 rfl rfl)
theorem dX0_coalition_24 : decode cX0_coalition 24 = .ok (.iconst (-1), 1) := dk_2 (dk_at dksX0_coalition_1 0 rfl rfl)
theorem dX0_coalition_25 : decode cX0_coalition 25 = .ok (.invokevirtual 311, 3) := dk_182 1 55 (dk_at dksX0_coalition_1 1 rfl rfl)
theorem dX0_coalition_28 : decode cX0_coalition 28 = .ok (.istore_n 2, 1) := dk_61 (dk_at dksX0_coalition_1 4 rfl rfl)
theorem dX0_coalition_29 : decode cX0_coalition 29 = .ok (.ldc_w 261, 3) := dk_19 1 5 (dk_at dksX0_coalition_1 5 rfl rfl)
theorem dX0_coalition_32 : decode cX0_coalition 32 = .ok (.istore_n 3, 1) := dk_62 (dk_at dksX0_coalition_1 8 rfl rfl)
theorem dX0_coalition_33 : decode cX0_coalition 33 = .ok (.iconst 0, 1) := dk_3 (dk_at dksX0_coalition_1 9 rfl rfl)
theorem dX0_coalition_34 : decode cX0_coalition 34 = .ok (.istore 4, 2) := dk_54 4 (dk_at dksX0_coalition_1 10 rfl rfl)
theorem dX0_coalition_36 : decode cX0_coalition 36 = .ok (.iload 4, 2) := dk_21 4 (dk_at dksX0_coalition_1 12 rfl rfl)
theorem dX0_coalition_38 : decode cX0_coalition 38 = .ok (.iconst 1, 1) := dk_4 (dk_at dksX0_coalition_1 14 rfl rfl)
theorem dX0_coalition_39 : decode cX0_coalition 39 = .ok (.aload_n 0, 1) := dk_42 (dk_at dksX0_coalition_1 15 rfl rfl)
theorem dX0_coalition_40 : decode cX0_coalition 40 = .ok (.getfield 39, 3) := dk_180 0 39 (dk_at dksX0_coalition_1 16 rfl rfl)
theorem dX0_coalition_43 : decode cX0_coalition 43 = .ok (.invokevirtual 163, 3) := dk_182 0 163 (dk_at dksX0_coalition_1 19 rfl rfl)
theorem dX0_coalition_46 : decode cX0_coalition 46 = .ok (.ishl, 1) := dk_120 (dk_at dksX0_coalition_1 22 rfl rfl)
theorem dX0_coalition_47 : decode cX0_coalition 47 = .ok (.if_icmp .ge 53, 3) := dk_162 0 53 (dk_at dksX0_coalition_2 0 rfl rfl)
theorem dX0_coalition_50 : decode cX0_coalition 50 = .ok (.iload_n 3, 1) := dk_29 (dk_at dksX0_coalition_2 3 rfl rfl)
theorem dX0_coalition_51 : decode cX0_coalition 51 = .ok (.ldc_w 261, 3) := dk_19 1 5 (dk_at dksX0_coalition_2 4 rfl rfl)
theorem dX0_coalition_54 : decode cX0_coalition 54 = .ok (.if_icmp .eq 18, 3) := dk_159 0 18 (dk_at dksX0_coalition_2 7 rfl rfl)
theorem dX0_coalition_57 : decode cX0_coalition 57 = .ok (.iload 4, 2) := dk_21 4 (dk_at dksX0_coalition_2 10 rfl rfl)
theorem dX0_coalition_59 : decode cX0_coalition 59 = .ok (.invokestatic 220, 3) := dk_184 0 220 (dk_at dksX0_coalition_2 12 rfl rfl)
theorem dX0_coalition_62 : decode cX0_coalition 62 = .ok (.iload_n 3, 1) := dk_29 (dk_at dksX0_coalition_2 15 rfl rfl)
theorem dX0_coalition_63 : decode cX0_coalition 63 = .ok (.invokestatic 220, 3) := dk_184 0 220 (dk_at dksX0_coalition_2 16 rfl rfl)
theorem dX0_coalition_66 : decode cX0_coalition 66 = .ok (.if_icmp .lt 6, 3) := dk_161 0 6 (dk_at dksX0_coalition_2 19 rfl rfl)
theorem dX0_coalition_69 : decode cX0_coalition 69 = .ok (.goto 25, 3) := dk_167 0 25 (dk_at dksX0_coalition_3 0 rfl rfl)
theorem dX0_coalition_72 : decode cX0_coalition 72 = .ok (.iconst 2, 1) := dk_5 (dk_at dksX0_coalition_3 3 rfl rfl)
theorem dX0_coalition_73 : decode cX0_coalition 73 = .ok (.aload_n 0, 1) := dk_42 (dk_at dksX0_coalition_3 4 rfl rfl)
theorem dX0_coalition_74 : decode cX0_coalition 74 = .ok (.getfield 39, 3) := dk_180 0 39 (dk_at dksX0_coalition_3 5 rfl rfl)
theorem dX0_coalition_77 : decode cX0_coalition 77 = .ok (.iload 4, 2) := dk_21 4 (dk_at dksX0_coalition_3 8 rfl rfl)
theorem dX0_coalition_79 : decode cX0_coalition 79 = .ok (.invokevirtual 311, 3) := dk_182 1 55 (dk_at dksX0_coalition_3 10 rfl rfl)
theorem dX0_coalition_82 : decode cX0_coalition 82 = .ok (.imul, 1) := dk_104 (dk_at dksX0_coalition_3 13 rfl rfl)
theorem dX0_coalition_83 : decode cX0_coalition 83 = .ok (.iload_n 2, 1) := dk_28 (dk_at dksX0_coalition_3 14 rfl rfl)
theorem dX0_coalition_84 : decode cX0_coalition 84 = .ok (.if_icmp .le 8, 3) := dk_164 0 8 (dk_at dksX0_coalition_3 15 rfl rfl)
theorem dX0_coalition_87 : decode cX0_coalition 87 = .ok (.iload 4, 2) := dk_21 4 (dk_at dksX0_coalition_3 18 rfl rfl)
theorem dX0_coalition_89 : decode cX0_coalition 89 = .ok (.goto 4, 3) := dk_167 0 4 (dk_at dksX0_coalition_3 20 rfl rfl)
theorem dX0_coalition_92 : decode cX0_coalition 92 = .ok (.iload_n 3, 1) := dk_29 (dk_at dksX0_coalition_3 23 rfl rfl)
theorem dX0_coalition_93 : decode cX0_coalition 93 = .ok (.istore_n 3, 1) := dk_62 (dk_at dksX0_coalition_4 0 rfl rfl)
theorem dX0_coalition_94 : decode cX0_coalition 94 = .ok (.iinc 4 1, 3) := dk_132 4 1 (dk_at dksX0_coalition_4 1 rfl rfl)
theorem dX0_coalition_97 : decode cX0_coalition 97 = .ok (.goto (-61), 3) := dk_167 255 195 (dk_at dksX0_coalition_4 4 rfl rfl)
theorem dX0_coalition_100 : decode cX0_coalition 100 = .ok (.iload_n 3, 1) := dk_29 (dk_at dksX0_coalition_4 7 rfl rfl)
theorem dX0_coalition_101 : decode cX0_coalition 101 = .ok (.iload_n 1, 1) := dk_27 (dk_at dksX0_coalition_4 8 rfl rfl)
theorem dX0_coalition_102 : decode cX0_coalition 102 = .ok (.invokestatic 275, 3) := dk_184 1 19 (dk_at dksX0_coalition_4 9 rfl rfl)
theorem dX0_coalition_105 : decode cX0_coalition 105 = .ok (.ireturn, 1) := dk_172 (dk_at dksX0_coalition_4 12 rfl rfl)
abbrev cX0_sawnBy : ByteArray := prog_1_method_55_code
def yX0_sawnBy : MethodName := ⟨RX0, "sawnBy", "(I)I"⟩
def dkwX0_sawnBy_2 : List UInt8 := [61, 132, 3, 1, 167, 255, 220, 28, 172]
abbrev dktX0_sawnBy_2 : List UInt8 := dkwX0_sawnBy_2 ++ []
def dkwX0_sawnBy_1 : List UInt8 := [162, 0, 31, 28, 42, 180, 0, 39, 29, 182, 0, 231, 27, 160, 0, 9, 4, 29, 120, 167, 0, 4, 3, 128]
abbrev dktX0_sawnBy_1 : List UInt8 := dkwX0_sawnBy_1 ++ dktX0_sawnBy_2
def dkwX0_sawnBy_0 : List UInt8 := [42, 27, 182, 0, 196, 154, 0, 6, 18, 93, 172, 3, 61, 3, 62, 29, 42, 180, 0, 39, 182, 0, 163]
abbrev dktX0_sawnBy_0 : List UInt8 := dkwX0_sawnBy_0 ++ dktX0_sawnBy_1
theorem dksX0_sawnBy_0 : cX0_sawnBy.data.toList.drop 0 = dktX0_sawnBy_0 := by decide +kernel
theorem dksX0_sawnBy_1 : cX0_sawnBy.data.toList.drop 23 = dktX0_sawnBy_1 := dk_seg dksX0_sawnBy_0 23 rfl rfl
theorem dksX0_sawnBy_2 : cX0_sawnBy.data.toList.drop 47 = dktX0_sawnBy_2 := dk_seg dksX0_sawnBy_1 24 rfl rfl
theorem dX0_sawnBy_0 : decode cX0_sawnBy 0 = .ok (.aload_n 0, 1) := dk_42 (dk_at dksX0_sawnBy_0 0 rfl rfl)
theorem dX0_sawnBy_1 : decode cX0_sawnBy 1 = .ok (.iload_n 1, 1) := dk_27 (dk_at dksX0_sawnBy_0 1 rfl rfl)
theorem dX0_sawnBy_2 : decode cX0_sawnBy 2 = .ok (.invokevirtual 196, 3) := dk_182 0 196 (dk_at dksX0_sawnBy_0 2 rfl rfl)
theorem dX0_sawnBy_5 : decode cX0_sawnBy 5 = .ok (.ifCond .ne 6, 3) := dk_154 0 6 (dk_at dksX0_sawnBy_0 5 rfl rfl)
theorem dX0_sawnBy_8 : decode cX0_sawnBy 8 = .ok (.ldc 93, 2) := dk_18 93 (dk_at dksX0_sawnBy_0 8 rfl rfl)
theorem dX0_sawnBy_10 : decode cX0_sawnBy 10 = .ok (.ireturn, 1) := dk_172 (dk_at dksX0_sawnBy_0 10 rfl rfl)
theorem dX0_sawnBy_11 : decode cX0_sawnBy 11 = .ok (.iconst 0, 1) := dk_3 (dk_at dksX0_sawnBy_0 11 rfl rfl)
theorem dX0_sawnBy_12 : decode cX0_sawnBy 12 = .ok (.istore_n 2, 1) := dk_61 (dk_at dksX0_sawnBy_0 12 rfl rfl)
theorem dX0_sawnBy_13 : decode cX0_sawnBy 13 = .ok (.iconst 0, 1) := dk_3 (dk_at dksX0_sawnBy_0 13 rfl rfl)
theorem dX0_sawnBy_14 : decode cX0_sawnBy 14 = .ok (.istore_n 3, 1) := dk_62 (dk_at dksX0_sawnBy_0 14 rfl rfl)
theorem dX0_sawnBy_15 : decode cX0_sawnBy 15 = .ok (.iload_n 3, 1) := dk_29 (dk_at dksX0_sawnBy_0 15 rfl rfl)
theorem dX0_sawnBy_16 : decode cX0_sawnBy 16 = .ok (.aload_n 0, 1) := dk_42 (dk_at dksX0_sawnBy_0 16 rfl rfl)
theorem dX0_sawnBy_17 : decode cX0_sawnBy 17 = .ok (.getfield 39, 3) := dk_180 0 39 (dk_at dksX0_sawnBy_0 17 rfl rfl)
theorem dX0_sawnBy_20 : decode cX0_sawnBy 20 = .ok (.invokevirtual 163, 3) := dk_182 0 163 (dk_at dksX0_sawnBy_0 20 rfl rfl)
theorem dX0_sawnBy_23 : decode cX0_sawnBy 23 = .ok (.if_icmp .ge 31, 3) := dk_162 0 31 (dk_at dksX0_sawnBy_1 0 rfl rfl)
theorem dX0_sawnBy_26 : decode cX0_sawnBy 26 = .ok (.iload_n 2, 1) := dk_28 (dk_at dksX0_sawnBy_1 3 rfl rfl)
theorem dX0_sawnBy_27 : decode cX0_sawnBy 27 = .ok (.aload_n 0, 1) := dk_42 (dk_at dksX0_sawnBy_1 4 rfl rfl)
theorem dX0_sawnBy_28 : decode cX0_sawnBy 28 = .ok (.getfield 39, 3) := dk_180 0 39 (dk_at dksX0_sawnBy_1 5 rfl rfl)
theorem dX0_sawnBy_31 : decode cX0_sawnBy 31 = .ok (.iload_n 3, 1) := dk_29 (dk_at dksX0_sawnBy_1 8 rfl rfl)
theorem dX0_sawnBy_32 : decode cX0_sawnBy 32 = .ok (.invokevirtual 231, 3) := dk_182 0 231 (dk_at dksX0_sawnBy_1 9 rfl rfl)
theorem dX0_sawnBy_35 : decode cX0_sawnBy 35 = .ok (.iload_n 1, 1) := dk_27 (dk_at dksX0_sawnBy_1 12 rfl rfl)
theorem dX0_sawnBy_36 : decode cX0_sawnBy 36 = .ok (.if_icmp .ne 9, 3) := dk_160 0 9 (dk_at dksX0_sawnBy_1 13 rfl rfl)
theorem dX0_sawnBy_39 : decode cX0_sawnBy 39 = .ok (.iconst 1, 1) := dk_4 (dk_at dksX0_sawnBy_1 16 rfl rfl)
theorem dX0_sawnBy_40 : decode cX0_sawnBy 40 = .ok (.iload_n 3, 1) := dk_29 (dk_at dksX0_sawnBy_1 17 rfl rfl)
theorem dX0_sawnBy_41 : decode cX0_sawnBy 41 = .ok (.ishl, 1) := dk_120 (dk_at dksX0_sawnBy_1 18 rfl rfl)
theorem dX0_sawnBy_42 : decode cX0_sawnBy 42 = .ok (.goto 4, 3) := dk_167 0 4 (dk_at dksX0_sawnBy_1 19 rfl rfl)
theorem dX0_sawnBy_45 : decode cX0_sawnBy 45 = .ok (.iconst 0, 1) := dk_3 (dk_at dksX0_sawnBy_1 22 rfl rfl)
theorem dX0_sawnBy_46 : decode cX0_sawnBy 46 = .ok (.ior, 1) := dk_128 (dk_at dksX0_sawnBy_1 23 rfl rfl)
theorem dX0_sawnBy_47 : decode cX0_sawnBy 47 = .ok (.istore_n 2, 1) := dk_61 (dk_at dksX0_sawnBy_2 0 rfl rfl)
theorem dX0_sawnBy_48 : decode cX0_sawnBy 48 = .ok (.iinc 3 1, 3) := dk_132 3 1 (dk_at dksX0_sawnBy_2 1 rfl rfl)
theorem dX0_sawnBy_51 : decode cX0_sawnBy 51 = .ok (.goto (-36), 3) := dk_167 255 220 (dk_at dksX0_sawnBy_2 4 rfl rfl)
theorem dX0_sawnBy_54 : decode cX0_sawnBy 54 = .ok (.iload_n 2, 1) := dk_28 (dk_at dksX0_sawnBy_2 7 rfl rfl)
theorem dX0_sawnBy_55 : decode cX0_sawnBy 55 = .ok (.ireturn, 1) := dk_172 (dk_at dksX0_sawnBy_2 8 rfl rfl)
abbrev cX0_round : ByteArray := prog_1_method_56_code
def yX0_round : MethodName := ⟨RX0, "round", "()I"⟩
def dkwX0_round_3 : List UInt8 := [172]
abbrev dktX0_round_3 : List UInt8 := dkwX0_round_3 ++ []
def dkwX0_round_2 : List UInt8 := [29, 182, 0, 231, 28, 160, 0, 9, 4, 28, 120, 167, 0, 4, 3, 128, 60, 132, 2, 1, 167, 255, 204, 27]
abbrev dktX0_round_2 : List UInt8 := dkwX0_round_2 ++ dktX0_round_3
def dkwX0_round_1 : List UInt8 := [162, 0, 47, 42, 180, 0, 39, 28, 182, 0, 231, 62, 27, 29, 19, 1, 5, 159, 0, 21, 42, 180, 0, 39]
abbrev dktX0_round_1 : List UInt8 := dkwX0_round_1 ++ dktX0_round_2
def dkwX0_round_0 : List UInt8 := [42, 182, 0, 177, 154, 0, 6, 18, 167, 172, 3, 60, 3, 61, 28, 42, 180, 0, 39, 182, 0, 163]
abbrev dktX0_round_0 : List UInt8 := dkwX0_round_0 ++ dktX0_round_1
theorem dksX0_round_0 : cX0_round.data.toList.drop 0 = dktX0_round_0 := by decide +kernel
theorem dksX0_round_1 : cX0_round.data.toList.drop 22 = dktX0_round_1 := dk_seg dksX0_round_0 22 rfl rfl
theorem dksX0_round_2 : cX0_round.data.toList.drop 46 = dktX0_round_2 := dk_seg dksX0_round_1 24 rfl rfl
theorem dksX0_round_3 : cX0_round.data.toList.drop 70 = dktX0_round_3 := dk_seg dksX0_round_2 24 rfl rfl
theorem dX0_round_0 : decode cX0_round 0 = .ok (.aload_n 0, 1) := dk_42 (dk_at dksX0_round_0 0 rfl rfl)
theorem dX0_round_1 : decode cX0_round 1 = .ok (.invokevirtual 177, 3) := dk_182 0 177 (dk_at dksX0_round_0 1 rfl rfl)
theorem dX0_round_4 : decode cX0_round 4 = .ok (.ifCond .ne 6, 3) := dk_154 0 6 (dk_at dksX0_round_0 4 rfl rfl)
theorem dX0_round_7 : decode cX0_round 7 = .ok (.ldc 167, 2) := dk_18 167 (dk_at dksX0_round_0 7 rfl rfl)
theorem dX0_round_9 : decode cX0_round 9 = .ok (.ireturn, 1) := dk_172 (dk_at dksX0_round_0 9 rfl rfl)
theorem dX0_round_10 : decode cX0_round 10 = .ok (.iconst 0, 1) := dk_3 (dk_at dksX0_round_0 10 rfl rfl)
theorem dX0_round_11 : decode cX0_round 11 = .ok (.istore_n 1, 1) := dk_60 (dk_at dksX0_round_0 11 rfl rfl)
theorem dX0_round_12 : decode cX0_round 12 = .ok (.iconst 0, 1) := dk_3 (dk_at dksX0_round_0 12 rfl rfl)
theorem dX0_round_13 : decode cX0_round 13 = .ok (.istore_n 2, 1) := dk_61 (dk_at dksX0_round_0 13 rfl rfl)
theorem dX0_round_14 : decode cX0_round 14 = .ok (.iload_n 2, 1) := dk_28 (dk_at dksX0_round_0 14 rfl rfl)
theorem dX0_round_15 : decode cX0_round 15 = .ok (.aload_n 0, 1) := dk_42 (dk_at dksX0_round_0 15 rfl rfl)
theorem dX0_round_16 : decode cX0_round 16 = .ok (.getfield 39, 3) := dk_180 0 39 (dk_at dksX0_round_0 16 rfl rfl)
theorem dX0_round_19 : decode cX0_round 19 = .ok (.invokevirtual 163, 3) := dk_182 0 163 (dk_at dksX0_round_0 19 rfl rfl)
theorem dX0_round_22 : decode cX0_round 22 = .ok (.if_icmp .ge 47, 3) := dk_162 0 47 (dk_at dksX0_round_1 0 rfl rfl)
theorem dX0_round_25 : decode cX0_round 25 = .ok (.aload_n 0, 1) := dk_42 (dk_at dksX0_round_1 3 rfl rfl)
theorem dX0_round_26 : decode cX0_round 26 = .ok (.getfield 39, 3) := dk_180 0 39 (dk_at dksX0_round_1 4 rfl rfl)
theorem dX0_round_29 : decode cX0_round 29 = .ok (.iload_n 2, 1) := dk_28 (dk_at dksX0_round_1 7 rfl rfl)
theorem dX0_round_30 : decode cX0_round 30 = .ok (.invokevirtual 231, 3) := dk_182 0 231 (dk_at dksX0_round_1 8 rfl rfl)
theorem dX0_round_33 : decode cX0_round 33 = .ok (.istore_n 3, 1) := dk_62 (dk_at dksX0_round_1 11 rfl rfl)
theorem dX0_round_34 : decode cX0_round 34 = .ok (.iload_n 1, 1) := dk_27 (dk_at dksX0_round_1 12 rfl rfl)
theorem dX0_round_35 : decode cX0_round 35 = .ok (.iload_n 3, 1) := dk_29 (dk_at dksX0_round_1 13 rfl rfl)
theorem dX0_round_36 : decode cX0_round 36 = .ok (.ldc_w 261, 3) := dk_19 1 5 (dk_at dksX0_round_1 14 rfl rfl)
theorem dX0_round_39 : decode cX0_round 39 = .ok (.if_icmp .eq 21, 3) := dk_159 0 21 (dk_at dksX0_round_1 17 rfl rfl)
theorem dX0_round_42 : decode cX0_round 42 = .ok (.aload_n 0, 1) := dk_42 (dk_at dksX0_round_1 20 rfl rfl)
theorem dX0_round_43 : decode cX0_round 43 = .ok (.getfield 39, 3) := dk_180 0 39 (dk_at dksX0_round_1 21 rfl rfl)
theorem dX0_round_46 : decode cX0_round 46 = .ok (.iload_n 3, 1) := dk_29 (dk_at dksX0_round_2 0 rfl rfl)
theorem dX0_round_47 : decode cX0_round 47 = .ok (.invokevirtual 231, 3) := dk_182 0 231 (dk_at dksX0_round_2 1 rfl rfl)
theorem dX0_round_50 : decode cX0_round 50 = .ok (.iload_n 2, 1) := dk_28 (dk_at dksX0_round_2 4 rfl rfl)
theorem dX0_round_51 : decode cX0_round 51 = .ok (.if_icmp .ne 9, 3) := dk_160 0 9 (dk_at dksX0_round_2 5 rfl rfl)
theorem dX0_round_54 : decode cX0_round 54 = .ok (.iconst 1, 1) := dk_4 (dk_at dksX0_round_2 8 rfl rfl)
theorem dX0_round_55 : decode cX0_round 55 = .ok (.iload_n 2, 1) := dk_28 (dk_at dksX0_round_2 9 rfl rfl)
theorem dX0_round_56 : decode cX0_round 56 = .ok (.ishl, 1) := dk_120 (dk_at dksX0_round_2 10 rfl rfl)
theorem dX0_round_57 : decode cX0_round 57 = .ok (.goto 4, 3) := dk_167 0 4 (dk_at dksX0_round_2 11 rfl rfl)
theorem dX0_round_60 : decode cX0_round 60 = .ok (.iconst 0, 1) := dk_3 (dk_at dksX0_round_2 14 rfl rfl)
theorem dX0_round_61 : decode cX0_round 61 = .ok (.ior, 1) := dk_128 (dk_at dksX0_round_2 15 rfl rfl)
theorem dX0_round_62 : decode cX0_round 62 = .ok (.istore_n 1, 1) := dk_60 (dk_at dksX0_round_2 16 rfl rfl)
theorem dX0_round_63 : decode cX0_round 63 = .ok (.iinc 2 1, 3) := dk_132 2 1 (dk_at dksX0_round_2 17 rfl rfl)
theorem dX0_round_66 : decode cX0_round 66 = .ok (.goto (-52), 3) := dk_167 255 204 (dk_at dksX0_round_2 20 rfl rfl)
theorem dX0_round_69 : decode cX0_round 69 = .ok (.iload_n 1, 1) := dk_27 (dk_at dksX0_round_2 23 rfl rfl)
theorem dX0_round_70 : decode cX0_round 70 = .ok (.ireturn, 1) := dk_172 (dk_at dksX0_round_3 0 rfl rfl)
abbrev cX0_enemy : ByteArray := prog_1_method_57_code
def yX0_enemy : MethodName := ⟨RX0, "enemy", "(III)I"⟩
def dkwX0_enemy_4 : List UInt8 := [184, 1, 23, 54, 5, 132, 6, 1, 167, 255, 194, 29, 154, 0, 8, 21, 4, 167, 0, 5, 21, 5, 172]
abbrev dktX0_enemy_4 : List UInt8 := dkwX0_enemy_4 ++ []
def dkwX0_enemy_3 : List UInt8 := [54, 7, 21, 7, 21, 5, 164, 0, 8, 21, 6, 167, 0, 5, 21, 4, 54, 4, 21, 5, 21, 7]
abbrev dktX0_enemy_3 : List UInt8 := dkwX0_enemy_3 ++ dktX0_enemy_4
def dkwX0_enemy_2 : List UInt8 := [162, 0, 56, 42, 182, 0, 254, 180, 0, 236, 21, 6, 3, 79, 42, 28, 182, 1, 1, 27, 182, 0, 239]
abbrev dktX0_enemy_2 : List UInt8 := dkwX0_enemy_2 ++ dktX0_enemy_3
def dkwX0_enemy_1 : List UInt8 := [154, 0, 6, 18, 93, 172, 3, 54, 4, 2, 54, 5, 3, 54, 6, 21, 6, 42, 180, 0, 39, 182, 0, 163]
abbrev dktX0_enemy_1 : List UInt8 := dkwX0_enemy_1 ++ dktX0_enemy_2
def dkwX0_enemy_0 : List UInt8 := [42, 27, 182, 0, 196, 153, 0, 22, 28, 133, 10, 20, 0, 175, 184, 0, 79, 153, 0, 10, 29, 184, 0, 214]
abbrev dktX0_enemy_0 : List UInt8 := dkwX0_enemy_0 ++ dktX0_enemy_1
theorem dksX0_enemy_0 : cX0_enemy.data.toList.drop 0 = dktX0_enemy_0 := by decide +kernel
theorem dksX0_enemy_1 : cX0_enemy.data.toList.drop 24 = dktX0_enemy_1 := dk_seg dksX0_enemy_0 24 rfl rfl
theorem dksX0_enemy_2 : cX0_enemy.data.toList.drop 48 = dktX0_enemy_2 := dk_seg dksX0_enemy_1 24 rfl rfl
theorem dksX0_enemy_3 : cX0_enemy.data.toList.drop 71 = dktX0_enemy_3 := dk_seg dksX0_enemy_2 23 rfl rfl
theorem dksX0_enemy_4 : cX0_enemy.data.toList.drop 93 = dktX0_enemy_4 := dk_seg dksX0_enemy_3 22 rfl rfl
theorem dX0_enemy_0 : decode cX0_enemy 0 = .ok (.aload_n 0, 1) := dk_42 (dk_at dksX0_enemy_0 0 rfl rfl)
theorem dX0_enemy_1 : decode cX0_enemy 1 = .ok (.iload_n 1, 1) := dk_27 (dk_at dksX0_enemy_0 1 rfl rfl)
theorem dX0_enemy_2 : decode cX0_enemy 2 = .ok (.invokevirtual 196, 3) := dk_182 0 196 (dk_at dksX0_enemy_0 2 rfl rfl)
theorem dX0_enemy_5 : decode cX0_enemy 5 = .ok (.ifCond .eq 22, 3) := dk_153 0 22 (dk_at dksX0_enemy_0 5 rfl rfl)
theorem dX0_enemy_8 : decode cX0_enemy 8 = .ok (.iload_n 2, 1) := dk_28 (dk_at dksX0_enemy_0 8 rfl rfl)
theorem dX0_enemy_9 : decode cX0_enemy 9 = .ok (.i2l, 1) := dk_133 (dk_at dksX0_enemy_0 9 rfl rfl)
theorem dX0_enemy_10 : decode cX0_enemy 10 = .ok (.lconst 1, 1) := dk_10 (dk_at dksX0_enemy_0 10 rfl rfl)
theorem dX0_enemy_11 : decode cX0_enemy 11 = .ok (.ldc2_w 175, 3) := dk_20 0 175 (dk_at dksX0_enemy_0 11 rfl rfl)
theorem dX0_enemy_14 : decode cX0_enemy 14 = .ok (.invokestatic 79, 3) := dk_184 0 79 (dk_at dksX0_enemy_0 14 rfl rfl)
theorem dX0_enemy_17 : decode cX0_enemy 17 = .ok (.ifCond .eq 10, 3) := dk_153 0 10 (dk_at dksX0_enemy_0 17 rfl rfl)
theorem dX0_enemy_20 : decode cX0_enemy 20 = .ok (.iload_n 3, 1) := dk_29 (dk_at dksX0_enemy_0 20 rfl rfl)
theorem dX0_enemy_21 : decode cX0_enemy 21 = .ok (.invokestatic 214, 3) := dk_184 0 214 (dk_at dksX0_enemy_0 21 rfl rfl)
theorem dX0_enemy_24 : decode cX0_enemy 24 = .ok (.ifCond .ne 6, 3) := dk_154 0 6 (dk_at dksX0_enemy_1 0 rfl rfl)
theorem dX0_enemy_27 : decode cX0_enemy 27 = .ok (.ldc 93, 2) := dk_18 93 (dk_at dksX0_enemy_1 3 rfl rfl)
theorem dX0_enemy_29 : decode cX0_enemy 29 = .ok (.ireturn, 1) := dk_172 (dk_at dksX0_enemy_1 5 rfl rfl)
theorem dX0_enemy_30 : decode cX0_enemy 30 = .ok (.iconst 0, 1) := dk_3 (dk_at dksX0_enemy_1 6 rfl rfl)
theorem dX0_enemy_31 : decode cX0_enemy 31 = .ok (.istore 4, 2) := dk_54 4 (dk_at dksX0_enemy_1 7 rfl rfl)
theorem dX0_enemy_33 : decode cX0_enemy 33 = .ok (.iconst (-1), 1) := dk_2 (dk_at dksX0_enemy_1 9 rfl rfl)
theorem dX0_enemy_34 : decode cX0_enemy 34 = .ok (.istore 5, 2) := dk_54 5 (dk_at dksX0_enemy_1 10 rfl rfl)
theorem dX0_enemy_36 : decode cX0_enemy 36 = .ok (.iconst 0, 1) := dk_3 (dk_at dksX0_enemy_1 12 rfl rfl)
theorem dX0_enemy_37 : decode cX0_enemy 37 = .ok (.istore 6, 2) := dk_54 6 (dk_at dksX0_enemy_1 13 rfl rfl)
theorem dX0_enemy_39 : decode cX0_enemy 39 = .ok (.iload 6, 2) := dk_21 6 (dk_at dksX0_enemy_1 15 rfl rfl)
theorem dX0_enemy_41 : decode cX0_enemy 41 = .ok (.aload_n 0, 1) := dk_42 (dk_at dksX0_enemy_1 17 rfl rfl)
theorem dX0_enemy_42 : decode cX0_enemy 42 = .ok (.getfield 39, 3) := dk_180 0 39 (dk_at dksX0_enemy_1 18 rfl rfl)
theorem dX0_enemy_45 : decode cX0_enemy 45 = .ok (.invokevirtual 163, 3) := dk_182 0 163 (dk_at dksX0_enemy_1 21 rfl rfl)
theorem dX0_enemy_48 : decode cX0_enemy 48 = .ok (.if_icmp .ge 56, 3) := dk_162 0 56 (dk_at dksX0_enemy_2 0 rfl rfl)
theorem dX0_enemy_51 : decode cX0_enemy 51 = .ok (.aload_n 0, 1) := dk_42 (dk_at dksX0_enemy_2 3 rfl rfl)
theorem dX0_enemy_52 : decode cX0_enemy 52 = .ok (.invokevirtual 254, 3) := dk_182 0 254 (dk_at dksX0_enemy_2 4 rfl rfl)
theorem dX0_enemy_55 : decode cX0_enemy 55 = .ok (.getfield 236, 3) := dk_180 0 236 (dk_at dksX0_enemy_2 7 rfl rfl)
theorem dX0_enemy_58 : decode cX0_enemy 58 = .ok (.iload 6, 2) := dk_21 6 (dk_at dksX0_enemy_2 10 rfl rfl)
theorem dX0_enemy_60 : decode cX0_enemy 60 = .ok (.iconst 0, 1) := dk_3 (dk_at dksX0_enemy_2 12 rfl rfl)
theorem dX0_enemy_61 : decode cX0_enemy 61 = .ok (.iastore, 1) := dk_79 (dk_at dksX0_enemy_2 13 rfl rfl)
theorem dX0_enemy_62 : decode cX0_enemy 62 = .ok (.aload_n 0, 1) := dk_42 (dk_at dksX0_enemy_2 14 rfl rfl)
theorem dX0_enemy_63 : decode cX0_enemy 63 = .ok (.iload_n 2, 1) := dk_28 (dk_at dksX0_enemy_2 15 rfl rfl)
theorem dX0_enemy_64 : decode cX0_enemy 64 = .ok (.invokevirtual 257, 3) := dk_182 1 1 (dk_at dksX0_enemy_2 16 rfl rfl)
theorem dX0_enemy_67 : decode cX0_enemy 67 = .ok (.iload_n 1, 1) := dk_27 (dk_at dksX0_enemy_2 19 rfl rfl)
theorem dX0_enemy_68 : decode cX0_enemy 68 = .ok (.invokevirtual 239, 3) := dk_182 0 239 (dk_at dksX0_enemy_2 20 rfl rfl)
theorem dX0_enemy_71 : decode cX0_enemy 71 = .ok (.istore 7, 2) := dk_54 7 (dk_at dksX0_enemy_3 0 rfl rfl)
theorem dX0_enemy_73 : decode cX0_enemy 73 = .ok (.iload 7, 2) := dk_21 7 (dk_at dksX0_enemy_3 2 rfl rfl)
theorem dX0_enemy_75 : decode cX0_enemy 75 = .ok (.iload 5, 2) := dk_21 5 (dk_at dksX0_enemy_3 4 rfl rfl)
theorem dX0_enemy_77 : decode cX0_enemy 77 = .ok (.if_icmp .le 8, 3) := dk_164 0 8 (dk_at dksX0_enemy_3 6 rfl rfl)
theorem dX0_enemy_80 : decode cX0_enemy 80 = .ok (.iload 6, 2) := dk_21 6 (dk_at dksX0_enemy_3 9 rfl rfl)
theorem dX0_enemy_82 : decode cX0_enemy 82 = .ok (.goto 5, 3) := dk_167 0 5 (dk_at dksX0_enemy_3 11 rfl rfl)
theorem dX0_enemy_85 : decode cX0_enemy 85 = .ok (.iload 4, 2) := dk_21 4 (dk_at dksX0_enemy_3 14 rfl rfl)
theorem dX0_enemy_87 : decode cX0_enemy 87 = .ok (.istore 4, 2) := dk_54 4 (dk_at dksX0_enemy_3 16 rfl rfl)
theorem dX0_enemy_89 : decode cX0_enemy 89 = .ok (.iload 5, 2) := dk_21 5 (dk_at dksX0_enemy_3 18 rfl rfl)
theorem dX0_enemy_91 : decode cX0_enemy 91 = .ok (.iload 7, 2) := dk_21 7 (dk_at dksX0_enemy_3 20 rfl rfl)
theorem dX0_enemy_93 : decode cX0_enemy 93 = .ok (.invokestatic 279, 3) := dk_184 1 23 (dk_at dksX0_enemy_4 0 rfl rfl)
theorem dX0_enemy_96 : decode cX0_enemy 96 = .ok (.istore 5, 2) := dk_54 5 (dk_at dksX0_enemy_4 3 rfl rfl)
theorem dX0_enemy_98 : decode cX0_enemy 98 = .ok (.iinc 6 1, 3) := dk_132 6 1 (dk_at dksX0_enemy_4 5 rfl rfl)
theorem dX0_enemy_101 : decode cX0_enemy 101 = .ok (.goto (-62), 3) := dk_167 255 194 (dk_at dksX0_enemy_4 8 rfl rfl)
theorem dX0_enemy_104 : decode cX0_enemy 104 = .ok (.iload_n 3, 1) := dk_29 (dk_at dksX0_enemy_4 11 rfl rfl)
theorem dX0_enemy_105 : decode cX0_enemy 105 = .ok (.ifCond .ne 8, 3) := dk_154 0 8 (dk_at dksX0_enemy_4 12 rfl rfl)
theorem dX0_enemy_108 : decode cX0_enemy 108 = .ok (.iload 4, 2) := dk_21 4 (dk_at dksX0_enemy_4 15 rfl rfl)
theorem dX0_enemy_110 : decode cX0_enemy 110 = .ok (.goto 5, 3) := dk_167 0 5 (dk_at dksX0_enemy_4 17 rfl rfl)
theorem dX0_enemy_113 : decode cX0_enemy 113 = .ok (.iload 5, 2) := dk_21 5 (dk_at dksX0_enemy_4 20 rfl rfl)
theorem dX0_enemy_115 : decode cX0_enemy 115 = .ok (.ireturn, 1) := dk_172 (dk_at dksX0_enemy_4 22 rfl rfl)
abbrev cX0_who : ByteArray := prog_1_method_61_code
def yX0_who : MethodName := ⟨RX0, "who", "(IIIIII)I"⟩
def dkwX0_who_6 : List UInt8 := [167, 255, 215, 42, 21, 9, 182, 0, 97, 172, 58, 7, 42, 25, 7, 182, 0, 101, 172]
abbrev dktX0_who_6 : List UInt8 := dkwX0_who_6 ++ []
def dkwX0_who_5 : List UInt8 := [42, 29, 25, 7, 182, 1, 74, 153, 0, 10, 4, 21, 10, 120, 167, 0, 4, 3, 128, 54, 9, 132, 10, 1]
abbrev dktX0_who_5 : List UInt8 := dkwX0_who_5 ++ dktX0_who_6
def dkwX0_who_4 : List UInt8 := [4, 167, 0, 4, 3, 54, 10, 21, 10, 21, 8, 163, 0, 40, 42, 27, 28, 21, 10, 182, 1, 70, 21, 9]
abbrev dktX0_who_4 : List UInt8 := dkwX0_who_4 ++ dktX0_who_5
def dkwX0_who_3 : List UInt8 := [190, 167, 0, 14, 28, 4, 160, 0, 8, 16, 9, 167, 0, 4, 6, 54, 8, 3, 54, 9, 28, 154, 0, 7]
abbrev dktX0_who_3 : List UInt8 := dkwX0_who_3 ++ dktX0_who_4
def dkwX0_who_2 : List UInt8 := [172, 42, 21, 4, 182, 0, 105, 21, 5, 21, 6, 182, 1, 28, 58, 7, 28, 154, 0, 11, 42, 180, 0, 62]
abbrev dktX0_who_2 : List UInt8 := dkwX0_who_2 ++ dktX0_who_3
def dkwX0_who_1 : List UInt8 := [182, 0, 196, 153, 0, 19, 21, 4, 184, 0, 87, 153, 0, 11, 21, 6, 184, 1, 67, 154, 0, 6, 18, 93]
abbrev dktX0_who_1 : List UInt8 := dkwX0_who_1 ++ dktX0_who_2
def dkwX0_who_0 : List UInt8 := [42, 27, 182, 0, 196, 153, 0, 39, 28, 133, 9, 20, 0, 91, 184, 0, 79, 153, 0, 27, 42, 29]
abbrev dktX0_who_0 : List UInt8 := dkwX0_who_0 ++ dktX0_who_1
theorem dksX0_who_0 : cX0_who.data.toList.drop 0 = dktX0_who_0 := by decide +kernel
theorem dksX0_who_1 : cX0_who.data.toList.drop 22 = dktX0_who_1 := dk_seg dksX0_who_0 22 rfl rfl
theorem dksX0_who_2 : cX0_who.data.toList.drop 46 = dktX0_who_2 := dk_seg dksX0_who_1 24 rfl rfl
theorem dksX0_who_3 : cX0_who.data.toList.drop 70 = dktX0_who_3 := dk_seg dksX0_who_2 24 rfl rfl
theorem dksX0_who_4 : cX0_who.data.toList.drop 94 = dktX0_who_4 := dk_seg dksX0_who_3 24 rfl rfl
theorem dksX0_who_5 : cX0_who.data.toList.drop 118 = dktX0_who_5 := dk_seg dksX0_who_4 24 rfl rfl
theorem dksX0_who_6 : cX0_who.data.toList.drop 142 = dktX0_who_6 := dk_seg dksX0_who_5 24 rfl rfl
theorem dX0_who_0 : decode cX0_who 0 = .ok (.aload_n 0, 1) := dk_42 (dk_at dksX0_who_0 0 rfl rfl)
theorem dX0_who_1 : decode cX0_who 1 = .ok (.iload_n 1, 1) := dk_27 (dk_at dksX0_who_0 1 rfl rfl)
theorem dX0_who_2 : decode cX0_who 2 = .ok (.invokevirtual 196, 3) := dk_182 0 196 (dk_at dksX0_who_0 2 rfl rfl)
theorem dX0_who_5 : decode cX0_who 5 = .ok (.ifCond .eq 39, 3) := dk_153 0 39 (dk_at dksX0_who_0 5 rfl rfl)
theorem dX0_who_8 : decode cX0_who 8 = .ok (.iload_n 2, 1) := dk_28 (dk_at dksX0_who_0 8 rfl rfl)
theorem dX0_who_9 : decode cX0_who 9 = .ok (.i2l, 1) := dk_133 (dk_at dksX0_who_0 9 rfl rfl)
theorem dX0_who_10 : decode cX0_who 10 = .ok (.lconst 0, 1) := dk_9 (dk_at dksX0_who_0 10 rfl rfl)
theorem dX0_who_11 : decode cX0_who 11 = .ok (.ldc2_w 91, 3) := dk_20 0 91 (dk_at dksX0_who_0 11 rfl rfl)
theorem dX0_who_14 : decode cX0_who 14 = .ok (.invokestatic 79, 3) := dk_184 0 79 (dk_at dksX0_who_0 14 rfl rfl)
theorem dX0_who_17 : decode cX0_who 17 = .ok (.ifCond .eq 27, 3) := dk_153 0 27 (dk_at dksX0_who_0 17 rfl rfl)
theorem dX0_who_20 : decode cX0_who 20 = .ok (.aload_n 0, 1) := dk_42 (dk_at dksX0_who_0 20 rfl rfl)
theorem dX0_who_21 : decode cX0_who 21 = .ok (.iload_n 3, 1) := dk_29 (dk_at dksX0_who_0 21 rfl rfl)
theorem dX0_who_22 : decode cX0_who 22 = .ok (.invokevirtual 196, 3) := dk_182 0 196 (dk_at dksX0_who_1 0 rfl rfl)
theorem dX0_who_25 : decode cX0_who 25 = .ok (.ifCond .eq 19, 3) := dk_153 0 19 (dk_at dksX0_who_1 3 rfl rfl)
theorem dX0_who_28 : decode cX0_who 28 = .ok (.iload 4, 2) := dk_21 4 (dk_at dksX0_who_1 6 rfl rfl)
theorem dX0_who_30 : decode cX0_who 30 = .ok (.invokestatic 87, 3) := dk_184 0 87 (dk_at dksX0_who_1 8 rfl rfl)
theorem dX0_who_33 : decode cX0_who 33 = .ok (.ifCond .eq 11, 3) := dk_153 0 11 (dk_at dksX0_who_1 11 rfl rfl)
theorem dX0_who_36 : decode cX0_who 36 = .ok (.iload 6, 2) := dk_21 6 (dk_at dksX0_who_1 14 rfl rfl)
theorem dX0_who_38 : decode cX0_who 38 = .ok (.invokestatic 323, 3) := dk_184 1 67 (dk_at dksX0_who_1 16 rfl rfl)
theorem dX0_who_41 : decode cX0_who 41 = .ok (.ifCond .ne 6, 3) := dk_154 0 6 (dk_at dksX0_who_1 19 rfl rfl)
theorem dX0_who_44 : decode cX0_who 44 = .ok (.ldc 93, 2) := dk_18 93 (dk_at dksX0_who_1 22 rfl rfl)
theorem dX0_who_46 : decode cX0_who 46 = .ok (.ireturn, 1) := dk_172 (dk_at dksX0_who_2 0 rfl rfl)
theorem dX0_who_47 : decode cX0_who 47 = .ok (.aload_n 0, 1) := dk_42 (dk_at dksX0_who_2 1 rfl rfl)
theorem dX0_who_48 : decode cX0_who 48 = .ok (.iload 4, 2) := dk_21 4 (dk_at dksX0_who_2 2 rfl rfl)
theorem dX0_who_50 : decode cX0_who 50 = .ok (.invokevirtual 105, 3) := dk_182 0 105 (dk_at dksX0_who_2 4 rfl rfl)
theorem dX0_who_53 : decode cX0_who 53 = .ok (.iload 5, 2) := dk_21 5 (dk_at dksX0_who_2 7 rfl rfl)
theorem dX0_who_55 : decode cX0_who 55 = .ok (.iload 6, 2) := dk_21 6 (dk_at dksX0_who_2 9 rfl rfl)
theorem dX0_who_57 : decode cX0_who 57 = .ok (.invokevirtual 284, 3) := dk_182 1 28 (dk_at dksX0_who_2 11 rfl rfl)
theorem dX0_who_60 : decode cX0_who 60 = .ok (.astore 7, 2) := dk_58 7 (dk_at dksX0_who_2 14 rfl rfl)
theorem dX0_who_62 : decode cX0_who 62 = .ok (.iload_n 2, 1) := dk_28 (dk_at dksX0_who_2 16 rfl rfl)
theorem dX0_who_63 : decode cX0_who 63 = .ok (.ifCond .ne 11, 3) := dk_154 0 11 (dk_at dksX0_who_2 17 rfl rfl)
theorem dX0_who_66 : decode cX0_who 66 = .ok (.aload_n 0, 1) := dk_42 (dk_at dksX0_who_2 20 rfl rfl)
theorem dX0_who_67 : decode cX0_who 67 = .ok (.getfield 62, 3) := dk_180 0 62 (dk_at dksX0_who_2 21 rfl rfl)
theorem dX0_who_70 : decode cX0_who 70 = .ok (.arraylength, 1) := dk_190 (dk_at dksX0_who_3 0 rfl rfl)
theorem dX0_who_71 : decode cX0_who 71 = .ok (.goto 14, 3) := dk_167 0 14 (dk_at dksX0_who_3 1 rfl rfl)
theorem dX0_who_74 : decode cX0_who 74 = .ok (.iload_n 2, 1) := dk_28 (dk_at dksX0_who_3 4 rfl rfl)
theorem dX0_who_75 : decode cX0_who 75 = .ok (.iconst 1, 1) := dk_4 (dk_at dksX0_who_3 5 rfl rfl)
theorem dX0_who_76 : decode cX0_who 76 = .ok (.if_icmp .ne 8, 3) := dk_160 0 8 (dk_at dksX0_who_3 6 rfl rfl)
theorem dX0_who_79 : decode cX0_who 79 = .ok (.bipush 9, 2) := dk_16 9 (dk_at dksX0_who_3 9 rfl rfl)
theorem dX0_who_81 : decode cX0_who 81 = .ok (.goto 4, 3) := dk_167 0 4 (dk_at dksX0_who_3 11 rfl rfl)
theorem dX0_who_84 : decode cX0_who 84 = .ok (.iconst 3, 1) := dk_6 (dk_at dksX0_who_3 14 rfl rfl)
theorem dX0_who_85 : decode cX0_who 85 = .ok (.istore 8, 2) := dk_54 8 (dk_at dksX0_who_3 15 rfl rfl)
theorem dX0_who_87 : decode cX0_who 87 = .ok (.iconst 0, 1) := dk_3 (dk_at dksX0_who_3 17 rfl rfl)
theorem dX0_who_88 : decode cX0_who 88 = .ok (.istore 9, 2) := dk_54 9 (dk_at dksX0_who_3 18 rfl rfl)
theorem dX0_who_90 : decode cX0_who 90 = .ok (.iload_n 2, 1) := dk_28 (dk_at dksX0_who_3 20 rfl rfl)
theorem dX0_who_91 : decode cX0_who 91 = .ok (.ifCond .ne 7, 3) := dk_154 0 7 (dk_at dksX0_who_3 21 rfl rfl)
theorem dX0_who_94 : decode cX0_who 94 = .ok (.iconst 1, 1) := dk_4 (dk_at dksX0_who_4 0 rfl rfl)
theorem dX0_who_95 : decode cX0_who 95 = .ok (.goto 4, 3) := dk_167 0 4 (dk_at dksX0_who_4 1 rfl rfl)
theorem dX0_who_98 : decode cX0_who 98 = .ok (.iconst 0, 1) := dk_3 (dk_at dksX0_who_4 4 rfl rfl)
theorem dX0_who_99 : decode cX0_who 99 = .ok (.istore 10, 2) := dk_54 10 (dk_at dksX0_who_4 5 rfl rfl)
theorem dX0_who_101 : decode cX0_who 101 = .ok (.iload 10, 2) := dk_21 10 (dk_at dksX0_who_4 7 rfl rfl)
theorem dX0_who_103 : decode cX0_who 103 = .ok (.iload 8, 2) := dk_21 8 (dk_at dksX0_who_4 9 rfl rfl)
theorem dX0_who_105 : decode cX0_who 105 = .ok (.if_icmp .gt 40, 3) := dk_163 0 40 (dk_at dksX0_who_4 11 rfl rfl)
theorem dX0_who_108 : decode cX0_who 108 = .ok (.aload_n 0, 1) := dk_42 (dk_at dksX0_who_4 14 rfl rfl)
theorem dX0_who_109 : decode cX0_who 109 = .ok (.iload_n 1, 1) := dk_27 (dk_at dksX0_who_4 15 rfl rfl)
theorem dX0_who_110 : decode cX0_who 110 = .ok (.iload_n 2, 1) := dk_28 (dk_at dksX0_who_4 16 rfl rfl)
theorem dX0_who_111 : decode cX0_who 111 = .ok (.iload 10, 2) := dk_21 10 (dk_at dksX0_who_4 17 rfl rfl)
theorem dX0_who_113 : decode cX0_who 113 = .ok (.invokevirtual 326, 3) := dk_182 1 70 (dk_at dksX0_who_4 19 rfl rfl)
theorem dX0_who_116 : decode cX0_who 116 = .ok (.iload 9, 2) := dk_21 9 (dk_at dksX0_who_4 22 rfl rfl)
theorem dX0_who_118 : decode cX0_who 118 = .ok (.aload_n 0, 1) := dk_42 (dk_at dksX0_who_5 0 rfl rfl)
theorem dX0_who_119 : decode cX0_who 119 = .ok (.iload_n 3, 1) := dk_29 (dk_at dksX0_who_5 1 rfl rfl)
theorem dX0_who_120 : decode cX0_who 120 = .ok (.aload 7, 2) := dk_25 7 (dk_at dksX0_who_5 2 rfl rfl)
theorem dX0_who_122 : decode cX0_who 122 = .ok (.invokevirtual 330, 3) := dk_182 1 74 (dk_at dksX0_who_5 4 rfl rfl)
theorem dX0_who_125 : decode cX0_who 125 = .ok (.ifCond .eq 10, 3) := dk_153 0 10 (dk_at dksX0_who_5 7 rfl rfl)
theorem dX0_who_128 : decode cX0_who 128 = .ok (.iconst 1, 1) := dk_4 (dk_at dksX0_who_5 10 rfl rfl)
theorem dX0_who_129 : decode cX0_who 129 = .ok (.iload 10, 2) := dk_21 10 (dk_at dksX0_who_5 11 rfl rfl)
theorem dX0_who_131 : decode cX0_who 131 = .ok (.ishl, 1) := dk_120 (dk_at dksX0_who_5 13 rfl rfl)
theorem dX0_who_132 : decode cX0_who 132 = .ok (.goto 4, 3) := dk_167 0 4 (dk_at dksX0_who_5 14 rfl rfl)
theorem dX0_who_135 : decode cX0_who 135 = .ok (.iconst 0, 1) := dk_3 (dk_at dksX0_who_5 17 rfl rfl)
theorem dX0_who_136 : decode cX0_who 136 = .ok (.ior, 1) := dk_128 (dk_at dksX0_who_5 18 rfl rfl)
theorem dX0_who_137 : decode cX0_who 137 = .ok (.istore 9, 2) := dk_54 9 (dk_at dksX0_who_5 19 rfl rfl)
theorem dX0_who_139 : decode cX0_who 139 = .ok (.iinc 10 1, 3) := dk_132 10 1 (dk_at dksX0_who_5 21 rfl rfl)
theorem dX0_who_142 : decode cX0_who 142 = .ok (.goto (-41), 3) := dk_167 255 215 (dk_at dksX0_who_6 0 rfl rfl)
theorem dX0_who_145 : decode cX0_who 145 = .ok (.aload_n 0, 1) := dk_42 (dk_at dksX0_who_6 3 rfl rfl)
theorem dX0_who_146 : decode cX0_who 146 = .ok (.iload 9, 2) := dk_21 9 (dk_at dksX0_who_6 4 rfl rfl)
theorem dX0_who_148 : decode cX0_who 148 = .ok (.invokevirtual 97, 3) := dk_182 0 97 (dk_at dksX0_who_6 6 rfl rfl)
theorem dX0_who_151 : decode cX0_who 151 = .ok (.ireturn, 1) := dk_172 (dk_at dksX0_who_6 9 rfl rfl)
theorem dX0_who_152 : decode cX0_who 152 = .ok (.astore 7, 2) := dk_58 7 (dk_at dksX0_who_6 10 rfl rfl)
theorem dX0_who_154 : decode cX0_who 154 = .ok (.aload_n 0, 1) := dk_42 (dk_at dksX0_who_6 12 rfl rfl)
theorem dX0_who_155 : decode cX0_who 155 = .ok (.aload 7, 2) := dk_25 7 (dk_at dksX0_who_6 13 rfl rfl)
theorem dX0_who_157 : decode cX0_who 157 = .ok (.invokevirtual 101, 3) := dk_182 0 101 (dk_at dksX0_who_6 15 rfl rfl)
theorem dX0_who_160 : decode cX0_who 160 = .ok (.ireturn, 1) := dk_172 (dk_at dksX0_who_6 18 rfl rfl)
abbrev cX0_isTold : ByteArray := prog_1_method_59_code
def yX0_isTold : MethodName := ⟨RX0, "isTold", "(I)Z"⟩
def dkwX0_isTold_0 : List UInt8 := [26, 133, 10, 20, 1, 58, 184, 0, 79, 172]
abbrev dktX0_isTold_0 : List UInt8 := dkwX0_isTold_0 ++ []
theorem dksX0_isTold_0 : cX0_isTold.data.toList.drop 0 = dktX0_isTold_0 := by decide +kernel
theorem dX0_isTold_0 : decode cX0_isTold 0 = .ok (.iload_n 0, 1) := dk_26 (dk_at dksX0_isTold_0 0 rfl rfl)
theorem dX0_isTold_1 : decode cX0_isTold 1 = .ok (.i2l, 1) := dk_133 (dk_at dksX0_isTold_0 1 rfl rfl)
theorem dX0_isTold_2 : decode cX0_isTold 2 = .ok (.lconst 1, 1) := dk_10 (dk_at dksX0_isTold_0 2 rfl rfl)
theorem dX0_isTold_3 : decode cX0_isTold 3 = .ok (.ldc2_w 314, 3) := dk_20 1 58 (dk_at dksX0_isTold_0 3 rfl rfl)
theorem dX0_isTold_6 : decode cX0_isTold 6 = .ok (.invokestatic 79, 3) := dk_184 0 79 (dk_at dksX0_isTold_0 6 rfl rfl)
theorem dX0_isTold_9 : decode cX0_isTold 9 = .ok (.ireturn, 1) := dk_172 (dk_at dksX0_isTold_0 9 rfl rfl)
abbrev cX0_alters : ByteArray := prog_1_method_60_code
def yX0_alters : MethodName := ⟨RX0, "alters", "(III)V"⟩
def dkwX0_alters_2 : List UInt8 := [180, 0, 236, 27, 29, 79, 167, 0, 13, 42, 180, 0, 43, 180, 0, 245, 27, 29, 79, 177]
abbrev dktX0_alters_2 : List UInt8 := dkwX0_alters_2 ++ []
def dkwX0_alters_1 : List UInt8 := [180, 0, 62, 29, 4, 100, 50, 181, 1, 63, 167, 0, 31, 28, 4, 160, 0, 16, 42, 180, 0, 43]
abbrev dktX0_alters_1 : List UInt8 := dkwX0_alters_1 ++ dktX0_alters_2
def dkwX0_alters_0 : List UInt8 := [42, 182, 0, 254, 87, 28, 154, 0, 29, 42, 180, 0, 43, 27, 181, 1, 60, 42, 180, 0, 43, 42]
abbrev dktX0_alters_0 : List UInt8 := dkwX0_alters_0 ++ dktX0_alters_1
theorem dksX0_alters_0 : cX0_alters.data.toList.drop 0 = dktX0_alters_0 := by decide +kernel
theorem dksX0_alters_1 : cX0_alters.data.toList.drop 22 = dktX0_alters_1 := dk_seg dksX0_alters_0 22 rfl rfl
theorem dksX0_alters_2 : cX0_alters.data.toList.drop 44 = dktX0_alters_2 := dk_seg dksX0_alters_1 22 rfl rfl
theorem dX0_alters_0 : decode cX0_alters 0 = .ok (.aload_n 0, 1) := dk_42 (dk_at dksX0_alters_0 0 rfl rfl)
theorem dX0_alters_1 : decode cX0_alters 1 = .ok (.invokevirtual 254, 3) := dk_182 0 254 (dk_at dksX0_alters_0 1 rfl rfl)
theorem dX0_alters_4 : decode cX0_alters 4 = .ok (.pop, 1) := dk_87 (dk_at dksX0_alters_0 4 rfl rfl)
theorem dX0_alters_5 : decode cX0_alters 5 = .ok (.iload_n 2, 1) := dk_28 (dk_at dksX0_alters_0 5 rfl rfl)
theorem dX0_alters_6 : decode cX0_alters 6 = .ok (.ifCond .ne 29, 3) := dk_154 0 29 (dk_at dksX0_alters_0 6 rfl rfl)
theorem dX0_alters_9 : decode cX0_alters 9 = .ok (.aload_n 0, 1) := dk_42 (dk_at dksX0_alters_0 9 rfl rfl)
theorem dX0_alters_10 : decode cX0_alters 10 = .ok (.getfield 43, 3) := dk_180 0 43 (dk_at dksX0_alters_0 10 rfl rfl)
theorem dX0_alters_13 : decode cX0_alters 13 = .ok (.iload_n 1, 1) := dk_27 (dk_at dksX0_alters_0 13 rfl rfl)
theorem dX0_alters_14 : decode cX0_alters 14 = .ok (.putfield 316, 3) := dk_181 1 60 (dk_at dksX0_alters_0 14 rfl rfl)
theorem dX0_alters_17 : decode cX0_alters 17 = .ok (.aload_n 0, 1) := dk_42 (dk_at dksX0_alters_0 17 rfl rfl)
theorem dX0_alters_18 : decode cX0_alters 18 = .ok (.getfield 43, 3) := dk_180 0 43 (dk_at dksX0_alters_0 18 rfl rfl)
theorem dX0_alters_21 : decode cX0_alters 21 = .ok (.aload_n 0, 1) := dk_42 (dk_at dksX0_alters_0 21 rfl rfl)
theorem dX0_alters_22 : decode cX0_alters 22 = .ok (.getfield 62, 3) := dk_180 0 62 (dk_at dksX0_alters_1 0 rfl rfl)
theorem dX0_alters_25 : decode cX0_alters 25 = .ok (.iload_n 3, 1) := dk_29 (dk_at dksX0_alters_1 3 rfl rfl)
theorem dX0_alters_26 : decode cX0_alters 26 = .ok (.iconst 1, 1) := dk_4 (dk_at dksX0_alters_1 4 rfl rfl)
theorem dX0_alters_27 : decode cX0_alters 27 = .ok (.isub, 1) := dk_100 (dk_at dksX0_alters_1 5 rfl rfl)
theorem dX0_alters_28 : decode cX0_alters 28 = .ok (.aaload, 1) := dk_50 (dk_at dksX0_alters_1 6 rfl rfl)
theorem dX0_alters_29 : decode cX0_alters 29 = .ok (.putfield 319, 3) := dk_181 1 63 (dk_at dksX0_alters_1 7 rfl rfl)
theorem dX0_alters_32 : decode cX0_alters 32 = .ok (.goto 31, 3) := dk_167 0 31 (dk_at dksX0_alters_1 10 rfl rfl)
theorem dX0_alters_35 : decode cX0_alters 35 = .ok (.iload_n 2, 1) := dk_28 (dk_at dksX0_alters_1 13 rfl rfl)
theorem dX0_alters_36 : decode cX0_alters 36 = .ok (.iconst 1, 1) := dk_4 (dk_at dksX0_alters_1 14 rfl rfl)
theorem dX0_alters_37 : decode cX0_alters 37 = .ok (.if_icmp .ne 16, 3) := dk_160 0 16 (dk_at dksX0_alters_1 15 rfl rfl)
theorem dX0_alters_40 : decode cX0_alters 40 = .ok (.aload_n 0, 1) := dk_42 (dk_at dksX0_alters_1 18 rfl rfl)
theorem dX0_alters_41 : decode cX0_alters 41 = .ok (.getfield 43, 3) := dk_180 0 43 (dk_at dksX0_alters_1 19 rfl rfl)
theorem dX0_alters_44 : decode cX0_alters 44 = .ok (.getfield 236, 3) := dk_180 0 236 (dk_at dksX0_alters_2 0 rfl rfl)
theorem dX0_alters_47 : decode cX0_alters 47 = .ok (.iload_n 1, 1) := dk_27 (dk_at dksX0_alters_2 3 rfl rfl)
theorem dX0_alters_48 : decode cX0_alters 48 = .ok (.iload_n 3, 1) := dk_29 (dk_at dksX0_alters_2 4 rfl rfl)
theorem dX0_alters_49 : decode cX0_alters 49 = .ok (.iastore, 1) := dk_79 (dk_at dksX0_alters_2 5 rfl rfl)
theorem dX0_alters_50 : decode cX0_alters 50 = .ok (.goto 13, 3) := dk_167 0 13 (dk_at dksX0_alters_2 6 rfl rfl)
theorem dX0_alters_53 : decode cX0_alters 53 = .ok (.aload_n 0, 1) := dk_42 (dk_at dksX0_alters_2 9 rfl rfl)
theorem dX0_alters_54 : decode cX0_alters 54 = .ok (.getfield 43, 3) := dk_180 0 43 (dk_at dksX0_alters_2 10 rfl rfl)
theorem dX0_alters_57 : decode cX0_alters 57 = .ok (.getfield 245, 3) := dk_180 0 245 (dk_at dksX0_alters_2 13 rfl rfl)
theorem dX0_alters_60 : decode cX0_alters 60 = .ok (.iload_n 1, 1) := dk_27 (dk_at dksX0_alters_2 16 rfl rfl)
theorem dX0_alters_61 : decode cX0_alters 61 = .ok (.iload_n 3, 1) := dk_29 (dk_at dksX0_alters_2 17 rfl rfl)
theorem dX0_alters_62 : decode cX0_alters 62 = .ok (.iastore, 1) := dk_79 (dk_at dksX0_alters_2 18 rfl rfl)
theorem dX0_alters_63 : decode cX0_alters 63 = .ok (.return_, 1) := dk_177 (dk_at dksX0_alters_2 19 rfl rfl)
abbrev cX0_isSeen : ByteArray := prog_1_method_58_code
def yX0_isSeen : MethodName := ⟨RX0, "isSeen", "(I[I)Z"⟩
def dkwX0_isSeen_1 : List UInt8 := [44, 21, 4, 46, 160, 0, 7, 4, 167, 0, 4, 3, 126, 62, 132, 4, 1, 167, 255, 220, 29, 172]
abbrev dktX0_isSeen_1 : List UInt8 := dkwX0_isSeen_1 ++ []
def dkwX0_isSeen_0 : List UInt8 := [4, 62, 3, 54, 4, 21, 4, 44, 190, 162, 0, 35, 29, 42, 180, 0, 43, 182, 0, 189, 27, 182, 0, 239]
abbrev dktX0_isSeen_0 : List UInt8 := dkwX0_isSeen_0 ++ dktX0_isSeen_1
theorem dksX0_isSeen_0 : cX0_isSeen.data.toList.drop 0 = dktX0_isSeen_0 := by decide +kernel
theorem dksX0_isSeen_1 : cX0_isSeen.data.toList.drop 24 = dktX0_isSeen_1 := dk_seg dksX0_isSeen_0 24 rfl rfl
theorem dX0_isSeen_0 : decode cX0_isSeen 0 = .ok (.iconst 1, 1) := dk_4 (dk_at dksX0_isSeen_0 0 rfl rfl)
theorem dX0_isSeen_1 : decode cX0_isSeen 1 = .ok (.istore_n 3, 1) := dk_62 (dk_at dksX0_isSeen_0 1 rfl rfl)
theorem dX0_isSeen_2 : decode cX0_isSeen 2 = .ok (.iconst 0, 1) := dk_3 (dk_at dksX0_isSeen_0 2 rfl rfl)
theorem dX0_isSeen_3 : decode cX0_isSeen 3 = .ok (.istore 4, 2) := dk_54 4 (dk_at dksX0_isSeen_0 3 rfl rfl)
theorem dX0_isSeen_5 : decode cX0_isSeen 5 = .ok (.iload 4, 2) := dk_21 4 (dk_at dksX0_isSeen_0 5 rfl rfl)
theorem dX0_isSeen_7 : decode cX0_isSeen 7 = .ok (.aload_n 2, 1) := dk_44 (dk_at dksX0_isSeen_0 7 rfl rfl)
theorem dX0_isSeen_8 : decode cX0_isSeen 8 = .ok (.arraylength, 1) := dk_190 (dk_at dksX0_isSeen_0 8 rfl rfl)
theorem dX0_isSeen_9 : decode cX0_isSeen 9 = .ok (.if_icmp .ge 35, 3) := dk_162 0 35 (dk_at dksX0_isSeen_0 9 rfl rfl)
theorem dX0_isSeen_12 : decode cX0_isSeen 12 = .ok (.iload_n 3, 1) := dk_29 (dk_at dksX0_isSeen_0 12 rfl rfl)
theorem dX0_isSeen_13 : decode cX0_isSeen 13 = .ok (.aload_n 0, 1) := dk_42 (dk_at dksX0_isSeen_0 13 rfl rfl)
theorem dX0_isSeen_14 : decode cX0_isSeen 14 = .ok (.getfield 43, 3) := dk_180 0 43 (dk_at dksX0_isSeen_0 14 rfl rfl)
theorem dX0_isSeen_17 : decode cX0_isSeen 17 = .ok (.invokevirtual 189, 3) := dk_182 0 189 (dk_at dksX0_isSeen_0 17 rfl rfl)
theorem dX0_isSeen_20 : decode cX0_isSeen 20 = .ok (.iload_n 1, 1) := dk_27 (dk_at dksX0_isSeen_0 20 rfl rfl)
theorem dX0_isSeen_21 : decode cX0_isSeen 21 = .ok (.invokevirtual 239, 3) := dk_182 0 239 (dk_at dksX0_isSeen_0 21 rfl rfl)
theorem dX0_isSeen_24 : decode cX0_isSeen 24 = .ok (.aload_n 2, 1) := dk_44 (dk_at dksX0_isSeen_1 0 rfl rfl)
theorem dX0_isSeen_25 : decode cX0_isSeen 25 = .ok (.iload 4, 2) := dk_21 4 (dk_at dksX0_isSeen_1 1 rfl rfl)
theorem dX0_isSeen_27 : decode cX0_isSeen 27 = .ok (.iaload, 1) := dk_46 (dk_at dksX0_isSeen_1 3 rfl rfl)
theorem dX0_isSeen_28 : decode cX0_isSeen 28 = .ok (.if_icmp .ne 7, 3) := dk_160 0 7 (dk_at dksX0_isSeen_1 4 rfl rfl)
theorem dX0_isSeen_31 : decode cX0_isSeen 31 = .ok (.iconst 1, 1) := dk_4 (dk_at dksX0_isSeen_1 7 rfl rfl)
theorem dX0_isSeen_32 : decode cX0_isSeen 32 = .ok (.goto 4, 3) := dk_167 0 4 (dk_at dksX0_isSeen_1 8 rfl rfl)
theorem dX0_isSeen_35 : decode cX0_isSeen 35 = .ok (.iconst 0, 1) := dk_3 (dk_at dksX0_isSeen_1 11 rfl rfl)
theorem dX0_isSeen_36 : decode cX0_isSeen 36 = .ok (.iand, 1) := dk_126 (dk_at dksX0_isSeen_1 12 rfl rfl)
theorem dX0_isSeen_37 : decode cX0_isSeen 37 = .ok (.istore_n 3, 1) := dk_62 (dk_at dksX0_isSeen_1 13 rfl rfl)
theorem dX0_isSeen_38 : decode cX0_isSeen 38 = .ok (.iinc 4 1, 3) := dk_132 4 1 (dk_at dksX0_isSeen_1 14 rfl rfl)
theorem dX0_isSeen_41 : decode cX0_isSeen 41 = .ok (.goto (-36), 3) := dk_167 255 220 (dk_at dksX0_isSeen_1 17 rfl rfl)
theorem dX0_isSeen_44 : decode cX0_isSeen 44 = .ok (.iload_n 3, 1) := dk_29 (dk_at dksX0_isSeen_1 20 rfl rfl)
theorem dX0_isSeen_45 : decode cX0_isSeen 45 = .ok (.ireturn, 1) := dk_172 (dk_at dksX0_isSeen_1 21 rfl rfl)
abbrev cX0_guarded : ByteArray := prog_1_method_62_code
def yX0_guarded : MethodName := ⟨RX0, "guarded", "(IIII)I"⟩
def dkwX0_guarded_6 : List UInt8 := [21, 6, 182, 0, 97, 172, 58, 5, 42, 25, 5, 182, 0, 101, 172]
abbrev dktX0_guarded_6 : List UInt8 := dkwX0_guarded_6 ++ []
def dkwX0_guarded_5 : List UInt8 := [182, 1, 74, 153, 0, 10, 4, 21, 7, 120, 167, 0, 4, 3, 128, 54, 6, 132, 7, 1, 167, 255, 187, 42]
abbrev dktX0_guarded_5 : List UInt8 := dkwX0_guarded_5 ++ dktX0_guarded_6
def dkwX0_guarded_4 : List UInt8 := [42, 182, 0, 254, 89, 180, 0, 217, 4, 21, 7, 120, 128, 181, 0, 217, 21, 6, 42, 27, 25, 5]
abbrev dktX0_guarded_4 : List UInt8 := dkwX0_guarded_4 ++ dktX0_guarded_5
def dkwX0_guarded_3 : List UInt8 := [180, 0, 39, 182, 0, 163, 162, 0, 63, 42, 180, 0, 39, 21, 7, 182, 1, 78, 153, 0, 6, 167, 0, 42]
abbrev dktX0_guarded_3 : List UInt8 := dkwX0_guarded_3 ++ dktX0_guarded_4
def dkwX0_guarded_2 : List UInt8 := [25, 5, 182, 1, 74, 153, 0, 8, 16, 64, 167, 0, 4, 3, 54, 6, 3, 54, 7, 21, 7, 42]
abbrev dktX0_guarded_2 : List UInt8 := dkwX0_guarded_2 ++ dktX0_guarded_3
def dkwX0_guarded_1 : List UInt8 := [18, 93, 172, 42, 28, 182, 0, 105, 29, 21, 4, 182, 1, 28, 58, 5, 42, 182, 0, 254, 87, 42, 27]
abbrev dktX0_guarded_1 : List UInt8 := dkwX0_guarded_1 ++ dktX0_guarded_2
def dkwX0_guarded_0 : List UInt8 := [42, 27, 182, 0, 196, 153, 0, 18, 28, 184, 0, 87, 153, 0, 11, 21, 4, 184, 1, 67, 154, 0, 6]
abbrev dktX0_guarded_0 : List UInt8 := dkwX0_guarded_0 ++ dktX0_guarded_1
theorem dksX0_guarded_0 : cX0_guarded.data.toList.drop 0 = dktX0_guarded_0 := by decide +kernel
theorem dksX0_guarded_1 : cX0_guarded.data.toList.drop 23 = dktX0_guarded_1 := dk_seg dksX0_guarded_0 23 rfl rfl
theorem dksX0_guarded_2 : cX0_guarded.data.toList.drop 46 = dktX0_guarded_2 := dk_seg dksX0_guarded_1 23 rfl rfl
theorem dksX0_guarded_3 : cX0_guarded.data.toList.drop 68 = dktX0_guarded_3 := dk_seg dksX0_guarded_2 22 rfl rfl
theorem dksX0_guarded_4 : cX0_guarded.data.toList.drop 92 = dktX0_guarded_4 := dk_seg dksX0_guarded_3 24 rfl rfl
theorem dksX0_guarded_5 : cX0_guarded.data.toList.drop 114 = dktX0_guarded_5 := dk_seg dksX0_guarded_4 22 rfl rfl
theorem dksX0_guarded_6 : cX0_guarded.data.toList.drop 138 = dktX0_guarded_6 := dk_seg dksX0_guarded_5 24 rfl rfl
theorem dX0_guarded_0 : decode cX0_guarded 0 = .ok (.aload_n 0, 1) := dk_42 (dk_at dksX0_guarded_0 0 rfl rfl)
theorem dX0_guarded_1 : decode cX0_guarded 1 = .ok (.iload_n 1, 1) := dk_27 (dk_at dksX0_guarded_0 1 rfl rfl)
theorem dX0_guarded_2 : decode cX0_guarded 2 = .ok (.invokevirtual 196, 3) := dk_182 0 196 (dk_at dksX0_guarded_0 2 rfl rfl)
theorem dX0_guarded_5 : decode cX0_guarded 5 = .ok (.ifCond .eq 18, 3) := dk_153 0 18 (dk_at dksX0_guarded_0 5 rfl rfl)
theorem dX0_guarded_8 : decode cX0_guarded 8 = .ok (.iload_n 2, 1) := dk_28 (dk_at dksX0_guarded_0 8 rfl rfl)
theorem dX0_guarded_9 : decode cX0_guarded 9 = .ok (.invokestatic 87, 3) := dk_184 0 87 (dk_at dksX0_guarded_0 9 rfl rfl)
theorem dX0_guarded_12 : decode cX0_guarded 12 = .ok (.ifCond .eq 11, 3) := dk_153 0 11 (dk_at dksX0_guarded_0 12 rfl rfl)
theorem dX0_guarded_15 : decode cX0_guarded 15 = .ok (.iload 4, 2) := dk_21 4 (dk_at dksX0_guarded_0 15 rfl rfl)
theorem dX0_guarded_17 : decode cX0_guarded 17 = .ok (.invokestatic 323, 3) := dk_184 1 67 (dk_at dksX0_guarded_0 17 rfl rfl)
theorem dX0_guarded_20 : decode cX0_guarded 20 = .ok (.ifCond .ne 6, 3) := dk_154 0 6 (dk_at dksX0_guarded_0 20 rfl rfl)
theorem dX0_guarded_23 : decode cX0_guarded 23 = .ok (.ldc 93, 2) := dk_18 93 (dk_at dksX0_guarded_1 0 rfl rfl)
theorem dX0_guarded_25 : decode cX0_guarded 25 = .ok (.ireturn, 1) := dk_172 (dk_at dksX0_guarded_1 2 rfl rfl)
theorem dX0_guarded_26 : decode cX0_guarded 26 = .ok (.aload_n 0, 1) := dk_42 (dk_at dksX0_guarded_1 3 rfl rfl)
theorem dX0_guarded_27 : decode cX0_guarded 27 = .ok (.iload_n 2, 1) := dk_28 (dk_at dksX0_guarded_1 4 rfl rfl)
theorem dX0_guarded_28 : decode cX0_guarded 28 = .ok (.invokevirtual 105, 3) := dk_182 0 105 (dk_at dksX0_guarded_1 5 rfl rfl)
theorem dX0_guarded_31 : decode cX0_guarded 31 = .ok (.iload_n 3, 1) := dk_29 (dk_at dksX0_guarded_1 8 rfl rfl)
theorem dX0_guarded_32 : decode cX0_guarded 32 = .ok (.iload 4, 2) := dk_21 4 (dk_at dksX0_guarded_1 9 rfl rfl)
theorem dX0_guarded_34 : decode cX0_guarded 34 = .ok (.invokevirtual 284, 3) := dk_182 1 28 (dk_at dksX0_guarded_1 11 rfl rfl)
theorem dX0_guarded_37 : decode cX0_guarded 37 = .ok (.astore 5, 2) := dk_58 5 (dk_at dksX0_guarded_1 14 rfl rfl)
theorem dX0_guarded_39 : decode cX0_guarded 39 = .ok (.aload_n 0, 1) := dk_42 (dk_at dksX0_guarded_1 16 rfl rfl)
theorem dX0_guarded_40 : decode cX0_guarded 40 = .ok (.invokevirtual 254, 3) := dk_182 0 254 (dk_at dksX0_guarded_1 17 rfl rfl)
theorem dX0_guarded_43 : decode cX0_guarded 43 = .ok (.pop, 1) := dk_87 (dk_at dksX0_guarded_1 20 rfl rfl)
theorem dX0_guarded_44 : decode cX0_guarded 44 = .ok (.aload_n 0, 1) := dk_42 (dk_at dksX0_guarded_1 21 rfl rfl)
theorem dX0_guarded_45 : decode cX0_guarded 45 = .ok (.iload_n 1, 1) := dk_27 (dk_at dksX0_guarded_1 22 rfl rfl)
theorem dX0_guarded_46 : decode cX0_guarded 46 = .ok (.aload 5, 2) := dk_25 5 (dk_at dksX0_guarded_2 0 rfl rfl)
theorem dX0_guarded_48 : decode cX0_guarded 48 = .ok (.invokevirtual 330, 3) := dk_182 1 74 (dk_at dksX0_guarded_2 2 rfl rfl)
theorem dX0_guarded_51 : decode cX0_guarded 51 = .ok (.ifCond .eq 8, 3) := dk_153 0 8 (dk_at dksX0_guarded_2 5 rfl rfl)
theorem dX0_guarded_54 : decode cX0_guarded 54 = .ok (.bipush 64, 2) := dk_16 64 (dk_at dksX0_guarded_2 8 rfl rfl)
theorem dX0_guarded_56 : decode cX0_guarded 56 = .ok (.goto 4, 3) := dk_167 0 4 (dk_at dksX0_guarded_2 10 rfl rfl)
theorem dX0_guarded_59 : decode cX0_guarded 59 = .ok (.iconst 0, 1) := dk_3 (dk_at dksX0_guarded_2 13 rfl rfl)
theorem dX0_guarded_60 : decode cX0_guarded 60 = .ok (.istore 6, 2) := dk_54 6 (dk_at dksX0_guarded_2 14 rfl rfl)
theorem dX0_guarded_62 : decode cX0_guarded 62 = .ok (.iconst 0, 1) := dk_3 (dk_at dksX0_guarded_2 16 rfl rfl)
theorem dX0_guarded_63 : decode cX0_guarded 63 = .ok (.istore 7, 2) := dk_54 7 (dk_at dksX0_guarded_2 17 rfl rfl)
theorem dX0_guarded_65 : decode cX0_guarded 65 = .ok (.iload 7, 2) := dk_21 7 (dk_at dksX0_guarded_2 19 rfl rfl)
theorem dX0_guarded_67 : decode cX0_guarded 67 = .ok (.aload_n 0, 1) := dk_42 (dk_at dksX0_guarded_2 21 rfl rfl)
theorem dX0_guarded_68 : decode cX0_guarded 68 = .ok (.getfield 39, 3) := dk_180 0 39 (dk_at dksX0_guarded_3 0 rfl rfl)
theorem dX0_guarded_71 : decode cX0_guarded 71 = .ok (.invokevirtual 163, 3) := dk_182 0 163 (dk_at dksX0_guarded_3 3 rfl rfl)
theorem dX0_guarded_74 : decode cX0_guarded 74 = .ok (.if_icmp .ge 63, 3) := dk_162 0 63 (dk_at dksX0_guarded_3 6 rfl rfl)
theorem dX0_guarded_77 : decode cX0_guarded 77 = .ok (.aload_n 0, 1) := dk_42 (dk_at dksX0_guarded_3 9 rfl rfl)
theorem dX0_guarded_78 : decode cX0_guarded 78 = .ok (.getfield 39, 3) := dk_180 0 39 (dk_at dksX0_guarded_3 10 rfl rfl)
theorem dX0_guarded_81 : decode cX0_guarded 81 = .ok (.iload 7, 2) := dk_21 7 (dk_at dksX0_guarded_3 13 rfl rfl)
theorem dX0_guarded_83 : decode cX0_guarded 83 = .ok (.invokevirtual 334, 3) := dk_182 1 78 (dk_at dksX0_guarded_3 15 rfl rfl)
theorem dX0_guarded_86 : decode cX0_guarded 86 = .ok (.ifCond .eq 6, 3) := dk_153 0 6 (dk_at dksX0_guarded_3 18 rfl rfl)
theorem dX0_guarded_89 : decode cX0_guarded 89 = .ok (.goto 42, 3) := dk_167 0 42 (dk_at dksX0_guarded_3 21 rfl rfl)
theorem dX0_guarded_92 : decode cX0_guarded 92 = .ok (.aload_n 0, 1) := dk_42 (dk_at dksX0_guarded_4 0 rfl rfl)
theorem dX0_guarded_93 : decode cX0_guarded 93 = .ok (.invokevirtual 254, 3) := dk_182 0 254 (dk_at dksX0_guarded_4 1 rfl rfl)
theorem dX0_guarded_96 : decode cX0_guarded 96 = .ok (.dup, 1) := dk_89 (dk_at dksX0_guarded_4 4 rfl rfl)
theorem dX0_guarded_97 : decode cX0_guarded 97 = .ok (.getfield 217, 3) := dk_180 0 217 (dk_at dksX0_guarded_4 5 rfl rfl)
theorem dX0_guarded_100 : decode cX0_guarded 100 = .ok (.iconst 1, 1) := dk_4 (dk_at dksX0_guarded_4 8 rfl rfl)
theorem dX0_guarded_101 : decode cX0_guarded 101 = .ok (.iload 7, 2) := dk_21 7 (dk_at dksX0_guarded_4 9 rfl rfl)
theorem dX0_guarded_103 : decode cX0_guarded 103 = .ok (.ishl, 1) := dk_120 (dk_at dksX0_guarded_4 11 rfl rfl)
theorem dX0_guarded_104 : decode cX0_guarded 104 = .ok (.ior, 1) := dk_128 (dk_at dksX0_guarded_4 12 rfl rfl)
theorem dX0_guarded_105 : decode cX0_guarded 105 = .ok (.putfield 217, 3) := dk_181 0 217 (dk_at dksX0_guarded_4 13 rfl rfl)
theorem dX0_guarded_108 : decode cX0_guarded 108 = .ok (.iload 6, 2) := dk_21 6 (dk_at dksX0_guarded_4 16 rfl rfl)
theorem dX0_guarded_110 : decode cX0_guarded 110 = .ok (.aload_n 0, 1) := dk_42 (dk_at dksX0_guarded_4 18 rfl rfl)
theorem dX0_guarded_111 : decode cX0_guarded 111 = .ok (.iload_n 1, 1) := dk_27 (dk_at dksX0_guarded_4 19 rfl rfl)
theorem dX0_guarded_112 : decode cX0_guarded 112 = .ok (.aload 5, 2) := dk_25 5 (dk_at dksX0_guarded_4 20 rfl rfl)
theorem dX0_guarded_114 : decode cX0_guarded 114 = .ok (.invokevirtual 330, 3) := dk_182 1 74 (dk_at dksX0_guarded_5 0 rfl rfl)
theorem dX0_guarded_117 : decode cX0_guarded 117 = .ok (.ifCond .eq 10, 3) := dk_153 0 10 (dk_at dksX0_guarded_5 3 rfl rfl)
theorem dX0_guarded_120 : decode cX0_guarded 120 = .ok (.iconst 1, 1) := dk_4 (dk_at dksX0_guarded_5 6 rfl rfl)
theorem dX0_guarded_121 : decode cX0_guarded 121 = .ok (.iload 7, 2) := dk_21 7 (dk_at dksX0_guarded_5 7 rfl rfl)
theorem dX0_guarded_123 : decode cX0_guarded 123 = .ok (.ishl, 1) := dk_120 (dk_at dksX0_guarded_5 9 rfl rfl)
theorem dX0_guarded_124 : decode cX0_guarded 124 = .ok (.goto 4, 3) := dk_167 0 4 (dk_at dksX0_guarded_5 10 rfl rfl)
theorem dX0_guarded_127 : decode cX0_guarded 127 = .ok (.iconst 0, 1) := dk_3 (dk_at dksX0_guarded_5 13 rfl rfl)
theorem dX0_guarded_128 : decode cX0_guarded 128 = .ok (.ior, 1) := dk_128 (dk_at dksX0_guarded_5 14 rfl rfl)
theorem dX0_guarded_129 : decode cX0_guarded 129 = .ok (.istore 6, 2) := dk_54 6 (dk_at dksX0_guarded_5 15 rfl rfl)
theorem dX0_guarded_131 : decode cX0_guarded 131 = .ok (.iinc 7 1, 3) := dk_132 7 1 (dk_at dksX0_guarded_5 17 rfl rfl)
theorem dX0_guarded_134 : decode cX0_guarded 134 = .ok (.goto (-69), 3) := dk_167 255 187 (dk_at dksX0_guarded_5 20 rfl rfl)
theorem dX0_guarded_137 : decode cX0_guarded 137 = .ok (.aload_n 0, 1) := dk_42 (dk_at dksX0_guarded_5 23 rfl rfl)
theorem dX0_guarded_138 : decode cX0_guarded 138 = .ok (.iload 6, 2) := dk_21 6 (dk_at dksX0_guarded_6 0 rfl rfl)
theorem dX0_guarded_140 : decode cX0_guarded 140 = .ok (.invokevirtual 97, 3) := dk_182 0 97 (dk_at dksX0_guarded_6 2 rfl rfl)
theorem dX0_guarded_143 : decode cX0_guarded 143 = .ok (.ireturn, 1) := dk_172 (dk_at dksX0_guarded_6 5 rfl rfl)
theorem dX0_guarded_144 : decode cX0_guarded 144 = .ok (.astore 5, 2) := dk_58 5 (dk_at dksX0_guarded_6 6 rfl rfl)
theorem dX0_guarded_146 : decode cX0_guarded 146 = .ok (.aload_n 0, 1) := dk_42 (dk_at dksX0_guarded_6 8 rfl rfl)
theorem dX0_guarded_147 : decode cX0_guarded 147 = .ok (.aload 5, 2) := dk_25 5 (dk_at dksX0_guarded_6 9 rfl rfl)
theorem dX0_guarded_149 : decode cX0_guarded 149 = .ok (.invokevirtual 101, 3) := dk_182 0 101 (dk_at dksX0_guarded_6 11 rfl rfl)
theorem dX0_guarded_152 : decode cX0_guarded 152 = .ok (.ireturn, 1) := dk_172 (dk_at dksX0_guarded_6 14 rfl rfl)
abbrev cX0_doze : ByteArray := prog_1_method_64_code
def yX0_doze : MethodName := ⟨RX0, "doze", "(IIIII)J"⟩
def dkwX0_doze_10 : List UInt8 := [154, 0, 8, 22, 7, 167, 0, 5, 22, 9, 22, 7, 22, 9, 184, 1, 85, 109, 173]
abbrev dktX0_doze_10 : List UInt8 := dkwX0_doze_10 ++ []
def dkwX0_doze_9 : List UInt8 := [182, 1, 15, 153, 0, 8, 22, 12, 167, 0, 4, 9, 97, 55, 7, 132, 11, 1, 167, 255, 133, 21, 5]
abbrev dktX0_doze_9 : List UInt8 := dkwX0_doze_9 ++ dktX0_doze_10
def dkwX0_doze_8 : List UInt8 := [167, 255, 200, 42, 182, 0, 254, 21, 6, 21, 11, 2, 130, 126, 181, 0, 217, 22, 7, 42, 27, 28, 29]
abbrev dktX0_doze_8 : List UInt8 := dkwX0_doze_8 ++ dktX0_doze_9
def dkwX0_doze_7 : List UInt8 := [184, 1, 32, 153, 0, 9, 21, 4, 133, 167, 0, 9, 16, 10, 21, 4, 100, 133, 105, 55, 12, 132, 14, 1]
abbrev dktX0_doze_7 : List UInt8 := dkwX0_doze_7 ++ dktX0_doze_8
def dkwX0_doze_6 : List UInt8 := [162, 0, 50, 22, 12, 21, 6, 21, 14, 184, 1, 32, 154, 0, 7, 10, 167, 0, 25, 21, 11, 21, 14]
abbrev dktX0_doze_6 : List UInt8 := dkwX0_doze_6 ++ dktX0_doze_7
def dkwX0_doze_5 : List UInt8 := [2, 130, 126, 153, 0, 6, 167, 0, 103, 10, 55, 12, 3, 54, 14, 21, 14, 42, 180, 0, 39, 182, 0, 163]
abbrev dktX0_doze_5 : List UInt8 := dkwX0_doze_5 ++ dktX0_doze_6
def dkwX0_doze_4 : List UInt8 := [10, 105, 55, 9, 132, 11, 1, 167, 255, 219, 3, 54, 11, 21, 11, 21, 6, 163, 0, 122, 21, 11, 21, 6]
abbrev dktX0_doze_4 : List UInt8 := dkwX0_doze_4 ++ dktX0_doze_5
def dkwX0_doze_3 : List UInt8 := [182, 0, 163, 162, 0, 31, 22, 9, 21, 6, 21, 11, 184, 1, 32, 153, 0, 9, 20, 1, 81, 167, 0, 4]
abbrev dktX0_doze_3 : List UInt8 := dkwX0_doze_3 ++ dktX0_doze_4
def dkwX0_doze_2 : List UInt8 := [180, 0, 39, 180, 0, 217, 54, 6, 9, 55, 7, 10, 55, 9, 3, 54, 11, 21, 11, 42, 180, 0, 39]
abbrev dktX0_doze_2 : List UInt8 := dkwX0_doze_2 ++ dktX0_doze_3
def dkwX0_doze_1 : List UInt8 := [133, 9, 20, 1, 81, 184, 0, 79, 153, 0, 11, 21, 5, 184, 0, 214, 154, 0, 7, 20, 1, 83, 173, 42]
abbrev dktX0_doze_1 : List UInt8 := dkwX0_doze_1 ++ dktX0_doze_2
def dkwX0_doze_0 : List UInt8 := [42, 27, 182, 0, 196, 153, 0, 38, 28, 184, 1, 6, 153, 0, 31, 29, 184, 1, 12, 153, 0, 24, 21, 4]
abbrev dktX0_doze_0 : List UInt8 := dkwX0_doze_0 ++ dktX0_doze_1
theorem dksX0_doze_0 : cX0_doze.data.toList.drop 0 = dktX0_doze_0 := by decide +kernel
theorem dksX0_doze_1 : cX0_doze.data.toList.drop 24 = dktX0_doze_1 := dk_seg dksX0_doze_0 24 rfl rfl
theorem dksX0_doze_2 : cX0_doze.data.toList.drop 48 = dktX0_doze_2 := dk_seg dksX0_doze_1 24 rfl rfl
theorem dksX0_doze_3 : cX0_doze.data.toList.drop 71 = dktX0_doze_3 := dk_seg dksX0_doze_2 23 rfl rfl
theorem dksX0_doze_4 : cX0_doze.data.toList.drop 95 = dktX0_doze_4 := dk_seg dksX0_doze_3 24 rfl rfl
theorem dksX0_doze_5 : cX0_doze.data.toList.drop 119 = dktX0_doze_5 := dk_seg dksX0_doze_4 24 rfl rfl
theorem dksX0_doze_6 : cX0_doze.data.toList.drop 143 = dktX0_doze_6 := dk_seg dksX0_doze_5 24 rfl rfl
theorem dksX0_doze_7 : cX0_doze.data.toList.drop 166 = dktX0_doze_7 := dk_seg dksX0_doze_6 23 rfl rfl
theorem dksX0_doze_8 : cX0_doze.data.toList.drop 190 = dktX0_doze_8 := dk_seg dksX0_doze_7 24 rfl rfl
theorem dksX0_doze_9 : cX0_doze.data.toList.drop 213 = dktX0_doze_9 := dk_seg dksX0_doze_8 23 rfl rfl
theorem dksX0_doze_10 : cX0_doze.data.toList.drop 236 = dktX0_doze_10 := dk_seg dksX0_doze_9 23 rfl rfl
theorem dX0_doze_0 : decode cX0_doze 0 = .ok (.aload_n 0, 1) := dk_42 (dk_at dksX0_doze_0 0 rfl rfl)
theorem dX0_doze_1 : decode cX0_doze 1 = .ok (.iload_n 1, 1) := dk_27 (dk_at dksX0_doze_0 1 rfl rfl)
theorem dX0_doze_2 : decode cX0_doze 2 = .ok (.invokevirtual 196, 3) := dk_182 0 196 (dk_at dksX0_doze_0 2 rfl rfl)
theorem dX0_doze_5 : decode cX0_doze 5 = .ok (.ifCond .eq 38, 3) := dk_153 0 38 (dk_at dksX0_doze_0 5 rfl rfl)
theorem dX0_doze_8 : decode cX0_doze 8 = .ok (.iload_n 2, 1) := dk_28 (dk_at dksX0_doze_0 8 rfl rfl)
theorem dX0_doze_9 : decode cX0_doze 9 = .ok (.invokestatic 262, 3) := dk_184 1 6 (dk_at dksX0_doze_0 9 rfl rfl)
theorem dX0_doze_12 : decode cX0_doze 12 = .ok (.ifCond .eq 31, 3) := dk_153 0 31 (dk_at dksX0_doze_0 12 rfl rfl)
theorem dX0_doze_15 : decode cX0_doze 15 = .ok (.iload_n 3, 1) := dk_29 (dk_at dksX0_doze_0 15 rfl rfl)
theorem dX0_doze_16 : decode cX0_doze 16 = .ok (.invokestatic 268, 3) := dk_184 1 12 (dk_at dksX0_doze_0 16 rfl rfl)
theorem dX0_doze_19 : decode cX0_doze 19 = .ok (.ifCond .eq 24, 3) := dk_153 0 24 (dk_at dksX0_doze_0 19 rfl rfl)
theorem dX0_doze_22 : decode cX0_doze 22 = .ok (.iload 4, 2) := dk_21 4 (dk_at dksX0_doze_0 22 rfl rfl)
theorem dX0_doze_24 : decode cX0_doze 24 = .ok (.i2l, 1) := dk_133 (dk_at dksX0_doze_1 0 rfl rfl)
theorem dX0_doze_25 : decode cX0_doze 25 = .ok (.lconst 0, 1) := dk_9 (dk_at dksX0_doze_1 1 rfl rfl)
theorem dX0_doze_26 : decode cX0_doze 26 = .ok (.ldc2_w 337, 3) := dk_20 1 81 (dk_at dksX0_doze_1 2 rfl rfl)
theorem dX0_doze_29 : decode cX0_doze 29 = .ok (.invokestatic 79, 3) := dk_184 0 79 (dk_at dksX0_doze_1 5 rfl rfl)
theorem dX0_doze_32 : decode cX0_doze 32 = .ok (.ifCond .eq 11, 3) := dk_153 0 11 (dk_at dksX0_doze_1 8 rfl rfl)
theorem dX0_doze_35 : decode cX0_doze 35 = .ok (.iload 5, 2) := dk_21 5 (dk_at dksX0_doze_1 11 rfl rfl)
theorem dX0_doze_37 : decode cX0_doze 37 = .ok (.invokestatic 214, 3) := dk_184 0 214 (dk_at dksX0_doze_1 13 rfl rfl)
theorem dX0_doze_40 : decode cX0_doze 40 = .ok (.ifCond .ne 7, 3) := dk_154 0 7 (dk_at dksX0_doze_1 16 rfl rfl)
theorem dX0_doze_43 : decode cX0_doze 43 = .ok (.ldc2_w 339, 3) := dk_20 1 83 (dk_at dksX0_doze_1 19 rfl rfl)
theorem dX0_doze_46 : decode cX0_doze 46 = .ok (.lreturn, 1) := dk_173 (dk_at dksX0_doze_1 22 rfl rfl)
theorem dX0_doze_47 : decode cX0_doze 47 = .ok (.aload_n 0, 1) := dk_42 (dk_at dksX0_doze_1 23 rfl rfl)
theorem dX0_doze_48 : decode cX0_doze 48 = .ok (.getfield 39, 3) := dk_180 0 39 (dk_at dksX0_doze_2 0 rfl rfl)
theorem dX0_doze_51 : decode cX0_doze 51 = .ok (.getfield 217, 3) := dk_180 0 217 (dk_at dksX0_doze_2 3 rfl rfl)
theorem dX0_doze_54 : decode cX0_doze 54 = .ok (.istore 6, 2) := dk_54 6 (dk_at dksX0_doze_2 6 rfl rfl)
theorem dX0_doze_56 : decode cX0_doze 56 = .ok (.lconst 0, 1) := dk_9 (dk_at dksX0_doze_2 8 rfl rfl)
theorem dX0_doze_57 : decode cX0_doze 57 = .ok (.lstore 7, 2) := dk_55 7 (dk_at dksX0_doze_2 9 rfl rfl)
theorem dX0_doze_59 : decode cX0_doze 59 = .ok (.lconst 1, 1) := dk_10 (dk_at dksX0_doze_2 11 rfl rfl)
theorem dX0_doze_60 : decode cX0_doze 60 = .ok (.lstore 9, 2) := dk_55 9 (dk_at dksX0_doze_2 12 rfl rfl)
theorem dX0_doze_62 : decode cX0_doze 62 = .ok (.iconst 0, 1) := dk_3 (dk_at dksX0_doze_2 14 rfl rfl)
theorem dX0_doze_63 : decode cX0_doze 63 = .ok (.istore 11, 2) := dk_54 11 (dk_at dksX0_doze_2 15 rfl rfl)
theorem dX0_doze_65 : decode cX0_doze 65 = .ok (.iload 11, 2) := dk_21 11 (dk_at dksX0_doze_2 17 rfl rfl)
theorem dX0_doze_67 : decode cX0_doze 67 = .ok (.aload_n 0, 1) := dk_42 (dk_at dksX0_doze_2 19 rfl rfl)
theorem dX0_doze_68 : decode cX0_doze 68 = .ok (.getfield 39, 3) := dk_180 0 39 (dk_at dksX0_doze_2 20 rfl rfl)
theorem dX0_doze_71 : decode cX0_doze 71 = .ok (.invokevirtual 163, 3) := dk_182 0 163 (dk_at dksX0_doze_3 0 rfl rfl)
theorem dX0_doze_74 : decode cX0_doze 74 = .ok (.if_icmp .ge 31, 3) := dk_162 0 31 (dk_at dksX0_doze_3 3 rfl rfl)
theorem dX0_doze_77 : decode cX0_doze 77 = .ok (.lload 9, 2) := dk_22 9 (dk_at dksX0_doze_3 6 rfl rfl)
theorem dX0_doze_79 : decode cX0_doze 79 = .ok (.iload 6, 2) := dk_21 6 (dk_at dksX0_doze_3 8 rfl rfl)
theorem dX0_doze_81 : decode cX0_doze 81 = .ok (.iload 11, 2) := dk_21 11 (dk_at dksX0_doze_3 10 rfl rfl)
theorem dX0_doze_83 : decode cX0_doze 83 = .ok (.invokestatic 288, 3) := dk_184 1 32 (dk_at dksX0_doze_3 12 rfl rfl)
theorem dX0_doze_86 : decode cX0_doze 86 = .ok (.ifCond .eq 9, 3) := dk_153 0 9 (dk_at dksX0_doze_3 15 rfl rfl)
theorem dX0_doze_89 : decode cX0_doze 89 = .ok (.ldc2_w 337, 3) := dk_20 1 81 (dk_at dksX0_doze_3 18 rfl rfl)
theorem dX0_doze_92 : decode cX0_doze 92 = .ok (.goto 4, 3) := dk_167 0 4 (dk_at dksX0_doze_3 21 rfl rfl)
theorem dX0_doze_95 : decode cX0_doze 95 = .ok (.lconst 1, 1) := dk_10 (dk_at dksX0_doze_4 0 rfl rfl)
theorem dX0_doze_96 : decode cX0_doze 96 = .ok (.lmul, 1) := dk_105 (dk_at dksX0_doze_4 1 rfl rfl)
theorem dX0_doze_97 : decode cX0_doze 97 = .ok (.lstore 9, 2) := dk_55 9 (dk_at dksX0_doze_4 2 rfl rfl)
theorem dX0_doze_99 : decode cX0_doze 99 = .ok (.iinc 11 1, 3) := dk_132 11 1 (dk_at dksX0_doze_4 4 rfl rfl)
theorem dX0_doze_102 : decode cX0_doze 102 = .ok (.goto (-37), 3) := dk_167 255 219 (dk_at dksX0_doze_4 7 rfl rfl)
theorem dX0_doze_105 : decode cX0_doze 105 = .ok (.iconst 0, 1) := dk_3 (dk_at dksX0_doze_4 10 rfl rfl)
theorem dX0_doze_106 : decode cX0_doze 106 = .ok (.istore 11, 2) := dk_54 11 (dk_at dksX0_doze_4 11 rfl rfl)
theorem dX0_doze_108 : decode cX0_doze 108 = .ok (.iload 11, 2) := dk_21 11 (dk_at dksX0_doze_4 13 rfl rfl)
theorem dX0_doze_110 : decode cX0_doze 110 = .ok (.iload 6, 2) := dk_21 6 (dk_at dksX0_doze_4 15 rfl rfl)
theorem dX0_doze_112 : decode cX0_doze 112 = .ok (.if_icmp .gt 122, 3) := dk_163 0 122 (dk_at dksX0_doze_4 17 rfl rfl)
theorem dX0_doze_115 : decode cX0_doze 115 = .ok (.iload 11, 2) := dk_21 11 (dk_at dksX0_doze_4 20 rfl rfl)
theorem dX0_doze_117 : decode cX0_doze 117 = .ok (.iload 6, 2) := dk_21 6 (dk_at dksX0_doze_4 22 rfl rfl)
theorem dX0_doze_119 : decode cX0_doze 119 = .ok (.iconst (-1), 1) := dk_2 (dk_at dksX0_doze_5 0 rfl rfl)
theorem dX0_doze_120 : decode cX0_doze 120 = .ok (.ixor, 1) := dk_130 (dk_at dksX0_doze_5 1 rfl rfl)
theorem dX0_doze_121 : decode cX0_doze 121 = .ok (.iand, 1) := dk_126 (dk_at dksX0_doze_5 2 rfl rfl)
theorem dX0_doze_122 : decode cX0_doze 122 = .ok (.ifCond .eq 6, 3) := dk_153 0 6 (dk_at dksX0_doze_5 3 rfl rfl)
theorem dX0_doze_125 : decode cX0_doze 125 = .ok (.goto 103, 3) := dk_167 0 103 (dk_at dksX0_doze_5 6 rfl rfl)
theorem dX0_doze_128 : decode cX0_doze 128 = .ok (.lconst 1, 1) := dk_10 (dk_at dksX0_doze_5 9 rfl rfl)
theorem dX0_doze_129 : decode cX0_doze 129 = .ok (.lstore 12, 2) := dk_55 12 (dk_at dksX0_doze_5 10 rfl rfl)
theorem dX0_doze_131 : decode cX0_doze 131 = .ok (.iconst 0, 1) := dk_3 (dk_at dksX0_doze_5 12 rfl rfl)
theorem dX0_doze_132 : decode cX0_doze 132 = .ok (.istore 14, 2) := dk_54 14 (dk_at dksX0_doze_5 13 rfl rfl)
theorem dX0_doze_134 : decode cX0_doze 134 = .ok (.iload 14, 2) := dk_21 14 (dk_at dksX0_doze_5 15 rfl rfl)
theorem dX0_doze_136 : decode cX0_doze 136 = .ok (.aload_n 0, 1) := dk_42 (dk_at dksX0_doze_5 17 rfl rfl)
theorem dX0_doze_137 : decode cX0_doze 137 = .ok (.getfield 39, 3) := dk_180 0 39 (dk_at dksX0_doze_5 18 rfl rfl)
theorem dX0_doze_140 : decode cX0_doze 140 = .ok (.invokevirtual 163, 3) := dk_182 0 163 (dk_at dksX0_doze_5 21 rfl rfl)
theorem dX0_doze_143 : decode cX0_doze 143 = .ok (.if_icmp .ge 50, 3) := dk_162 0 50 (dk_at dksX0_doze_6 0 rfl rfl)
theorem dX0_doze_146 : decode cX0_doze 146 = .ok (.lload 12, 2) := dk_22 12 (dk_at dksX0_doze_6 3 rfl rfl)
theorem dX0_doze_148 : decode cX0_doze 148 = .ok (.iload 6, 2) := dk_21 6 (dk_at dksX0_doze_6 5 rfl rfl)
theorem dX0_doze_150 : decode cX0_doze 150 = .ok (.iload 14, 2) := dk_21 14 (dk_at dksX0_doze_6 7 rfl rfl)
theorem dX0_doze_152 : decode cX0_doze 152 = .ok (.invokestatic 288, 3) := dk_184 1 32 (dk_at dksX0_doze_6 9 rfl rfl)
theorem dX0_doze_155 : decode cX0_doze 155 = .ok (.ifCond .ne 7, 3) := dk_154 0 7 (dk_at dksX0_doze_6 12 rfl rfl)
theorem dX0_doze_158 : decode cX0_doze 158 = .ok (.lconst 1, 1) := dk_10 (dk_at dksX0_doze_6 15 rfl rfl)
theorem dX0_doze_159 : decode cX0_doze 159 = .ok (.goto 25, 3) := dk_167 0 25 (dk_at dksX0_doze_6 16 rfl rfl)
theorem dX0_doze_162 : decode cX0_doze 162 = .ok (.iload 11, 2) := dk_21 11 (dk_at dksX0_doze_6 19 rfl rfl)
theorem dX0_doze_164 : decode cX0_doze 164 = .ok (.iload 14, 2) := dk_21 14 (dk_at dksX0_doze_6 21 rfl rfl)
theorem dX0_doze_166 : decode cX0_doze 166 = .ok (.invokestatic 288, 3) := dk_184 1 32 (dk_at dksX0_doze_7 0 rfl rfl)
theorem dX0_doze_169 : decode cX0_doze 169 = .ok (.ifCond .eq 9, 3) := dk_153 0 9 (dk_at dksX0_doze_7 3 rfl rfl)
theorem dX0_doze_172 : decode cX0_doze 172 = .ok (.iload 4, 2) := dk_21 4 (dk_at dksX0_doze_7 6 rfl rfl)
theorem dX0_doze_174 : decode cX0_doze 174 = .ok (.i2l, 1) := dk_133 (dk_at dksX0_doze_7 8 rfl rfl)
theorem dX0_doze_175 : decode cX0_doze 175 = .ok (.goto 9, 3) := dk_167 0 9 (dk_at dksX0_doze_7 9 rfl rfl)
theorem dX0_doze_178 : decode cX0_doze 178 = .ok (.bipush 10, 2) := dk_16 10 (dk_at dksX0_doze_7 12 rfl rfl)
theorem dX0_doze_180 : decode cX0_doze 180 = .ok (.iload 4, 2) := dk_21 4 (dk_at dksX0_doze_7 14 rfl rfl)
theorem dX0_doze_182 : decode cX0_doze 182 = .ok (.isub, 1) := dk_100 (dk_at dksX0_doze_7 16 rfl rfl)
theorem dX0_doze_183 : decode cX0_doze 183 = .ok (.i2l, 1) := dk_133 (dk_at dksX0_doze_7 17 rfl rfl)
theorem dX0_doze_184 : decode cX0_doze 184 = .ok (.lmul, 1) := dk_105 (dk_at dksX0_doze_7 18 rfl rfl)
theorem dX0_doze_185 : decode cX0_doze 185 = .ok (.lstore 12, 2) := dk_55 12 (dk_at dksX0_doze_7 19 rfl rfl)
theorem dX0_doze_187 : decode cX0_doze 187 = .ok (.iinc 14 1, 3) := dk_132 14 1 (dk_at dksX0_doze_7 21 rfl rfl)
theorem dX0_doze_190 : decode cX0_doze 190 = .ok (.goto (-56), 3) := dk_167 255 200 (dk_at dksX0_doze_8 0 rfl rfl)
theorem dX0_doze_193 : decode cX0_doze 193 = .ok (.aload_n 0, 1) := dk_42 (dk_at dksX0_doze_8 3 rfl rfl)
theorem dX0_doze_194 : decode cX0_doze 194 = .ok (.invokevirtual 254, 3) := dk_182 0 254 (dk_at dksX0_doze_8 4 rfl rfl)
theorem dX0_doze_197 : decode cX0_doze 197 = .ok (.iload 6, 2) := dk_21 6 (dk_at dksX0_doze_8 7 rfl rfl)
theorem dX0_doze_199 : decode cX0_doze 199 = .ok (.iload 11, 2) := dk_21 11 (dk_at dksX0_doze_8 9 rfl rfl)
theorem dX0_doze_201 : decode cX0_doze 201 = .ok (.iconst (-1), 1) := dk_2 (dk_at dksX0_doze_8 11 rfl rfl)
theorem dX0_doze_202 : decode cX0_doze 202 = .ok (.ixor, 1) := dk_130 (dk_at dksX0_doze_8 12 rfl rfl)
theorem dX0_doze_203 : decode cX0_doze 203 = .ok (.iand, 1) := dk_126 (dk_at dksX0_doze_8 13 rfl rfl)
theorem dX0_doze_204 : decode cX0_doze 204 = .ok (.putfield 217, 3) := dk_181 0 217 (dk_at dksX0_doze_8 14 rfl rfl)
theorem dX0_doze_207 : decode cX0_doze 207 = .ok (.lload 7, 2) := dk_22 7 (dk_at dksX0_doze_8 17 rfl rfl)
theorem dX0_doze_209 : decode cX0_doze 209 = .ok (.aload_n 0, 1) := dk_42 (dk_at dksX0_doze_8 19 rfl rfl)
theorem dX0_doze_210 : decode cX0_doze 210 = .ok (.iload_n 1, 1) := dk_27 (dk_at dksX0_doze_8 20 rfl rfl)
theorem dX0_doze_211 : decode cX0_doze 211 = .ok (.iload_n 2, 1) := dk_28 (dk_at dksX0_doze_8 21 rfl rfl)
theorem dX0_doze_212 : decode cX0_doze 212 = .ok (.iload_n 3, 1) := dk_29 (dk_at dksX0_doze_8 22 rfl rfl)
theorem dX0_doze_213 : decode cX0_doze 213 = .ok (.invokevirtual 271, 3) := dk_182 1 15 (dk_at dksX0_doze_9 0 rfl rfl)
theorem dX0_doze_216 : decode cX0_doze 216 = .ok (.ifCond .eq 8, 3) := dk_153 0 8 (dk_at dksX0_doze_9 3 rfl rfl)
theorem dX0_doze_219 : decode cX0_doze 219 = .ok (.lload 12, 2) := dk_22 12 (dk_at dksX0_doze_9 6 rfl rfl)
theorem dX0_doze_221 : decode cX0_doze 221 = .ok (.goto 4, 3) := dk_167 0 4 (dk_at dksX0_doze_9 8 rfl rfl)
theorem dX0_doze_224 : decode cX0_doze 224 = .ok (.lconst 0, 1) := dk_9 (dk_at dksX0_doze_9 11 rfl rfl)
theorem dX0_doze_225 : decode cX0_doze 225 = .ok (.ladd, 1) := dk_97 (dk_at dksX0_doze_9 12 rfl rfl)
theorem dX0_doze_226 : decode cX0_doze 226 = .ok (.lstore 7, 2) := dk_55 7 (dk_at dksX0_doze_9 13 rfl rfl)
theorem dX0_doze_228 : decode cX0_doze 228 = .ok (.iinc 11 1, 3) := dk_132 11 1 (dk_at dksX0_doze_9 15 rfl rfl)
theorem dX0_doze_231 : decode cX0_doze 231 = .ok (.goto (-123), 3) := dk_167 255 133 (dk_at dksX0_doze_9 18 rfl rfl)
theorem dX0_doze_234 : decode cX0_doze 234 = .ok (.iload 5, 2) := dk_21 5 (dk_at dksX0_doze_9 21 rfl rfl)
theorem dX0_doze_236 : decode cX0_doze 236 = .ok (.ifCond .ne 8, 3) := dk_154 0 8 (dk_at dksX0_doze_10 0 rfl rfl)
theorem dX0_doze_239 : decode cX0_doze 239 = .ok (.lload 7, 2) := dk_22 7 (dk_at dksX0_doze_10 3 rfl rfl)
theorem dX0_doze_241 : decode cX0_doze 241 = .ok (.goto 5, 3) := dk_167 0 5 (dk_at dksX0_doze_10 5 rfl rfl)
theorem dX0_doze_244 : decode cX0_doze 244 = .ok (.lload 9, 2) := dk_22 9 (dk_at dksX0_doze_10 8 rfl rfl)
theorem dX0_doze_246 : decode cX0_doze 246 = .ok (.lload 7, 2) := dk_22 7 (dk_at dksX0_doze_10 10 rfl rfl)
theorem dX0_doze_248 : decode cX0_doze 248 = .ok (.lload 9, 2) := dk_22 9 (dk_at dksX0_doze_10 12 rfl rfl)
theorem dX0_doze_250 : decode cX0_doze 250 = .ok (.invokestatic 341, 3) := dk_184 1 85 (dk_at dksX0_doze_10 14 rfl rfl)
theorem dX0_doze_253 : decode cX0_doze 253 = .ok (.ldiv, 1) := dk_109 (dk_at dksX0_doze_10 17 rfl rfl)
theorem dX0_doze_254 : decode cX0_doze 254 = .ok (.lreturn, 1) := dk_173 (dk_at dksX0_doze_10 18 rfl rfl)
abbrev cX0_common : ByteArray := prog_1_method_63_code
def yX0_common : MethodName := ⟨RX0, "common", "(JJ)J"⟩
def dkwX0_common_1 : List UInt8 := [22, 8, 55, 6, 167, 255, 234, 22, 4, 173]
abbrev dktX0_common_1 : List UInt8 := dkwX0_common_1 ++ []
def dkwX0_common_0 : List UInt8 := [30, 55, 4, 32, 55, 6, 22, 6, 9, 148, 153, 0, 21, 22, 4, 22, 6, 113, 55, 8, 22, 6, 55, 4]
abbrev dktX0_common_0 : List UInt8 := dkwX0_common_0 ++ dktX0_common_1
theorem dksX0_common_0 : cX0_common.data.toList.drop 0 = dktX0_common_0 := by decide +kernel
theorem dksX0_common_1 : cX0_common.data.toList.drop 24 = dktX0_common_1 := dk_seg dksX0_common_0 24 rfl rfl
theorem dX0_common_0 : decode cX0_common 0 = .ok (.lload_n 0, 1) := dk_30 (dk_at dksX0_common_0 0 rfl rfl)
theorem dX0_common_1 : decode cX0_common 1 = .ok (.lstore 4, 2) := dk_55 4 (dk_at dksX0_common_0 1 rfl rfl)
theorem dX0_common_3 : decode cX0_common 3 = .ok (.lload_n 2, 1) := dk_32 (dk_at dksX0_common_0 3 rfl rfl)
theorem dX0_common_4 : decode cX0_common 4 = .ok (.lstore 6, 2) := dk_55 6 (dk_at dksX0_common_0 4 rfl rfl)
theorem dX0_common_6 : decode cX0_common 6 = .ok (.lload 6, 2) := dk_22 6 (dk_at dksX0_common_0 6 rfl rfl)
theorem dX0_common_8 : decode cX0_common 8 = .ok (.lconst 0, 1) := dk_9 (dk_at dksX0_common_0 8 rfl rfl)
theorem dX0_common_9 : decode cX0_common 9 = .ok (.lcmp, 1) := dk_148 (dk_at dksX0_common_0 9 rfl rfl)
theorem dX0_common_10 : decode cX0_common 10 = .ok (.ifCond .eq 21, 3) := dk_153 0 21 (dk_at dksX0_common_0 10 rfl rfl)
theorem dX0_common_13 : decode cX0_common 13 = .ok (.lload 4, 2) := dk_22 4 (dk_at dksX0_common_0 13 rfl rfl)
theorem dX0_common_15 : decode cX0_common 15 = .ok (.lload 6, 2) := dk_22 6 (dk_at dksX0_common_0 15 rfl rfl)
theorem dX0_common_17 : decode cX0_common 17 = .ok (.lrem, 1) := dk_113 (dk_at dksX0_common_0 17 rfl rfl)
theorem dX0_common_18 : decode cX0_common 18 = .ok (.lstore 8, 2) := dk_55 8 (dk_at dksX0_common_0 18 rfl rfl)
theorem dX0_common_20 : decode cX0_common 20 = .ok (.lload 6, 2) := dk_22 6 (dk_at dksX0_common_0 20 rfl rfl)
theorem dX0_common_22 : decode cX0_common 22 = .ok (.lstore 4, 2) := dk_55 4 (dk_at dksX0_common_0 22 rfl rfl)
theorem dX0_common_24 : decode cX0_common 24 = .ok (.lload 8, 2) := dk_22 8 (dk_at dksX0_common_1 0 rfl rfl)
theorem dX0_common_26 : decode cX0_common 26 = .ok (.lstore 6, 2) := dk_55 6 (dk_at dksX0_common_1 2 rfl rfl)
theorem dX0_common_28 : decode cX0_common 28 = .ok (.goto (-22), 3) := dk_167 255 234 (dk_at dksX0_common_1 4 rfl rfl)
theorem dX0_common_31 : decode cX0_common 31 = .ok (.lload 4, 2) := dk_22 4 (dk_at dksX0_common_1 7 rfl rfl)
theorem dX0_common_33 : decode cX0_common 33 = .ok (.lreturn, 1) := dk_173 (dk_at dksX0_common_1 9 rfl rfl)
abbrev cX0_drawn : ByteArray := prog_1_method_65_code
def yX0_drawn : MethodName := ⟨RX0, "drawn", "(III)I"⟩
def dkwX0_drawn_6 : List UInt8 := [182, 0, 193, 167, 0, 10, 42, 180, 0, 43, 182, 1, 9, 172]
abbrev dktX0_drawn_6 : List UInt8 := dkwX0_drawn_6 ++ []
def dkwX0_drawn_5 : List UInt8 := [42, 180, 0, 43, 182, 0, 189, 87, 132, 6, 1, 167, 255, 181, 29, 154, 0, 14, 42, 180, 0, 43, 3]
abbrev dktX0_drawn_5 : List UInt8 := dkwX0_drawn_5 ++ dktX0_drawn_6
def dkwX0_drawn_4 : List UInt8 := [154, 0, 13, 42, 180, 0, 43, 21, 7, 182, 0, 211, 87, 42, 180, 0, 43, 4, 21, 7, 120, 181, 0, 217]
abbrev dktX0_drawn_4 : List UInt8 := dkwX0_drawn_4 ++ dktX0_drawn_5
def dkwX0_drawn_3 : List UInt8 := [22, 4, 42, 180, 0, 39, 182, 0, 163, 133, 113, 136, 54, 7, 22, 4, 20, 0, 171, 113, 9, 148]
abbrev dktX0_drawn_3 : List UInt8 := dkwX0_drawn_3 ++ dktX0_drawn_4
def dkwX0_drawn_2 : List UInt8 := [55, 4, 3, 54, 6, 21, 6, 27, 162, 0, 75, 22, 4, 20, 1, 91, 105, 20, 1, 93, 113, 55, 4]
abbrev dktX0_drawn_2 : List UInt8 := dkwX0_drawn_2 ++ dktX0_drawn_3
def dkwX0_drawn_1 : List UInt8 := [184, 0, 79, 153, 0, 10, 29, 184, 0, 214, 154, 0, 6, 18, 93, 172, 42, 182, 0, 254, 87, 28, 133]
abbrev dktX0_drawn_1 : List UInt8 := dkwX0_drawn_1 ++ dktX0_drawn_2
def dkwX0_drawn_0 : List UInt8 := [42, 182, 0, 177, 154, 0, 6, 18, 167, 172, 27, 184, 0, 251, 153, 0, 22, 28, 133, 10, 20, 1, 89]
abbrev dktX0_drawn_0 : List UInt8 := dkwX0_drawn_0 ++ dktX0_drawn_1
theorem dksX0_drawn_0 : cX0_drawn.data.toList.drop 0 = dktX0_drawn_0 := by decide +kernel
theorem dksX0_drawn_1 : cX0_drawn.data.toList.drop 23 = dktX0_drawn_1 := dk_seg dksX0_drawn_0 23 rfl rfl
theorem dksX0_drawn_2 : cX0_drawn.data.toList.drop 46 = dktX0_drawn_2 := dk_seg dksX0_drawn_1 23 rfl rfl
theorem dksX0_drawn_3 : cX0_drawn.data.toList.drop 69 = dktX0_drawn_3 := dk_seg dksX0_drawn_2 23 rfl rfl
theorem dksX0_drawn_4 : cX0_drawn.data.toList.drop 91 = dktX0_drawn_4 := dk_seg dksX0_drawn_3 22 rfl rfl
theorem dksX0_drawn_5 : cX0_drawn.data.toList.drop 115 = dktX0_drawn_5 := dk_seg dksX0_drawn_4 24 rfl rfl
theorem dksX0_drawn_6 : cX0_drawn.data.toList.drop 138 = dktX0_drawn_6 := dk_seg dksX0_drawn_5 23 rfl rfl
theorem dX0_drawn_0 : decode cX0_drawn 0 = .ok (.aload_n 0, 1) := dk_42 (dk_at dksX0_drawn_0 0 rfl rfl)
theorem dX0_drawn_1 : decode cX0_drawn 1 = .ok (.invokevirtual 177, 3) := dk_182 0 177 (dk_at dksX0_drawn_0 1 rfl rfl)
theorem dX0_drawn_4 : decode cX0_drawn 4 = .ok (.ifCond .ne 6, 3) := dk_154 0 6 (dk_at dksX0_drawn_0 4 rfl rfl)
theorem dX0_drawn_7 : decode cX0_drawn 7 = .ok (.ldc 167, 2) := dk_18 167 (dk_at dksX0_drawn_0 7 rfl rfl)
theorem dX0_drawn_9 : decode cX0_drawn 9 = .ok (.ireturn, 1) := dk_172 (dk_at dksX0_drawn_0 9 rfl rfl)
theorem dX0_drawn_10 : decode cX0_drawn 10 = .ok (.iload_n 1, 1) := dk_27 (dk_at dksX0_drawn_0 10 rfl rfl)
theorem dX0_drawn_11 : decode cX0_drawn 11 = .ok (.invokestatic 251, 3) := dk_184 0 251 (dk_at dksX0_drawn_0 11 rfl rfl)
theorem dX0_drawn_14 : decode cX0_drawn 14 = .ok (.ifCond .eq 22, 3) := dk_153 0 22 (dk_at dksX0_drawn_0 14 rfl rfl)
theorem dX0_drawn_17 : decode cX0_drawn 17 = .ok (.iload_n 2, 1) := dk_28 (dk_at dksX0_drawn_0 17 rfl rfl)
theorem dX0_drawn_18 : decode cX0_drawn 18 = .ok (.i2l, 1) := dk_133 (dk_at dksX0_drawn_0 18 rfl rfl)
theorem dX0_drawn_19 : decode cX0_drawn 19 = .ok (.lconst 1, 1) := dk_10 (dk_at dksX0_drawn_0 19 rfl rfl)
theorem dX0_drawn_20 : decode cX0_drawn 20 = .ok (.ldc2_w 345, 3) := dk_20 1 89 (dk_at dksX0_drawn_0 20 rfl rfl)
theorem dX0_drawn_23 : decode cX0_drawn 23 = .ok (.invokestatic 79, 3) := dk_184 0 79 (dk_at dksX0_drawn_1 0 rfl rfl)
theorem dX0_drawn_26 : decode cX0_drawn 26 = .ok (.ifCond .eq 10, 3) := dk_153 0 10 (dk_at dksX0_drawn_1 3 rfl rfl)
theorem dX0_drawn_29 : decode cX0_drawn 29 = .ok (.iload_n 3, 1) := dk_29 (dk_at dksX0_drawn_1 6 rfl rfl)
theorem dX0_drawn_30 : decode cX0_drawn 30 = .ok (.invokestatic 214, 3) := dk_184 0 214 (dk_at dksX0_drawn_1 7 rfl rfl)
theorem dX0_drawn_33 : decode cX0_drawn 33 = .ok (.ifCond .ne 6, 3) := dk_154 0 6 (dk_at dksX0_drawn_1 10 rfl rfl)
theorem dX0_drawn_36 : decode cX0_drawn 36 = .ok (.ldc 93, 2) := dk_18 93 (dk_at dksX0_drawn_1 13 rfl rfl)
theorem dX0_drawn_38 : decode cX0_drawn 38 = .ok (.ireturn, 1) := dk_172 (dk_at dksX0_drawn_1 15 rfl rfl)
theorem dX0_drawn_39 : decode cX0_drawn 39 = .ok (.aload_n 0, 1) := dk_42 (dk_at dksX0_drawn_1 16 rfl rfl)
theorem dX0_drawn_40 : decode cX0_drawn 40 = .ok (.invokevirtual 254, 3) := dk_182 0 254 (dk_at dksX0_drawn_1 17 rfl rfl)
theorem dX0_drawn_43 : decode cX0_drawn 43 = .ok (.pop, 1) := dk_87 (dk_at dksX0_drawn_1 20 rfl rfl)
theorem dX0_drawn_44 : decode cX0_drawn 44 = .ok (.iload_n 2, 1) := dk_28 (dk_at dksX0_drawn_1 21 rfl rfl)
theorem dX0_drawn_45 : decode cX0_drawn 45 = .ok (.i2l, 1) := dk_133 (dk_at dksX0_drawn_1 22 rfl rfl)
theorem dX0_drawn_46 : decode cX0_drawn 46 = .ok (.lstore 4, 2) := dk_55 4 (dk_at dksX0_drawn_2 0 rfl rfl)
theorem dX0_drawn_48 : decode cX0_drawn 48 = .ok (.iconst 0, 1) := dk_3 (dk_at dksX0_drawn_2 2 rfl rfl)
theorem dX0_drawn_49 : decode cX0_drawn 49 = .ok (.istore 6, 2) := dk_54 6 (dk_at dksX0_drawn_2 3 rfl rfl)
theorem dX0_drawn_51 : decode cX0_drawn 51 = .ok (.iload 6, 2) := dk_21 6 (dk_at dksX0_drawn_2 5 rfl rfl)
theorem dX0_drawn_53 : decode cX0_drawn 53 = .ok (.iload_n 1, 1) := dk_27 (dk_at dksX0_drawn_2 7 rfl rfl)
theorem dX0_drawn_54 : decode cX0_drawn 54 = .ok (.if_icmp .ge 75, 3) := dk_162 0 75 (dk_at dksX0_drawn_2 8 rfl rfl)
theorem dX0_drawn_57 : decode cX0_drawn 57 = .ok (.lload 4, 2) := dk_22 4 (dk_at dksX0_drawn_2 11 rfl rfl)
theorem dX0_drawn_59 : decode cX0_drawn 59 = .ok (.ldc2_w 347, 3) := dk_20 1 91 (dk_at dksX0_drawn_2 13 rfl rfl)
theorem dX0_drawn_62 : decode cX0_drawn 62 = .ok (.lmul, 1) := dk_105 (dk_at dksX0_drawn_2 16 rfl rfl)
theorem dX0_drawn_63 : decode cX0_drawn 63 = .ok (.ldc2_w 349, 3) := dk_20 1 93 (dk_at dksX0_drawn_2 17 rfl rfl)
theorem dX0_drawn_66 : decode cX0_drawn 66 = .ok (.lrem, 1) := dk_113 (dk_at dksX0_drawn_2 20 rfl rfl)
theorem dX0_drawn_67 : decode cX0_drawn 67 = .ok (.lstore 4, 2) := dk_55 4 (dk_at dksX0_drawn_2 21 rfl rfl)
theorem dX0_drawn_69 : decode cX0_drawn 69 = .ok (.lload 4, 2) := dk_22 4 (dk_at dksX0_drawn_3 0 rfl rfl)
theorem dX0_drawn_71 : decode cX0_drawn 71 = .ok (.aload_n 0, 1) := dk_42 (dk_at dksX0_drawn_3 2 rfl rfl)
theorem dX0_drawn_72 : decode cX0_drawn 72 = .ok (.getfield 39, 3) := dk_180 0 39 (dk_at dksX0_drawn_3 3 rfl rfl)
theorem dX0_drawn_75 : decode cX0_drawn 75 = .ok (.invokevirtual 163, 3) := dk_182 0 163 (dk_at dksX0_drawn_3 6 rfl rfl)
theorem dX0_drawn_78 : decode cX0_drawn 78 = .ok (.i2l, 1) := dk_133 (dk_at dksX0_drawn_3 9 rfl rfl)
theorem dX0_drawn_79 : decode cX0_drawn 79 = .ok (.lrem, 1) := dk_113 (dk_at dksX0_drawn_3 10 rfl rfl)
theorem dX0_drawn_80 : decode cX0_drawn 80 = .ok (.l2i, 1) := dk_136 (dk_at dksX0_drawn_3 11 rfl rfl)
theorem dX0_drawn_81 : decode cX0_drawn 81 = .ok (.istore 7, 2) := dk_54 7 (dk_at dksX0_drawn_3 12 rfl rfl)
theorem dX0_drawn_83 : decode cX0_drawn 83 = .ok (.lload 4, 2) := dk_22 4 (dk_at dksX0_drawn_3 14 rfl rfl)
theorem dX0_drawn_85 : decode cX0_drawn 85 = .ok (.ldc2_w 171, 3) := dk_20 0 171 (dk_at dksX0_drawn_3 16 rfl rfl)
theorem dX0_drawn_88 : decode cX0_drawn 88 = .ok (.lrem, 1) := dk_113 (dk_at dksX0_drawn_3 19 rfl rfl)
theorem dX0_drawn_89 : decode cX0_drawn 89 = .ok (.lconst 0, 1) := dk_9 (dk_at dksX0_drawn_3 20 rfl rfl)
theorem dX0_drawn_90 : decode cX0_drawn 90 = .ok (.lcmp, 1) := dk_148 (dk_at dksX0_drawn_3 21 rfl rfl)
theorem dX0_drawn_91 : decode cX0_drawn 91 = .ok (.ifCond .ne 13, 3) := dk_154 0 13 (dk_at dksX0_drawn_4 0 rfl rfl)
theorem dX0_drawn_94 : decode cX0_drawn 94 = .ok (.aload_n 0, 1) := dk_42 (dk_at dksX0_drawn_4 3 rfl rfl)
theorem dX0_drawn_95 : decode cX0_drawn 95 = .ok (.getfield 43, 3) := dk_180 0 43 (dk_at dksX0_drawn_4 4 rfl rfl)
theorem dX0_drawn_98 : decode cX0_drawn 98 = .ok (.iload 7, 2) := dk_21 7 (dk_at dksX0_drawn_4 7 rfl rfl)
theorem dX0_drawn_100 : decode cX0_drawn 100 = .ok (.invokevirtual 211, 3) := dk_182 0 211 (dk_at dksX0_drawn_4 9 rfl rfl)
theorem dX0_drawn_103 : decode cX0_drawn 103 = .ok (.pop, 1) := dk_87 (dk_at dksX0_drawn_4 12 rfl rfl)
theorem dX0_drawn_104 : decode cX0_drawn 104 = .ok (.aload_n 0, 1) := dk_42 (dk_at dksX0_drawn_4 13 rfl rfl)
theorem dX0_drawn_105 : decode cX0_drawn 105 = .ok (.getfield 43, 3) := dk_180 0 43 (dk_at dksX0_drawn_4 14 rfl rfl)
theorem dX0_drawn_108 : decode cX0_drawn 108 = .ok (.iconst 1, 1) := dk_4 (dk_at dksX0_drawn_4 17 rfl rfl)
theorem dX0_drawn_109 : decode cX0_drawn 109 = .ok (.iload 7, 2) := dk_21 7 (dk_at dksX0_drawn_4 18 rfl rfl)
theorem dX0_drawn_111 : decode cX0_drawn 111 = .ok (.ishl, 1) := dk_120 (dk_at dksX0_drawn_4 20 rfl rfl)
theorem dX0_drawn_112 : decode cX0_drawn 112 = .ok (.putfield 217, 3) := dk_181 0 217 (dk_at dksX0_drawn_4 21 rfl rfl)
theorem dX0_drawn_115 : decode cX0_drawn 115 = .ok (.aload_n 0, 1) := dk_42 (dk_at dksX0_drawn_5 0 rfl rfl)
theorem dX0_drawn_116 : decode cX0_drawn 116 = .ok (.getfield 43, 3) := dk_180 0 43 (dk_at dksX0_drawn_5 1 rfl rfl)
theorem dX0_drawn_119 : decode cX0_drawn 119 = .ok (.invokevirtual 189, 3) := dk_182 0 189 (dk_at dksX0_drawn_5 4 rfl rfl)
theorem dX0_drawn_122 : decode cX0_drawn 122 = .ok (.pop, 1) := dk_87 (dk_at dksX0_drawn_5 7 rfl rfl)
theorem dX0_drawn_123 : decode cX0_drawn 123 = .ok (.iinc 6 1, 3) := dk_132 6 1 (dk_at dksX0_drawn_5 8 rfl rfl)
theorem dX0_drawn_126 : decode cX0_drawn 126 = .ok (.goto (-75), 3) := dk_167 255 181 (dk_at dksX0_drawn_5 11 rfl rfl)
theorem dX0_drawn_129 : decode cX0_drawn 129 = .ok (.iload_n 3, 1) := dk_29 (dk_at dksX0_drawn_5 14 rfl rfl)
theorem dX0_drawn_130 : decode cX0_drawn 130 = .ok (.ifCond .ne 14, 3) := dk_154 0 14 (dk_at dksX0_drawn_5 15 rfl rfl)
theorem dX0_drawn_133 : decode cX0_drawn 133 = .ok (.aload_n 0, 1) := dk_42 (dk_at dksX0_drawn_5 18 rfl rfl)
theorem dX0_drawn_134 : decode cX0_drawn 134 = .ok (.getfield 43, 3) := dk_180 0 43 (dk_at dksX0_drawn_5 19 rfl rfl)
theorem dX0_drawn_137 : decode cX0_drawn 137 = .ok (.iconst 0, 1) := dk_3 (dk_at dksX0_drawn_5 22 rfl rfl)
theorem dX0_drawn_138 : decode cX0_drawn 138 = .ok (.invokevirtual 193, 3) := dk_182 0 193 (dk_at dksX0_drawn_6 0 rfl rfl)
theorem dX0_drawn_141 : decode cX0_drawn 141 = .ok (.goto 10, 3) := dk_167 0 10 (dk_at dksX0_drawn_6 3 rfl rfl)
theorem dX0_drawn_144 : decode cX0_drawn 144 = .ok (.aload_n 0, 1) := dk_42 (dk_at dksX0_drawn_6 6 rfl rfl)
theorem dX0_drawn_145 : decode cX0_drawn 145 = .ok (.getfield 43, 3) := dk_180 0 43 (dk_at dksX0_drawn_6 7 rfl rfl)
theorem dX0_drawn_148 : decode cX0_drawn 148 = .ok (.invokevirtual 265, 3) := dk_182 1 9 (dk_at dksX0_drawn_6 10 rfl rfl)
theorem dX0_drawn_151 : decode cX0_drawn 151 = .ok (.ireturn, 1) := dk_172 (dk_at dksX0_drawn_6 13 rfl rfl)
abbrev cX0_image : ByteArray := prog_1_method_66_code
def yX0_image : MethodName := ⟨RX0, "image", "(I)I"⟩
def dkwX0_image_2 : List UInt8 := [180, 0, 50, 27, 50, 42, 180, 0, 39, 182, 0, 156, 87, 4, 172]
abbrev dktX0_image_2 : List UInt8 := dkwX0_image_2 ++ []
def dkwX0_image_1 : List UInt8 := [180, 0, 50, 27, 50, 199, 0, 16, 42, 180, 0, 50, 27, 187, 0, 36, 89, 183, 0, 38, 83, 42]
abbrev dktX0_image_1 : List UInt8 := dkwX0_image_1 ++ dktX0_image_2
def dkwX0_image_0 : List UInt8 := [27, 133, 9, 10, 184, 0, 79, 154, 0, 6, 18, 93, 172, 42, 182, 0, 177, 154, 0, 6, 18, 167, 172, 42]
abbrev dktX0_image_0 : List UInt8 := dkwX0_image_0 ++ dktX0_image_1
theorem dksX0_image_0 : cX0_image.data.toList.drop 0 = dktX0_image_0 := by decide +kernel
theorem dksX0_image_1 : cX0_image.data.toList.drop 24 = dktX0_image_1 := dk_seg dksX0_image_0 24 rfl rfl
theorem dksX0_image_2 : cX0_image.data.toList.drop 46 = dktX0_image_2 := dk_seg dksX0_image_1 22 rfl rfl
theorem dX0_image_0 : decode cX0_image 0 = .ok (.iload_n 1, 1) := dk_27 (dk_at dksX0_image_0 0 rfl rfl)
theorem dX0_image_1 : decode cX0_image 1 = .ok (.i2l, 1) := dk_133 (dk_at dksX0_image_0 1 rfl rfl)
theorem dX0_image_2 : decode cX0_image 2 = .ok (.lconst 0, 1) := dk_9 (dk_at dksX0_image_0 2 rfl rfl)
theorem dX0_image_3 : decode cX0_image 3 = .ok (.lconst 1, 1) := dk_10 (dk_at dksX0_image_0 3 rfl rfl)
theorem dX0_image_4 : decode cX0_image 4 = .ok (.invokestatic 79, 3) := dk_184 0 79 (dk_at dksX0_image_0 4 rfl rfl)
theorem dX0_image_7 : decode cX0_image 7 = .ok (.ifCond .ne 6, 3) := dk_154 0 6 (dk_at dksX0_image_0 7 rfl rfl)
theorem dX0_image_10 : decode cX0_image 10 = .ok (.ldc 93, 2) := dk_18 93 (dk_at dksX0_image_0 10 rfl rfl)
theorem dX0_image_12 : decode cX0_image 12 = .ok (.ireturn, 1) := dk_172 (dk_at dksX0_image_0 12 rfl rfl)
theorem dX0_image_13 : decode cX0_image 13 = .ok (.aload_n 0, 1) := dk_42 (dk_at dksX0_image_0 13 rfl rfl)
theorem dX0_image_14 : decode cX0_image 14 = .ok (.invokevirtual 177, 3) := dk_182 0 177 (dk_at dksX0_image_0 14 rfl rfl)
theorem dX0_image_17 : decode cX0_image 17 = .ok (.ifCond .ne 6, 3) := dk_154 0 6 (dk_at dksX0_image_0 17 rfl rfl)
theorem dX0_image_20 : decode cX0_image 20 = .ok (.ldc 167, 2) := dk_18 167 (dk_at dksX0_image_0 20 rfl rfl)
theorem dX0_image_22 : decode cX0_image 22 = .ok (.ireturn, 1) := dk_172 (dk_at dksX0_image_0 22 rfl rfl)
theorem dX0_image_23 : decode cX0_image 23 = .ok (.aload_n 0, 1) := dk_42 (dk_at dksX0_image_0 23 rfl rfl)
theorem dX0_image_24 : decode cX0_image 24 = .ok (.getfield 50, 3) := dk_180 0 50 (dk_at dksX0_image_1 0 rfl rfl)
theorem dX0_image_27 : decode cX0_image 27 = .ok (.iload_n 1, 1) := dk_27 (dk_at dksX0_image_1 3 rfl rfl)
theorem dX0_image_28 : decode cX0_image 28 = .ok (.aaload, 1) := dk_50 (dk_at dksX0_image_1 4 rfl rfl)
theorem dX0_image_29 : decode cX0_image 29 = .ok (.ifnonnull 16, 3) := dk_199 0 16 (dk_at dksX0_image_1 5 rfl rfl)
theorem dX0_image_32 : decode cX0_image 32 = .ok (.aload_n 0, 1) := dk_42 (dk_at dksX0_image_1 8 rfl rfl)
theorem dX0_image_33 : decode cX0_image 33 = .ok (.getfield 50, 3) := dk_180 0 50 (dk_at dksX0_image_1 9 rfl rfl)
theorem dX0_image_36 : decode cX0_image 36 = .ok (.iload_n 1, 1) := dk_27 (dk_at dksX0_image_1 12 rfl rfl)
theorem dX0_image_37 : decode cX0_image 37 = .ok (.new 36, 3) := dk_187 0 36 (dk_at dksX0_image_1 13 rfl rfl)
theorem dX0_image_40 : decode cX0_image 40 = .ok (.dup, 1) := dk_89 (dk_at dksX0_image_1 16 rfl rfl)
theorem dX0_image_41 : decode cX0_image 41 = .ok (.invokespecial 38, 3) := dk_183 0 38 (dk_at dksX0_image_1 17 rfl rfl)
theorem dX0_image_44 : decode cX0_image 44 = .ok (.aastore, 1) := dk_83 (dk_at dksX0_image_1 20 rfl rfl)
theorem dX0_image_45 : decode cX0_image 45 = .ok (.aload_n 0, 1) := dk_42 (dk_at dksX0_image_1 21 rfl rfl)
theorem dX0_image_46 : decode cX0_image 46 = .ok (.getfield 50, 3) := dk_180 0 50 (dk_at dksX0_image_2 0 rfl rfl)
theorem dX0_image_49 : decode cX0_image 49 = .ok (.iload_n 1, 1) := dk_27 (dk_at dksX0_image_2 3 rfl rfl)
theorem dX0_image_50 : decode cX0_image 50 = .ok (.aaload, 1) := dk_50 (dk_at dksX0_image_2 4 rfl rfl)
theorem dX0_image_51 : decode cX0_image 51 = .ok (.aload_n 0, 1) := dk_42 (dk_at dksX0_image_2 5 rfl rfl)
theorem dX0_image_52 : decode cX0_image 52 = .ok (.getfield 39, 3) := dk_180 0 39 (dk_at dksX0_image_2 6 rfl rfl)
theorem dX0_image_55 : decode cX0_image 55 = .ok (.invokevirtual 156, 3) := dk_182 0 156 (dk_at dksX0_image_2 9 rfl rfl)
theorem dX0_image_58 : decode cX0_image 58 = .ok (.pop, 1) := dk_87 (dk_at dksX0_image_2 12 rfl rfl)
theorem dX0_image_59 : decode cX0_image 59 = .ok (.iconst 1, 1) := dk_4 (dk_at dksX0_image_2 13 rfl rfl)
theorem dX0_image_60 : decode cX0_image 60 = .ok (.ireturn, 1) := dk_172 (dk_at dksX0_image_2 14 rfl rfl)
abbrev cX0_restore : ByteArray := prog_1_method_67_code
def yX0_restore : MethodName := ⟨RX0, "restore", "(I)I"⟩
def dkwX0_restore_1 : List UInt8 := [172, 42, 180, 0, 39, 42, 180, 0, 50, 27, 50, 182, 0, 156, 87, 42, 3, 181, 0, 160, 4, 172]
abbrev dktX0_restore_1 : List UInt8 := dkwX0_restore_1 ++ []
def dkwX0_restore_0 : List UInt8 := [27, 133, 9, 10, 184, 0, 79, 154, 0, 6, 18, 93, 172, 42, 180, 0, 50, 27, 50, 199, 0, 6, 18, 167]
abbrev dktX0_restore_0 : List UInt8 := dkwX0_restore_0 ++ dktX0_restore_1
theorem dksX0_restore_0 : cX0_restore.data.toList.drop 0 = dktX0_restore_0 := by decide +kernel
theorem dksX0_restore_1 : cX0_restore.data.toList.drop 24 = dktX0_restore_1 := dk_seg dksX0_restore_0 24 rfl rfl
theorem dX0_restore_0 : decode cX0_restore 0 = .ok (.iload_n 1, 1) := dk_27 (dk_at dksX0_restore_0 0 rfl rfl)
theorem dX0_restore_1 : decode cX0_restore 1 = .ok (.i2l, 1) := dk_133 (dk_at dksX0_restore_0 1 rfl rfl)
theorem dX0_restore_2 : decode cX0_restore 2 = .ok (.lconst 0, 1) := dk_9 (dk_at dksX0_restore_0 2 rfl rfl)
theorem dX0_restore_3 : decode cX0_restore 3 = .ok (.lconst 1, 1) := dk_10 (dk_at dksX0_restore_0 3 rfl rfl)
theorem dX0_restore_4 : decode cX0_restore 4 = .ok (.invokestatic 79, 3) := dk_184 0 79 (dk_at dksX0_restore_0 4 rfl rfl)
theorem dX0_restore_7 : decode cX0_restore 7 = .ok (.ifCond .ne 6, 3) := dk_154 0 6 (dk_at dksX0_restore_0 7 rfl rfl)
theorem dX0_restore_10 : decode cX0_restore 10 = .ok (.ldc 93, 2) := dk_18 93 (dk_at dksX0_restore_0 10 rfl rfl)
theorem dX0_restore_12 : decode cX0_restore 12 = .ok (.ireturn, 1) := dk_172 (dk_at dksX0_restore_0 12 rfl rfl)
theorem dX0_restore_13 : decode cX0_restore 13 = .ok (.aload_n 0, 1) := dk_42 (dk_at dksX0_restore_0 13 rfl rfl)
theorem dX0_restore_14 : decode cX0_restore 14 = .ok (.getfield 50, 3) := dk_180 0 50 (dk_at dksX0_restore_0 14 rfl rfl)
theorem dX0_restore_17 : decode cX0_restore 17 = .ok (.iload_n 1, 1) := dk_27 (dk_at dksX0_restore_0 17 rfl rfl)
theorem dX0_restore_18 : decode cX0_restore 18 = .ok (.aaload, 1) := dk_50 (dk_at dksX0_restore_0 18 rfl rfl)
theorem dX0_restore_19 : decode cX0_restore 19 = .ok (.ifnonnull 6, 3) := dk_199 0 6 (dk_at dksX0_restore_0 19 rfl rfl)
theorem dX0_restore_22 : decode cX0_restore 22 = .ok (.ldc 167, 2) := dk_18 167 (dk_at dksX0_restore_0 22 rfl rfl)
theorem dX0_restore_24 : decode cX0_restore 24 = .ok (.ireturn, 1) := dk_172 (dk_at dksX0_restore_1 0 rfl rfl)
theorem dX0_restore_25 : decode cX0_restore 25 = .ok (.aload_n 0, 1) := dk_42 (dk_at dksX0_restore_1 1 rfl rfl)
theorem dX0_restore_26 : decode cX0_restore 26 = .ok (.getfield 39, 3) := dk_180 0 39 (dk_at dksX0_restore_1 2 rfl rfl)
theorem dX0_restore_29 : decode cX0_restore 29 = .ok (.aload_n 0, 1) := dk_42 (dk_at dksX0_restore_1 5 rfl rfl)
theorem dX0_restore_30 : decode cX0_restore 30 = .ok (.getfield 50, 3) := dk_180 0 50 (dk_at dksX0_restore_1 6 rfl rfl)
theorem dX0_restore_33 : decode cX0_restore 33 = .ok (.iload_n 1, 1) := dk_27 (dk_at dksX0_restore_1 9 rfl rfl)
theorem dX0_restore_34 : decode cX0_restore 34 = .ok (.aaload, 1) := dk_50 (dk_at dksX0_restore_1 10 rfl rfl)
theorem dX0_restore_35 : decode cX0_restore 35 = .ok (.invokevirtual 156, 3) := dk_182 0 156 (dk_at dksX0_restore_1 11 rfl rfl)
theorem dX0_restore_38 : decode cX0_restore 38 = .ok (.pop, 1) := dk_87 (dk_at dksX0_restore_1 14 rfl rfl)
theorem dX0_restore_39 : decode cX0_restore 39 = .ok (.aload_n 0, 1) := dk_42 (dk_at dksX0_restore_1 15 rfl rfl)
theorem dX0_restore_40 : decode cX0_restore 40 = .ok (.iconst 0, 1) := dk_3 (dk_at dksX0_restore_1 16 rfl rfl)
theorem dX0_restore_41 : decode cX0_restore 41 = .ok (.putfield 160, 3) := dk_181 0 160 (dk_at dksX0_restore_1 17 rfl rfl)
theorem dX0_restore_44 : decode cX0_restore 44 = .ok (.iconst 1, 1) := dk_4 (dk_at dksX0_restore_1 20 rfl rfl)
theorem dX0_restore_45 : decode cX0_restore 45 = .ok (.ireturn, 1) := dk_172 (dk_at dksX0_restore_1 21 rfl rfl)
abbrev cX0_kind : ByteArray := prog_1_method_68_code
def yX0_kind : MethodName := ⟨RX0, "kind", "(I)I"⟩
def dkwX0_kind_1 : List UInt8 := [182, 1, 105, 167, 0, 5, 18, 93, 172]
abbrev dktX0_kind_1 : List UInt8 := dkwX0_kind_1 ++ []
def dkwX0_kind_0 : List UInt8 := [42, 27, 182, 0, 196, 153, 0, 25, 42, 180, 0, 39, 180, 1, 95, 27, 185, 1, 99, 2, 0, 192, 0, 60]
abbrev dktX0_kind_0 : List UInt8 := dkwX0_kind_0 ++ dktX0_kind_1
theorem dksX0_kind_0 : cX0_kind.data.toList.drop 0 = dktX0_kind_0 := by decide +kernel
theorem dksX0_kind_1 : cX0_kind.data.toList.drop 24 = dktX0_kind_1 := dk_seg dksX0_kind_0 24 rfl rfl
theorem dX0_kind_0 : decode cX0_kind 0 = .ok (.aload_n 0, 1) := dk_42 (dk_at dksX0_kind_0 0 rfl rfl)
theorem dX0_kind_1 : decode cX0_kind 1 = .ok (.iload_n 1, 1) := dk_27 (dk_at dksX0_kind_0 1 rfl rfl)
theorem dX0_kind_2 : decode cX0_kind 2 = .ok (.invokevirtual 196, 3) := dk_182 0 196 (dk_at dksX0_kind_0 2 rfl rfl)
theorem dX0_kind_5 : decode cX0_kind 5 = .ok (.ifCond .eq 25, 3) := dk_153 0 25 (dk_at dksX0_kind_0 5 rfl rfl)
theorem dX0_kind_8 : decode cX0_kind 8 = .ok (.aload_n 0, 1) := dk_42 (dk_at dksX0_kind_0 8 rfl rfl)
theorem dX0_kind_9 : decode cX0_kind 9 = .ok (.getfield 39, 3) := dk_180 0 39 (dk_at dksX0_kind_0 9 rfl rfl)
theorem dX0_kind_12 : decode cX0_kind 12 = .ok (.getfield 351, 3) := dk_180 1 95 (dk_at dksX0_kind_0 12 rfl rfl)
theorem dX0_kind_15 : decode cX0_kind 15 = .ok (.iload_n 1, 1) := dk_27 (dk_at dksX0_kind_0 15 rfl rfl)
theorem dX0_kind_16 : decode cX0_kind 16 = .ok (.invokeinterface 355 2, 5) := by decide +kernel
theorem dX0_kind_21 : decode cX0_kind 21 = .ok (.checkcast 60, 3) := dk_192 0 60 (dk_at dksX0_kind_0 21 rfl rfl)
theorem dX0_kind_24 : decode cX0_kind 24 = .ok (.invokevirtual 361, 3) := dk_182 1 105 (dk_at dksX0_kind_1 0 rfl rfl)
theorem dX0_kind_27 : decode cX0_kind 27 = .ok (.goto 5, 3) := dk_167 0 5 (dk_at dksX0_kind_1 3 rfl rfl)
theorem dX0_kind_30 : decode cX0_kind 30 = .ok (.ldc 93, 2) := dk_18 93 (dk_at dksX0_kind_1 6 rfl rfl)
theorem dX0_kind_32 : decode cX0_kind 32 = .ok (.ireturn, 1) := dk_172 (dk_at dksX0_kind_1 8 rfl rfl)
abbrev cX0_as : ByteArray := prog_1_method_69_code
def yX0_as : MethodName := ⟨RX0, "as", "(II)I"⟩
def dkwX0_as_5 : List UInt8 := [183, 0, 76, 191, 78, 42, 45, 182, 0, 101, 172]
abbrev dktX0_as_5 : List UInt8 := dkwX0_as_5 ++ []
def dkwX0_as_4 : List UInt8 := [45, 192, 0, 16, 58, 4, 42, 25, 4, 182, 1, 107, 182, 0, 97, 172, 58, 4, 187, 0, 67, 89, 6]
abbrev dktX0_as_4 : List UInt8 := dkwX0_as_4 ++ dktX0_as_5
def dkwX0_as_3 : List UInt8 := [28, 6, 160, 0, 10, 45, 192, 0, 10, 167, 0, 19, 28, 7, 160, 0, 10, 45, 192, 0, 13, 167, 0, 7]
abbrev dktX0_as_3 : List UInt8 := dkwX0_as_3 ++ dktX0_as_4
def dkwX0_as_2 : List UInt8 := [28, 4, 160, 0, 10, 45, 192, 0, 1, 167, 0, 43, 28, 5, 160, 0, 10, 45, 192, 0, 7, 167, 0, 31]
abbrev dktX0_as_2 : List UInt8 := dkwX0_as_2 ++ dktX0_as_3
def dkwX0_as_1 : List UInt8 := [180, 0, 39, 180, 1, 95, 27, 185, 1, 99, 2, 0, 192, 0, 60, 78, 28, 154, 0, 7, 45, 167, 0, 55]
abbrev dktX0_as_1 : List UInt8 := dkwX0_as_1 ++ dktX0_as_2
def dkwX0_as_0 : List UInt8 := [42, 27, 182, 0, 196, 153, 0, 15, 28, 133, 9, 20, 0, 171, 184, 0, 79, 154, 0, 6, 18, 93, 172, 42]
abbrev dktX0_as_0 : List UInt8 := dkwX0_as_0 ++ dktX0_as_1
theorem dksX0_as_0 : cX0_as.data.toList.drop 0 = dktX0_as_0 := by decide +kernel
theorem dksX0_as_1 : cX0_as.data.toList.drop 24 = dktX0_as_1 := dk_seg dksX0_as_0 24 rfl rfl
theorem dksX0_as_2 : cX0_as.data.toList.drop 48 = dktX0_as_2 := dk_seg dksX0_as_1 24 rfl rfl
theorem dksX0_as_3 : cX0_as.data.toList.drop 72 = dktX0_as_3 := dk_seg dksX0_as_2 24 rfl rfl
theorem dksX0_as_4 : cX0_as.data.toList.drop 96 = dktX0_as_4 := dk_seg dksX0_as_3 24 rfl rfl
theorem dksX0_as_5 : cX0_as.data.toList.drop 119 = dktX0_as_5 := dk_seg dksX0_as_4 23 rfl rfl
theorem dX0_as_0 : decode cX0_as 0 = .ok (.aload_n 0, 1) := dk_42 (dk_at dksX0_as_0 0 rfl rfl)
theorem dX0_as_1 : decode cX0_as 1 = .ok (.iload_n 1, 1) := dk_27 (dk_at dksX0_as_0 1 rfl rfl)
theorem dX0_as_2 : decode cX0_as 2 = .ok (.invokevirtual 196, 3) := dk_182 0 196 (dk_at dksX0_as_0 2 rfl rfl)
theorem dX0_as_5 : decode cX0_as 5 = .ok (.ifCond .eq 15, 3) := dk_153 0 15 (dk_at dksX0_as_0 5 rfl rfl)
theorem dX0_as_8 : decode cX0_as 8 = .ok (.iload_n 2, 1) := dk_28 (dk_at dksX0_as_0 8 rfl rfl)
theorem dX0_as_9 : decode cX0_as 9 = .ok (.i2l, 1) := dk_133 (dk_at dksX0_as_0 9 rfl rfl)
theorem dX0_as_10 : decode cX0_as 10 = .ok (.lconst 0, 1) := dk_9 (dk_at dksX0_as_0 10 rfl rfl)
theorem dX0_as_11 : decode cX0_as 11 = .ok (.ldc2_w 171, 3) := dk_20 0 171 (dk_at dksX0_as_0 11 rfl rfl)
theorem dX0_as_14 : decode cX0_as 14 = .ok (.invokestatic 79, 3) := dk_184 0 79 (dk_at dksX0_as_0 14 rfl rfl)
theorem dX0_as_17 : decode cX0_as 17 = .ok (.ifCond .ne 6, 3) := dk_154 0 6 (dk_at dksX0_as_0 17 rfl rfl)
theorem dX0_as_20 : decode cX0_as 20 = .ok (.ldc 93, 2) := dk_18 93 (dk_at dksX0_as_0 20 rfl rfl)
theorem dX0_as_22 : decode cX0_as 22 = .ok (.ireturn, 1) := dk_172 (dk_at dksX0_as_0 22 rfl rfl)
theorem dX0_as_23 : decode cX0_as 23 = .ok (.aload_n 0, 1) := dk_42 (dk_at dksX0_as_0 23 rfl rfl)
theorem dX0_as_24 : decode cX0_as 24 = .ok (.getfield 39, 3) := dk_180 0 39 (dk_at dksX0_as_1 0 rfl rfl)
theorem dX0_as_27 : decode cX0_as 27 = .ok (.getfield 351, 3) := dk_180 1 95 (dk_at dksX0_as_1 3 rfl rfl)
theorem dX0_as_30 : decode cX0_as 30 = .ok (.iload_n 1, 1) := dk_27 (dk_at dksX0_as_1 6 rfl rfl)
theorem dX0_as_31 : decode cX0_as 31 = .ok (.invokeinterface 355 2, 5) := by decide +kernel
theorem dX0_as_36 : decode cX0_as 36 = .ok (.checkcast 60, 3) := dk_192 0 60 (dk_at dksX0_as_1 12 rfl rfl)
theorem dX0_as_39 : decode cX0_as 39 = .ok (.astore_n 3, 1) := dk_78 (dk_at dksX0_as_1 15 rfl rfl)
theorem dX0_as_40 : decode cX0_as 40 = .ok (.iload_n 2, 1) := dk_28 (dk_at dksX0_as_1 16 rfl rfl)
theorem dX0_as_41 : decode cX0_as 41 = .ok (.ifCond .ne 7, 3) := dk_154 0 7 (dk_at dksX0_as_1 17 rfl rfl)
theorem dX0_as_44 : decode cX0_as 44 = .ok (.aload_n 3, 1) := dk_45 (dk_at dksX0_as_1 20 rfl rfl)
theorem dX0_as_45 : decode cX0_as 45 = .ok (.goto 55, 3) := dk_167 0 55 (dk_at dksX0_as_1 21 rfl rfl)
theorem dX0_as_48 : decode cX0_as 48 = .ok (.iload_n 2, 1) := dk_28 (dk_at dksX0_as_2 0 rfl rfl)
theorem dX0_as_49 : decode cX0_as 49 = .ok (.iconst 1, 1) := dk_4 (dk_at dksX0_as_2 1 rfl rfl)
theorem dX0_as_50 : decode cX0_as 50 = .ok (.if_icmp .ne 10, 3) := dk_160 0 10 (dk_at dksX0_as_2 2 rfl rfl)
theorem dX0_as_53 : decode cX0_as 53 = .ok (.aload_n 3, 1) := dk_45 (dk_at dksX0_as_2 5 rfl rfl)
theorem dX0_as_54 : decode cX0_as 54 = .ok (.checkcast 1, 3) := dk_192 0 1 (dk_at dksX0_as_2 6 rfl rfl)
theorem dX0_as_57 : decode cX0_as 57 = .ok (.goto 43, 3) := dk_167 0 43 (dk_at dksX0_as_2 9 rfl rfl)
theorem dX0_as_60 : decode cX0_as 60 = .ok (.iload_n 2, 1) := dk_28 (dk_at dksX0_as_2 12 rfl rfl)
theorem dX0_as_61 : decode cX0_as 61 = .ok (.iconst 2, 1) := dk_5 (dk_at dksX0_as_2 13 rfl rfl)
theorem dX0_as_62 : decode cX0_as 62 = .ok (.if_icmp .ne 10, 3) := dk_160 0 10 (dk_at dksX0_as_2 14 rfl rfl)
theorem dX0_as_65 : decode cX0_as 65 = .ok (.aload_n 3, 1) := dk_45 (dk_at dksX0_as_2 17 rfl rfl)
theorem dX0_as_66 : decode cX0_as 66 = .ok (.checkcast 7, 3) := dk_192 0 7 (dk_at dksX0_as_2 18 rfl rfl)
theorem dX0_as_69 : decode cX0_as 69 = .ok (.goto 31, 3) := dk_167 0 31 (dk_at dksX0_as_2 21 rfl rfl)
theorem dX0_as_72 : decode cX0_as 72 = .ok (.iload_n 2, 1) := dk_28 (dk_at dksX0_as_3 0 rfl rfl)
theorem dX0_as_73 : decode cX0_as 73 = .ok (.iconst 3, 1) := dk_6 (dk_at dksX0_as_3 1 rfl rfl)
theorem dX0_as_74 : decode cX0_as 74 = .ok (.if_icmp .ne 10, 3) := dk_160 0 10 (dk_at dksX0_as_3 2 rfl rfl)
theorem dX0_as_77 : decode cX0_as 77 = .ok (.aload_n 3, 1) := dk_45 (dk_at dksX0_as_3 5 rfl rfl)
theorem dX0_as_78 : decode cX0_as 78 = .ok (.checkcast 10, 3) := dk_192 0 10 (dk_at dksX0_as_3 6 rfl rfl)
theorem dX0_as_81 : decode cX0_as 81 = .ok (.goto 19, 3) := dk_167 0 19 (dk_at dksX0_as_3 9 rfl rfl)
theorem dX0_as_84 : decode cX0_as 84 = .ok (.iload_n 2, 1) := dk_28 (dk_at dksX0_as_3 12 rfl rfl)
theorem dX0_as_85 : decode cX0_as 85 = .ok (.iconst 4, 1) := dk_7 (dk_at dksX0_as_3 13 rfl rfl)
theorem dX0_as_86 : decode cX0_as 86 = .ok (.if_icmp .ne 10, 3) := dk_160 0 10 (dk_at dksX0_as_3 14 rfl rfl)
theorem dX0_as_89 : decode cX0_as 89 = .ok (.aload_n 3, 1) := dk_45 (dk_at dksX0_as_3 17 rfl rfl)
theorem dX0_as_90 : decode cX0_as 90 = .ok (.checkcast 13, 3) := dk_192 0 13 (dk_at dksX0_as_3 18 rfl rfl)
theorem dX0_as_93 : decode cX0_as 93 = .ok (.goto 7, 3) := dk_167 0 7 (dk_at dksX0_as_3 21 rfl rfl)
theorem dX0_as_96 : decode cX0_as 96 = .ok (.aload_n 3, 1) := dk_45 (dk_at dksX0_as_4 0 rfl rfl)
theorem dX0_as_97 : decode cX0_as 97 = .ok (.checkcast 16, 3) := dk_192 0 16 (dk_at dksX0_as_4 1 rfl rfl)
theorem dX0_as_100 : decode cX0_as 100 = .ok (.astore 4, 2) := dk_58 4 (dk_at dksX0_as_4 4 rfl rfl)
theorem dX0_as_102 : decode cX0_as 102 = .ok (.aload_n 0, 1) := dk_42 (dk_at dksX0_as_4 6 rfl rfl)
theorem dX0_as_103 : decode cX0_as 103 = .ok (.aload 4, 2) := dk_25 4 (dk_at dksX0_as_4 7 rfl rfl)
theorem dX0_as_105 : decode cX0_as 105 = .ok (.invokevirtual 363, 3) := dk_182 1 107 (dk_at dksX0_as_4 9 rfl rfl)
theorem dX0_as_108 : decode cX0_as 108 = .ok (.invokevirtual 97, 3) := dk_182 0 97 (dk_at dksX0_as_4 12 rfl rfl)
theorem dX0_as_111 : decode cX0_as 111 = .ok (.ireturn, 1) := dk_172 (dk_at dksX0_as_4 15 rfl rfl)
theorem dX0_as_112 : decode cX0_as 112 = .ok (.astore 4, 2) := dk_58 4 (dk_at dksX0_as_4 16 rfl rfl)
theorem dX0_as_114 : decode cX0_as 114 = .ok (.new 67, 3) := dk_187 0 67 (dk_at dksX0_as_4 18 rfl rfl)
theorem dX0_as_117 : decode cX0_as 117 = .ok (.dup, 1) := dk_89 (dk_at dksX0_as_4 21 rfl rfl)
theorem dX0_as_118 : decode cX0_as 118 = .ok (.iconst 3, 1) := dk_6 (dk_at dksX0_as_4 22 rfl rfl)
theorem dX0_as_119 : decode cX0_as 119 = .ok (.invokespecial 76, 3) := dk_183 0 76 (dk_at dksX0_as_5 0 rfl rfl)
theorem dX0_as_122 : decode cX0_as 122 = .ok (.athrow, 1) := dk_191 (dk_at dksX0_as_5 3 rfl rfl)
theorem dX0_as_123 : decode cX0_as 123 = .ok (.astore_n 3, 1) := dk_78 (dk_at dksX0_as_5 4 rfl rfl)
theorem dX0_as_124 : decode cX0_as 124 = .ok (.aload_n 0, 1) := dk_42 (dk_at dksX0_as_5 5 rfl rfl)
theorem dX0_as_125 : decode cX0_as 125 = .ok (.aload_n 3, 1) := dk_45 (dk_at dksX0_as_5 6 rfl rfl)
theorem dX0_as_126 : decode cX0_as 126 = .ok (.invokevirtual 101, 3) := dk_182 0 101 (dk_at dksX0_as_5 7 rfl rfl)
theorem dX0_as_129 : decode cX0_as 129 = .ok (.ireturn, 1) := dk_172 (dk_at dksX0_as_5 10 rfl rfl)
abbrev cX0_ask : ByteArray := prog_1_method_70_code
def yX0_ask : MethodName := ⟨RX0, "ask", "(II)I"⟩
def dkwX0_ask_3 : List UInt8 := [180, 0, 39, 182, 1, 115, 172]
abbrev dktX0_ask_3 : List UInt8 := dkwX0_ask_3 ++ []
def dkwX0_ask_2 : List UInt8 := [154, 0, 18, 45, 42, 180, 0, 56, 42, 180, 0, 39, 182, 1, 111, 167, 0, 15, 45, 42, 180, 0, 56, 42]
abbrev dktX0_ask_2 : List UInt8 := dkwX0_ask_2 ++ dktX0_ask_3
def dkwX0_ask_1 : List UInt8 := [183, 0, 55, 181, 0, 56, 42, 180, 0, 39, 180, 1, 95, 27, 185, 1, 99, 2, 0, 192, 0, 60, 78, 28]
abbrev dktX0_ask_1 : List UInt8 := dkwX0_ask_1 ++ dktX0_ask_2
def dkwX0_ask_0 : List UInt8 := [42, 27, 182, 0, 196, 153, 0, 10, 28, 184, 0, 214, 154, 0, 6, 18, 93, 172, 42, 187, 0, 53, 89]
abbrev dktX0_ask_0 : List UInt8 := dkwX0_ask_0 ++ dktX0_ask_1
theorem dksX0_ask_0 : cX0_ask.data.toList.drop 0 = dktX0_ask_0 := by decide +kernel
theorem dksX0_ask_1 : cX0_ask.data.toList.drop 23 = dktX0_ask_1 := dk_seg dksX0_ask_0 23 rfl rfl
theorem dksX0_ask_2 : cX0_ask.data.toList.drop 47 = dktX0_ask_2 := dk_seg dksX0_ask_1 24 rfl rfl
theorem dksX0_ask_3 : cX0_ask.data.toList.drop 71 = dktX0_ask_3 := dk_seg dksX0_ask_2 24 rfl rfl
theorem dX0_ask_0 : decode cX0_ask 0 = .ok (.aload_n 0, 1) := dk_42 (dk_at dksX0_ask_0 0 rfl rfl)
theorem dX0_ask_1 : decode cX0_ask 1 = .ok (.iload_n 1, 1) := dk_27 (dk_at dksX0_ask_0 1 rfl rfl)
theorem dX0_ask_2 : decode cX0_ask 2 = .ok (.invokevirtual 196, 3) := dk_182 0 196 (dk_at dksX0_ask_0 2 rfl rfl)
theorem dX0_ask_5 : decode cX0_ask 5 = .ok (.ifCond .eq 10, 3) := dk_153 0 10 (dk_at dksX0_ask_0 5 rfl rfl)
theorem dX0_ask_8 : decode cX0_ask 8 = .ok (.iload_n 2, 1) := dk_28 (dk_at dksX0_ask_0 8 rfl rfl)
theorem dX0_ask_9 : decode cX0_ask 9 = .ok (.invokestatic 214, 3) := dk_184 0 214 (dk_at dksX0_ask_0 9 rfl rfl)
theorem dX0_ask_12 : decode cX0_ask 12 = .ok (.ifCond .ne 6, 3) := dk_154 0 6 (dk_at dksX0_ask_0 12 rfl rfl)
theorem dX0_ask_15 : decode cX0_ask 15 = .ok (.ldc 93, 2) := dk_18 93 (dk_at dksX0_ask_0 15 rfl rfl)
theorem dX0_ask_17 : decode cX0_ask 17 = .ok (.ireturn, 1) := dk_172 (dk_at dksX0_ask_0 17 rfl rfl)
theorem dX0_ask_18 : decode cX0_ask 18 = .ok (.aload_n 0, 1) := dk_42 (dk_at dksX0_ask_0 18 rfl rfl)
theorem dX0_ask_19 : decode cX0_ask 19 = .ok (.new 53, 3) := dk_187 0 53 (dk_at dksX0_ask_0 19 rfl rfl)
theorem dX0_ask_22 : decode cX0_ask 22 = .ok (.dup, 1) := dk_89 (dk_at dksX0_ask_0 22 rfl rfl)
theorem dX0_ask_23 : decode cX0_ask 23 = .ok (.invokespecial 55, 3) := dk_183 0 55 (dk_at dksX0_ask_1 0 rfl rfl)
theorem dX0_ask_26 : decode cX0_ask 26 = .ok (.putfield 56, 3) := dk_181 0 56 (dk_at dksX0_ask_1 3 rfl rfl)
theorem dX0_ask_29 : decode cX0_ask 29 = .ok (.aload_n 0, 1) := dk_42 (dk_at dksX0_ask_1 6 rfl rfl)
theorem dX0_ask_30 : decode cX0_ask 30 = .ok (.getfield 39, 3) := dk_180 0 39 (dk_at dksX0_ask_1 7 rfl rfl)
theorem dX0_ask_33 : decode cX0_ask 33 = .ok (.getfield 351, 3) := dk_180 1 95 (dk_at dksX0_ask_1 10 rfl rfl)
theorem dX0_ask_36 : decode cX0_ask 36 = .ok (.iload_n 1, 1) := dk_27 (dk_at dksX0_ask_1 13 rfl rfl)
theorem dX0_ask_37 : decode cX0_ask 37 = .ok (.invokeinterface 355 2, 5) := by decide +kernel
theorem dX0_ask_42 : decode cX0_ask 42 = .ok (.checkcast 60, 3) := dk_192 0 60 (dk_at dksX0_ask_1 19 rfl rfl)
theorem dX0_ask_45 : decode cX0_ask 45 = .ok (.astore_n 3, 1) := dk_78 (dk_at dksX0_ask_1 22 rfl rfl)
theorem dX0_ask_46 : decode cX0_ask 46 = .ok (.iload_n 2, 1) := dk_28 (dk_at dksX0_ask_1 23 rfl rfl)
theorem dX0_ask_47 : decode cX0_ask 47 = .ok (.ifCond .ne 18, 3) := dk_154 0 18 (dk_at dksX0_ask_2 0 rfl rfl)
theorem dX0_ask_50 : decode cX0_ask 50 = .ok (.aload_n 3, 1) := dk_45 (dk_at dksX0_ask_2 3 rfl rfl)
theorem dX0_ask_51 : decode cX0_ask 51 = .ok (.aload_n 0, 1) := dk_42 (dk_at dksX0_ask_2 4 rfl rfl)
theorem dX0_ask_52 : decode cX0_ask 52 = .ok (.getfield 56, 3) := dk_180 0 56 (dk_at dksX0_ask_2 5 rfl rfl)
theorem dX0_ask_55 : decode cX0_ask 55 = .ok (.aload_n 0, 1) := dk_42 (dk_at dksX0_ask_2 8 rfl rfl)
theorem dX0_ask_56 : decode cX0_ask 56 = .ok (.getfield 39, 3) := dk_180 0 39 (dk_at dksX0_ask_2 9 rfl rfl)
theorem dX0_ask_59 : decode cX0_ask 59 = .ok (.invokevirtual 367, 3) := dk_182 1 111 (dk_at dksX0_ask_2 12 rfl rfl)
theorem dX0_ask_62 : decode cX0_ask 62 = .ok (.goto 15, 3) := dk_167 0 15 (dk_at dksX0_ask_2 15 rfl rfl)
theorem dX0_ask_65 : decode cX0_ask 65 = .ok (.aload_n 3, 1) := dk_45 (dk_at dksX0_ask_2 18 rfl rfl)
theorem dX0_ask_66 : decode cX0_ask 66 = .ok (.aload_n 0, 1) := dk_42 (dk_at dksX0_ask_2 19 rfl rfl)
theorem dX0_ask_67 : decode cX0_ask 67 = .ok (.getfield 56, 3) := dk_180 0 56 (dk_at dksX0_ask_2 20 rfl rfl)
theorem dX0_ask_70 : decode cX0_ask 70 = .ok (.aload_n 0, 1) := dk_42 (dk_at dksX0_ask_2 23 rfl rfl)
theorem dX0_ask_71 : decode cX0_ask 71 = .ok (.getfield 39, 3) := dk_180 0 39 (dk_at dksX0_ask_3 0 rfl rfl)
theorem dX0_ask_74 : decode cX0_ask 74 = .ok (.invokevirtual 371, 3) := dk_182 1 115 (dk_at dksX0_ask_3 3 rfl rfl)
theorem dX0_ask_77 : decode cX0_ask 77 = .ok (.ireturn, 1) := dk_172 (dk_at dksX0_ask_3 6 rfl rfl)
abbrev cX0_trace : ByteArray := prog_1_method_71_code
def yX0_trace : MethodName := ⟨RX0, "trace", "(I)I"⟩
def dkwX0_trace_1 : List UInt8 := [180, 1, 120, 27, 46, 167, 0, 6, 19, 1, 5, 172]
abbrev dktX0_trace_1 : List UInt8 := dkwX0_trace_1 ++ []
def dkwX0_trace_0 : List UInt8 := [27, 133, 9, 42, 180, 0, 56, 180, 1, 118, 4, 100, 133, 184, 0, 79, 153, 0, 15, 42, 180, 0, 56]
abbrev dktX0_trace_0 : List UInt8 := dkwX0_trace_0 ++ dktX0_trace_1
theorem dksX0_trace_0 : cX0_trace.data.toList.drop 0 = dktX0_trace_0 := by decide +kernel
theorem dksX0_trace_1 : cX0_trace.data.toList.drop 23 = dktX0_trace_1 := dk_seg dksX0_trace_0 23 rfl rfl
theorem dX0_trace_0 : decode cX0_trace 0 = .ok (.iload_n 1, 1) := dk_27 (dk_at dksX0_trace_0 0 rfl rfl)
theorem dX0_trace_1 : decode cX0_trace 1 = .ok (.i2l, 1) := dk_133 (dk_at dksX0_trace_0 1 rfl rfl)
theorem dX0_trace_2 : decode cX0_trace 2 = .ok (.lconst 0, 1) := dk_9 (dk_at dksX0_trace_0 2 rfl rfl)
theorem dX0_trace_3 : decode cX0_trace 3 = .ok (.aload_n 0, 1) := dk_42 (dk_at dksX0_trace_0 3 rfl rfl)
theorem dX0_trace_4 : decode cX0_trace 4 = .ok (.getfield 56, 3) := dk_180 0 56 (dk_at dksX0_trace_0 4 rfl rfl)
theorem dX0_trace_7 : decode cX0_trace 7 = .ok (.getfield 374, 3) := dk_180 1 118 (dk_at dksX0_trace_0 7 rfl rfl)
theorem dX0_trace_10 : decode cX0_trace 10 = .ok (.iconst 1, 1) := dk_4 (dk_at dksX0_trace_0 10 rfl rfl)
theorem dX0_trace_11 : decode cX0_trace 11 = .ok (.isub, 1) := dk_100 (dk_at dksX0_trace_0 11 rfl rfl)
theorem dX0_trace_12 : decode cX0_trace 12 = .ok (.i2l, 1) := dk_133 (dk_at dksX0_trace_0 12 rfl rfl)
theorem dX0_trace_13 : decode cX0_trace 13 = .ok (.invokestatic 79, 3) := dk_184 0 79 (dk_at dksX0_trace_0 13 rfl rfl)
theorem dX0_trace_16 : decode cX0_trace 16 = .ok (.ifCond .eq 15, 3) := dk_153 0 15 (dk_at dksX0_trace_0 16 rfl rfl)
theorem dX0_trace_19 : decode cX0_trace 19 = .ok (.aload_n 0, 1) := dk_42 (dk_at dksX0_trace_0 19 rfl rfl)
theorem dX0_trace_20 : decode cX0_trace 20 = .ok (.getfield 56, 3) := dk_180 0 56 (dk_at dksX0_trace_0 20 rfl rfl)
theorem dX0_trace_23 : decode cX0_trace 23 = .ok (.getfield 376, 3) := dk_180 1 120 (dk_at dksX0_trace_1 0 rfl rfl)
theorem dX0_trace_26 : decode cX0_trace 26 = .ok (.iload_n 1, 1) := dk_27 (dk_at dksX0_trace_1 3 rfl rfl)
theorem dX0_trace_27 : decode cX0_trace 27 = .ok (.iaload, 1) := dk_46 (dk_at dksX0_trace_1 4 rfl rfl)
theorem dX0_trace_28 : decode cX0_trace 28 = .ok (.goto 6, 3) := dk_167 0 6 (dk_at dksX0_trace_1 5 rfl rfl)
theorem dX0_trace_31 : decode cX0_trace 31 = .ok (.ldc_w 261, 3) := dk_19 1 5 (dk_at dksX0_trace_1 8 rfl rfl)
theorem dX0_trace_34 : decode cX0_trace 34 = .ok (.ireturn, 1) := dk_172 (dk_at dksX0_trace_1 11 rfl rfl)
abbrev cX0_count : ByteArray := prog_1_method_72_code
def yX0_count : MethodName := ⟨RX0, "count", "(I)I"⟩
def dkwX0_count_5 : List UInt8 := [172, 42, 180, 0, 160, 172, 42, 180, 0, 129, 172, 18, 93, 172]
abbrev dktX0_count_5 : List UInt8 := dkwX0_count_5 ++ []
def dkwX0_count_4 : List UInt8 := [172, 42, 180, 0, 39, 180, 0, 217, 172, 42, 180, 0, 39, 182, 1, 9, 172, 42, 180, 0, 39, 182, 1, 123]
abbrev dktX0_count_4 : List UInt8 := dkwX0_count_4 ++ dktX0_count_5
def dkwX0_count_3 : List UInt8 := [61, 132, 3, 1, 167, 255, 230, 28, 172, 42, 180, 0, 39, 182, 0, 163, 172, 42, 180, 0, 39, 180, 0, 183]
abbrev dktX0_count_3 : List UInt8 := dkwX0_count_3 ++ dktX0_count_4
def dkwX0_count_2 : List UInt8 := [3, 62, 29, 16, 8, 162, 0, 26, 28, 42, 180, 0, 28, 29, 50, 199, 0, 7, 3, 167, 0, 4, 4, 96]
abbrev dktX0_count_2 : List UInt8 := dkwX0_count_2 ++ dktX0_count_3
def dkwX0_count_1 : List UInt8 := [170, 0, 0, 0, 128, 0, 0, 0, 0, 0, 0, 0, 7, 0, 0, 0, 45, 0, 0, 0, 78, 0, 0, 0, 86, 0, 0, 0, 94, 0, 0, 0, 102, 0, 0, 0, 110, 0, 0, 0, 118, 0, 0, 0, 123]
abbrev dktX0_count_1 : List UInt8 := dkwX0_count_1 ++ dktX0_count_2
def dkwX0_count_0 : List UInt8 := [3, 61, 27]
abbrev dktX0_count_0 : List UInt8 := dkwX0_count_0 ++ dktX0_count_1
theorem dksX0_count_0 : cX0_count.data.toList.drop 0 = dktX0_count_0 := by decide +kernel
theorem dksX0_count_1 : cX0_count.data.toList.drop 3 = dktX0_count_1 := dk_seg dksX0_count_0 3 rfl rfl
theorem dksX0_count_2 : cX0_count.data.toList.drop 48 = dktX0_count_2 := dk_seg dksX0_count_1 45 rfl rfl
theorem dksX0_count_3 : cX0_count.data.toList.drop 72 = dktX0_count_3 := dk_seg dksX0_count_2 24 rfl rfl
theorem dksX0_count_4 : cX0_count.data.toList.drop 96 = dktX0_count_4 := dk_seg dksX0_count_3 24 rfl rfl
theorem dksX0_count_5 : cX0_count.data.toList.drop 120 = dktX0_count_5 := dk_seg dksX0_count_4 24 rfl rfl
theorem dX0_count_0 : decode cX0_count 0 = .ok (.iconst 0, 1) := dk_3 (dk_at dksX0_count_0 0 rfl rfl)
theorem dX0_count_1 : decode cX0_count 1 = .ok (.istore_n 2, 1) := dk_61 (dk_at dksX0_count_0 1 rfl rfl)
theorem dX0_count_2 : decode cX0_count 2 = .ok (.iload_n 1, 1) := dk_27 (dk_at dksX0_count_0 2 rfl rfl)
theorem dX0_count_3 : decode cX0_count 3 = .ok (.tableswitch 128 0 7 #[45, 78, 86, 94, 102, 110, 118, 123], 45) := by decide +kernel
theorem dX0_count_48 : decode cX0_count 48 = .ok (.iconst 0, 1) := dk_3 (dk_at dksX0_count_2 0 rfl rfl)
theorem dX0_count_49 : decode cX0_count 49 = .ok (.istore_n 3, 1) := dk_62 (dk_at dksX0_count_2 1 rfl rfl)
theorem dX0_count_50 : decode cX0_count 50 = .ok (.iload_n 3, 1) := dk_29 (dk_at dksX0_count_2 2 rfl rfl)
theorem dX0_count_51 : decode cX0_count 51 = .ok (.bipush 8, 2) := dk_16 8 (dk_at dksX0_count_2 3 rfl rfl)
theorem dX0_count_53 : decode cX0_count 53 = .ok (.if_icmp .ge 26, 3) := dk_162 0 26 (dk_at dksX0_count_2 5 rfl rfl)
theorem dX0_count_56 : decode cX0_count 56 = .ok (.iload_n 2, 1) := dk_28 (dk_at dksX0_count_2 8 rfl rfl)
theorem dX0_count_57 : decode cX0_count 57 = .ok (.aload_n 0, 1) := dk_42 (dk_at dksX0_count_2 9 rfl rfl)
theorem dX0_count_58 : decode cX0_count 58 = .ok (.getfield 28, 3) := dk_180 0 28 (dk_at dksX0_count_2 10 rfl rfl)
theorem dX0_count_61 : decode cX0_count 61 = .ok (.iload_n 3, 1) := dk_29 (dk_at dksX0_count_2 13 rfl rfl)
theorem dX0_count_62 : decode cX0_count 62 = .ok (.aaload, 1) := dk_50 (dk_at dksX0_count_2 14 rfl rfl)
theorem dX0_count_63 : decode cX0_count 63 = .ok (.ifnonnull 7, 3) := dk_199 0 7 (dk_at dksX0_count_2 15 rfl rfl)
theorem dX0_count_66 : decode cX0_count 66 = .ok (.iconst 0, 1) := dk_3 (dk_at dksX0_count_2 18 rfl rfl)
theorem dX0_count_67 : decode cX0_count 67 = .ok (.goto 4, 3) := dk_167 0 4 (dk_at dksX0_count_2 19 rfl rfl)
theorem dX0_count_70 : decode cX0_count 70 = .ok (.iconst 1, 1) := dk_4 (dk_at dksX0_count_2 22 rfl rfl)
theorem dX0_count_71 : decode cX0_count 71 = .ok (.iadd, 1) := dk_96 (dk_at dksX0_count_2 23 rfl rfl)
theorem dX0_count_72 : decode cX0_count 72 = .ok (.istore_n 2, 1) := dk_61 (dk_at dksX0_count_3 0 rfl rfl)
theorem dX0_count_73 : decode cX0_count 73 = .ok (.iinc 3 1, 3) := dk_132 3 1 (dk_at dksX0_count_3 1 rfl rfl)
theorem dX0_count_76 : decode cX0_count 76 = .ok (.goto (-26), 3) := dk_167 255 230 (dk_at dksX0_count_3 4 rfl rfl)
theorem dX0_count_79 : decode cX0_count 79 = .ok (.iload_n 2, 1) := dk_28 (dk_at dksX0_count_3 7 rfl rfl)
theorem dX0_count_80 : decode cX0_count 80 = .ok (.ireturn, 1) := dk_172 (dk_at dksX0_count_3 8 rfl rfl)
theorem dX0_count_81 : decode cX0_count 81 = .ok (.aload_n 0, 1) := dk_42 (dk_at dksX0_count_3 9 rfl rfl)
theorem dX0_count_82 : decode cX0_count 82 = .ok (.getfield 39, 3) := dk_180 0 39 (dk_at dksX0_count_3 10 rfl rfl)
theorem dX0_count_85 : decode cX0_count 85 = .ok (.invokevirtual 163, 3) := dk_182 0 163 (dk_at dksX0_count_3 13 rfl rfl)
theorem dX0_count_88 : decode cX0_count 88 = .ok (.ireturn, 1) := dk_172 (dk_at dksX0_count_3 16 rfl rfl)
theorem dX0_count_89 : decode cX0_count 89 = .ok (.aload_n 0, 1) := dk_42 (dk_at dksX0_count_3 17 rfl rfl)
theorem dX0_count_90 : decode cX0_count 90 = .ok (.getfield 39, 3) := dk_180 0 39 (dk_at dksX0_count_3 18 rfl rfl)
theorem dX0_count_93 : decode cX0_count 93 = .ok (.getfield 183, 3) := dk_180 0 183 (dk_at dksX0_count_3 21 rfl rfl)
theorem dX0_count_96 : decode cX0_count 96 = .ok (.ireturn, 1) := dk_172 (dk_at dksX0_count_4 0 rfl rfl)
theorem dX0_count_97 : decode cX0_count 97 = .ok (.aload_n 0, 1) := dk_42 (dk_at dksX0_count_4 1 rfl rfl)
theorem dX0_count_98 : decode cX0_count 98 = .ok (.getfield 39, 3) := dk_180 0 39 (dk_at dksX0_count_4 2 rfl rfl)
theorem dX0_count_101 : decode cX0_count 101 = .ok (.getfield 217, 3) := dk_180 0 217 (dk_at dksX0_count_4 5 rfl rfl)
theorem dX0_count_104 : decode cX0_count 104 = .ok (.ireturn, 1) := dk_172 (dk_at dksX0_count_4 8 rfl rfl)
theorem dX0_count_105 : decode cX0_count 105 = .ok (.aload_n 0, 1) := dk_42 (dk_at dksX0_count_4 9 rfl rfl)
theorem dX0_count_106 : decode cX0_count 106 = .ok (.getfield 39, 3) := dk_180 0 39 (dk_at dksX0_count_4 10 rfl rfl)
theorem dX0_count_109 : decode cX0_count 109 = .ok (.invokevirtual 265, 3) := dk_182 1 9 (dk_at dksX0_count_4 13 rfl rfl)
theorem dX0_count_112 : decode cX0_count 112 = .ok (.ireturn, 1) := dk_172 (dk_at dksX0_count_4 16 rfl rfl)
theorem dX0_count_113 : decode cX0_count 113 = .ok (.aload_n 0, 1) := dk_42 (dk_at dksX0_count_4 17 rfl rfl)
theorem dX0_count_114 : decode cX0_count 114 = .ok (.getfield 39, 3) := dk_180 0 39 (dk_at dksX0_count_4 18 rfl rfl)
theorem dX0_count_117 : decode cX0_count 117 = .ok (.invokevirtual 379, 3) := dk_182 1 123 (dk_at dksX0_count_4 21 rfl rfl)
theorem dX0_count_120 : decode cX0_count 120 = .ok (.ireturn, 1) := dk_172 (dk_at dksX0_count_5 0 rfl rfl)
theorem dX0_count_121 : decode cX0_count 121 = .ok (.aload_n 0, 1) := dk_42 (dk_at dksX0_count_5 1 rfl rfl)
theorem dX0_count_122 : decode cX0_count 122 = .ok (.getfield 160, 3) := dk_180 0 160 (dk_at dksX0_count_5 2 rfl rfl)
theorem dX0_count_125 : decode cX0_count 125 = .ok (.ireturn, 1) := dk_172 (dk_at dksX0_count_5 5 rfl rfl)
theorem dX0_count_126 : decode cX0_count 126 = .ok (.aload_n 0, 1) := dk_42 (dk_at dksX0_count_5 6 rfl rfl)
theorem dX0_count_127 : decode cX0_count 127 = .ok (.getfield 129, 3) := dk_180 0 129 (dk_at dksX0_count_5 7 rfl rfl)
theorem dX0_count_130 : decode cX0_count 130 = .ok (.ireturn, 1) := dk_172 (dk_at dksX0_count_5 10 rfl rfl)
theorem dX0_count_131 : decode cX0_count 131 = .ok (.ldc 93, 2) := dk_18 93 (dk_at dksX0_count_5 11 rfl rfl)
theorem dX0_count_133 : decode cX0_count 133 = .ok (.ireturn, 1) := dk_172 (dk_at dksX0_count_5 13 rfl rfl)
abbrev cX0_status : ByteArray := prog_1_method_73_code
def yX0_status : MethodName := ⟨RX0, "status", "()I"⟩
theorem dX0_status_0 : decode cX0_status 0 = .ok (.aload_n 0, 1) := by decide +kernel
theorem dX0_status_1 : decode cX0_status 1 = .ok (.getfield 72, 3) := by decide +kernel
theorem dX0_status_4 : decode cX0_status 4 = .ok (.ireturn, 1) := by decide +kernel
theorem q68 : (Jvm.Cond.initialized "ChairRanks") ∈ lw_all := lw_g (lw_at lw_m1 1 rfl) rfl
theorem q102 : (Jvm.Cond.instantiable "ChairRanks" (12 : Nat)) ∈ lw_all := lw_g (lw_at lw_m1 35 rfl) rfl
theorem q104 : (Jvm.Cond.instanceMethod ({ cls := "ChairRanks", name := "<init>", desc := "()V" } : Jvm.MethodName)) ∈ lw_all := lw_g (lw_at lw_m1 37 rfl) rfl
theorem q105 : (Jvm.Cond.code ({ cls := "ChairRanks", name := "<init>", desc := "()V" } : Jvm.MethodName) prog_1_method_4_code (1 : Nat) (Option.none : Option Jvm.ClassFile.FieldType)) ∈ lw_all := lw_g (lw_at lw_m1 38 rfl) rfl
theorem q106 : (Jvm.Cond.methodLink "ChairRanks" (19 : Nat) ({ cls := "java/lang/Object", name := "<init>", desc := "()V" } : Jvm.MethodName)) ∈ lw_all := lw_g (lw_at lw_m1 39 rfl) rfl
theorem q109 : (Jvm.Cond.classLink "ChairRanks" (26 : Nat) "ChairRanks$Row") ∈ lw_all := lw_g (lw_at lw_m1 42 rfl) rfl
theorem q111 : (Jvm.Cond.classLink "ChairRanks" (36 : Nat) "ChairRanks$Ministry") ∈ lw_all := lw_g (lw_at lw_m1 44 rfl) rfl
theorem q113 : (Jvm.Cond.methodLinkNest "ChairRanks" (38 : Nat) ({ cls := "ChairRanks$Ministry", name := "<init>", desc := "()V" } : Jvm.MethodName) "ChairRanks") ∈ lw_tbl := lw_at lw_m1 46 rfl
theorem q147 : (Jvm.Cond.fieldLink "ChairRanks" (225 : Nat) "ChairRanks$Ministry" "watchmen" "I") ∈ lw_all := lw_g (lw_at lw_m1 80 rfl) rfl
theorem q150 : (Jvm.Cond.fieldLink "ChairRanks" (168 : Nat) "ChairRanks$Ministry" "glue" "I") ∈ lw_all := lw_g (lw_at lw_m1 83 rfl) rfl
theorem q153 : (Jvm.Cond.fieldLink "ChairRanks" (351 : Nat) "ChairRanks$Ministry" "chairs" "Ljava/util/List;") ∈ lw_all := lw_g (lw_at lw_m1 86 rfl) rfl
theorem q157 : (Jvm.Cond.fieldLink "ChairRanks" (208 : Nat) "ChairRanks$Ministry" "leg" "[I") ∈ lw_all := lw_g (lw_at lw_m1 90 rfl) rfl
theorem q160 : (Jvm.Cond.fieldLink "ChairRanks" (201 : Nat) "ChairRanks$Ministry" "cushions" "[I") ∈ lw_all := lw_g (lw_at lw_m1 93 rfl) rfl
theorem q163 : (Jvm.Cond.fieldLink "ChairRanks" (236 : Nat) "ChairRanks$Ministry" "saw" "[I") ∈ lw_all := lw_g (lw_at lw_m1 96 rfl) rfl
theorem q166 : (Jvm.Cond.fieldLink "ChairRanks" (245 : Nat) "ChairRanks$Ministry" "grudge" "[I") ∈ lw_all := lw_g (lw_at lw_m1 99 rfl) rfl
theorem q168 : (Jvm.Cond.fieldLink "ChairRanks" (248 : Nat) "ChairRanks$Ministry" "caught" "[I") ∈ lw_all := lw_g (lw_at lw_m1 101 rfl) rfl
theorem q170 : (Jvm.Cond.fieldLink "ChairRanks" (217 : Nat) "ChairRanks$Ministry" "watched" "I") ∈ lw_all := lw_g (lw_at lw_m1 103 rfl) rfl
theorem q172 : (Jvm.Cond.fieldLink "ChairRanks" (183 : Nat) "ChairRanks$Ministry" "night" "I") ∈ lw_all := lw_g (lw_at lw_m1 105 rfl) rfl
theorem q175 : (Jvm.Cond.fieldLink "ChairRanks" (316 : Nat) "ChairRanks$Ministry" "takenFor" "I") ∈ lw_all := lw_g (lw_at lw_m1 108 rfl) rfl
theorem q177 : (Jvm.Cond.fieldLink "ChairRanks" (319 : Nat) "ChairRanks$Ministry" "taken" "LChairRanks$Chair;") ∈ lw_all := lw_g (lw_at lw_m1 110 rfl) rfl
theorem q207 : (Jvm.Cond.classLink "ChairRanks" (53 : Nat) "ChairRanks$Trail") ∈ lw_all := lw_g (lw_at lw_m1 140 rfl) rfl
theorem q209 : (Jvm.Cond.methodLinkNest "ChairRanks" (55 : Nat) ({ cls := "ChairRanks$Trail", name := "<init>", desc := "()V" } : Jvm.MethodName) "ChairRanks") ∈ lw_tbl := lw_at lw_m1 142 rfl
theorem q214 : (Jvm.Cond.fieldLinkNest "ChairRanks" (376 : Nat) "ChairRanks$Trail" "body" "[I" "ChairRanks") ∈ lw_tbl := lw_at lw_m1 147 rfl
theorem q216 : (Jvm.Cond.fieldLinkNest "ChairRanks" (374 : Nat) "ChairRanks$Trail" "many" "I" "ChairRanks") ∈ lw_tbl := lw_at lw_m1 149 rfl
theorem q222 : (Jvm.Cond.classLink "ChairRanks" (60 : Nat) "ChairRanks$Chair") ∈ lw_all := lw_g (lw_at lw_m1 155 rfl) rfl
theorem q224 : (Jvm.Cond.classLink "ChairRanks" (1 : Nat) "ChairRanks$Plain") ∈ lw_all := lw_g (lw_at lw_m1 157 rfl) rfl
theorem q226 : (Jvm.Cond.methodLink "ChairRanks" (3 : Nat) ({ cls := "ChairRanks$Plain", name := "<init>", desc := "(I)V" } : Jvm.MethodName)) ∈ lw_all := lw_g (lw_at lw_m1 159 rfl) rfl
theorem q237 : (Jvm.Cond.classLink "ChairRanks" (7 : Nat) "ChairRanks$Rocker") ∈ lw_all := lw_g (lw_at lw_m1 170 rfl) rfl
theorem q239 : (Jvm.Cond.methodLink "ChairRanks" (9 : Nat) ({ cls := "ChairRanks$Rocker", name := "<init>", desc := "(I)V" } : Jvm.MethodName)) ∈ lw_all := lw_g (lw_at lw_m1 172 rfl) rfl
theorem q245 : (Jvm.Cond.classLink "ChairRanks" (10 : Nat) "ChairRanks$Cushioned") ∈ lw_all := lw_g (lw_at lw_m1 178 rfl) rfl
theorem q247 : (Jvm.Cond.methodLink "ChairRanks" (12 : Nat) ({ cls := "ChairRanks$Cushioned", name := "<init>", desc := "(I)V" } : Jvm.MethodName)) ∈ lw_all := lw_g (lw_at lw_m1 180 rfl) rfl
theorem q253 : (Jvm.Cond.classLink "ChairRanks" (13 : Nat) "ChairRanks$Oak") ∈ lw_all := lw_g (lw_at lw_m1 186 rfl) rfl
theorem q255 : (Jvm.Cond.methodLink "ChairRanks" (15 : Nat) ({ cls := "ChairRanks$Oak", name := "<init>", desc := "(I)V" } : Jvm.MethodName)) ∈ lw_all := lw_g (lw_at lw_m1 188 rfl) rfl
theorem q261 : (Jvm.Cond.classLink "ChairRanks" (16 : Nat) "ChairRanks$Throne") ∈ lw_all := lw_g (lw_at lw_m1 194 rfl) rfl
theorem q263 : (Jvm.Cond.methodLink "ChairRanks" (18 : Nat) ({ cls := "ChairRanks$Throne", name := "<init>", desc := "(I)V" } : Jvm.MethodName)) ∈ lw_all := lw_g (lw_at lw_m1 196 rfl) rfl
theorem q269 : (Jvm.Cond.fieldLink "ChairRanks" (28 : Nat) "ChairRanks" "rows" "[LChairRanks$Row;") ∈ lw_all := lw_g (lw_at lw_m1 202 rfl) rfl
theorem q270 : (Jvm.Cond.fieldLink "ChairRanks" (32 : Nat) "ChairRanks" "tape" "[B") ∈ lw_all := lw_g (lw_at lw_m1 203 rfl) rfl
theorem q271 : (Jvm.Cond.fieldLink "ChairRanks" (129 : Nat) "ChairRanks" "taped" "I") ∈ lw_all := lw_g (lw_at lw_m1 204 rfl) rfl
theorem q272 : (Jvm.Cond.fieldLink "ChairRanks" (146 : Nat) "ChairRanks" "faultKind" "I") ∈ lw_all := lw_g (lw_at lw_m1 205 rfl) rfl
theorem q273 : (Jvm.Cond.fieldLink "ChairRanks" (39 : Nat) "ChairRanks" "ministry" "LChairRanks$Ministry;") ∈ lw_all := lw_g (lw_at lw_m1 206 rfl) rfl
theorem q274 : (Jvm.Cond.fieldLink "ChairRanks" (43 : Nat) "ChairRanks" "trial" "LChairRanks$Ministry;") ∈ lw_all := lw_g (lw_at lw_m1 207 rfl) rfl
theorem q275 : (Jvm.Cond.fieldLink "ChairRanks" (46 : Nat) "ChairRanks" "past" "[LChairRanks$Ministry;") ∈ lw_all := lw_g (lw_at lw_m1 208 rfl) rfl
theorem q276 : (Jvm.Cond.fieldLink "ChairRanks" (160 : Nat) "ChairRanks" "acts" "I") ∈ lw_all := lw_g (lw_at lw_m1 209 rfl) rfl
theorem q277 : (Jvm.Cond.fieldLink "ChairRanks" (50 : Nat) "ChairRanks" "images" "[LChairRanks$Ministry;") ∈ lw_all := lw_g (lw_at lw_m1 210 rfl) rfl
theorem q278 : (Jvm.Cond.fieldLink "ChairRanks" (56 : Nat) "ChairRanks" "trail" "LChairRanks$Trail;") ∈ lw_all := lw_g (lw_at lw_m1 211 rfl) rfl
theorem q279 : (Jvm.Cond.fieldLink "ChairRanks" (72 : Nat) "ChairRanks" "status" "I") ∈ lw_all := lw_g (lw_at lw_m1 212 rfl) rfl
theorem q280 : (Jvm.Cond.fieldLink "ChairRanks" (62 : Nat) "ChairRanks" "takens" "[LChairRanks$Chair;") ∈ lw_all := lw_g (lw_at lw_m1 213 rfl) rfl
theorem q281 : (Jvm.Cond.laysFinal "ChairRanks" "ChairRanks" "rows" "[LChairRanks$Row;") ∈ lw_all := lw_g (lw_at lw_m1 214 rfl) rfl
theorem q282 : (Jvm.Cond.soleField "ChairRanks" "rows") ∈ lw_all := lw_g (lw_at lw_m1 215 rfl) rfl
theorem q283 : (Jvm.Cond.laysFinal "ChairRanks" "ChairRanks" "tape" "[B") ∈ lw_all := lw_g (lw_at lw_m1 216 rfl) rfl
theorem q284 : (Jvm.Cond.soleField "ChairRanks" "tape") ∈ lw_all := lw_g (lw_at lw_m1 217 rfl) rfl
theorem q285 : (Jvm.Cond.lays "ChairRanks" "ChairRanks" "taped" "I") ∈ lw_all := lw_g (lw_at lw_m1 218 rfl) rfl
theorem q286 : (Jvm.Cond.soleField "ChairRanks" "taped") ∈ lw_all := lw_g (lw_at lw_m1 219 rfl) rfl
theorem q287 : (Jvm.Cond.lays "ChairRanks" "ChairRanks" "faultKind" "I") ∈ lw_all := lw_g (lw_at lw_m1 220 rfl) rfl
theorem q288 : (Jvm.Cond.soleField "ChairRanks" "faultKind") ∈ lw_all := lw_g (lw_at lw_m1 221 rfl) rfl
theorem q289 : (Jvm.Cond.laysFinal "ChairRanks" "ChairRanks" "ministry" "LChairRanks$Ministry;") ∈ lw_all := lw_g (lw_at lw_m1 222 rfl) rfl
theorem q290 : (Jvm.Cond.soleField "ChairRanks" "ministry") ∈ lw_all := lw_g (lw_at lw_m1 223 rfl) rfl
theorem q291 : (Jvm.Cond.laysFinal "ChairRanks" "ChairRanks" "trial" "LChairRanks$Ministry;") ∈ lw_all := lw_g (lw_at lw_m1 224 rfl) rfl
theorem q292 : (Jvm.Cond.soleField "ChairRanks" "trial") ∈ lw_all := lw_g (lw_at lw_m1 225 rfl) rfl
theorem q293 : (Jvm.Cond.laysFinal "ChairRanks" "ChairRanks" "past" "[LChairRanks$Ministry;") ∈ lw_all := lw_g (lw_at lw_m1 226 rfl) rfl
theorem q294 : (Jvm.Cond.soleField "ChairRanks" "past") ∈ lw_all := lw_g (lw_at lw_m1 227 rfl) rfl
theorem q295 : (Jvm.Cond.lays "ChairRanks" "ChairRanks" "acts" "I") ∈ lw_all := lw_g (lw_at lw_m1 228 rfl) rfl
theorem q296 : (Jvm.Cond.soleField "ChairRanks" "acts") ∈ lw_all := lw_g (lw_at lw_m1 229 rfl) rfl
theorem q297 : (Jvm.Cond.laysFinal "ChairRanks" "ChairRanks" "images" "[LChairRanks$Ministry;") ∈ lw_all := lw_g (lw_at lw_m1 230 rfl) rfl
theorem q298 : (Jvm.Cond.soleField "ChairRanks" "images") ∈ lw_all := lw_g (lw_at lw_m1 231 rfl) rfl
theorem q299 : (Jvm.Cond.lays "ChairRanks" "ChairRanks" "trail" "LChairRanks$Trail;") ∈ lw_all := lw_g (lw_at lw_m1 232 rfl) rfl
theorem q300 : (Jvm.Cond.soleField "ChairRanks" "trail") ∈ lw_all := lw_g (lw_at lw_m1 233 rfl) rfl
theorem q301 : (Jvm.Cond.lays "ChairRanks" "ChairRanks" "status" "I") ∈ lw_all := lw_g (lw_at lw_m1 234 rfl) rfl
theorem q302 : (Jvm.Cond.soleField "ChairRanks" "status") ∈ lw_all := lw_g (lw_at lw_m1 235 rfl) rfl
theorem q303 : (Jvm.Cond.laysFinal "ChairRanks" "ChairRanks" "takens" "[LChairRanks$Chair;") ∈ lw_all := lw_g (lw_at lw_m1 236 rfl) rfl
theorem q304 : (Jvm.Cond.soleField "ChairRanks" "takens") ∈ lw_all := lw_g (lw_at lw_m1 237 rfl) rfl
theorem q305 : (Jvm.Cond.superclass "ChairRanks" "java/lang/Object") ∈ lw_all := lw_g (lw_at lw_m1 238 rfl) rfl
theorem q307 : (Jvm.Cond.instanceMethod ({ cls := "ChairRanks", name := "row", desc := "(III)I" } : Jvm.MethodName)) ∈ lw_all := lw_g (lw_at lw_m2 0 rfl) rfl
theorem q308 : (Jvm.Cond.selects "ChairRanks" ({ cls := "ChairRanks", name := "row", desc := "(III)I" } : Jvm.MethodName) ({ cls := "ChairRanks", name := "row", desc := "(III)I" } : Jvm.MethodName)) ∈ lw_all := lw_g (lw_at lw_m2 1 rfl) rfl
theorem q309 : (Jvm.Cond.codeWith ({ cls := "ChairRanks", name := "row", desc := "(III)I" } : Jvm.MethodName) prog_1_method_10_code (5 : Nat) (Option.some Jvm.ClassFile.FieldType.int) [((28 : Nat), (61 : Nat), (62 : Nat), (67 : Nat))]) ∈ lw_all := lw_g (lw_at lw_m2 2 rfl) rfl
theorem q310 : (Jvm.Cond.classLink "ChairRanks" (67 : Nat) "ChairRanks$Finding") ∈ lw_all := lw_g (lw_at lw_m2 3 rfl) rfl
theorem q311 : (Jvm.Cond.methodLink "ChairRanks" (87 : Nat) ({ cls := "ChairRanks", name := "isRow", desc := "(I)Z" } : Jvm.MethodName)) ∈ lw_all := lw_g (lw_at lw_m2 4 rfl) rfl
theorem q312 : (Jvm.Cond.static ({ cls := "ChairRanks", name := "isRow", desc := "(I)Z" } : Jvm.MethodName)) ∈ lw_all := lw_g (lw_at lw_m2 5 rfl) rfl
theorem q313 : (Jvm.Cond.code ({ cls := "ChairRanks", name := "isRow", desc := "(I)Z" } : Jvm.MethodName) prog_1_method_8_code (1 : Nat) (Option.some Jvm.ClassFile.FieldType.boolean)) ∈ lw_all := lw_g (lw_at lw_m2 6 rfl) rfl
theorem q314 : (Jvm.Cond.constantLong "ChairRanks" (77 : Nat) (7 : Int64)) ∈ lw_all := lw_g (lw_at lw_m2 7 rfl) rfl
theorem q315 : (Jvm.Cond.methodLink "ChairRanks" (79 : Nat) ({ cls := "ChairRanks", name := "isIn", desc := "(JJJ)Z" } : Jvm.MethodName)) ∈ lw_all := lw_g (lw_at lw_m2 8 rfl) rfl
theorem q316 : (Jvm.Cond.static ({ cls := "ChairRanks", name := "isIn", desc := "(JJJ)Z" } : Jvm.MethodName)) ∈ lw_all := lw_g (lw_at lw_m2 9 rfl) rfl
theorem q317 : (Jvm.Cond.code ({ cls := "ChairRanks", name := "isIn", desc := "(JJJ)Z" } : Jvm.MethodName) prog_1_method_1_code (6 : Nat) (Option.some Jvm.ClassFile.FieldType.boolean)) ∈ lw_all := lw_g (lw_at lw_m2 10 rfl) rfl
theorem q318 : (Jvm.Cond.constantLong "ChairRanks" (91 : Nat) (2 : Int64)) ∈ lw_all := lw_g (lw_at lw_m2 11 rfl) rfl
theorem q319 : (Jvm.Cond.constant "ChairRanks" (93 : Nat) (-1000001 : Int32)) ∈ lw_all := lw_g (lw_at lw_m2 12 rfl) rfl
theorem q320 : (Jvm.Cond.methodLink "ChairRanks" (83 : Nat) ({ cls := "ChairRanks", name := "must", desc := "(ZI)V" } : Jvm.MethodName)) ∈ lw_all := lw_g (lw_at lw_m2 13 rfl) rfl
theorem q321 : (Jvm.Cond.static ({ cls := "ChairRanks", name := "must", desc := "(ZI)V" } : Jvm.MethodName)) ∈ lw_all := lw_g (lw_at lw_m2 14 rfl) rfl
theorem q322 : (Jvm.Cond.code ({ cls := "ChairRanks", name := "must", desc := "(ZI)V" } : Jvm.MethodName) prog_1_method_7_code (2 : Nat) (Option.none : Option Jvm.ClassFile.FieldType)) ∈ lw_all := lw_g (lw_at lw_m2 15 rfl) rfl
theorem q362 : (Jvm.Cond.methodLink "ChairRanks" (76 : Nat) ({ cls := "ChairRanks$Finding", name := "<init>", desc := "(I)V" } : Jvm.MethodName)) ∈ lw_all := lw_g (lw_at lw_m2 55 rfl) rfl
theorem q372 : (Jvm.Cond.fieldLink "ChairRanks" (66 : Nat) "ChairRanks$Finding" "number" "I") ∈ lw_all := lw_g (lw_at lw_m2 65 rfl) rfl
theorem q389 : (Jvm.Cond.methodLink "ChairRanks" (94 : Nat) ({ cls := "ChairRanks$Row", name := "<init>", desc := "(II)V" } : Jvm.MethodName)) ∈ lw_all := lw_g (lw_at lw_m2 82 rfl) rfl
theorem q394 : (Jvm.Cond.fieldLink "ChairRanks" (116 : Nat) "ChairRanks$Row" "lane" "I") ∈ lw_all := lw_g (lw_at lw_m2 87 rfl) rfl
theorem q396 : (Jvm.Cond.fieldLink "ChairRanks" (109 : Nat) "ChairRanks$Row" "items" "[I") ∈ lw_all := lw_g (lw_at lw_m2 89 rfl) rfl
theorem q402 : (Jvm.Cond.methodLink "ChairRanks" (97 : Nat) ({ cls := "ChairRanks", name := "well", desc := "(I)I" } : Jvm.MethodName)) ∈ lw_all := lw_g (lw_at lw_m2 95 rfl) rfl
theorem q403 : (Jvm.Cond.privateMethod ({ cls := "ChairRanks", name := "well", desc := "(I)I" } : Jvm.MethodName)) ∈ lw_tbl := lw_at lw_m2 96 rfl
theorem q404 : (Jvm.Cond.instanceMethod ({ cls := "ChairRanks", name := "well", desc := "(I)I" } : Jvm.MethodName)) ∈ lw_all := lw_g (lw_at lw_m2 97 rfl) rfl
theorem q405 : (Jvm.Cond.code ({ cls := "ChairRanks", name := "well", desc := "(I)I" } : Jvm.MethodName) prog_1_method_6_code (2 : Nat) (Option.some Jvm.ClassFile.FieldType.int)) ∈ lw_all := lw_g (lw_at lw_m2 98 rfl) rfl
theorem q406 : (Jvm.Cond.methodLink "ChairRanks" (101 : Nat) ({ cls := "ChairRanks", name := "found", desc := "(LChairRanks$Finding;)I" } : Jvm.MethodName)) ∈ lw_all := lw_g (lw_at lw_m2 99 rfl) rfl
theorem q407 : (Jvm.Cond.privateMethod ({ cls := "ChairRanks", name := "found", desc := "(LChairRanks$Finding;)I" } : Jvm.MethodName)) ∈ lw_tbl := lw_at lw_m2 100 rfl
theorem q408 : (Jvm.Cond.instanceMethod ({ cls := "ChairRanks", name := "found", desc := "(LChairRanks$Finding;)I" } : Jvm.MethodName)) ∈ lw_all := lw_g (lw_at lw_m2 101 rfl) rfl
theorem q409 : (Jvm.Cond.code ({ cls := "ChairRanks", name := "found", desc := "(LChairRanks$Finding;)I" } : Jvm.MethodName) prog_1_method_5_code (2 : Nat) (Option.some Jvm.ClassFile.FieldType.int)) ∈ lw_all := lw_g (lw_at lw_m2 102 rfl) rfl
theorem q410 : (Jvm.Cond.constant "ChairRanks" (75 : Nat) (-1000010 : Int32)) ∈ lw_all := lw_g (lw_at lw_m2 103 rfl) rfl
theorem q412 : (Jvm.Cond.instanceMethod ({ cls := "ChairRanks", name := "set", desc := "(III)I" } : Jvm.MethodName)) ∈ lw_all := lw_g (lw_at lw_m2 105 rfl) rfl
theorem q413 : (Jvm.Cond.selects "ChairRanks" ({ cls := "ChairRanks", name := "set", desc := "(III)I" } : Jvm.MethodName) ({ cls := "ChairRanks", name := "set", desc := "(III)I" } : Jvm.MethodName)) ∈ lw_all := lw_g (lw_at lw_m2 106 rfl) rfl
theorem q414 : (Jvm.Cond.codeWith ({ cls := "ChairRanks", name := "set", desc := "(III)I" } : Jvm.MethodName) prog_1_method_11_code (5 : Nat) (Option.some Jvm.ClassFile.FieldType.int) [((10 : Nat), (60 : Nat), (61 : Nat), (67 : Nat))]) ∈ lw_all := lw_g (lw_at lw_m2 107 rfl) rfl
theorem q415 : (Jvm.Cond.methodLink "ChairRanks" (105 : Nat) ({ cls := "ChairRanks", name := "rowAt", desc := "(I)LChairRanks$Row;" } : Jvm.MethodName)) ∈ lw_all := lw_g (lw_at lw_m2 108 rfl) rfl
theorem q416 : (Jvm.Cond.privateMethod ({ cls := "ChairRanks", name := "rowAt", desc := "(I)LChairRanks$Row;" } : Jvm.MethodName)) ∈ lw_tbl := lw_at lw_m2 109 rfl
theorem q417 : (Jvm.Cond.instanceMethod ({ cls := "ChairRanks", name := "rowAt", desc := "(I)LChairRanks$Row;" } : Jvm.MethodName)) ∈ lw_all := lw_g (lw_at lw_m2 110 rfl) rfl
theorem q418 : (Jvm.Cond.code ({ cls := "ChairRanks", name := "rowAt", desc := "(I)LChairRanks$Row;" } : Jvm.MethodName) prog_1_method_9_code (2 : Nat) (Option.some (Jvm.ClassFile.FieldType.object "ChairRanks$Row"))) ∈ lw_all := lw_g (lw_at lw_m2 111 rfl) rfl
theorem q419 : (Jvm.Cond.methodLink "ChairRanks" (113 : Nat) ({ cls := "ChairRanks$Row", name := "cut", desc := "(I)I" } : Jvm.MethodName)) ∈ lw_all := lw_g (lw_at lw_m2 112 rfl) rfl
theorem q424 : (Jvm.Cond.instanceMethod ({ cls := "ChairRanks", name := "copy", desc := "(IIIII)I" } : Jvm.MethodName)) ∈ lw_all := lw_g (lw_at lw_m2 117 rfl) rfl
theorem q425 : (Jvm.Cond.selects "ChairRanks" ({ cls := "ChairRanks", name := "copy", desc := "(IIIII)I" } : Jvm.MethodName) ({ cls := "ChairRanks", name := "copy", desc := "(IIIII)I" } : Jvm.MethodName)) ∈ lw_all := lw_g (lw_at lw_m2 118 rfl) rfl
theorem q426 : (Jvm.Cond.codeWith ({ cls := "ChairRanks", name := "copy", desc := "(IIIII)I" } : Jvm.MethodName) prog_1_method_12_code (9 : Nat) (Option.some Jvm.ClassFile.FieldType.int) [((53 : Nat), (71 : Nat), (74 : Nat), (125 : Nat)), ((17 : Nat), (91 : Nat), (92 : Nat), (67 : Nat))]) ∈ lw_all := lw_g (lw_at lw_m2 119 rfl) rfl
theorem q427 : (Jvm.Cond.classLink "ChairRanks" (125 : Nat) "java/lang/IndexOutOfBoundsException") ∈ lw_all := lw_g (lw_at lw_m2 120 rfl) rfl
theorem q461 : (Jvm.Cond.methodLink "ChairRanks" (119 : Nat) ({ cls := "java/lang/System", name := "arraycopy", desc := "(Ljava/lang/Object;ILjava/lang/Object;II)V" } : Jvm.MethodName)) ∈ lw_all := lw_g (lw_at lw_m2 154 rfl) rfl
theorem q465 : (Jvm.Cond.instanceMethod ({ cls := "ChairRanks", name := "drop", desc := "(I)I" } : Jvm.MethodName)) ∈ lw_all := lw_g (lw_at lw_m2 158 rfl) rfl
theorem q466 : (Jvm.Cond.selects "ChairRanks" ({ cls := "ChairRanks", name := "drop", desc := "(I)I" } : Jvm.MethodName) ({ cls := "ChairRanks", name := "drop", desc := "(I)I" } : Jvm.MethodName)) ∈ lw_all := lw_g (lw_at lw_m2 159 rfl) rfl
theorem q467 : (Jvm.Cond.codeWith ({ cls := "ChairRanks", name := "drop", desc := "(I)I" } : Jvm.MethodName) prog_1_method_13_code (3 : Nat) (Option.some Jvm.ClassFile.FieldType.int) [((10 : Nat), (32 : Nat), (33 : Nat), (67 : Nat))]) ∈ lw_all := lw_g (lw_at lw_m2 160 rfl) rfl
theorem q469 : (Jvm.Cond.instanceMethod ({ cls := "ChairRanks", name := "feed", desc := "(I)I" } : Jvm.MethodName)) ∈ lw_all := lw_g (lw_at lw_m2 162 rfl) rfl
theorem q470 : (Jvm.Cond.selects "ChairRanks" ({ cls := "ChairRanks", name := "feed", desc := "(I)I" } : Jvm.MethodName) ({ cls := "ChairRanks", name := "feed", desc := "(I)I" } : Jvm.MethodName)) ∈ lw_all := lw_g (lw_at lw_m2 163 rfl) rfl
theorem q471 : (Jvm.Cond.code ({ cls := "ChairRanks", name := "feed", desc := "(I)I" } : Jvm.MethodName) prog_1_method_14_code (2 : Nat) (Option.some Jvm.ClassFile.FieldType.int)) ∈ lw_all := lw_g (lw_at lw_m2 164 rfl) rfl
theorem q472 : (Jvm.Cond.constantLong "ChairRanks" (127 : Nat) (255 : Int64)) ∈ lw_all := lw_g (lw_at lw_m2 165 rfl) rfl
theorem q473 : (Jvm.Cond.constant "ChairRanks" (132 : Nat) (-1000003 : Int32)) ∈ lw_all := lw_g (lw_at lw_m2 166 rfl) rfl
theorem q475 : (Jvm.Cond.instanceMethod ({ cls := "ChairRanks", name := "ministry", desc := "()I" } : Jvm.MethodName)) ∈ lw_all := lw_g (lw_at lw_m2 168 rfl) rfl
theorem q476 : (Jvm.Cond.selects "ChairRanks" ({ cls := "ChairRanks", name := "ministry", desc := "()I" } : Jvm.MethodName) ({ cls := "ChairRanks", name := "ministry", desc := "()I" } : Jvm.MethodName)) ∈ lw_all := lw_g (lw_at lw_m2 169 rfl) rfl
theorem q477 : (Jvm.Cond.codeWith ({ cls := "ChairRanks", name := "ministry", desc := "()I" } : Jvm.MethodName) prog_1_method_15_code (3 : Nat) (Option.some Jvm.ClassFile.FieldType.int) [((21 : Nat), (25 : Nat), (28 : Nat), (141 : Nat))]) ∈ lw_all := lw_g (lw_at lw_m2 170 rfl) rfl
theorem q478 : (Jvm.Cond.classLink "ChairRanks" (141 : Nat) "ChairRanks$Fault") ∈ lw_all := lw_g (lw_at lw_m2 171 rfl) rfl
theorem q479 : (Jvm.Cond.classLink "ChairRanks" (133 : Nat) "ChairRanks$Reader") ∈ lw_all := lw_g (lw_at lw_m2 172 rfl) rfl
theorem q481 : (Jvm.Cond.methodLink "ChairRanks" (135 : Nat) ({ cls := "ChairRanks$Reader", name := "<init>", desc := "([BI)V" } : Jvm.MethodName)) ∈ lw_all := lw_g (lw_at lw_m2 174 rfl) rfl
theorem q494 : (Jvm.Cond.fieldLink "ChairRanks" (153 : Nat) "ChairRanks$Reader" "made" "LChairRanks$Ministry;") ∈ lw_all := lw_g (lw_at lw_m2 187 rfl) rfl
theorem q510 : (Jvm.Cond.methodLink "ChairRanks" (138 : Nat) ({ cls := "ChairRanks$Reader", name := "all", desc := "()V" } : Jvm.MethodName)) ∈ lw_all := lw_g (lw_at lw_m2 203 rfl) rfl
theorem q550 : (Jvm.Cond.fieldLink "ChairRanks" (143 : Nat) "ChairRanks$Fault" "kind" "I") ∈ lw_all := lw_g (lw_at lw_m3 3 rfl) rfl
theorem q552 : (Jvm.Cond.fieldLink "ChairRanks" (150 : Nat) "ChairRanks$Fault" "place" "I") ∈ lw_all := lw_g (lw_at lw_m3 5 rfl) rfl
theorem q650 : (Jvm.Cond.static ({ cls := "ChairRanks", name := "chairBy", desc := "(II)LChairRanks$Chair;" } : Jvm.MethodName)) ∈ lw_all := lw_g (lw_at lw_m3 103 rfl) rfl
theorem q651 : (Jvm.Cond.code ({ cls := "ChairRanks", name := "chairBy", desc := "(II)LChairRanks$Chair;" } : Jvm.MethodName) prog_1_method_3_code (2 : Nat) (Option.some (Jvm.ClassFile.FieldType.object "ChairRanks$Chair"))) ∈ lw_all := lw_g (lw_at lw_m3 104 rfl) rfl
theorem q689 : (Jvm.Cond.selects "ChairRanks" ({ cls := "java/lang/Object", name := "getClass", desc := "()Ljava/lang/Class;" } : Jvm.MethodName) ({ cls := "java/lang/Object", name := "getClass", desc := "()Ljava/lang/Class;" } : Jvm.MethodName)) ∈ lw_all := lw_g (lw_at lw_m3 142 rfl) rfl
theorem q718 : (Jvm.Cond.constant "ChairRanks" (149 : Nat) (-1000100 : Int32)) ∈ lw_all := lw_g (lw_at lw_m3 171 rfl) rfl
theorem q719 : (Jvm.Cond.methodLink "ChairRanks" (156 : Nat) ({ cls := "ChairRanks$Ministry", name := "become", desc := "(LChairRanks$Ministry;)LChairRanks$Ministry;" } : Jvm.MethodName)) ∈ lw_all := lw_g (lw_at lw_m3 172 rfl) rfl
theorem q724 : (Jvm.Cond.methodLink "ChairRanks" (163 : Nat) ({ cls := "ChairRanks$Ministry", name := "many", desc := "()I" } : Jvm.MethodName)) ∈ lw_all := lw_g (lw_at lw_m3 177 rfl) rfl
theorem q726 : (Jvm.Cond.instanceMethod ({ cls := "ChairRanks", name := "fault", desc := "()I" } : Jvm.MethodName)) ∈ lw_all := lw_g (lw_at lw_m3 179 rfl) rfl
theorem q727 : (Jvm.Cond.selects "ChairRanks" ({ cls := "ChairRanks", name := "fault", desc := "()I" } : Jvm.MethodName) ({ cls := "ChairRanks", name := "fault", desc := "()I" } : Jvm.MethodName)) ∈ lw_all := lw_g (lw_at lw_m3 180 rfl) rfl
theorem q728 : (Jvm.Cond.code ({ cls := "ChairRanks", name := "fault", desc := "()I" } : Jvm.MethodName) prog_1_method_16_code (1 : Nat) (Option.some Jvm.ClassFile.FieldType.int)) ∈ lw_all := lw_g (lw_at lw_m3 181 rfl) rfl
theorem q730 : (Jvm.Cond.instanceMethod ({ cls := "ChairRanks", name := "undo", desc := "()I" } : Jvm.MethodName)) ∈ lw_all := lw_g (lw_at lw_m3 183 rfl) rfl
theorem q731 : (Jvm.Cond.selects "ChairRanks" ({ cls := "ChairRanks", name := "undo", desc := "()I" } : Jvm.MethodName) ({ cls := "ChairRanks", name := "undo", desc := "()I" } : Jvm.MethodName)) ∈ lw_all := lw_g (lw_at lw_m3 184 rfl) rfl
theorem q732 : (Jvm.Cond.code ({ cls := "ChairRanks", name := "undo", desc := "()I" } : Jvm.MethodName) prog_1_method_19_code (1 : Nat) (Option.some Jvm.ClassFile.FieldType.int)) ∈ lw_all := lw_g (lw_at lw_m3 185 rfl) rfl
theorem q733 : (Jvm.Cond.constant "ChairRanks" (167 : Nat) (-1000002 : Int32)) ∈ lw_all := lw_g (lw_at lw_m3 186 rfl) rfl
theorem q735 : (Jvm.Cond.instanceMethod ({ cls := "ChairRanks", name := "nights", desc := "(I)I" } : Jvm.MethodName)) ∈ lw_all := lw_g (lw_at lw_m3 188 rfl) rfl
theorem q736 : (Jvm.Cond.selects "ChairRanks" ({ cls := "ChairRanks", name := "nights", desc := "(I)I" } : Jvm.MethodName) ({ cls := "ChairRanks", name := "nights", desc := "(I)I" } : Jvm.MethodName)) ∈ lw_all := lw_g (lw_at lw_m3 189 rfl) rfl
theorem q737 : (Jvm.Cond.code ({ cls := "ChairRanks", name := "nights", desc := "(I)I" } : Jvm.MethodName) prog_1_method_25_code (3 : Nat) (Option.some Jvm.ClassFile.FieldType.int)) ∈ lw_all := lw_g (lw_at lw_m3 190 rfl) rfl
theorem q738 : (Jvm.Cond.methodLink "ChairRanks" (177 : Nat) ({ cls := "ChairRanks", name := "isMinistry", desc := "()Z" } : Jvm.MethodName)) ∈ lw_all := lw_g (lw_at lw_m3 191 rfl) rfl
theorem q739 : (Jvm.Cond.privateMethod ({ cls := "ChairRanks", name := "isMinistry", desc := "()Z" } : Jvm.MethodName)) ∈ lw_tbl := lw_at lw_m3 192 rfl
theorem q740 : (Jvm.Cond.instanceMethod ({ cls := "ChairRanks", name := "isMinistry", desc := "()Z" } : Jvm.MethodName)) ∈ lw_all := lw_g (lw_at lw_m3 193 rfl) rfl
theorem q741 : (Jvm.Cond.code ({ cls := "ChairRanks", name := "isMinistry", desc := "()Z" } : Jvm.MethodName) prog_1_method_20_code (1 : Nat) (Option.some Jvm.ClassFile.FieldType.boolean)) ∈ lw_all := lw_g (lw_at lw_m3 194 rfl) rfl
theorem q742 : (Jvm.Cond.constantLong "ChairRanks" (181 : Nat) (24 : Int64)) ∈ lw_all := lw_g (lw_at lw_m3 195 rfl) rfl
theorem q743 : (Jvm.Cond.methodLink "ChairRanks" (186 : Nat) ({ cls := "ChairRanks", name := "keep", desc := "()V" } : Jvm.MethodName)) ∈ lw_all := lw_g (lw_at lw_m3 196 rfl) rfl
theorem q744 : (Jvm.Cond.privateMethod ({ cls := "ChairRanks", name := "keep", desc := "()V" } : Jvm.MethodName)) ∈ lw_tbl := lw_at lw_m3 197 rfl
theorem q745 : (Jvm.Cond.instanceMethod ({ cls := "ChairRanks", name := "keep", desc := "()V" } : Jvm.MethodName)) ∈ lw_all := lw_g (lw_at lw_m3 198 rfl) rfl
theorem q746 : (Jvm.Cond.code ({ cls := "ChairRanks", name := "keep", desc := "()V" } : Jvm.MethodName) prog_1_method_18_code (3 : Nat) (Option.none : Option Jvm.ClassFile.FieldType)) ∈ lw_all := lw_g (lw_at lw_m3 199 rfl) rfl
theorem q747 : (Jvm.Cond.methodLink "ChairRanks" (189 : Nat) ({ cls := "ChairRanks$Ministry", name := "pass", desc := "()LChairRanks$Ministry;" } : Jvm.MethodName)) ∈ lw_all := lw_g (lw_at lw_m3 200 rfl) rfl
theorem q836 : (Jvm.Cond.methodLink "ChairRanks" (193 : Nat) ({ cls := "ChairRanks$Ministry", name := "ranked", desc := "(I)I" } : Jvm.MethodName)) ∈ lw_all := lw_g (lw_at lw_m4 49 rfl) rfl
theorem q838 : (Jvm.Cond.instanceMethod ({ cls := "ChairRanks", name := "cushions", desc := "(II)I" } : Jvm.MethodName)) ∈ lw_all := lw_g (lw_at lw_m4 51 rfl) rfl
theorem q839 : (Jvm.Cond.selects "ChairRanks" ({ cls := "ChairRanks", name := "cushions", desc := "(II)I" } : Jvm.MethodName) ({ cls := "ChairRanks", name := "cushions", desc := "(II)I" } : Jvm.MethodName)) ∈ lw_all := lw_g (lw_at lw_m4 52 rfl) rfl
theorem q840 : (Jvm.Cond.code ({ cls := "ChairRanks", name := "cushions", desc := "(II)I" } : Jvm.MethodName) prog_1_method_27_code (3 : Nat) (Option.some Jvm.ClassFile.FieldType.int)) ∈ lw_all := lw_g (lw_at lw_m4 53 rfl) rfl
theorem q841 : (Jvm.Cond.methodLink "ChairRanks" (196 : Nat) ({ cls := "ChairRanks", name := "isChair", desc := "(I)Z" } : Jvm.MethodName)) ∈ lw_all := lw_g (lw_at lw_m4 54 rfl) rfl
theorem q842 : (Jvm.Cond.privateMethod ({ cls := "ChairRanks", name := "isChair", desc := "(I)Z" } : Jvm.MethodName)) ∈ lw_tbl := lw_at lw_m4 55 rfl
theorem q843 : (Jvm.Cond.instanceMethod ({ cls := "ChairRanks", name := "isChair", desc := "(I)Z" } : Jvm.MethodName)) ∈ lw_all := lw_g (lw_at lw_m4 56 rfl) rfl
theorem q844 : (Jvm.Cond.code ({ cls := "ChairRanks", name := "isChair", desc := "(I)Z" } : Jvm.MethodName) prog_1_method_21_code (2 : Nat) (Option.some Jvm.ClassFile.FieldType.boolean)) ∈ lw_all := lw_g (lw_at lw_m4 57 rfl) rfl
theorem q845 : (Jvm.Cond.constantLong "ChairRanks" (199 : Nat) (20 : Int64)) ∈ lw_all := lw_g (lw_at lw_m4 58 rfl) rfl
theorem q846 : (Jvm.Cond.methodLink "ChairRanks" (204 : Nat) ({ cls := "ChairRanks", name := "puts", desc := "([III)I" } : Jvm.MethodName)) ∈ lw_all := lw_g (lw_at lw_m4 59 rfl) rfl
theorem q847 : (Jvm.Cond.privateMethod ({ cls := "ChairRanks", name := "puts", desc := "([III)I" } : Jvm.MethodName)) ∈ lw_tbl := lw_at lw_m4 60 rfl
theorem q848 : (Jvm.Cond.instanceMethod ({ cls := "ChairRanks", name := "puts", desc := "([III)I" } : Jvm.MethodName)) ∈ lw_all := lw_g (lw_at lw_m4 61 rfl) rfl
theorem q849 : (Jvm.Cond.code ({ cls := "ChairRanks", name := "puts", desc := "([III)I" } : Jvm.MethodName) prog_1_method_26_code (5 : Nat) (Option.some Jvm.ClassFile.FieldType.int)) ∈ lw_all := lw_g (lw_at lw_m4 62 rfl) rfl
theorem q851 : (Jvm.Cond.instanceMethod ({ cls := "ChairRanks", name := "mend", desc := "(I)I" } : Jvm.MethodName)) ∈ lw_all := lw_g (lw_at lw_m4 64 rfl) rfl
theorem q852 : (Jvm.Cond.selects "ChairRanks" ({ cls := "ChairRanks", name := "mend", desc := "(I)I" } : Jvm.MethodName) ({ cls := "ChairRanks", name := "mend", desc := "(I)I" } : Jvm.MethodName)) ∈ lw_all := lw_g (lw_at lw_m4 65 rfl) rfl
theorem q853 : (Jvm.Cond.code ({ cls := "ChairRanks", name := "mend", desc := "(I)I" } : Jvm.MethodName) prog_1_method_28_code (2 : Nat) (Option.some Jvm.ClassFile.FieldType.int)) ∈ lw_all := lw_g (lw_at lw_m4 66 rfl) rfl
theorem q854 : (Jvm.Cond.methodLink "ChairRanks" (211 : Nat) ({ cls := "ChairRanks$Ministry", name := "mend", desc := "(I)I" } : Jvm.MethodName)) ∈ lw_all := lw_g (lw_at lw_m4 67 rfl) rfl
theorem q860 : (Jvm.Cond.instanceMethod ({ cls := "ChairRanks", name := "watch", desc := "(II)I" } : Jvm.MethodName)) ∈ lw_all := lw_g (lw_at lw_m4 73 rfl) rfl
theorem q861 : (Jvm.Cond.selects "ChairRanks" ({ cls := "ChairRanks", name := "watch", desc := "(II)I" } : Jvm.MethodName) ({ cls := "ChairRanks", name := "watch", desc := "(II)I" } : Jvm.MethodName)) ∈ lw_all := lw_g (lw_at lw_m4 74 rfl) rfl
theorem q862 : (Jvm.Cond.code ({ cls := "ChairRanks", name := "watch", desc := "(II)I" } : Jvm.MethodName) prog_1_method_29_code (3 : Nat) (Option.some Jvm.ClassFile.FieldType.int)) ∈ lw_all := lw_g (lw_at lw_m4 75 rfl) rfl
theorem q863 : (Jvm.Cond.methodLink "ChairRanks" (214 : Nat) ({ cls := "ChairRanks", name := "isHalf", desc := "(I)Z" } : Jvm.MethodName)) ∈ lw_all := lw_g (lw_at lw_m4 76 rfl) rfl
theorem q864 : (Jvm.Cond.static ({ cls := "ChairRanks", name := "isHalf", desc := "(I)Z" } : Jvm.MethodName)) ∈ lw_all := lw_g (lw_at lw_m4 77 rfl) rfl
theorem q865 : (Jvm.Cond.code ({ cls := "ChairRanks", name := "isHalf", desc := "(I)Z" } : Jvm.MethodName) prog_1_method_17_code (1 : Nat) (Option.some Jvm.ClassFile.FieldType.boolean)) ∈ lw_all := lw_g (lw_at lw_m4 78 rfl) rfl
theorem q866 : (Jvm.Cond.methodLink "ChairRanks" (220 : Nat) ({ cls := "java/lang/Integer", name := "bitCount", desc := "(I)I" } : Jvm.MethodName)) ∈ lw_all := lw_g (lw_at lw_m4 79 rfl) rfl
theorem q873 : (Jvm.Cond.instanceMethod ({ cls := "ChairRanks", name := "change", desc := "(II)I" } : Jvm.MethodName)) ∈ lw_all := lw_g (lw_at lw_m4 86 rfl) rfl
theorem q874 : (Jvm.Cond.selects "ChairRanks" ({ cls := "ChairRanks", name := "change", desc := "(II)I" } : Jvm.MethodName) ({ cls := "ChairRanks", name := "change", desc := "(II)I" } : Jvm.MethodName)) ∈ lw_all := lw_g (lw_at lw_m4 87 rfl) rfl
theorem q875 : (Jvm.Cond.code ({ cls := "ChairRanks", name := "change", desc := "(II)I" } : Jvm.MethodName) prog_1_method_30_code (3 : Nat) (Option.some Jvm.ClassFile.FieldType.int)) ∈ lw_all := lw_g (lw_at lw_m4 88 rfl) rfl
theorem q876 : (Jvm.Cond.methodLink "ChairRanks" (228 : Nat) ({ cls := "ChairRanks$Ministry", name := "change", desc := "(II)V" } : Jvm.MethodName)) ∈ lw_all := lw_g (lw_at lw_m4 89 rfl) rfl
theorem q883 : (Jvm.Cond.methodLink "ChairRanks" (231 : Nat) ({ cls := "ChairRanks$Ministry", name := "victim", desc := "(I)I" } : Jvm.MethodName)) ∈ lw_all := lw_g (lw_at lw_m4 96 rfl) rfl
theorem q885 : (Jvm.Cond.instanceMethod ({ cls := "ChairRanks", name := "saw", desc := "(II)I" } : Jvm.MethodName)) ∈ lw_all := lw_g (lw_at lw_m4 98 rfl) rfl
theorem q886 : (Jvm.Cond.selects "ChairRanks" ({ cls := "ChairRanks", name := "saw", desc := "(II)I" } : Jvm.MethodName) ({ cls := "ChairRanks", name := "saw", desc := "(II)I" } : Jvm.MethodName)) ∈ lw_all := lw_g (lw_at lw_m4 99 rfl) rfl
theorem q887 : (Jvm.Cond.code ({ cls := "ChairRanks", name := "saw", desc := "(II)I" } : Jvm.MethodName) prog_1_method_31_code (3 : Nat) (Option.some Jvm.ClassFile.FieldType.int)) ∈ lw_all := lw_g (lw_at lw_m4 100 rfl) rfl
theorem q888 : (Jvm.Cond.constantLong "ChairRanks" (234 : Nat) (9 : Int64)) ∈ lw_all := lw_g (lw_at lw_m4 101 rfl) rfl
theorem q890 : (Jvm.Cond.instanceMethod ({ cls := "ChairRanks", name := "chair", desc := "(II)I" } : Jvm.MethodName)) ∈ lw_all := lw_g (lw_at lw_m4 103 rfl) rfl
theorem q891 : (Jvm.Cond.selects "ChairRanks" ({ cls := "ChairRanks", name := "chair", desc := "(II)I" } : Jvm.MethodName) ({ cls := "ChairRanks", name := "chair", desc := "(II)I" } : Jvm.MethodName)) ∈ lw_all := lw_g (lw_at lw_m4 104 rfl) rfl
theorem q892 : (Jvm.Cond.code ({ cls := "ChairRanks", name := "chair", desc := "(II)I" } : Jvm.MethodName) prog_1_method_32_code (3 : Nat) (Option.some Jvm.ClassFile.FieldType.int)) ∈ lw_all := lw_g (lw_at lw_m4 105 rfl) rfl
theorem q893 : (Jvm.Cond.methodLink "ChairRanks" (239 : Nat) ({ cls := "ChairRanks$Ministry", name := "high", desc := "(I)I" } : Jvm.MethodName)) ∈ lw_all := lw_g (lw_at lw_m4 106 rfl) rfl
theorem q894 : (Jvm.Cond.methodLink "ChairRanks" (242 : Nat) ({ cls := "ChairRanks$Ministry", name := "rank", desc := "(I)I" } : Jvm.MethodName)) ∈ lw_all := lw_g (lw_at lw_m4 107 rfl) rfl
theorem q896 : (Jvm.Cond.instanceMethod ({ cls := "ChairRanks", name := "ranked", desc := "(I)I" } : Jvm.MethodName)) ∈ lw_all := lw_g (lw_at lw_m4 109 rfl) rfl
theorem q897 : (Jvm.Cond.selects "ChairRanks" ({ cls := "ChairRanks", name := "ranked", desc := "(I)I" } : Jvm.MethodName) ({ cls := "ChairRanks", name := "ranked", desc := "(I)I" } : Jvm.MethodName)) ∈ lw_all := lw_g (lw_at lw_m4 110 rfl) rfl
theorem q898 : (Jvm.Cond.code ({ cls := "ChairRanks", name := "ranked", desc := "(I)I" } : Jvm.MethodName) prog_1_method_33_code (2 : Nat) (Option.some Jvm.ClassFile.FieldType.int)) ∈ lw_all := lw_g (lw_at lw_m4 111 rfl) rfl
theorem q900 : (Jvm.Cond.instanceMethod ({ cls := "ChairRanks", name := "ahead", desc := "(III)I" } : Jvm.MethodName)) ∈ lw_all := lw_g (lw_at lw_m4 113 rfl) rfl
theorem q901 : (Jvm.Cond.selects "ChairRanks" ({ cls := "ChairRanks", name := "ahead", desc := "(III)I" } : Jvm.MethodName) ({ cls := "ChairRanks", name := "ahead", desc := "(III)I" } : Jvm.MethodName)) ∈ lw_all := lw_g (lw_at lw_m4 114 rfl) rfl
theorem q902 : (Jvm.Cond.code ({ cls := "ChairRanks", name := "ahead", desc := "(III)I" } : Jvm.MethodName) prog_1_method_36_code (4 : Nat) (Option.some Jvm.ClassFile.FieldType.int)) ∈ lw_all := lw_g (lw_at lw_m4 115 rfl) rfl
theorem q903 : (Jvm.Cond.methodLink "ChairRanks" (251 : Nat) ({ cls := "ChairRanks", name := "isFar", desc := "(I)Z" } : Jvm.MethodName)) ∈ lw_all := lw_g (lw_at lw_m4 116 rfl) rfl
theorem q904 : (Jvm.Cond.static ({ cls := "ChairRanks", name := "isFar", desc := "(I)Z" } : Jvm.MethodName)) ∈ lw_all := lw_g (lw_at lw_m4 117 rfl) rfl
theorem q905 : (Jvm.Cond.code ({ cls := "ChairRanks", name := "isFar", desc := "(I)Z" } : Jvm.MethodName) prog_1_method_23_code (1 : Nat) (Option.some Jvm.ClassFile.FieldType.boolean)) ∈ lw_all := lw_g (lw_at lw_m4 118 rfl) rfl
theorem q906 : (Jvm.Cond.constantLong "ChairRanks" (173 : Nat) (60 : Int64)) ∈ lw_all := lw_g (lw_at lw_m4 119 rfl) rfl
theorem q907 : (Jvm.Cond.methodLink "ChairRanks" (254 : Nat) ({ cls := "ChairRanks", name := "tried", desc := "()LChairRanks$Ministry;" } : Jvm.MethodName)) ∈ lw_all := lw_g (lw_at lw_m4 120 rfl) rfl
theorem q908 : (Jvm.Cond.privateMethod ({ cls := "ChairRanks", name := "tried", desc := "()LChairRanks$Ministry;" } : Jvm.MethodName)) ∈ lw_tbl := lw_at lw_m4 121 rfl
theorem q909 : (Jvm.Cond.instanceMethod ({ cls := "ChairRanks", name := "tried", desc := "()LChairRanks$Ministry;" } : Jvm.MethodName)) ∈ lw_all := lw_g (lw_at lw_m4 122 rfl) rfl
theorem q910 : (Jvm.Cond.code ({ cls := "ChairRanks", name := "tried", desc := "()LChairRanks$Ministry;" } : Jvm.MethodName) prog_1_method_34_code (1 : Nat) (Option.some (Jvm.ClassFile.FieldType.object "ChairRanks$Ministry"))) ∈ lw_all := lw_g (lw_at lw_m4 123 rfl) rfl
theorem q911 : (Jvm.Cond.methodLink "ChairRanks" (257 : Nat) ({ cls := "ChairRanks", name := "goOn", desc := "(I)LChairRanks$Ministry;" } : Jvm.MethodName)) ∈ lw_all := lw_g (lw_at lw_m4 124 rfl) rfl
theorem q912 : (Jvm.Cond.privateMethod ({ cls := "ChairRanks", name := "goOn", desc := "(I)LChairRanks$Ministry;" } : Jvm.MethodName)) ∈ lw_tbl := lw_at lw_m4 125 rfl
theorem q913 : (Jvm.Cond.instanceMethod ({ cls := "ChairRanks", name := "goOn", desc := "(I)LChairRanks$Ministry;" } : Jvm.MethodName)) ∈ lw_all := lw_g (lw_at lw_m4 126 rfl) rfl
theorem q914 : (Jvm.Cond.code ({ cls := "ChairRanks", name := "goOn", desc := "(I)LChairRanks$Ministry;" } : Jvm.MethodName) prog_1_method_35_code (3 : Nat) (Option.some (Jvm.ClassFile.FieldType.object "ChairRanks$Ministry"))) ∈ lw_all := lw_g (lw_at lw_m4 127 rfl) rfl
theorem q916 : (Jvm.Cond.instanceMethod ({ cls := "ChairRanks", name := "minister", desc := "(I)I" } : Jvm.MethodName)) ∈ lw_all := lw_g (lw_at lw_m4 129 rfl) rfl
theorem q917 : (Jvm.Cond.selects "ChairRanks" ({ cls := "ChairRanks", name := "minister", desc := "(I)I" } : Jvm.MethodName) ({ cls := "ChairRanks", name := "minister", desc := "(I)I" } : Jvm.MethodName)) ∈ lw_all := lw_g (lw_at lw_m4 130 rfl) rfl
theorem q918 : (Jvm.Cond.code ({ cls := "ChairRanks", name := "minister", desc := "(I)I" } : Jvm.MethodName) prog_1_method_37_code (2 : Nat) (Option.some Jvm.ClassFile.FieldType.int)) ∈ lw_all := lw_g (lw_at lw_m4 131 rfl) rfl
theorem q920 : (Jvm.Cond.instanceMethod ({ cls := "ChairRanks", name := "floor", desc := "(I)I" } : Jvm.MethodName)) ∈ lw_all := lw_g (lw_at lw_m4 133 rfl) rfl
theorem q921 : (Jvm.Cond.selects "ChairRanks" ({ cls := "ChairRanks", name := "floor", desc := "(I)I" } : Jvm.MethodName) ({ cls := "ChairRanks", name := "floor", desc := "(I)I" } : Jvm.MethodName)) ∈ lw_all := lw_g (lw_at lw_m4 134 rfl) rfl
theorem q922 : (Jvm.Cond.code ({ cls := "ChairRanks", name := "floor", desc := "(I)I" } : Jvm.MethodName) prog_1_method_38_code (3 : Nat) (Option.some Jvm.ClassFile.FieldType.int)) ∈ lw_all := lw_g (lw_at lw_m4 135 rfl) rfl
theorem q923 : (Jvm.Cond.constant "ChairRanks" (261 : Nat) (-1000000 : Int32)) ∈ lw_all := lw_g (lw_at lw_m4 136 rfl) rfl
theorem q925 : (Jvm.Cond.instanceMethod ({ cls := "ChairRanks", name := "rises", desc := "(II)I" } : Jvm.MethodName)) ∈ lw_all := lw_g (lw_at lw_m4 138 rfl) rfl
theorem q926 : (Jvm.Cond.selects "ChairRanks" ({ cls := "ChairRanks", name := "rises", desc := "(II)I" } : Jvm.MethodName) ({ cls := "ChairRanks", name := "rises", desc := "(II)I" } : Jvm.MethodName)) ∈ lw_all := lw_g (lw_at lw_m4 139 rfl) rfl
theorem q927 : (Jvm.Cond.code ({ cls := "ChairRanks", name := "rises", desc := "(II)I" } : Jvm.MethodName) prog_1_method_39_code (4 : Nat) (Option.some Jvm.ClassFile.FieldType.int)) ∈ lw_all := lw_g (lw_at lw_m4 140 rfl) rfl
theorem q928 : (Jvm.Cond.methodLink "ChairRanks" (262 : Nat) ({ cls := "ChairRanks", name := "isRank", desc := "(I)Z" } : Jvm.MethodName)) ∈ lw_all := lw_g (lw_at lw_m4 141 rfl) rfl
theorem q929 : (Jvm.Cond.static ({ cls := "ChairRanks", name := "isRank", desc := "(I)Z" } : Jvm.MethodName)) ∈ lw_all := lw_g (lw_at lw_m4 142 rfl) rfl
theorem q930 : (Jvm.Cond.code ({ cls := "ChairRanks", name := "isRank", desc := "(I)Z" } : Jvm.MethodName) prog_1_method_22_code (1 : Nat) (Option.some Jvm.ClassFile.FieldType.boolean)) ∈ lw_all := lw_g (lw_at lw_m4 143 rfl) rfl
theorem q931 : (Jvm.Cond.constantLong "ChairRanks" (171 : Nat) (5 : Int64)) ∈ lw_all := lw_g (lw_at lw_m4 144 rfl) rfl
theorem q933 : (Jvm.Cond.instanceMethod ({ cls := "ChairRanks", name := "calm", desc := "()I" } : Jvm.MethodName)) ∈ lw_all := lw_g (lw_at lw_m4 146 rfl) rfl
theorem q934 : (Jvm.Cond.selects "ChairRanks" ({ cls := "ChairRanks", name := "calm", desc := "()I" } : Jvm.MethodName) ({ cls := "ChairRanks", name := "calm", desc := "()I" } : Jvm.MethodName)) ∈ lw_all := lw_g (lw_at lw_m4 147 rfl) rfl
theorem q935 : (Jvm.Cond.code ({ cls := "ChairRanks", name := "calm", desc := "()I" } : Jvm.MethodName) prog_1_method_40_code (3 : Nat) (Option.some Jvm.ClassFile.FieldType.int)) ∈ lw_all := lw_g (lw_at lw_m4 148 rfl) rfl
theorem q936 : (Jvm.Cond.methodLink "ChairRanks" (265 : Nat) ({ cls := "ChairRanks$Ministry", name := "allLegs", desc := "()I" } : Jvm.MethodName)) ∈ lw_all := lw_g (lw_at lw_m4 149 rfl) rfl
theorem q941 : (Jvm.Cond.instanceMethod ({ cls := "ChairRanks", name := "cushionFor", desc := "(III)I" } : Jvm.MethodName)) ∈ lw_all := lw_g (lw_at lw_m4 154 rfl) rfl
theorem q942 : (Jvm.Cond.selects "ChairRanks" ({ cls := "ChairRanks", name := "cushionFor", desc := "(III)I" } : Jvm.MethodName) ({ cls := "ChairRanks", name := "cushionFor", desc := "(III)I" } : Jvm.MethodName)) ∈ lw_all := lw_g (lw_at lw_m4 155 rfl) rfl
theorem q943 : (Jvm.Cond.code ({ cls := "ChairRanks", name := "cushionFor", desc := "(III)I" } : Jvm.MethodName) prog_1_method_42_code (5 : Nat) (Option.some Jvm.ClassFile.FieldType.int)) ∈ lw_all := lw_g (lw_at lw_m4 156 rfl) rfl
theorem q944 : (Jvm.Cond.methodLink "ChairRanks" (268 : Nat) ({ cls := "ChairRanks", name := "isNear", desc := "(I)Z" } : Jvm.MethodName)) ∈ lw_all := lw_g (lw_at lw_m4 157 rfl) rfl
theorem q945 : (Jvm.Cond.static ({ cls := "ChairRanks", name := "isNear", desc := "(I)Z" } : Jvm.MethodName)) ∈ lw_all := lw_g (lw_at lw_m4 158 rfl) rfl
theorem q946 : (Jvm.Cond.code ({ cls := "ChairRanks", name := "isNear", desc := "(I)Z" } : Jvm.MethodName) prog_1_method_24_code (1 : Nat) (Option.some Jvm.ClassFile.FieldType.boolean)) ∈ lw_all := lw_g (lw_at lw_m4 159 rfl) rfl
theorem q947 : (Jvm.Cond.constantLong "ChairRanks" (175 : Nat) (30 : Int64)) ∈ lw_all := lw_g (lw_at lw_m4 160 rfl) rfl
theorem q948 : (Jvm.Cond.methodLink "ChairRanks" (271 : Nat) ({ cls := "ChairRanks", name := "isHighIn", desc := "(III)Z" } : Jvm.MethodName)) ∈ lw_all := lw_g (lw_at lw_m4 161 rfl) rfl
theorem q949 : (Jvm.Cond.privateMethod ({ cls := "ChairRanks", name := "isHighIn", desc := "(III)Z" } : Jvm.MethodName)) ∈ lw_tbl := lw_at lw_m4 162 rfl
theorem q950 : (Jvm.Cond.instanceMethod ({ cls := "ChairRanks", name := "isHighIn", desc := "(III)Z" } : Jvm.MethodName)) ∈ lw_all := lw_g (lw_at lw_m4 163 rfl) rfl
theorem q951 : (Jvm.Cond.code ({ cls := "ChairRanks", name := "isHighIn", desc := "(III)Z" } : Jvm.MethodName) prog_1_method_41_code (4 : Nat) (Option.some Jvm.ClassFile.FieldType.boolean)) ∈ lw_all := lw_g (lw_at lw_m4 164 rfl) rfl
theorem q953 : (Jvm.Cond.instanceMethod ({ cls := "ChairRanks", name := "guard", desc := "(IIII)I" } : Jvm.MethodName)) ∈ lw_all := lw_g (lw_at lw_m4 166 rfl) rfl
theorem q954 : (Jvm.Cond.selects "ChairRanks" ({ cls := "ChairRanks", name := "guard", desc := "(IIII)I" } : Jvm.MethodName) ({ cls := "ChairRanks", name := "guard", desc := "(IIII)I" } : Jvm.MethodName)) ∈ lw_all := lw_g (lw_at lw_m4 167 rfl) rfl
theorem q955 : (Jvm.Cond.code ({ cls := "ChairRanks", name := "guard", desc := "(IIII)I" } : Jvm.MethodName) prog_1_method_44_code (7 : Nat) (Option.some Jvm.ClassFile.FieldType.int)) ∈ lw_all := lw_g (lw_at lw_m4 168 rfl) rfl
theorem q956 : (Jvm.Cond.methodLink "ChairRanks" (275 : Nat) ({ cls := "ChairRanks", name := "told", desc := "(II)I" } : Jvm.MethodName)) ∈ lw_all := lw_g (lw_at lw_m4 169 rfl) rfl
theorem q957 : (Jvm.Cond.static ({ cls := "ChairRanks", name := "told", desc := "(II)I" } : Jvm.MethodName)) ∈ lw_all := lw_g (lw_at lw_m4 170 rfl) rfl
theorem q958 : (Jvm.Cond.code ({ cls := "ChairRanks", name := "told", desc := "(II)I" } : Jvm.MethodName) prog_1_method_43_code (2 : Nat) (Option.some Jvm.ClassFile.FieldType.int)) ∈ lw_all := lw_g (lw_at lw_m4 171 rfl) rfl
theorem q960 : (Jvm.Cond.instanceMethod ({ cls := "ChairRanks", name := "bestWatch", desc := "(II)I" } : Jvm.MethodName)) ∈ lw_all := lw_g (lw_at lw_m4 173 rfl) rfl
theorem q961 : (Jvm.Cond.selects "ChairRanks" ({ cls := "ChairRanks", name := "bestWatch", desc := "(II)I" } : Jvm.MethodName) ({ cls := "ChairRanks", name := "bestWatch", desc := "(II)I" } : Jvm.MethodName)) ∈ lw_all := lw_g (lw_at lw_m4 174 rfl) rfl
theorem q962 : (Jvm.Cond.code ({ cls := "ChairRanks", name := "bestWatch", desc := "(II)I" } : Jvm.MethodName) prog_1_method_45_code (7 : Nat) (Option.some Jvm.ClassFile.FieldType.int)) ∈ lw_all := lw_g (lw_at lw_m4 175 rfl) rfl
theorem q963 : (Jvm.Cond.methodLink "ChairRanks" (279 : Nat) ({ cls := "java/lang/Math", name := "max", desc := "(II)I" } : Jvm.MethodName)) ∈ lw_all := lw_g (lw_at lw_m4 176 rfl) rfl
theorem q965 : (Jvm.Cond.instanceMethod ({ cls := "ChairRanks", name := "sawdust", desc := "(II)I" } : Jvm.MethodName)) ∈ lw_all := lw_g (lw_at lw_m4 178 rfl) rfl
theorem q966 : (Jvm.Cond.selects "ChairRanks" ({ cls := "ChairRanks", name := "sawdust", desc := "(II)I" } : Jvm.MethodName) ({ cls := "ChairRanks", name := "sawdust", desc := "(II)I" } : Jvm.MethodName)) ∈ lw_all := lw_g (lw_at lw_m4 179 rfl) rfl
theorem q967 : (Jvm.Cond.codeWith ({ cls := "ChairRanks", name := "sawdust", desc := "(II)I" } : Jvm.MethodName) prog_1_method_49_code (4 : Nat) (Option.some Jvm.ClassFile.FieldType.int) [((20 : Nat), (34 : Nat), (35 : Nat), (67 : Nat))]) ∈ lw_all := lw_g (lw_at lw_m4 180 rfl) rfl
theorem q968 : (Jvm.Cond.methodLink "ChairRanks" (298 : Nat) ({ cls := "ChairRanks", name := "orderOf", desc := "(II)[I" } : Jvm.MethodName)) ∈ lw_all := lw_g (lw_at lw_m4 181 rfl) rfl
theorem q969 : (Jvm.Cond.privateMethod ({ cls := "ChairRanks", name := "orderOf", desc := "(II)[I" } : Jvm.MethodName)) ∈ lw_tbl := lw_at lw_m4 182 rfl
theorem q970 : (Jvm.Cond.instanceMethod ({ cls := "ChairRanks", name := "orderOf", desc := "(II)[I" } : Jvm.MethodName)) ∈ lw_all := lw_g (lw_at lw_m4 183 rfl) rfl
theorem q971 : (Jvm.Cond.code ({ cls := "ChairRanks", name := "orderOf", desc := "(II)[I" } : Jvm.MethodName) prog_1_method_46_code (6 : Nat) (Option.some (Jvm.ClassFile.FieldType.array Jvm.ClassFile.FieldType.int))) ∈ lw_all := lw_g (lw_at lw_m4 184 rfl) rfl
theorem q972 : (Jvm.Cond.methodLink "ChairRanks" (284 : Nat) ({ cls := "ChairRanks$Row", name := "row", desc := "(II)[I" } : Jvm.MethodName)) ∈ lw_all := lw_g (lw_at lw_m4 185 rfl) rfl
theorem q978 : (Jvm.Cond.methodLink "ChairRanks" (288 : Nat) ({ cls := "ChairRanks", name := "has", desc := "(II)Z" } : Jvm.MethodName)) ∈ lw_all := lw_g (lw_at lw_m4 191 rfl) rfl
theorem q979 : (Jvm.Cond.static ({ cls := "ChairRanks", name := "has", desc := "(II)Z" } : Jvm.MethodName)) ∈ lw_all := lw_g (lw_at lw_m4 192 rfl) rfl
theorem q980 : (Jvm.Cond.code ({ cls := "ChairRanks", name := "has", desc := "(II)Z" } : Jvm.MethodName) prog_1_method_2_code (2 : Nat) (Option.some Jvm.ClassFile.FieldType.boolean)) ∈ lw_all := lw_g (lw_at lw_m4 193 rfl) rfl
theorem q981 : (Jvm.Cond.methodLink "ChairRanks" (301 : Nat) ({ cls := "ChairRanks", name := "dustOf", desc := "([I)I" } : Jvm.MethodName)) ∈ lw_all := lw_g (lw_at lw_m4 194 rfl) rfl
theorem q982 : (Jvm.Cond.privateMethod ({ cls := "ChairRanks", name := "dustOf", desc := "([I)I" } : Jvm.MethodName)) ∈ lw_tbl := lw_at lw_m4 195 rfl
theorem q983 : (Jvm.Cond.instanceMethod ({ cls := "ChairRanks", name := "dustOf", desc := "([I)I" } : Jvm.MethodName)) ∈ lw_all := lw_g (lw_at lw_m4 196 rfl) rfl
theorem q984 : (Jvm.Cond.code ({ cls := "ChairRanks", name := "dustOf", desc := "([I)I" } : Jvm.MethodName) prog_1_method_48_code (5 : Nat) (Option.some Jvm.ClassFile.FieldType.int)) ∈ lw_all := lw_g (lw_at lw_m4 197 rfl) rfl
theorem q985 : (Jvm.Cond.methodLink "ChairRanks" (295 : Nat) ({ cls := "ChairRanks", name := "cutBelow", desc := "(II)I" } : Jvm.MethodName)) ∈ lw_all := lw_g (lw_at lw_m4 198 rfl) rfl
theorem q986 : (Jvm.Cond.privateMethod ({ cls := "ChairRanks", name := "cutBelow", desc := "(II)I" } : Jvm.MethodName)) ∈ lw_tbl := lw_at lw_m4 199 rfl
theorem q987 : (Jvm.Cond.instanceMethod ({ cls := "ChairRanks", name := "cutBelow", desc := "(II)I" } : Jvm.MethodName)) ∈ lw_all := lw_g (lw_at lw_m4 200 rfl) rfl
theorem q988 : (Jvm.Cond.code ({ cls := "ChairRanks", name := "cutBelow", desc := "(II)I" } : Jvm.MethodName) prog_1_method_47_code (4 : Nat) (Option.some Jvm.ClassFile.FieldType.int)) ∈ lw_all := lw_g (lw_at lw_m4 201 rfl) rfl
theorem q989 : (Jvm.Cond.methodLink "ChairRanks" (292 : Nat) ({ cls := "ChairRanks$Ministry", name := "isHigher", desc := "(II)Z" } : Jvm.MethodName)) ∈ lw_all := lw_g (lw_at lw_m4 202 rfl) rfl
theorem q991 : (Jvm.Cond.instanceMethod ({ cls := "ChairRanks", name := "pile", desc := "(II)I" } : Jvm.MethodName)) ∈ lw_all := lw_g (lw_at lw_m4 204 rfl) rfl
theorem q992 : (Jvm.Cond.selects "ChairRanks" ({ cls := "ChairRanks", name := "pile", desc := "(II)I" } : Jvm.MethodName) ({ cls := "ChairRanks", name := "pile", desc := "(II)I" } : Jvm.MethodName)) ∈ lw_all := lw_g (lw_at lw_m4 205 rfl) rfl
theorem q993 : (Jvm.Cond.codeWith ({ cls := "ChairRanks", name := "pile", desc := "(II)I" } : Jvm.MethodName) prog_1_method_52_code (4 : Nat) (Option.some Jvm.ClassFile.FieldType.int) [((20 : Nat), (34 : Nat), (35 : Nat), (67 : Nat))]) ∈ lw_all := lw_g (lw_at lw_m4 206 rfl) rfl
theorem q994 : (Jvm.Cond.methodLink "ChairRanks" (308 : Nat) ({ cls := "ChairRanks", name := "pileOf", desc := "([I)I" } : Jvm.MethodName)) ∈ lw_all := lw_g (lw_at lw_m4 207 rfl) rfl
theorem q995 : (Jvm.Cond.privateMethod ({ cls := "ChairRanks", name := "pileOf", desc := "([I)I" } : Jvm.MethodName)) ∈ lw_tbl := lw_at lw_m4 208 rfl
theorem q996 : (Jvm.Cond.instanceMethod ({ cls := "ChairRanks", name := "pileOf", desc := "([I)I" } : Jvm.MethodName)) ∈ lw_all := lw_g (lw_at lw_m4 209 rfl) rfl
theorem q997 : (Jvm.Cond.code ({ cls := "ChairRanks", name := "pileOf", desc := "([I)I" } : Jvm.MethodName) prog_1_method_51_code (5 : Nat) (Option.some Jvm.ClassFile.FieldType.int)) ∈ lw_all := lw_g (lw_at lw_m4 210 rfl) rfl
theorem q998 : (Jvm.Cond.methodLink "ChairRanks" (305 : Nat) ({ cls := "ChairRanks", name := "pileAbove", desc := "(II)I" } : Jvm.MethodName)) ∈ lw_all := lw_g (lw_at lw_m4 211 rfl) rfl
theorem q999 : (Jvm.Cond.privateMethod ({ cls := "ChairRanks", name := "pileAbove", desc := "(II)I" } : Jvm.MethodName)) ∈ lw_tbl := lw_at lw_m4 212 rfl
theorem q1000 : (Jvm.Cond.instanceMethod ({ cls := "ChairRanks", name := "pileAbove", desc := "(II)I" } : Jvm.MethodName)) ∈ lw_all := lw_g (lw_at lw_m4 213 rfl) rfl
theorem q1001 : (Jvm.Cond.code ({ cls := "ChairRanks", name := "pileAbove", desc := "(II)I" } : Jvm.MethodName) prog_1_method_50_code (4 : Nat) (Option.some Jvm.ClassFile.FieldType.int)) ∈ lw_all := lw_g (lw_at lw_m4 214 rfl) rfl
theorem q1003 : (Jvm.Cond.instanceMethod ({ cls := "ChairRanks", name := "climb", desc := "(I)I" } : Jvm.MethodName)) ∈ lw_all := lw_g (lw_at lw_m4 216 rfl) rfl
theorem q1004 : (Jvm.Cond.selects "ChairRanks" ({ cls := "ChairRanks", name := "climb", desc := "(I)I" } : Jvm.MethodName) ({ cls := "ChairRanks", name := "climb", desc := "(I)I" } : Jvm.MethodName)) ∈ lw_all := lw_g (lw_at lw_m4 217 rfl) rfl
theorem q1005 : (Jvm.Cond.code ({ cls := "ChairRanks", name := "climb", desc := "(I)I" } : Jvm.MethodName) prog_1_method_53_code (4 : Nat) (Option.some Jvm.ClassFile.FieldType.int)) ∈ lw_all := lw_g (lw_at lw_m4 218 rfl) rfl
theorem q1007 : (Jvm.Cond.instanceMethod ({ cls := "ChairRanks", name := "coalition", desc := "(I)I" } : Jvm.MethodName)) ∈ lw_all := lw_g (lw_at lw_m4 220 rfl) rfl
theorem q1008 : (Jvm.Cond.selects "ChairRanks" ({ cls := "ChairRanks", name := "coalition", desc := "(I)I" } : Jvm.MethodName) ({ cls := "ChairRanks", name := "coalition", desc := "(I)I" } : Jvm.MethodName)) ∈ lw_all := lw_g (lw_at lw_m4 221 rfl) rfl
theorem q1009 : (Jvm.Cond.code ({ cls := "ChairRanks", name := "coalition", desc := "(I)I" } : Jvm.MethodName) prog_1_method_54_code (5 : Nat) (Option.some Jvm.ClassFile.FieldType.int)) ∈ lw_all := lw_g (lw_at lw_m4 222 rfl) rfl
theorem q1010 : (Jvm.Cond.methodLink "ChairRanks" (311 : Nat) ({ cls := "ChairRanks$Ministry", name := "allHigh", desc := "(I)I" } : Jvm.MethodName)) ∈ lw_all := lw_g (lw_at lw_m4 223 rfl) rfl
theorem q1015 : (Jvm.Cond.instanceMethod ({ cls := "ChairRanks", name := "sawnBy", desc := "(I)I" } : Jvm.MethodName)) ∈ lw_all := lw_g (lw_at lw_m4 228 rfl) rfl
theorem q1016 : (Jvm.Cond.selects "ChairRanks" ({ cls := "ChairRanks", name := "sawnBy", desc := "(I)I" } : Jvm.MethodName) ({ cls := "ChairRanks", name := "sawnBy", desc := "(I)I" } : Jvm.MethodName)) ∈ lw_all := lw_g (lw_at lw_m4 229 rfl) rfl
theorem q1017 : (Jvm.Cond.code ({ cls := "ChairRanks", name := "sawnBy", desc := "(I)I" } : Jvm.MethodName) prog_1_method_55_code (4 : Nat) (Option.some Jvm.ClassFile.FieldType.int)) ∈ lw_all := lw_g (lw_at lw_m4 230 rfl) rfl
theorem q1019 : (Jvm.Cond.instanceMethod ({ cls := "ChairRanks", name := "round", desc := "()I" } : Jvm.MethodName)) ∈ lw_all := lw_g (lw_at lw_m4 232 rfl) rfl
theorem q1020 : (Jvm.Cond.selects "ChairRanks" ({ cls := "ChairRanks", name := "round", desc := "()I" } : Jvm.MethodName) ({ cls := "ChairRanks", name := "round", desc := "()I" } : Jvm.MethodName)) ∈ lw_all := lw_g (lw_at lw_m4 233 rfl) rfl
theorem q1021 : (Jvm.Cond.code ({ cls := "ChairRanks", name := "round", desc := "()I" } : Jvm.MethodName) prog_1_method_56_code (4 : Nat) (Option.some Jvm.ClassFile.FieldType.int)) ∈ lw_all := lw_g (lw_at lw_m4 234 rfl) rfl
theorem q1023 : (Jvm.Cond.instanceMethod ({ cls := "ChairRanks", name := "enemy", desc := "(III)I" } : Jvm.MethodName)) ∈ lw_all := lw_g (lw_at lw_m4 236 rfl) rfl
theorem q1024 : (Jvm.Cond.selects "ChairRanks" ({ cls := "ChairRanks", name := "enemy", desc := "(III)I" } : Jvm.MethodName) ({ cls := "ChairRanks", name := "enemy", desc := "(III)I" } : Jvm.MethodName)) ∈ lw_all := lw_g (lw_at lw_m4 237 rfl) rfl
theorem q1025 : (Jvm.Cond.code ({ cls := "ChairRanks", name := "enemy", desc := "(III)I" } : Jvm.MethodName) prog_1_method_57_code (8 : Nat) (Option.some Jvm.ClassFile.FieldType.int)) ∈ lw_all := lw_g (lw_at lw_m4 238 rfl) rfl
theorem q1027 : (Jvm.Cond.instanceMethod ({ cls := "ChairRanks", name := "who", desc := "(IIIIII)I" } : Jvm.MethodName)) ∈ lw_all := lw_g (lw_at lw_m5 0 rfl) rfl
theorem q1028 : (Jvm.Cond.selects "ChairRanks" ({ cls := "ChairRanks", name := "who", desc := "(IIIIII)I" } : Jvm.MethodName) ({ cls := "ChairRanks", name := "who", desc := "(IIIIII)I" } : Jvm.MethodName)) ∈ lw_all := lw_g (lw_at lw_m5 1 rfl) rfl
theorem q1029 : (Jvm.Cond.codeWith ({ cls := "ChairRanks", name := "who", desc := "(IIIIII)I" } : Jvm.MethodName) prog_1_method_61_code (11 : Nat) (Option.some Jvm.ClassFile.FieldType.int) [((47 : Nat), (151 : Nat), (152 : Nat), (67 : Nat))]) ∈ lw_all := lw_g (lw_at lw_m5 2 rfl) rfl
theorem q1030 : (Jvm.Cond.methodLink "ChairRanks" (323 : Nat) ({ cls := "ChairRanks", name := "isTold", desc := "(I)Z" } : Jvm.MethodName)) ∈ lw_all := lw_g (lw_at lw_m5 3 rfl) rfl
theorem q1031 : (Jvm.Cond.static ({ cls := "ChairRanks", name := "isTold", desc := "(I)Z" } : Jvm.MethodName)) ∈ lw_all := lw_g (lw_at lw_m5 4 rfl) rfl
theorem q1032 : (Jvm.Cond.code ({ cls := "ChairRanks", name := "isTold", desc := "(I)Z" } : Jvm.MethodName) prog_1_method_59_code (1 : Nat) (Option.some Jvm.ClassFile.FieldType.boolean)) ∈ lw_all := lw_g (lw_at lw_m5 5 rfl) rfl
theorem q1033 : (Jvm.Cond.constantLong "ChairRanks" (314 : Nat) (12 : Int64)) ∈ lw_all := lw_g (lw_at lw_m5 6 rfl) rfl
theorem q1034 : (Jvm.Cond.methodLink "ChairRanks" (326 : Nat) ({ cls := "ChairRanks", name := "alters", desc := "(III)V" } : Jvm.MethodName)) ∈ lw_all := lw_g (lw_at lw_m5 7 rfl) rfl
theorem q1035 : (Jvm.Cond.privateMethod ({ cls := "ChairRanks", name := "alters", desc := "(III)V" } : Jvm.MethodName)) ∈ lw_tbl := lw_at lw_m5 8 rfl
theorem q1036 : (Jvm.Cond.instanceMethod ({ cls := "ChairRanks", name := "alters", desc := "(III)V" } : Jvm.MethodName)) ∈ lw_all := lw_g (lw_at lw_m5 9 rfl) rfl
theorem q1037 : (Jvm.Cond.code ({ cls := "ChairRanks", name := "alters", desc := "(III)V" } : Jvm.MethodName) prog_1_method_60_code (4 : Nat) (Option.none : Option Jvm.ClassFile.FieldType)) ∈ lw_all := lw_g (lw_at lw_m5 10 rfl) rfl
theorem q1038 : (Jvm.Cond.methodLink "ChairRanks" (330 : Nat) ({ cls := "ChairRanks", name := "isSeen", desc := "(I[I)Z" } : Jvm.MethodName)) ∈ lw_all := lw_g (lw_at lw_m5 11 rfl) rfl
theorem q1039 : (Jvm.Cond.privateMethod ({ cls := "ChairRanks", name := "isSeen", desc := "(I[I)Z" } : Jvm.MethodName)) ∈ lw_tbl := lw_at lw_m5 12 rfl
theorem q1040 : (Jvm.Cond.instanceMethod ({ cls := "ChairRanks", name := "isSeen", desc := "(I[I)Z" } : Jvm.MethodName)) ∈ lw_all := lw_g (lw_at lw_m5 13 rfl) rfl
theorem q1041 : (Jvm.Cond.code ({ cls := "ChairRanks", name := "isSeen", desc := "(I[I)Z" } : Jvm.MethodName) prog_1_method_58_code (5 : Nat) (Option.some Jvm.ClassFile.FieldType.boolean)) ∈ lw_all := lw_g (lw_at lw_m5 14 rfl) rfl
theorem q1043 : (Jvm.Cond.instanceMethod ({ cls := "ChairRanks", name := "guarded", desc := "(IIII)I" } : Jvm.MethodName)) ∈ lw_all := lw_g (lw_at lw_m5 16 rfl) rfl
theorem q1044 : (Jvm.Cond.selects "ChairRanks" ({ cls := "ChairRanks", name := "guarded", desc := "(IIII)I" } : Jvm.MethodName) ({ cls := "ChairRanks", name := "guarded", desc := "(IIII)I" } : Jvm.MethodName)) ∈ lw_all := lw_g (lw_at lw_m5 17 rfl) rfl
theorem q1045 : (Jvm.Cond.codeWith ({ cls := "ChairRanks", name := "guarded", desc := "(IIII)I" } : Jvm.MethodName) prog_1_method_62_code (8 : Nat) (Option.some Jvm.ClassFile.FieldType.int) [((26 : Nat), (143 : Nat), (144 : Nat), (67 : Nat))]) ∈ lw_all := lw_g (lw_at lw_m5 18 rfl) rfl
theorem q1046 : (Jvm.Cond.methodLink "ChairRanks" (334 : Nat) ({ cls := "ChairRanks$Ministry", name := "isWatched", desc := "(I)Z" } : Jvm.MethodName)) ∈ lw_all := lw_g (lw_at lw_m5 19 rfl) rfl
theorem q1048 : (Jvm.Cond.instanceMethod ({ cls := "ChairRanks", name := "doze", desc := "(IIIII)J" } : Jvm.MethodName)) ∈ lw_all := lw_g (lw_at lw_m5 21 rfl) rfl
theorem q1049 : (Jvm.Cond.selects "ChairRanks" ({ cls := "ChairRanks", name := "doze", desc := "(IIIII)J" } : Jvm.MethodName) ({ cls := "ChairRanks", name := "doze", desc := "(IIIII)J" } : Jvm.MethodName)) ∈ lw_all := lw_g (lw_at lw_m5 22 rfl) rfl
theorem q1050 : (Jvm.Cond.code ({ cls := "ChairRanks", name := "doze", desc := "(IIIII)J" } : Jvm.MethodName) prog_1_method_64_code (15 : Nat) (Option.some Jvm.ClassFile.FieldType.long)) ∈ lw_all := lw_g (lw_at lw_m5 23 rfl) rfl
theorem q1051 : (Jvm.Cond.constantLong "ChairRanks" (337 : Nat) (10 : Int64)) ∈ lw_all := lw_g (lw_at lw_m5 24 rfl) rfl
theorem q1052 : (Jvm.Cond.constantLong "ChairRanks" (339 : Nat) (-1000001 : Int64)) ∈ lw_all := lw_g (lw_at lw_m5 25 rfl) rfl
theorem q1053 : (Jvm.Cond.methodLink "ChairRanks" (341 : Nat) ({ cls := "ChairRanks", name := "common", desc := "(JJ)J" } : Jvm.MethodName)) ∈ lw_all := lw_g (lw_at lw_m5 26 rfl) rfl
theorem q1054 : (Jvm.Cond.static ({ cls := "ChairRanks", name := "common", desc := "(JJ)J" } : Jvm.MethodName)) ∈ lw_all := lw_g (lw_at lw_m5 27 rfl) rfl
theorem q1055 : (Jvm.Cond.code ({ cls := "ChairRanks", name := "common", desc := "(JJ)J" } : Jvm.MethodName) prog_1_method_63_code (10 : Nat) (Option.some Jvm.ClassFile.FieldType.long)) ∈ lw_all := lw_g (lw_at lw_m5 28 rfl) rfl
theorem q1057 : (Jvm.Cond.instanceMethod ({ cls := "ChairRanks", name := "drawn", desc := "(III)I" } : Jvm.MethodName)) ∈ lw_all := lw_g (lw_at lw_m5 30 rfl) rfl
theorem q1058 : (Jvm.Cond.selects "ChairRanks" ({ cls := "ChairRanks", name := "drawn", desc := "(III)I" } : Jvm.MethodName) ({ cls := "ChairRanks", name := "drawn", desc := "(III)I" } : Jvm.MethodName)) ∈ lw_all := lw_g (lw_at lw_m5 31 rfl) rfl
theorem q1059 : (Jvm.Cond.code ({ cls := "ChairRanks", name := "drawn", desc := "(III)I" } : Jvm.MethodName) prog_1_method_65_code (8 : Nat) (Option.some Jvm.ClassFile.FieldType.int)) ∈ lw_all := lw_g (lw_at lw_m5 32 rfl) rfl
theorem q1060 : (Jvm.Cond.constantLong "ChairRanks" (345 : Nat) (999999 : Int64)) ∈ lw_all := lw_g (lw_at lw_m5 33 rfl) rfl
theorem q1061 : (Jvm.Cond.constantLong "ChairRanks" (347 : Nat) (16807 : Int64)) ∈ lw_all := lw_g (lw_at lw_m5 34 rfl) rfl
theorem q1062 : (Jvm.Cond.constantLong "ChairRanks" (349 : Nat) (2147483647 : Int64)) ∈ lw_all := lw_g (lw_at lw_m5 35 rfl) rfl
theorem q1064 : (Jvm.Cond.instanceMethod ({ cls := "ChairRanks", name := "image", desc := "(I)I" } : Jvm.MethodName)) ∈ lw_all := lw_g (lw_at lw_m5 37 rfl) rfl
theorem q1065 : (Jvm.Cond.selects "ChairRanks" ({ cls := "ChairRanks", name := "image", desc := "(I)I" } : Jvm.MethodName) ({ cls := "ChairRanks", name := "image", desc := "(I)I" } : Jvm.MethodName)) ∈ lw_all := lw_g (lw_at lw_m5 38 rfl) rfl
theorem q1066 : (Jvm.Cond.code ({ cls := "ChairRanks", name := "image", desc := "(I)I" } : Jvm.MethodName) prog_1_method_66_code (2 : Nat) (Option.some Jvm.ClassFile.FieldType.int)) ∈ lw_all := lw_g (lw_at lw_m5 39 rfl) rfl
theorem q1068 : (Jvm.Cond.instanceMethod ({ cls := "ChairRanks", name := "restore", desc := "(I)I" } : Jvm.MethodName)) ∈ lw_all := lw_g (lw_at lw_m5 41 rfl) rfl
theorem q1069 : (Jvm.Cond.selects "ChairRanks" ({ cls := "ChairRanks", name := "restore", desc := "(I)I" } : Jvm.MethodName) ({ cls := "ChairRanks", name := "restore", desc := "(I)I" } : Jvm.MethodName)) ∈ lw_all := lw_g (lw_at lw_m5 42 rfl) rfl
theorem q1070 : (Jvm.Cond.code ({ cls := "ChairRanks", name := "restore", desc := "(I)I" } : Jvm.MethodName) prog_1_method_67_code (2 : Nat) (Option.some Jvm.ClassFile.FieldType.int)) ∈ lw_all := lw_g (lw_at lw_m5 43 rfl) rfl
theorem q1072 : (Jvm.Cond.instanceMethod ({ cls := "ChairRanks", name := "kind", desc := "(I)I" } : Jvm.MethodName)) ∈ lw_all := lw_g (lw_at lw_m5 45 rfl) rfl
theorem q1073 : (Jvm.Cond.selects "ChairRanks" ({ cls := "ChairRanks", name := "kind", desc := "(I)I" } : Jvm.MethodName) ({ cls := "ChairRanks", name := "kind", desc := "(I)I" } : Jvm.MethodName)) ∈ lw_all := lw_g (lw_at lw_m5 46 rfl) rfl
theorem q1074 : (Jvm.Cond.code ({ cls := "ChairRanks", name := "kind", desc := "(I)I" } : Jvm.MethodName) prog_1_method_68_code (2 : Nat) (Option.some Jvm.ClassFile.FieldType.int)) ∈ lw_all := lw_g (lw_at lw_m5 47 rfl) rfl
theorem q1075 : (Jvm.Cond.interfaceEntry "ChairRanks" (355 : Nat)) ∈ lw_tbl := lw_at lw_m5 48 rfl
theorem q1076 : (Jvm.Cond.methodLink "ChairRanks" (355 : Nat) ({ cls := "java/util/List", name := "get", desc := "(I)Ljava/lang/Object;" } : Jvm.MethodName)) ∈ lw_all := lw_g (lw_at lw_m5 49 rfl) rfl
theorem q1077 : (Jvm.Cond.methodLink "ChairRanks" (361 : Nat) ({ cls := "ChairRanks$Chair", name := "kind", desc := "()I" } : Jvm.MethodName)) ∈ lw_all := lw_g (lw_at lw_m5 50 rfl) rfl
theorem q1096 : (Jvm.Cond.instanceMethod ({ cls := "ChairRanks", name := "as", desc := "(II)I" } : Jvm.MethodName)) ∈ lw_all := lw_g (lw_at lw_m5 69 rfl) rfl
theorem q1097 : (Jvm.Cond.selects "ChairRanks" ({ cls := "ChairRanks", name := "as", desc := "(II)I" } : Jvm.MethodName) ({ cls := "ChairRanks", name := "as", desc := "(II)I" } : Jvm.MethodName)) ∈ lw_all := lw_g (lw_at lw_m5 70 rfl) rfl
theorem q1098 : (Jvm.Cond.codeWith ({ cls := "ChairRanks", name := "as", desc := "(II)I" } : Jvm.MethodName) prog_1_method_69_code (5 : Nat) (Option.some Jvm.ClassFile.FieldType.int) [((40 : Nat), (111 : Nat), (112 : Nat), (365 : Nat)), ((23 : Nat), (111 : Nat), (123 : Nat), (67 : Nat)), ((112 : Nat), (123 : Nat), (123 : Nat), (67 : Nat))]) ∈ lw_all := lw_g (lw_at lw_m5 71 rfl) rfl
theorem q1099 : (Jvm.Cond.classLink "ChairRanks" (365 : Nat) "java/lang/ClassCastException") ∈ lw_all := lw_g (lw_at lw_m5 72 rfl) rfl
theorem q1113 : (Jvm.Cond.methodLink "ChairRanks" (363 : Nat) ({ cls := "ChairRanks$Chair", name := "number", desc := "()I" } : Jvm.MethodName)) ∈ lw_all := lw_g (lw_at lw_m5 86 rfl) rfl
theorem q1123 : (Jvm.Cond.instanceMethod ({ cls := "ChairRanks", name := "ask", desc := "(II)I" } : Jvm.MethodName)) ∈ lw_all := lw_g (lw_at lw_m5 96 rfl) rfl
theorem q1124 : (Jvm.Cond.selects "ChairRanks" ({ cls := "ChairRanks", name := "ask", desc := "(II)I" } : Jvm.MethodName) ({ cls := "ChairRanks", name := "ask", desc := "(II)I" } : Jvm.MethodName)) ∈ lw_all := lw_g (lw_at lw_m5 97 rfl) rfl
theorem q1125 : (Jvm.Cond.code ({ cls := "ChairRanks", name := "ask", desc := "(II)I" } : Jvm.MethodName) prog_1_method_70_code (4 : Nat) (Option.some Jvm.ClassFile.FieldType.int)) ∈ lw_all := lw_g (lw_at lw_m5 98 rfl) rfl
theorem q1126 : (Jvm.Cond.methodLink "ChairRanks" (367 : Nat) ({ cls := "ChairRanks$Chair", name := "size", desc := "(LChairRanks$Trail;LChairRanks$Ministry;)I" } : Jvm.MethodName)) ∈ lw_all := lw_g (lw_at lw_m5 99 rfl) rfl
theorem q1209 : (Jvm.Cond.instanceMethod ({ cls := "ChairRanks", name := "trace", desc := "(I)I" } : Jvm.MethodName)) ∈ lw_all := lw_g (lw_at lw_m5 182 rfl) rfl
theorem q1210 : (Jvm.Cond.selects "ChairRanks" ({ cls := "ChairRanks", name := "trace", desc := "(I)I" } : Jvm.MethodName) ({ cls := "ChairRanks", name := "trace", desc := "(I)I" } : Jvm.MethodName)) ∈ lw_all := lw_g (lw_at lw_m5 183 rfl) rfl
theorem q1211 : (Jvm.Cond.code ({ cls := "ChairRanks", name := "trace", desc := "(I)I" } : Jvm.MethodName) prog_1_method_71_code (2 : Nat) (Option.some Jvm.ClassFile.FieldType.int)) ∈ lw_all := lw_g (lw_at lw_m5 184 rfl) rfl
theorem q1213 : (Jvm.Cond.instanceMethod ({ cls := "ChairRanks", name := "count", desc := "(I)I" } : Jvm.MethodName)) ∈ lw_all := lw_g (lw_at lw_m5 186 rfl) rfl
theorem q1214 : (Jvm.Cond.selects "ChairRanks" ({ cls := "ChairRanks", name := "count", desc := "(I)I" } : Jvm.MethodName) ({ cls := "ChairRanks", name := "count", desc := "(I)I" } : Jvm.MethodName)) ∈ lw_all := lw_g (lw_at lw_m5 187 rfl) rfl
theorem q1215 : (Jvm.Cond.code ({ cls := "ChairRanks", name := "count", desc := "(I)I" } : Jvm.MethodName) prog_1_method_72_code (4 : Nat) (Option.some Jvm.ClassFile.FieldType.int)) ∈ lw_all := lw_g (lw_at lw_m5 188 rfl) rfl
theorem q1216 : (Jvm.Cond.methodLink "ChairRanks" (379 : Nat) ({ cls := "ChairRanks$Ministry", name := "allCaught", desc := "()I" } : Jvm.MethodName)) ∈ lw_all := lw_g (lw_at lw_m5 189 rfl) rfl
theorem q1221 : (Jvm.Cond.instanceMethod ({ cls := "ChairRanks", name := "status", desc := "()I" } : Jvm.MethodName)) ∈ lw_all := lw_g (lw_at lw_m5 194 rfl) rfl
theorem q1222 : (Jvm.Cond.selects "ChairRanks" ({ cls := "ChairRanks", name := "status", desc := "()I" } : Jvm.MethodName) ({ cls := "ChairRanks", name := "status", desc := "()I" } : Jvm.MethodName)) ∈ lw_all := lw_g (lw_at lw_m5 195 rfl) rfl
theorem q1223 : (Jvm.Cond.code ({ cls := "ChairRanks", name := "status", desc := "()I" } : Jvm.MethodName) prog_1_method_73_code (1 : Nat) (Option.some Jvm.ClassFile.FieldType.int)) ∈ lw_all := lw_g (lw_at lw_m5 196 rfl) rfl
theorem q1690 : (Jvm.Cond.castable "ChairRanks" "java/lang/Object") ∈ lw_tbl := lw_at lw_m7 183 rfl
theorem in_X0 : ∀ w ∈ wsX00, w ∈ lw_all := lw_in wsX00 [281, 283, 285, 287, 289, 291, 293, 295, 297, 299, 301, 303] (by decide +kernel) (by decide +kernel)
