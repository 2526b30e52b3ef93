/-! ChairRanksModel -/
set_option maxRecDepth 100000
def RX9 : String := "ChairRanksModel"
def TX9 : u_T := fun k => match k with
  | 0 => ("ChairRanksModel", "lanes", "[I", true)
  | 1 => ("ChairRanksModel", "sizes", "[I", true)
  | 2 => ("ChairRanksModel", "items", "[I", true)
  | 3 => ("ChairRanksModel", "status", "I", false)
  | 4 => ("ChairRanksModel", "isThere", "Z", false)
  | 5 => ("ChairRanksModel", "st", "[I", true)
  | 6 => ("ChairRanksModel", "moved", "[I", true)
  | 7 => ("ChairRanksModel", "tape", "[I", true)
  | 8 => ("ChairRanksModel", "bytes", "I", false)
  | 9 => ("ChairRanksModel", "latest", "I", false)
  | 10 => ("ChairRanksModel", "place", "I", false)
  | 11 => ("ChairRanksModel", "token", "I", false)
  | 12 => ("ChairRanksModel", "value", "I", false)
  | 13 => ("ChairRanksModel", "begins", "I", false)
  | 14 => ("ChairRanksModel", "wrong", "I", false)
  | 15 => ("ChairRanksModel", "read", "[I", true)
  | 16 => ("ChairRanksModel", "off", "[I", true)
  | 17 => ("ChairRanksModel", "caughtNow", "I", false)
  | 18 => ("ChairRanksModel", "acts", "[I", true)
  | 19 => ("ChairRanksModel", "actMany", "I", false)
  | 20 => ("ChairRanksModel", "aside", "[I", true)
  | 21 => ("ChairRanksModel", "isKept", "[Z", true)
  | 22 => ("ChairRanksModel", "kept", "[I", true)
  | 23 => ("ChairRanksModel", "trace", "[I", true)
  | _ => ("ChairRanksModel", "traced", "I", false)
def tyX9 : Nat → FieldType := fun k => match k with
  | 0 => .array .int
  | 1 => .array .int
  | 2 => .array .int
  | 3 => .int
  | 4 => .boolean
  | 5 => .array .int
  | 6 => .array .int
  | 7 => .array .int
  | 8 => .int
  | 9 => .int
  | 10 => .int
  | 11 => .int
  | 12 => .int
  | 13 => .int
  | 14 => .int
  | 15 => .array .int
  | 16 => .array .int
  | 17 => .int
  | 18 => .array .int
  | 19 => .int
  | 20 => .array .int
  | 21 => .array .boolean
  | 22 => .array .int
  | 23 => .array .int
  | _ => .int
abbrev wsX90 : List Cond := u_ws RX9 TX9 25
set_option maxRecDepth 100000 in
theorem nmX9 : ∀ a, a < 25 → ∀ b, b < 25 → a ≠ b → (TX9 a).2.1 ≠ (TX9 b).2.1 := by decide +kernel
set_option maxRecDepth 100000 in
theorem tyX9_ok : ∀ k, k < 25 → parseFieldDescriptor (TX9 k).2.2.1 = some (tyX9 k) := by decide +kernel
abbrev cX9_init : ByteArray := prog_16_method_1_code
def yX9_init : MethodName := ⟨RX9, "<init>", "()V"⟩
def dkwX9_init_5 : List UInt8 := [180, 0, 13, 27, 2, 79, 132, 1, 1, 167, 255, 240, 177]
abbrev dktX9_init_5 : List UInt8 := dkwX9_init_5 ++ []
def dkwX9_init_4 : List UInt8 := [16, 82, 188, 10, 181, 0, 44, 42, 16, 16, 188, 10, 181, 0, 47, 3, 60, 27, 16, 8, 162, 0, 16, 42]
abbrev dktX9_init_4 : List UInt8 := dkwX9_init_4 ++ dktX9_init_5
def dkwX9_init_3 : List UInt8 := [17, 3, 216, 188, 10, 181, 0, 34, 42, 16, 41, 188, 10, 181, 0, 37, 42, 5, 188, 4, 181, 0, 40, 42]
abbrev dktX9_init_3 : List UInt8 := dkwX9_init_3 ++ dktX9_init_4
def dkwX9_init_2 : List UInt8 := [188, 10, 181, 0, 25, 42, 16, 41, 188, 10, 181, 0, 28, 42, 16, 6, 188, 10, 181, 0, 31, 42]
abbrev dktX9_init_2 : List UInt8 := dkwX9_init_2 ++ dktX9_init_3
def dkwX9_init_1 : List UInt8 := [188, 10, 181, 0, 16, 42, 16, 41, 188, 10, 181, 0, 19, 42, 16, 40, 188, 10, 181, 0, 22, 42, 16, 120]
abbrev dktX9_init_1 : List UInt8 := dkwX9_init_1 ++ dktX9_init_2
def dkwX9_init_0 : List UInt8 := [42, 183, 0, 1, 42, 16, 8, 188, 10, 181, 0, 7, 42, 16, 8, 188, 10, 181, 0, 13, 42, 17, 1, 64]
abbrev dktX9_init_0 : List UInt8 := dkwX9_init_0 ++ dktX9_init_1
theorem dksX9_init_0 : cX9_init.data.toList.drop 0 = dktX9_init_0 := by decide +kernel
theorem dksX9_init_1 : cX9_init.data.toList.drop 24 = dktX9_init_1 := dk_seg dksX9_init_0 24 rfl rfl
theorem dksX9_init_2 : cX9_init.data.toList.drop 48 = dktX9_init_2 := dk_seg dksX9_init_1 24 rfl rfl
theorem dksX9_init_3 : cX9_init.data.toList.drop 70 = dktX9_init_3 := dk_seg dksX9_init_2 22 rfl rfl
theorem dksX9_init_4 : cX9_init.data.toList.drop 94 = dktX9_init_4 := dk_seg dksX9_init_3 24 rfl rfl
theorem dksX9_init_5 : cX9_init.data.toList.drop 118 = dktX9_init_5 := dk_seg dksX9_init_4 24 rfl rfl
theorem dX9_init_0 : decode cX9_init 0 = .ok (.aload_n 0, 1) := dk_42 (dk_at dksX9_init_0 0 rfl rfl)
theorem dX9_init_1 : decode cX9_init 1 = .ok (.invokespecial 1, 3) := dk_183 0 1 (dk_at dksX9_init_0 1 rfl rfl)
theorem dX9_init_4 : decode cX9_init 4 = .ok (.aload_n 0, 1) := dk_42 (dk_at dksX9_init_0 4 rfl rfl)
theorem dX9_init_5 : decode cX9_init 5 = .ok (.bipush 8, 2) := dk_16 8 (dk_at dksX9_init_0 5 rfl rfl)
theorem dX9_init_7 : decode cX9_init 7 = .ok (.newarray .int, 2) := dk_188_10 (dk_at dksX9_init_0 7 rfl rfl)
theorem dX9_init_9 : decode cX9_init 9 = .ok (.putfield 7, 3) := dk_181 0 7 (dk_at dksX9_init_0 9 rfl rfl)
theorem dX9_init_12 : decode cX9_init 12 = .ok (.aload_n 0, 1) := dk_42 (dk_at dksX9_init_0 12 rfl rfl)
theorem dX9_init_13 : decode cX9_init 13 = .ok (.bipush 8, 2) := dk_16 8 (dk_at dksX9_init_0 13 rfl rfl)
theorem dX9_init_15 : decode cX9_init 15 = .ok (.newarray .int, 2) := dk_188_10 (dk_at dksX9_init_0 15 rfl rfl)
theorem dX9_init_17 : decode cX9_init 17 = .ok (.putfield 13, 3) := dk_181 0 13 (dk_at dksX9_init_0 17 rfl rfl)
theorem dX9_init_20 : decode cX9_init 20 = .ok (.aload_n 0, 1) := dk_42 (dk_at dksX9_init_0 20 rfl rfl)
theorem dX9_init_21 : decode cX9_init 21 = .ok (.sipush 320, 3) := dk_17 1 64 (dk_at dksX9_init_0 21 rfl rfl)
theorem dX9_init_24 : decode cX9_init 24 = .ok (.newarray .int, 2) := dk_188_10 (dk_at dksX9_init_1 0 rfl rfl)
theorem dX9_init_26 : decode cX9_init 26 = .ok (.putfield 16, 3) := dk_181 0 16 (dk_at dksX9_init_1 2 rfl rfl)
theorem dX9_init_29 : decode cX9_init 29 = .ok (.aload_n 0, 1) := dk_42 (dk_at dksX9_init_1 5 rfl rfl)
theorem dX9_init_30 : decode cX9_init 30 = .ok (.bipush 41, 2) := dk_16 41 (dk_at dksX9_init_1 6 rfl rfl)
theorem dX9_init_32 : decode cX9_init 32 = .ok (.newarray .int, 2) := dk_188_10 (dk_at dksX9_init_1 8 rfl rfl)
theorem dX9_init_34 : decode cX9_init 34 = .ok (.putfield 19, 3) := dk_181 0 19 (dk_at dksX9_init_1 10 rfl rfl)
theorem dX9_init_37 : decode cX9_init 37 = .ok (.aload_n 0, 1) := dk_42 (dk_at dksX9_init_1 13 rfl rfl)
theorem dX9_init_38 : decode cX9_init 38 = .ok (.bipush 40, 2) := dk_16 40 (dk_at dksX9_init_1 14 rfl rfl)
theorem dX9_init_40 : decode cX9_init 40 = .ok (.newarray .int, 2) := dk_188_10 (dk_at dksX9_init_1 16 rfl rfl)
theorem dX9_init_42 : decode cX9_init 42 = .ok (.putfield 22, 3) := dk_181 0 22 (dk_at dksX9_init_1 18 rfl rfl)
theorem dX9_init_45 : decode cX9_init 45 = .ok (.aload_n 0, 1) := dk_42 (dk_at dksX9_init_1 21 rfl rfl)
theorem dX9_init_46 : decode cX9_init 46 = .ok (.bipush 120, 2) := dk_16 120 (dk_at dksX9_init_1 22 rfl rfl)
theorem dX9_init_48 : decode cX9_init 48 = .ok (.newarray .int, 2) := dk_188_10 (dk_at dksX9_init_2 0 rfl rfl)
theorem dX9_init_50 : decode cX9_init 50 = .ok (.putfield 25, 3) := dk_181 0 25 (dk_at dksX9_init_2 2 rfl rfl)
theorem dX9_init_53 : decode cX9_init 53 = .ok (.aload_n 0, 1) := dk_42 (dk_at dksX9_init_2 5 rfl rfl)
theorem dX9_init_54 : decode cX9_init 54 = .ok (.bipush 41, 2) := dk_16 41 (dk_at dksX9_init_2 6 rfl rfl)
theorem dX9_init_56 : decode cX9_init 56 = .ok (.newarray .int, 2) := dk_188_10 (dk_at dksX9_init_2 8 rfl rfl)
theorem dX9_init_58 : decode cX9_init 58 = .ok (.putfield 28, 3) := dk_181 0 28 (dk_at dksX9_init_2 10 rfl rfl)
theorem dX9_init_61 : decode cX9_init 61 = .ok (.aload_n 0, 1) := dk_42 (dk_at dksX9_init_2 13 rfl rfl)
theorem dX9_init_62 : decode cX9_init 62 = .ok (.bipush 6, 2) := dk_16 6 (dk_at dksX9_init_2 14 rfl rfl)
theorem dX9_init_64 : decode cX9_init 64 = .ok (.newarray .int, 2) := dk_188_10 (dk_at dksX9_init_2 16 rfl rfl)
theorem dX9_init_66 : decode cX9_init 66 = .ok (.putfield 31, 3) := dk_181 0 31 (dk_at dksX9_init_2 18 rfl rfl)
theorem dX9_init_69 : decode cX9_init 69 = .ok (.aload_n 0, 1) := dk_42 (dk_at dksX9_init_2 21 rfl rfl)
theorem dX9_init_70 : decode cX9_init 70 = .ok (.sipush 984, 3) := dk_17 3 216 (dk_at dksX9_init_3 0 rfl rfl)
theorem dX9_init_73 : decode cX9_init 73 = .ok (.newarray .int, 2) := dk_188_10 (dk_at dksX9_init_3 3 rfl rfl)
theorem dX9_init_75 : decode cX9_init 75 = .ok (.putfield 34, 3) := dk_181 0 34 (dk_at dksX9_init_3 5 rfl rfl)
theorem dX9_init_78 : decode cX9_init 78 = .ok (.aload_n 0, 1) := dk_42 (dk_at dksX9_init_3 8 rfl rfl)
theorem dX9_init_79 : decode cX9_init 79 = .ok (.bipush 41, 2) := dk_16 41 (dk_at dksX9_init_3 9 rfl rfl)
theorem dX9_init_81 : decode cX9_init 81 = .ok (.newarray .int, 2) := dk_188_10 (dk_at dksX9_init_3 11 rfl rfl)
theorem dX9_init_83 : decode cX9_init 83 = .ok (.putfield 37, 3) := dk_181 0 37 (dk_at dksX9_init_3 13 rfl rfl)
theorem dX9_init_86 : decode cX9_init 86 = .ok (.aload_n 0, 1) := dk_42 (dk_at dksX9_init_3 16 rfl rfl)
theorem dX9_init_87 : decode cX9_init 87 = .ok (.iconst 2, 1) := dk_5 (dk_at dksX9_init_3 17 rfl rfl)
theorem dX9_init_88 : decode cX9_init 88 = .ok (.newarray .boolean, 2) := dk_188_4 (dk_at dksX9_init_3 18 rfl rfl)
theorem dX9_init_90 : decode cX9_init 90 = .ok (.putfield 40, 3) := dk_181 0 40 (dk_at dksX9_init_3 20 rfl rfl)
theorem dX9_init_93 : decode cX9_init 93 = .ok (.aload_n 0, 1) := dk_42 (dk_at dksX9_init_3 23 rfl rfl)
theorem dX9_init_94 : decode cX9_init 94 = .ok (.bipush 82, 2) := dk_16 82 (dk_at dksX9_init_4 0 rfl rfl)
theorem dX9_init_96 : decode cX9_init 96 = .ok (.newarray .int, 2) := dk_188_10 (dk_at dksX9_init_4 2 rfl rfl)
theorem dX9_init_98 : decode cX9_init 98 = .ok (.putfield 44, 3) := dk_181 0 44 (dk_at dksX9_init_4 4 rfl rfl)
theorem dX9_init_101 : decode cX9_init 101 = .ok (.aload_n 0, 1) := dk_42 (dk_at dksX9_init_4 7 rfl rfl)
theorem dX9_init_102 : decode cX9_init 102 = .ok (.bipush 16, 2) := dk_16 16 (dk_at dksX9_init_4 8 rfl rfl)
theorem dX9_init_104 : decode cX9_init 104 = .ok (.newarray .int, 2) := dk_188_10 (dk_at dksX9_init_4 10 rfl rfl)
theorem dX9_init_106 : decode cX9_init 106 = .ok (.putfield 47, 3) := dk_181 0 47 (dk_at dksX9_init_4 12 rfl rfl)
theorem dX9_init_109 : decode cX9_init 109 = .ok (.iconst 0, 1) := dk_3 (dk_at dksX9_init_4 15 rfl rfl)
theorem dX9_init_110 : decode cX9_init 110 = .ok (.istore_n 1, 1) := dk_60 (dk_at dksX9_init_4 16 rfl rfl)
theorem dX9_init_111 : decode cX9_init 111 = .ok (.iload_n 1, 1) := dk_27 (dk_at dksX9_init_4 17 rfl rfl)
theorem dX9_init_112 : decode cX9_init 112 = .ok (.bipush 8, 2) := dk_16 8 (dk_at dksX9_init_4 18 rfl rfl)
theorem dX9_init_114 : decode cX9_init 114 = .ok (.if_icmp .ge 16, 3) := dk_162 0 16 (dk_at dksX9_init_4 20 rfl rfl)
theorem dX9_init_117 : decode cX9_init 117 = .ok (.aload_n 0, 1) := dk_42 (dk_at dksX9_init_4 23 rfl rfl)
theorem dX9_init_118 : decode cX9_init 118 = .ok (.getfield 13, 3) := dk_180 0 13 (dk_at dksX9_init_5 0 rfl rfl)
theorem dX9_init_121 : decode cX9_init 121 = .ok (.iload_n 1, 1) := dk_27 (dk_at dksX9_init_5 3 rfl rfl)
theorem dX9_init_122 : decode cX9_init 122 = .ok (.iconst (-1), 1) := dk_2 (dk_at dksX9_init_5 4 rfl rfl)
theorem dX9_init_123 : decode cX9_init 123 = .ok (.iastore, 1) := dk_79 (dk_at dksX9_init_5 5 rfl rfl)
theorem dX9_init_124 : decode cX9_init 124 = .ok (.iinc 1 1, 3) := dk_132 1 1 (dk_at dksX9_init_5 6 rfl rfl)
theorem dX9_init_127 : decode cX9_init 127 = .ok (.goto (-16), 3) := dk_167 255 240 (dk_at dksX9_init_5 9 rfl rfl)
theorem dX9_init_130 : decode cX9_init 130 = .ok (.return_, 1) := dk_177 (dk_at dksX9_init_5 12 rfl rfl)
abbrev cX9_row : ByteArray := prog_16_method_8_code
def yX9_row : MethodName := ⟨RX9, "row", "(III)I"⟩
def dkwX9_row_3 : List UInt8 := [21, 4, 96, 3, 79, 132, 4, 1, 167, 255, 233, 42, 29, 182, 0, 72, 172]
abbrev dktX9_row_3 : List UInt8 := dkwX9_row_3 ++ []
def dkwX9_row_2 : List UInt8 := [180, 0, 13, 27, 29, 79, 3, 54, 4, 21, 4, 16, 40, 162, 0, 22, 42, 180, 0, 16, 16, 40, 27, 104]
abbrev dktX9_row_2 : List UInt8 := dkwX9_row_2 ++ dktX9_row_3
def dkwX9_row_1 : List UInt8 := [164, 0, 6, 18, 67, 172, 29, 156, 0, 9, 42, 7, 182, 0, 68, 172, 42, 180, 0, 7, 27, 28, 79, 42]
abbrev dktX9_row_1 : List UInt8 := dkwX9_row_1 ++ dktX9_row_2
def dkwX9_row_0 : List UInt8 := [27, 184, 0, 61, 153, 0, 21, 28, 133, 9, 20, 0, 65, 184, 0, 57, 153, 0, 9, 29, 16, 40]
abbrev dktX9_row_0 : List UInt8 := dkwX9_row_0 ++ dktX9_row_1
theorem dksX9_row_0 : cX9_row.data.toList.drop 0 = dktX9_row_0 := by decide +kernel
theorem dksX9_row_1 : cX9_row.data.toList.drop 22 = dktX9_row_1 := dk_seg dksX9_row_0 22 rfl rfl
theorem dksX9_row_2 : cX9_row.data.toList.drop 46 = dktX9_row_2 := dk_seg dksX9_row_1 24 rfl rfl
theorem dksX9_row_3 : cX9_row.data.toList.drop 70 = dktX9_row_3 := dk_seg dksX9_row_2 24 rfl rfl
theorem dX9_row_0 : decode cX9_row 0 = .ok (.iload_n 1, 1) := dk_27 (dk_at dksX9_row_0 0 rfl rfl)
theorem dX9_row_1 : decode cX9_row 1 = .ok (.invokestatic 61, 3) := dk_184 0 61 (dk_at dksX9_row_0 1 rfl rfl)
theorem dX9_row_4 : decode cX9_row 4 = .ok (.ifCond .eq 21, 3) := dk_153 0 21 (dk_at dksX9_row_0 4 rfl rfl)
theorem dX9_row_7 : decode cX9_row 7 = .ok (.iload_n 2, 1) := dk_28 (dk_at dksX9_row_0 7 rfl rfl)
theorem dX9_row_8 : decode cX9_row 8 = .ok (.i2l, 1) := dk_133 (dk_at dksX9_row_0 8 rfl rfl)
theorem dX9_row_9 : decode cX9_row 9 = .ok (.lconst 0, 1) := dk_9 (dk_at dksX9_row_0 9 rfl rfl)
theorem dX9_row_10 : decode cX9_row 10 = .ok (.ldc2_w 65, 3) := dk_20 0 65 (dk_at dksX9_row_0 10 rfl rfl)
theorem dX9_row_13 : decode cX9_row 13 = .ok (.invokestatic 57, 3) := dk_184 0 57 (dk_at dksX9_row_0 13 rfl rfl)
theorem dX9_row_16 : decode cX9_row 16 = .ok (.ifCond .eq 9, 3) := dk_153 0 9 (dk_at dksX9_row_0 16 rfl rfl)
theorem dX9_row_19 : decode cX9_row 19 = .ok (.iload_n 3, 1) := dk_29 (dk_at dksX9_row_0 19 rfl rfl)
theorem dX9_row_20 : decode cX9_row 20 = .ok (.bipush 40, 2) := dk_16 40 (dk_at dksX9_row_0 20 rfl rfl)
theorem dX9_row_22 : decode cX9_row 22 = .ok (.if_icmp .le 6, 3) := dk_164 0 6 (dk_at dksX9_row_1 0 rfl rfl)
theorem dX9_row_25 : decode cX9_row 25 = .ok (.ldc 67, 2) := dk_18 67 (dk_at dksX9_row_1 3 rfl rfl)
theorem dX9_row_27 : decode cX9_row 27 = .ok (.ireturn, 1) := dk_172 (dk_at dksX9_row_1 5 rfl rfl)
theorem dX9_row_28 : decode cX9_row 28 = .ok (.iload_n 3, 1) := dk_29 (dk_at dksX9_row_1 6 rfl rfl)
theorem dX9_row_29 : decode cX9_row 29 = .ok (.ifCond .ge 9, 3) := dk_156 0 9 (dk_at dksX9_row_1 7 rfl rfl)
theorem dX9_row_32 : decode cX9_row 32 = .ok (.aload_n 0, 1) := dk_42 (dk_at dksX9_row_1 10 rfl rfl)
theorem dX9_row_33 : decode cX9_row 33 = .ok (.iconst 4, 1) := dk_7 (dk_at dksX9_row_1 11 rfl rfl)
theorem dX9_row_34 : decode cX9_row 34 = .ok (.invokevirtual 68, 3) := dk_182 0 68 (dk_at dksX9_row_1 12 rfl rfl)
theorem dX9_row_37 : decode cX9_row 37 = .ok (.ireturn, 1) := dk_172 (dk_at dksX9_row_1 15 rfl rfl)
theorem dX9_row_38 : decode cX9_row 38 = .ok (.aload_n 0, 1) := dk_42 (dk_at dksX9_row_1 16 rfl rfl)
theorem dX9_row_39 : decode cX9_row 39 = .ok (.getfield 7, 3) := dk_180 0 7 (dk_at dksX9_row_1 17 rfl rfl)
theorem dX9_row_42 : decode cX9_row 42 = .ok (.iload_n 1, 1) := dk_27 (dk_at dksX9_row_1 20 rfl rfl)
theorem dX9_row_43 : decode cX9_row 43 = .ok (.iload_n 2, 1) := dk_28 (dk_at dksX9_row_1 21 rfl rfl)
theorem dX9_row_44 : decode cX9_row 44 = .ok (.iastore, 1) := dk_79 (dk_at dksX9_row_1 22 rfl rfl)
theorem dX9_row_45 : decode cX9_row 45 = .ok (.aload_n 0, 1) := dk_42 (dk_at dksX9_row_1 23 rfl rfl)
theorem dX9_row_46 : decode cX9_row 46 = .ok (.getfield 13, 3) := dk_180 0 13 (dk_at dksX9_row_2 0 rfl rfl)
theorem dX9_row_49 : decode cX9_row 49 = .ok (.iload_n 1, 1) := dk_27 (dk_at dksX9_row_2 3 rfl rfl)
theorem dX9_row_50 : decode cX9_row 50 = .ok (.iload_n 3, 1) := dk_29 (dk_at dksX9_row_2 4 rfl rfl)
theorem dX9_row_51 : decode cX9_row 51 = .ok (.iastore, 1) := dk_79 (dk_at dksX9_row_2 5 rfl rfl)
theorem dX9_row_52 : decode cX9_row 52 = .ok (.iconst 0, 1) := dk_3 (dk_at dksX9_row_2 6 rfl rfl)
theorem dX9_row_53 : decode cX9_row 53 = .ok (.istore 4, 2) := dk_54 4 (dk_at dksX9_row_2 7 rfl rfl)
theorem dX9_row_55 : decode cX9_row 55 = .ok (.iload 4, 2) := dk_21 4 (dk_at dksX9_row_2 9 rfl rfl)
theorem dX9_row_57 : decode cX9_row 57 = .ok (.bipush 40, 2) := dk_16 40 (dk_at dksX9_row_2 11 rfl rfl)
theorem dX9_row_59 : decode cX9_row 59 = .ok (.if_icmp .ge 22, 3) := dk_162 0 22 (dk_at dksX9_row_2 13 rfl rfl)
theorem dX9_row_62 : decode cX9_row 62 = .ok (.aload_n 0, 1) := dk_42 (dk_at dksX9_row_2 16 rfl rfl)
theorem dX9_row_63 : decode cX9_row 63 = .ok (.getfield 16, 3) := dk_180 0 16 (dk_at dksX9_row_2 17 rfl rfl)
theorem dX9_row_66 : decode cX9_row 66 = .ok (.bipush 40, 2) := dk_16 40 (dk_at dksX9_row_2 20 rfl rfl)
theorem dX9_row_68 : decode cX9_row 68 = .ok (.iload_n 1, 1) := dk_27 (dk_at dksX9_row_2 22 rfl rfl)
theorem dX9_row_69 : decode cX9_row 69 = .ok (.imul, 1) := dk_104 (dk_at dksX9_row_2 23 rfl rfl)
theorem dX9_row_70 : decode cX9_row 70 = .ok (.iload 4, 2) := dk_21 4 (dk_at dksX9_row_3 0 rfl rfl)
theorem dX9_row_72 : decode cX9_row 72 = .ok (.iadd, 1) := dk_96 (dk_at dksX9_row_3 2 rfl rfl)
theorem dX9_row_73 : decode cX9_row 73 = .ok (.iconst 0, 1) := dk_3 (dk_at dksX9_row_3 3 rfl rfl)
theorem dX9_row_74 : decode cX9_row 74 = .ok (.iastore, 1) := dk_79 (dk_at dksX9_row_3 4 rfl rfl)
theorem dX9_row_75 : decode cX9_row 75 = .ok (.iinc 4 1, 3) := dk_132 4 1 (dk_at dksX9_row_3 5 rfl rfl)
theorem dX9_row_78 : decode cX9_row 78 = .ok (.goto (-23), 3) := dk_167 255 233 (dk_at dksX9_row_3 8 rfl rfl)
theorem dX9_row_81 : decode cX9_row 81 = .ok (.aload_n 0, 1) := dk_42 (dk_at dksX9_row_3 11 rfl rfl)
theorem dX9_row_82 : decode cX9_row 82 = .ok (.iload_n 3, 1) := dk_29 (dk_at dksX9_row_3 12 rfl rfl)
theorem dX9_row_83 : decode cX9_row 83 = .ok (.invokevirtual 72, 3) := dk_182 0 72 (dk_at dksX9_row_3 13 rfl rfl)
theorem dX9_row_86 : decode cX9_row 86 = .ok (.ireturn, 1) := dk_172 (dk_at dksX9_row_3 16 rfl rfl)
abbrev cX9_isRow : ByteArray := prog_16_method_7_code
def yX9_isRow : MethodName := ⟨RX9, "isRow", "(I)Z"⟩
def dkwX9_isRow_0 : List UInt8 := [26, 133, 9, 20, 0, 55, 184, 0, 57, 172]
abbrev dktX9_isRow_0 : List UInt8 := dkwX9_isRow_0 ++ []
theorem dksX9_isRow_0 : cX9_isRow.data.toList.drop 0 = dktX9_isRow_0 := by decide +kernel
theorem dX9_isRow_0 : decode cX9_isRow 0 = .ok (.iload_n 0, 1) := dk_26 (dk_at dksX9_isRow_0 0 rfl rfl)
theorem dX9_isRow_1 : decode cX9_isRow 1 = .ok (.i2l, 1) := dk_133 (dk_at dksX9_isRow_0 1 rfl rfl)
theorem dX9_isRow_2 : decode cX9_isRow 2 = .ok (.lconst 0, 1) := dk_9 (dk_at dksX9_isRow_0 2 rfl rfl)
theorem dX9_isRow_3 : decode cX9_isRow 3 = .ok (.ldc2_w 55, 3) := dk_20 0 55 (dk_at dksX9_isRow_0 3 rfl rfl)
theorem dX9_isRow_6 : decode cX9_isRow 6 = .ok (.invokestatic 57, 3) := dk_184 0 57 (dk_at dksX9_isRow_0 6 rfl rfl)
theorem dX9_isRow_9 : decode cX9_isRow 9 = .ok (.ireturn, 1) := dk_172 (dk_at dksX9_isRow_0 9 rfl rfl)
abbrev cX9_in : ByteArray := prog_16_method_2_code
def yX9_in : MethodName := ⟨RX9, "in", "(JJJ)Z"⟩
def dkwX9_in_0 : List UInt8 := [30, 32, 148, 155, 0, 14, 30, 22, 4, 148, 157, 0, 7, 4, 167, 0, 4, 3, 172]
abbrev dktX9_in_0 : List UInt8 := dkwX9_in_0 ++ []
theorem dksX9_in_0 : cX9_in.data.toList.drop 0 = dktX9_in_0 := by decide +kernel
theorem dX9_in_0 : decode cX9_in 0 = .ok (.lload_n 0, 1) := dk_30 (dk_at dksX9_in_0 0 rfl rfl)
theorem dX9_in_1 : decode cX9_in 1 = .ok (.lload_n 2, 1) := dk_32 (dk_at dksX9_in_0 1 rfl rfl)
theorem dX9_in_2 : decode cX9_in 2 = .ok (.lcmp, 1) := dk_148 (dk_at dksX9_in_0 2 rfl rfl)
theorem dX9_in_3 : decode cX9_in 3 = .ok (.ifCond .lt 14, 3) := dk_155 0 14 (dk_at dksX9_in_0 3 rfl rfl)
theorem dX9_in_6 : decode cX9_in 6 = .ok (.lload_n 0, 1) := dk_30 (dk_at dksX9_in_0 6 rfl rfl)
theorem dX9_in_7 : decode cX9_in 7 = .ok (.lload 4, 2) := dk_22 4 (dk_at dksX9_in_0 7 rfl rfl)
theorem dX9_in_9 : decode cX9_in 9 = .ok (.lcmp, 1) := dk_148 (dk_at dksX9_in_0 9 rfl rfl)
theorem dX9_in_10 : decode cX9_in 10 = .ok (.ifCond .gt 7, 3) := dk_157 0 7 (dk_at dksX9_in_0 10 rfl rfl)
theorem dX9_in_13 : decode cX9_in 13 = .ok (.iconst 1, 1) := dk_4 (dk_at dksX9_in_0 13 rfl rfl)
theorem dX9_in_14 : decode cX9_in 14 = .ok (.goto 4, 3) := dk_167 0 4 (dk_at dksX9_in_0 14 rfl rfl)
theorem dX9_in_17 : decode cX9_in 17 = .ok (.iconst 0, 1) := dk_3 (dk_at dksX9_in_0 17 rfl rfl)
theorem dX9_in_18 : decode cX9_in 18 = .ok (.ireturn, 1) := dk_172 (dk_at dksX9_in_0 18 rfl rfl)
abbrev cX9_find : ByteArray := prog_16_method_5_code
def yX9_find : MethodName := ⟨RX9, "find", "(I)I"⟩
def dkwX9_find_0 : List UInt8 := [42, 27, 181, 0, 50, 18, 54, 27, 100, 172]
abbrev dktX9_find_0 : List UInt8 := dkwX9_find_0 ++ []
theorem dksX9_find_0 : cX9_find.data.toList.drop 0 = dktX9_find_0 := by decide +kernel
theorem dX9_find_0 : decode cX9_find 0 = .ok (.aload_n 0, 1) := dk_42 (dk_at dksX9_find_0 0 rfl rfl)
theorem dX9_find_1 : decode cX9_find 1 = .ok (.iload_n 1, 1) := dk_27 (dk_at dksX9_find_0 1 rfl rfl)
theorem dX9_find_2 : decode cX9_find 2 = .ok (.putfield 50, 3) := dk_181 0 50 (dk_at dksX9_find_0 2 rfl rfl)
theorem dX9_find_5 : decode cX9_find 5 = .ok (.ldc 54, 2) := dk_18 54 (dk_at dksX9_find_0 5 rfl rfl)
theorem dX9_find_7 : decode cX9_find 7 = .ok (.iload_n 1, 1) := dk_27 (dk_at dksX9_find_0 7 rfl rfl)
theorem dX9_find_8 : decode cX9_find 8 = .ok (.isub, 1) := dk_100 (dk_at dksX9_find_0 8 rfl rfl)
theorem dX9_find_9 : decode cX9_find 9 = .ok (.ireturn, 1) := dk_172 (dk_at dksX9_find_0 9 rfl rfl)
abbrev cX9_well : ByteArray := prog_16_method_6_code
def yX9_well : MethodName := ⟨RX9, "well", "(I)I"⟩
def dkwX9_well_0 : List UInt8 := [42, 3, 181, 0, 50, 27, 172]
abbrev dktX9_well_0 : List UInt8 := dkwX9_well_0 ++ []
theorem dksX9_well_0 : cX9_well.data.toList.drop 0 = dktX9_well_0 := by decide +kernel
theorem dX9_well_0 : decode cX9_well 0 = .ok (.aload_n 0, 1) := dk_42 (dk_at dksX9_well_0 0 rfl rfl)
theorem dX9_well_1 : decode cX9_well 1 = .ok (.iconst 0, 1) := dk_3 (dk_at dksX9_well_0 1 rfl rfl)
theorem dX9_well_2 : decode cX9_well 2 = .ok (.putfield 50, 3) := dk_181 0 50 (dk_at dksX9_well_0 2 rfl rfl)
theorem dX9_well_5 : decode cX9_well 5 = .ok (.iload_n 1, 1) := dk_27 (dk_at dksX9_well_0 5 rfl rfl)
theorem dX9_well_6 : decode cX9_well 6 = .ok (.ireturn, 1) := dk_172 (dk_at dksX9_well_0 6 rfl rfl)
abbrev cX9_set : ByteArray := prog_16_method_10_code
def yX9_set : MethodName := ⟨RX9, "set", "(III)I"⟩
def dkwX9_set_3 : List UInt8 := [180, 0, 16, 16, 40, 27, 104, 28, 96, 46, 182, 0, 72, 172]
abbrev dktX9_set_3 : List UInt8 := dkwX9_set_3 ++ []
def dkwX9_set_2 : List UInt8 := [172, 42, 180, 0, 16, 16, 40, 27, 104, 28, 96, 42, 180, 0, 7, 27, 46, 29, 184, 0, 75, 79, 42, 42]
abbrev dktX9_set_2 : List UInt8 := dkwX9_set_2 ++ dktX9_set_3
def dkwX9_set_1 : List UInt8 := [172, 28, 133, 9, 42, 180, 0, 13, 27, 46, 4, 100, 133, 184, 0, 57, 154, 0, 9, 42, 5, 182, 0, 68]
abbrev dktX9_set_1 : List UInt8 := dkwX9_set_1 ++ dktX9_set_2
def dkwX9_set_0 : List UInt8 := [27, 184, 0, 61, 154, 0, 6, 18, 67, 172, 42, 180, 0, 13, 27, 46, 156, 0, 9, 42, 4, 182, 0, 68]
abbrev dktX9_set_0 : List UInt8 := dkwX9_set_0 ++ dktX9_set_1
theorem dksX9_set_0 : cX9_set.data.toList.drop 0 = dktX9_set_0 := by decide +kernel
theorem dksX9_set_1 : cX9_set.data.toList.drop 24 = dktX9_set_1 := dk_seg dksX9_set_0 24 rfl rfl
theorem dksX9_set_2 : cX9_set.data.toList.drop 48 = dktX9_set_2 := dk_seg dksX9_set_1 24 rfl rfl
theorem dksX9_set_3 : cX9_set.data.toList.drop 72 = dktX9_set_3 := dk_seg dksX9_set_2 24 rfl rfl
theorem dX9_set_0 : decode cX9_set 0 = .ok (.iload_n 1, 1) := dk_27 (dk_at dksX9_set_0 0 rfl rfl)
theorem dX9_set_1 : decode cX9_set 1 = .ok (.invokestatic 61, 3) := dk_184 0 61 (dk_at dksX9_set_0 1 rfl rfl)
theorem dX9_set_4 : decode cX9_set 4 = .ok (.ifCond .ne 6, 3) := dk_154 0 6 (dk_at dksX9_set_0 4 rfl rfl)
theorem dX9_set_7 : decode cX9_set 7 = .ok (.ldc 67, 2) := dk_18 67 (dk_at dksX9_set_0 7 rfl rfl)
theorem dX9_set_9 : decode cX9_set 9 = .ok (.ireturn, 1) := dk_172 (dk_at dksX9_set_0 9 rfl rfl)
theorem dX9_set_10 : decode cX9_set 10 = .ok (.aload_n 0, 1) := dk_42 (dk_at dksX9_set_0 10 rfl rfl)
theorem dX9_set_11 : decode cX9_set 11 = .ok (.getfield 13, 3) := dk_180 0 13 (dk_at dksX9_set_0 11 rfl rfl)
theorem dX9_set_14 : decode cX9_set 14 = .ok (.iload_n 1, 1) := dk_27 (dk_at dksX9_set_0 14 rfl rfl)
theorem dX9_set_15 : decode cX9_set 15 = .ok (.iaload, 1) := dk_46 (dk_at dksX9_set_0 15 rfl rfl)
theorem dX9_set_16 : decode cX9_set 16 = .ok (.ifCond .ge 9, 3) := dk_156 0 9 (dk_at dksX9_set_0 16 rfl rfl)
theorem dX9_set_19 : decode cX9_set 19 = .ok (.aload_n 0, 1) := dk_42 (dk_at dksX9_set_0 19 rfl rfl)
theorem dX9_set_20 : decode cX9_set 20 = .ok (.iconst 1, 1) := dk_4 (dk_at dksX9_set_0 20 rfl rfl)
theorem dX9_set_21 : decode cX9_set 21 = .ok (.invokevirtual 68, 3) := dk_182 0 68 (dk_at dksX9_set_0 21 rfl rfl)
theorem dX9_set_24 : decode cX9_set 24 = .ok (.ireturn, 1) := dk_172 (dk_at dksX9_set_1 0 rfl rfl)
theorem dX9_set_25 : decode cX9_set 25 = .ok (.iload_n 2, 1) := dk_28 (dk_at dksX9_set_1 1 rfl rfl)
theorem dX9_set_26 : decode cX9_set 26 = .ok (.i2l, 1) := dk_133 (dk_at dksX9_set_1 2 rfl rfl)
theorem dX9_set_27 : decode cX9_set 27 = .ok (.lconst 0, 1) := dk_9 (dk_at dksX9_set_1 3 rfl rfl)
theorem dX9_set_28 : decode cX9_set 28 = .ok (.aload_n 0, 1) := dk_42 (dk_at dksX9_set_1 4 rfl rfl)
theorem dX9_set_29 : decode cX9_set 29 = .ok (.getfield 13, 3) := dk_180 0 13 (dk_at dksX9_set_1 5 rfl rfl)
theorem dX9_set_32 : decode cX9_set 32 = .ok (.iload_n 1, 1) := dk_27 (dk_at dksX9_set_1 8 rfl rfl)
theorem dX9_set_33 : decode cX9_set 33 = .ok (.iaload, 1) := dk_46 (dk_at dksX9_set_1 9 rfl rfl)
theorem dX9_set_34 : decode cX9_set 34 = .ok (.iconst 1, 1) := dk_4 (dk_at dksX9_set_1 10 rfl rfl)
theorem dX9_set_35 : decode cX9_set 35 = .ok (.isub, 1) := dk_100 (dk_at dksX9_set_1 11 rfl rfl)
theorem dX9_set_36 : decode cX9_set 36 = .ok (.i2l, 1) := dk_133 (dk_at dksX9_set_1 12 rfl rfl)
theorem dX9_set_37 : decode cX9_set 37 = .ok (.invokestatic 57, 3) := dk_184 0 57 (dk_at dksX9_set_1 13 rfl rfl)
theorem dX9_set_40 : decode cX9_set 40 = .ok (.ifCond .ne 9, 3) := dk_154 0 9 (dk_at dksX9_set_1 16 rfl rfl)
theorem dX9_set_43 : decode cX9_set 43 = .ok (.aload_n 0, 1) := dk_42 (dk_at dksX9_set_1 19 rfl rfl)
theorem dX9_set_44 : decode cX9_set 44 = .ok (.iconst 2, 1) := dk_5 (dk_at dksX9_set_1 20 rfl rfl)
theorem dX9_set_45 : decode cX9_set 45 = .ok (.invokevirtual 68, 3) := dk_182 0 68 (dk_at dksX9_set_1 21 rfl rfl)
theorem dX9_set_48 : decode cX9_set 48 = .ok (.ireturn, 1) := dk_172 (dk_at dksX9_set_2 0 rfl rfl)
theorem dX9_set_49 : decode cX9_set 49 = .ok (.aload_n 0, 1) := dk_42 (dk_at dksX9_set_2 1 rfl rfl)
theorem dX9_set_50 : decode cX9_set 50 = .ok (.getfield 16, 3) := dk_180 0 16 (dk_at dksX9_set_2 2 rfl rfl)
theorem dX9_set_53 : decode cX9_set 53 = .ok (.bipush 40, 2) := dk_16 40 (dk_at dksX9_set_2 5 rfl rfl)
theorem dX9_set_55 : decode cX9_set 55 = .ok (.iload_n 1, 1) := dk_27 (dk_at dksX9_set_2 7 rfl rfl)
theorem dX9_set_56 : decode cX9_set 56 = .ok (.imul, 1) := dk_104 (dk_at dksX9_set_2 8 rfl rfl)
theorem dX9_set_57 : decode cX9_set 57 = .ok (.iload_n 2, 1) := dk_28 (dk_at dksX9_set_2 9 rfl rfl)
theorem dX9_set_58 : decode cX9_set 58 = .ok (.iadd, 1) := dk_96 (dk_at dksX9_set_2 10 rfl rfl)
theorem dX9_set_59 : decode cX9_set 59 = .ok (.aload_n 0, 1) := dk_42 (dk_at dksX9_set_2 11 rfl rfl)
theorem dX9_set_60 : decode cX9_set 60 = .ok (.getfield 7, 3) := dk_180 0 7 (dk_at dksX9_set_2 12 rfl rfl)
theorem dX9_set_63 : decode cX9_set 63 = .ok (.iload_n 1, 1) := dk_27 (dk_at dksX9_set_2 15 rfl rfl)
theorem dX9_set_64 : decode cX9_set 64 = .ok (.iaload, 1) := dk_46 (dk_at dksX9_set_2 16 rfl rfl)
theorem dX9_set_65 : decode cX9_set 65 = .ok (.iload_n 3, 1) := dk_29 (dk_at dksX9_set_2 17 rfl rfl)
theorem dX9_set_66 : decode cX9_set 66 = .ok (.invokestatic 75, 3) := dk_184 0 75 (dk_at dksX9_set_2 18 rfl rfl)
theorem dX9_set_69 : decode cX9_set 69 = .ok (.iastore, 1) := dk_79 (dk_at dksX9_set_2 21 rfl rfl)
theorem dX9_set_70 : decode cX9_set 70 = .ok (.aload_n 0, 1) := dk_42 (dk_at dksX9_set_2 22 rfl rfl)
theorem dX9_set_71 : decode cX9_set 71 = .ok (.aload_n 0, 1) := dk_42 (dk_at dksX9_set_2 23 rfl rfl)
theorem dX9_set_72 : decode cX9_set 72 = .ok (.getfield 16, 3) := dk_180 0 16 (dk_at dksX9_set_3 0 rfl rfl)
theorem dX9_set_75 : decode cX9_set 75 = .ok (.bipush 40, 2) := dk_16 40 (dk_at dksX9_set_3 3 rfl rfl)
theorem dX9_set_77 : decode cX9_set 77 = .ok (.iload_n 1, 1) := dk_27 (dk_at dksX9_set_3 5 rfl rfl)
theorem dX9_set_78 : decode cX9_set 78 = .ok (.imul, 1) := dk_104 (dk_at dksX9_set_3 6 rfl rfl)
theorem dX9_set_79 : decode cX9_set 79 = .ok (.iload_n 2, 1) := dk_28 (dk_at dksX9_set_3 7 rfl rfl)
theorem dX9_set_80 : decode cX9_set 80 = .ok (.iadd, 1) := dk_96 (dk_at dksX9_set_3 8 rfl rfl)
theorem dX9_set_81 : decode cX9_set 81 = .ok (.iaload, 1) := dk_46 (dk_at dksX9_set_3 9 rfl rfl)
theorem dX9_set_82 : decode cX9_set 82 = .ok (.invokevirtual 72, 3) := dk_182 0 72 (dk_at dksX9_set_3 10 rfl rfl)
theorem dX9_set_85 : decode cX9_set 85 = .ok (.ireturn, 1) := dk_172 (dk_at dksX9_set_3 13 rfl rfl)
abbrev cX9_asLane : ByteArray := prog_16_method_9_code
def yX9_asLane : MethodName := ⟨RX9, "asLane", "(II)I"⟩
def dkwX9_asLane_1 : List UInt8 := [16, 16, 122, 167, 0, 4, 27, 172]
abbrev dktX9_asLane_1 : List UInt8 := dkwX9_asLane_1 ++ []
def dkwX9_asLane_0 : List UInt8 := [26, 154, 0, 13, 27, 16, 24, 120, 16, 24, 122, 167, 0, 19, 26, 4, 160, 0, 13, 27, 16, 16, 120]
abbrev dktX9_asLane_0 : List UInt8 := dkwX9_asLane_0 ++ dktX9_asLane_1
theorem dksX9_asLane_0 : cX9_asLane.data.toList.drop 0 = dktX9_asLane_0 := by decide +kernel
theorem dksX9_asLane_1 : cX9_asLane.data.toList.drop 23 = dktX9_asLane_1 := dk_seg dksX9_asLane_0 23 rfl rfl
theorem dX9_asLane_0 : decode cX9_asLane 0 = .ok (.iload_n 0, 1) := dk_26 (dk_at dksX9_asLane_0 0 rfl rfl)
theorem dX9_asLane_1 : decode cX9_asLane 1 = .ok (.ifCond .ne 13, 3) := dk_154 0 13 (dk_at dksX9_asLane_0 1 rfl rfl)
theorem dX9_asLane_4 : decode cX9_asLane 4 = .ok (.iload_n 1, 1) := dk_27 (dk_at dksX9_asLane_0 4 rfl rfl)
theorem dX9_asLane_5 : decode cX9_asLane 5 = .ok (.bipush 24, 2) := dk_16 24 (dk_at dksX9_asLane_0 5 rfl rfl)
theorem dX9_asLane_7 : decode cX9_asLane 7 = .ok (.ishl, 1) := dk_120 (dk_at dksX9_asLane_0 7 rfl rfl)
theorem dX9_asLane_8 : decode cX9_asLane 8 = .ok (.bipush 24, 2) := dk_16 24 (dk_at dksX9_asLane_0 8 rfl rfl)
theorem dX9_asLane_10 : decode cX9_asLane 10 = .ok (.ishr, 1) := dk_122 (dk_at dksX9_asLane_0 10 rfl rfl)
theorem dX9_asLane_11 : decode cX9_asLane 11 = .ok (.goto 19, 3) := dk_167 0 19 (dk_at dksX9_asLane_0 11 rfl rfl)
theorem dX9_asLane_14 : decode cX9_asLane 14 = .ok (.iload_n 0, 1) := dk_26 (dk_at dksX9_asLane_0 14 rfl rfl)
theorem dX9_asLane_15 : decode cX9_asLane 15 = .ok (.iconst 1, 1) := dk_4 (dk_at dksX9_asLane_0 15 rfl rfl)
theorem dX9_asLane_16 : decode cX9_asLane 16 = .ok (.if_icmp .ne 13, 3) := dk_160 0 13 (dk_at dksX9_asLane_0 16 rfl rfl)
theorem dX9_asLane_19 : decode cX9_asLane 19 = .ok (.iload_n 1, 1) := dk_27 (dk_at dksX9_asLane_0 19 rfl rfl)
theorem dX9_asLane_20 : decode cX9_asLane 20 = .ok (.bipush 16, 2) := dk_16 16 (dk_at dksX9_asLane_0 20 rfl rfl)
theorem dX9_asLane_22 : decode cX9_asLane 22 = .ok (.ishl, 1) := dk_120 (dk_at dksX9_asLane_0 22 rfl rfl)
theorem dX9_asLane_23 : decode cX9_asLane 23 = .ok (.bipush 16, 2) := dk_16 16 (dk_at dksX9_asLane_1 0 rfl rfl)
theorem dX9_asLane_25 : decode cX9_asLane 25 = .ok (.ishr, 1) := dk_122 (dk_at dksX9_asLane_1 2 rfl rfl)
theorem dX9_asLane_26 : decode cX9_asLane 26 = .ok (.goto 4, 3) := dk_167 0 4 (dk_at dksX9_asLane_1 3 rfl rfl)
theorem dX9_asLane_29 : decode cX9_asLane 29 = .ok (.iload_n 1, 1) := dk_27 (dk_at dksX9_asLane_1 6 rfl rfl)
theorem dX9_asLane_30 : decode cX9_asLane 30 = .ok (.ireturn, 1) := dk_172 (dk_at dksX9_asLane_1 7 rfl rfl)
abbrev cX9_copy : ByteArray := prog_16_method_11_code
def yX9_copy : MethodName := ⟨RX9, "copy", "(IIIII)I"⟩
def dkwX9_copy_8 : List UInt8 := [21, 5, 182, 0, 72, 172]
abbrev dktX9_copy_8 : List UInt8 := dkwX9_copy_8 ++ []
def dkwX9_copy_7 : List UInt8 := [29, 104, 21, 4, 96, 21, 6, 96, 42, 180, 0, 22, 21, 6, 46, 79, 132, 6, 1, 167, 255, 224, 42]
abbrev dktX9_copy_7 : List UInt8 := dkwX9_copy_7 ++ dktX9_copy_8
def dkwX9_copy_6 : List UInt8 := [46, 79, 132, 6, 1, 167, 255, 225, 3, 54, 6, 21, 6, 21, 5, 162, 0, 31, 42, 180, 0, 16, 16, 40]
abbrev dktX9_copy_6 : List UInt8 := dkwX9_copy_6 ++ dktX9_copy_7
def dkwX9_copy_5 : List UInt8 := [21, 5, 162, 0, 30, 42, 180, 0, 22, 21, 6, 42, 180, 0, 16, 16, 40, 27, 104, 28, 96, 21, 6, 96]
abbrev dktX9_copy_5 : List UInt8 := dkwX9_copy_5 ++ dktX9_copy_6
def dkwX9_copy_4 : List UInt8 := [29, 46, 133, 21, 5, 133, 101, 184, 0, 57, 154, 0, 9, 42, 5, 182, 0, 68, 172, 3, 54, 6, 21, 6]
abbrev dktX9_copy_4 : List UInt8 := dkwX9_copy_4 ++ dktX9_copy_5
def dkwX9_copy_3 : List UInt8 := [180, 0, 13, 27, 46, 133, 21, 5, 133, 101, 184, 0, 57, 153, 0, 24, 21, 4, 133, 9, 42, 180, 0, 13]
abbrev dktX9_copy_3 : List UInt8 := dkwX9_copy_3 ++ dktX9_copy_4
def dkwX9_copy_2 : List UInt8 := [42, 180, 0, 7, 29, 46, 159, 0, 9, 42, 8, 182, 0, 68, 172, 21, 5, 155, 0, 44, 28, 133, 9, 42]
abbrev dktX9_copy_2 : List UInt8 := dkwX9_copy_2 ++ dktX9_copy_3
def dkwX9_copy_1 : List UInt8 := [155, 0, 12, 42, 180, 0, 13, 29, 46, 156, 0, 9, 42, 4, 182, 0, 68, 172, 42, 180, 0, 7, 27, 46]
abbrev dktX9_copy_1 : List UInt8 := dkwX9_copy_1 ++ dktX9_copy_2
def dkwX9_copy_0 : List UInt8 := [27, 184, 0, 61, 153, 0, 10, 29, 184, 0, 61, 154, 0, 6, 18, 67, 172, 42, 180, 0, 13, 27, 46]
abbrev dktX9_copy_0 : List UInt8 := dkwX9_copy_0 ++ dktX9_copy_1
theorem dksX9_copy_0 : cX9_copy.data.toList.drop 0 = dktX9_copy_0 := by decide +kernel
theorem dksX9_copy_1 : cX9_copy.data.toList.drop 23 = dktX9_copy_1 := dk_seg dksX9_copy_0 23 rfl rfl
theorem dksX9_copy_2 : cX9_copy.data.toList.drop 47 = dktX9_copy_2 := dk_seg dksX9_copy_1 24 rfl rfl
theorem dksX9_copy_3 : cX9_copy.data.toList.drop 71 = dktX9_copy_3 := dk_seg dksX9_copy_2 24 rfl rfl
theorem dksX9_copy_4 : cX9_copy.data.toList.drop 95 = dktX9_copy_4 := dk_seg dksX9_copy_3 24 rfl rfl
theorem dksX9_copy_5 : cX9_copy.data.toList.drop 119 = dktX9_copy_5 := dk_seg dksX9_copy_4 24 rfl rfl
theorem dksX9_copy_6 : cX9_copy.data.toList.drop 143 = dktX9_copy_6 := dk_seg dksX9_copy_5 24 rfl rfl
theorem dksX9_copy_7 : cX9_copy.data.toList.drop 167 = dktX9_copy_7 := dk_seg dksX9_copy_6 24 rfl rfl
theorem dksX9_copy_8 : cX9_copy.data.toList.drop 190 = dktX9_copy_8 := dk_seg dksX9_copy_7 23 rfl rfl
theorem dX9_copy_0 : decode cX9_copy 0 = .ok (.iload_n 1, 1) := dk_27 (dk_at dksX9_copy_0 0 rfl rfl)
theorem dX9_copy_1 : decode cX9_copy 1 = .ok (.invokestatic 61, 3) := dk_184 0 61 (dk_at dksX9_copy_0 1 rfl rfl)
theorem dX9_copy_4 : decode cX9_copy 4 = .ok (.ifCond .eq 10, 3) := dk_153 0 10 (dk_at dksX9_copy_0 4 rfl rfl)
theorem dX9_copy_7 : decode cX9_copy 7 = .ok (.iload_n 3, 1) := dk_29 (dk_at dksX9_copy_0 7 rfl rfl)
theorem dX9_copy_8 : decode cX9_copy 8 = .ok (.invokestatic 61, 3) := dk_184 0 61 (dk_at dksX9_copy_0 8 rfl rfl)
theorem dX9_copy_11 : decode cX9_copy 11 = .ok (.ifCond .ne 6, 3) := dk_154 0 6 (dk_at dksX9_copy_0 11 rfl rfl)
theorem dX9_copy_14 : decode cX9_copy 14 = .ok (.ldc 67, 2) := dk_18 67 (dk_at dksX9_copy_0 14 rfl rfl)
theorem dX9_copy_16 : decode cX9_copy 16 = .ok (.ireturn, 1) := dk_172 (dk_at dksX9_copy_0 16 rfl rfl)
theorem dX9_copy_17 : decode cX9_copy 17 = .ok (.aload_n 0, 1) := dk_42 (dk_at dksX9_copy_0 17 rfl rfl)
theorem dX9_copy_18 : decode cX9_copy 18 = .ok (.getfield 13, 3) := dk_180 0 13 (dk_at dksX9_copy_0 18 rfl rfl)
theorem dX9_copy_21 : decode cX9_copy 21 = .ok (.iload_n 1, 1) := dk_27 (dk_at dksX9_copy_0 21 rfl rfl)
theorem dX9_copy_22 : decode cX9_copy 22 = .ok (.iaload, 1) := dk_46 (dk_at dksX9_copy_0 22 rfl rfl)
theorem dX9_copy_23 : decode cX9_copy 23 = .ok (.ifCond .lt 12, 3) := dk_155 0 12 (dk_at dksX9_copy_1 0 rfl rfl)
theorem dX9_copy_26 : decode cX9_copy 26 = .ok (.aload_n 0, 1) := dk_42 (dk_at dksX9_copy_1 3 rfl rfl)
theorem dX9_copy_27 : decode cX9_copy 27 = .ok (.getfield 13, 3) := dk_180 0 13 (dk_at dksX9_copy_1 4 rfl rfl)
theorem dX9_copy_30 : decode cX9_copy 30 = .ok (.iload_n 3, 1) := dk_29 (dk_at dksX9_copy_1 7 rfl rfl)
theorem dX9_copy_31 : decode cX9_copy 31 = .ok (.iaload, 1) := dk_46 (dk_at dksX9_copy_1 8 rfl rfl)
theorem dX9_copy_32 : decode cX9_copy 32 = .ok (.ifCond .ge 9, 3) := dk_156 0 9 (dk_at dksX9_copy_1 9 rfl rfl)
theorem dX9_copy_35 : decode cX9_copy 35 = .ok (.aload_n 0, 1) := dk_42 (dk_at dksX9_copy_1 12 rfl rfl)
theorem dX9_copy_36 : decode cX9_copy 36 = .ok (.iconst 1, 1) := dk_4 (dk_at dksX9_copy_1 13 rfl rfl)
theorem dX9_copy_37 : decode cX9_copy 37 = .ok (.invokevirtual 68, 3) := dk_182 0 68 (dk_at dksX9_copy_1 14 rfl rfl)
theorem dX9_copy_40 : decode cX9_copy 40 = .ok (.ireturn, 1) := dk_172 (dk_at dksX9_copy_1 17 rfl rfl)
theorem dX9_copy_41 : decode cX9_copy 41 = .ok (.aload_n 0, 1) := dk_42 (dk_at dksX9_copy_1 18 rfl rfl)
theorem dX9_copy_42 : decode cX9_copy 42 = .ok (.getfield 7, 3) := dk_180 0 7 (dk_at dksX9_copy_1 19 rfl rfl)
theorem dX9_copy_45 : decode cX9_copy 45 = .ok (.iload_n 1, 1) := dk_27 (dk_at dksX9_copy_1 22 rfl rfl)
theorem dX9_copy_46 : decode cX9_copy 46 = .ok (.iaload, 1) := dk_46 (dk_at dksX9_copy_1 23 rfl rfl)
theorem dX9_copy_47 : decode cX9_copy 47 = .ok (.aload_n 0, 1) := dk_42 (dk_at dksX9_copy_2 0 rfl rfl)
theorem dX9_copy_48 : decode cX9_copy 48 = .ok (.getfield 7, 3) := dk_180 0 7 (dk_at dksX9_copy_2 1 rfl rfl)
theorem dX9_copy_51 : decode cX9_copy 51 = .ok (.iload_n 3, 1) := dk_29 (dk_at dksX9_copy_2 4 rfl rfl)
theorem dX9_copy_52 : decode cX9_copy 52 = .ok (.iaload, 1) := dk_46 (dk_at dksX9_copy_2 5 rfl rfl)
theorem dX9_copy_53 : decode cX9_copy 53 = .ok (.if_icmp .eq 9, 3) := dk_159 0 9 (dk_at dksX9_copy_2 6 rfl rfl)
theorem dX9_copy_56 : decode cX9_copy 56 = .ok (.aload_n 0, 1) := dk_42 (dk_at dksX9_copy_2 9 rfl rfl)
theorem dX9_copy_57 : decode cX9_copy 57 = .ok (.iconst 5, 1) := dk_8 (dk_at dksX9_copy_2 10 rfl rfl)
theorem dX9_copy_58 : decode cX9_copy 58 = .ok (.invokevirtual 68, 3) := dk_182 0 68 (dk_at dksX9_copy_2 11 rfl rfl)
theorem dX9_copy_61 : decode cX9_copy 61 = .ok (.ireturn, 1) := dk_172 (dk_at dksX9_copy_2 14 rfl rfl)
theorem dX9_copy_62 : decode cX9_copy 62 = .ok (.iload 5, 2) := dk_21 5 (dk_at dksX9_copy_2 15 rfl rfl)
theorem dX9_copy_64 : decode cX9_copy 64 = .ok (.ifCond .lt 44, 3) := dk_155 0 44 (dk_at dksX9_copy_2 17 rfl rfl)
theorem dX9_copy_67 : decode cX9_copy 67 = .ok (.iload_n 2, 1) := dk_28 (dk_at dksX9_copy_2 20 rfl rfl)
theorem dX9_copy_68 : decode cX9_copy 68 = .ok (.i2l, 1) := dk_133 (dk_at dksX9_copy_2 21 rfl rfl)
theorem dX9_copy_69 : decode cX9_copy 69 = .ok (.lconst 0, 1) := dk_9 (dk_at dksX9_copy_2 22 rfl rfl)
theorem dX9_copy_70 : decode cX9_copy 70 = .ok (.aload_n 0, 1) := dk_42 (dk_at dksX9_copy_2 23 rfl rfl)
theorem dX9_copy_71 : decode cX9_copy 71 = .ok (.getfield 13, 3) := dk_180 0 13 (dk_at dksX9_copy_3 0 rfl rfl)
theorem dX9_copy_74 : decode cX9_copy 74 = .ok (.iload_n 1, 1) := dk_27 (dk_at dksX9_copy_3 3 rfl rfl)
theorem dX9_copy_75 : decode cX9_copy 75 = .ok (.iaload, 1) := dk_46 (dk_at dksX9_copy_3 4 rfl rfl)
theorem dX9_copy_76 : decode cX9_copy 76 = .ok (.i2l, 1) := dk_133 (dk_at dksX9_copy_3 5 rfl rfl)
theorem dX9_copy_77 : decode cX9_copy 77 = .ok (.iload 5, 2) := dk_21 5 (dk_at dksX9_copy_3 6 rfl rfl)
theorem dX9_copy_79 : decode cX9_copy 79 = .ok (.i2l, 1) := dk_133 (dk_at dksX9_copy_3 8 rfl rfl)
theorem dX9_copy_80 : decode cX9_copy 80 = .ok (.lsub, 1) := dk_101 (dk_at dksX9_copy_3 9 rfl rfl)
theorem dX9_copy_81 : decode cX9_copy 81 = .ok (.invokestatic 57, 3) := dk_184 0 57 (dk_at dksX9_copy_3 10 rfl rfl)
theorem dX9_copy_84 : decode cX9_copy 84 = .ok (.ifCond .eq 24, 3) := dk_153 0 24 (dk_at dksX9_copy_3 13 rfl rfl)
theorem dX9_copy_87 : decode cX9_copy 87 = .ok (.iload 4, 2) := dk_21 4 (dk_at dksX9_copy_3 16 rfl rfl)
theorem dX9_copy_89 : decode cX9_copy 89 = .ok (.i2l, 1) := dk_133 (dk_at dksX9_copy_3 18 rfl rfl)
theorem dX9_copy_90 : decode cX9_copy 90 = .ok (.lconst 0, 1) := dk_9 (dk_at dksX9_copy_3 19 rfl rfl)
theorem dX9_copy_91 : decode cX9_copy 91 = .ok (.aload_n 0, 1) := dk_42 (dk_at dksX9_copy_3 20 rfl rfl)
theorem dX9_copy_92 : decode cX9_copy 92 = .ok (.getfield 13, 3) := dk_180 0 13 (dk_at dksX9_copy_3 21 rfl rfl)
theorem dX9_copy_95 : decode cX9_copy 95 = .ok (.iload_n 3, 1) := dk_29 (dk_at dksX9_copy_4 0 rfl rfl)
theorem dX9_copy_96 : decode cX9_copy 96 = .ok (.iaload, 1) := dk_46 (dk_at dksX9_copy_4 1 rfl rfl)
theorem dX9_copy_97 : decode cX9_copy 97 = .ok (.i2l, 1) := dk_133 (dk_at dksX9_copy_4 2 rfl rfl)
theorem dX9_copy_98 : decode cX9_copy 98 = .ok (.iload 5, 2) := dk_21 5 (dk_at dksX9_copy_4 3 rfl rfl)
theorem dX9_copy_100 : decode cX9_copy 100 = .ok (.i2l, 1) := dk_133 (dk_at dksX9_copy_4 5 rfl rfl)
theorem dX9_copy_101 : decode cX9_copy 101 = .ok (.lsub, 1) := dk_101 (dk_at dksX9_copy_4 6 rfl rfl)
theorem dX9_copy_102 : decode cX9_copy 102 = .ok (.invokestatic 57, 3) := dk_184 0 57 (dk_at dksX9_copy_4 7 rfl rfl)
theorem dX9_copy_105 : decode cX9_copy 105 = .ok (.ifCond .ne 9, 3) := dk_154 0 9 (dk_at dksX9_copy_4 10 rfl rfl)
theorem dX9_copy_108 : decode cX9_copy 108 = .ok (.aload_n 0, 1) := dk_42 (dk_at dksX9_copy_4 13 rfl rfl)
theorem dX9_copy_109 : decode cX9_copy 109 = .ok (.iconst 2, 1) := dk_5 (dk_at dksX9_copy_4 14 rfl rfl)
theorem dX9_copy_110 : decode cX9_copy 110 = .ok (.invokevirtual 68, 3) := dk_182 0 68 (dk_at dksX9_copy_4 15 rfl rfl)
theorem dX9_copy_113 : decode cX9_copy 113 = .ok (.ireturn, 1) := dk_172 (dk_at dksX9_copy_4 18 rfl rfl)
theorem dX9_copy_114 : decode cX9_copy 114 = .ok (.iconst 0, 1) := dk_3 (dk_at dksX9_copy_4 19 rfl rfl)
theorem dX9_copy_115 : decode cX9_copy 115 = .ok (.istore 6, 2) := dk_54 6 (dk_at dksX9_copy_4 20 rfl rfl)
theorem dX9_copy_117 : decode cX9_copy 117 = .ok (.iload 6, 2) := dk_21 6 (dk_at dksX9_copy_4 22 rfl rfl)
theorem dX9_copy_119 : decode cX9_copy 119 = .ok (.iload 5, 2) := dk_21 5 (dk_at dksX9_copy_5 0 rfl rfl)
theorem dX9_copy_121 : decode cX9_copy 121 = .ok (.if_icmp .ge 30, 3) := dk_162 0 30 (dk_at dksX9_copy_5 2 rfl rfl)
theorem dX9_copy_124 : decode cX9_copy 124 = .ok (.aload_n 0, 1) := dk_42 (dk_at dksX9_copy_5 5 rfl rfl)
theorem dX9_copy_125 : decode cX9_copy 125 = .ok (.getfield 22, 3) := dk_180 0 22 (dk_at dksX9_copy_5 6 rfl rfl)
theorem dX9_copy_128 : decode cX9_copy 128 = .ok (.iload 6, 2) := dk_21 6 (dk_at dksX9_copy_5 9 rfl rfl)
theorem dX9_copy_130 : decode cX9_copy 130 = .ok (.aload_n 0, 1) := dk_42 (dk_at dksX9_copy_5 11 rfl rfl)
theorem dX9_copy_131 : decode cX9_copy 131 = .ok (.getfield 16, 3) := dk_180 0 16 (dk_at dksX9_copy_5 12 rfl rfl)
theorem dX9_copy_134 : decode cX9_copy 134 = .ok (.bipush 40, 2) := dk_16 40 (dk_at dksX9_copy_5 15 rfl rfl)
theorem dX9_copy_136 : decode cX9_copy 136 = .ok (.iload_n 1, 1) := dk_27 (dk_at dksX9_copy_5 17 rfl rfl)
theorem dX9_copy_137 : decode cX9_copy 137 = .ok (.imul, 1) := dk_104 (dk_at dksX9_copy_5 18 rfl rfl)
theorem dX9_copy_138 : decode cX9_copy 138 = .ok (.iload_n 2, 1) := dk_28 (dk_at dksX9_copy_5 19 rfl rfl)
theorem dX9_copy_139 : decode cX9_copy 139 = .ok (.iadd, 1) := dk_96 (dk_at dksX9_copy_5 20 rfl rfl)
theorem dX9_copy_140 : decode cX9_copy 140 = .ok (.iload 6, 2) := dk_21 6 (dk_at dksX9_copy_5 21 rfl rfl)
theorem dX9_copy_142 : decode cX9_copy 142 = .ok (.iadd, 1) := dk_96 (dk_at dksX9_copy_5 23 rfl rfl)
theorem dX9_copy_143 : decode cX9_copy 143 = .ok (.iaload, 1) := dk_46 (dk_at dksX9_copy_6 0 rfl rfl)
theorem dX9_copy_144 : decode cX9_copy 144 = .ok (.iastore, 1) := dk_79 (dk_at dksX9_copy_6 1 rfl rfl)
theorem dX9_copy_145 : decode cX9_copy 145 = .ok (.iinc 6 1, 3) := dk_132 6 1 (dk_at dksX9_copy_6 2 rfl rfl)
theorem dX9_copy_148 : decode cX9_copy 148 = .ok (.goto (-31), 3) := dk_167 255 225 (dk_at dksX9_copy_6 5 rfl rfl)
theorem dX9_copy_151 : decode cX9_copy 151 = .ok (.iconst 0, 1) := dk_3 (dk_at dksX9_copy_6 8 rfl rfl)
theorem dX9_copy_152 : decode cX9_copy 152 = .ok (.istore 6, 2) := dk_54 6 (dk_at dksX9_copy_6 9 rfl rfl)
theorem dX9_copy_154 : decode cX9_copy 154 = .ok (.iload 6, 2) := dk_21 6 (dk_at dksX9_copy_6 11 rfl rfl)
theorem dX9_copy_156 : decode cX9_copy 156 = .ok (.iload 5, 2) := dk_21 5 (dk_at dksX9_copy_6 13 rfl rfl)
theorem dX9_copy_158 : decode cX9_copy 158 = .ok (.if_icmp .ge 31, 3) := dk_162 0 31 (dk_at dksX9_copy_6 15 rfl rfl)
theorem dX9_copy_161 : decode cX9_copy 161 = .ok (.aload_n 0, 1) := dk_42 (dk_at dksX9_copy_6 18 rfl rfl)
theorem dX9_copy_162 : decode cX9_copy 162 = .ok (.getfield 16, 3) := dk_180 0 16 (dk_at dksX9_copy_6 19 rfl rfl)
theorem dX9_copy_165 : decode cX9_copy 165 = .ok (.bipush 40, 2) := dk_16 40 (dk_at dksX9_copy_6 22 rfl rfl)
theorem dX9_copy_167 : decode cX9_copy 167 = .ok (.iload_n 3, 1) := dk_29 (dk_at dksX9_copy_7 0 rfl rfl)
theorem dX9_copy_168 : decode cX9_copy 168 = .ok (.imul, 1) := dk_104 (dk_at dksX9_copy_7 1 rfl rfl)
theorem dX9_copy_169 : decode cX9_copy 169 = .ok (.iload 4, 2) := dk_21 4 (dk_at dksX9_copy_7 2 rfl rfl)
theorem dX9_copy_171 : decode cX9_copy 171 = .ok (.iadd, 1) := dk_96 (dk_at dksX9_copy_7 4 rfl rfl)
theorem dX9_copy_172 : decode cX9_copy 172 = .ok (.iload 6, 2) := dk_21 6 (dk_at dksX9_copy_7 5 rfl rfl)
theorem dX9_copy_174 : decode cX9_copy 174 = .ok (.iadd, 1) := dk_96 (dk_at dksX9_copy_7 7 rfl rfl)
theorem dX9_copy_175 : decode cX9_copy 175 = .ok (.aload_n 0, 1) := dk_42 (dk_at dksX9_copy_7 8 rfl rfl)
theorem dX9_copy_176 : decode cX9_copy 176 = .ok (.getfield 22, 3) := dk_180 0 22 (dk_at dksX9_copy_7 9 rfl rfl)
theorem dX9_copy_179 : decode cX9_copy 179 = .ok (.iload 6, 2) := dk_21 6 (dk_at dksX9_copy_7 12 rfl rfl)
theorem dX9_copy_181 : decode cX9_copy 181 = .ok (.iaload, 1) := dk_46 (dk_at dksX9_copy_7 14 rfl rfl)
theorem dX9_copy_182 : decode cX9_copy 182 = .ok (.iastore, 1) := dk_79 (dk_at dksX9_copy_7 15 rfl rfl)
theorem dX9_copy_183 : decode cX9_copy 183 = .ok (.iinc 6 1, 3) := dk_132 6 1 (dk_at dksX9_copy_7 16 rfl rfl)
theorem dX9_copy_186 : decode cX9_copy 186 = .ok (.goto (-32), 3) := dk_167 255 224 (dk_at dksX9_copy_7 19 rfl rfl)
theorem dX9_copy_189 : decode cX9_copy 189 = .ok (.aload_n 0, 1) := dk_42 (dk_at dksX9_copy_7 22 rfl rfl)
theorem dX9_copy_190 : decode cX9_copy 190 = .ok (.iload 5, 2) := dk_21 5 (dk_at dksX9_copy_8 0 rfl rfl)
theorem dX9_copy_192 : decode cX9_copy 192 = .ok (.invokevirtual 72, 3) := dk_182 0 72 (dk_at dksX9_copy_8 2 rfl rfl)
theorem dX9_copy_195 : decode cX9_copy 195 = .ok (.ireturn, 1) := dk_172 (dk_at dksX9_copy_8 5 rfl rfl)
abbrev cX9_drop : ByteArray := prog_16_method_12_code
def yX9_drop : MethodName := ⟨RX9, "drop", "(I)I"⟩
def dkwX9_drop_1 : List UInt8 := [172, 42, 180, 0, 13, 27, 46, 61, 42, 180, 0, 13, 27, 2, 79, 42, 28, 182, 0, 72, 172]
abbrev dktX9_drop_1 : List UInt8 := dkwX9_drop_1 ++ []
def dkwX9_drop_0 : List UInt8 := [27, 184, 0, 61, 154, 0, 6, 18, 67, 172, 42, 180, 0, 13, 27, 46, 156, 0, 9, 42, 4, 182, 0, 68]
abbrev dktX9_drop_0 : List UInt8 := dkwX9_drop_0 ++ dktX9_drop_1
theorem dksX9_drop_0 : cX9_drop.data.toList.drop 0 = dktX9_drop_0 := by decide +kernel
theorem dksX9_drop_1 : cX9_drop.data.toList.drop 24 = dktX9_drop_1 := dk_seg dksX9_drop_0 24 rfl rfl
theorem dX9_drop_0 : decode cX9_drop 0 = .ok (.iload_n 1, 1) := dk_27 (dk_at dksX9_drop_0 0 rfl rfl)
theorem dX9_drop_1 : decode cX9_drop 1 = .ok (.invokestatic 61, 3) := dk_184 0 61 (dk_at dksX9_drop_0 1 rfl rfl)
theorem dX9_drop_4 : decode cX9_drop 4 = .ok (.ifCond .ne 6, 3) := dk_154 0 6 (dk_at dksX9_drop_0 4 rfl rfl)
theorem dX9_drop_7 : decode cX9_drop 7 = .ok (.ldc 67, 2) := dk_18 67 (dk_at dksX9_drop_0 7 rfl rfl)
theorem dX9_drop_9 : decode cX9_drop 9 = .ok (.ireturn, 1) := dk_172 (dk_at dksX9_drop_0 9 rfl rfl)
theorem dX9_drop_10 : decode cX9_drop 10 = .ok (.aload_n 0, 1) := dk_42 (dk_at dksX9_drop_0 10 rfl rfl)
theorem dX9_drop_11 : decode cX9_drop 11 = .ok (.getfield 13, 3) := dk_180 0 13 (dk_at dksX9_drop_0 11 rfl rfl)
theorem dX9_drop_14 : decode cX9_drop 14 = .ok (.iload_n 1, 1) := dk_27 (dk_at dksX9_drop_0 14 rfl rfl)
theorem dX9_drop_15 : decode cX9_drop 15 = .ok (.iaload, 1) := dk_46 (dk_at dksX9_drop_0 15 rfl rfl)
theorem dX9_drop_16 : decode cX9_drop 16 = .ok (.ifCond .ge 9, 3) := dk_156 0 9 (dk_at dksX9_drop_0 16 rfl rfl)
theorem dX9_drop_19 : decode cX9_drop 19 = .ok (.aload_n 0, 1) := dk_42 (dk_at dksX9_drop_0 19 rfl rfl)
theorem dX9_drop_20 : decode cX9_drop 20 = .ok (.iconst 1, 1) := dk_4 (dk_at dksX9_drop_0 20 rfl rfl)
theorem dX9_drop_21 : decode cX9_drop 21 = .ok (.invokevirtual 68, 3) := dk_182 0 68 (dk_at dksX9_drop_0 21 rfl rfl)
theorem dX9_drop_24 : decode cX9_drop 24 = .ok (.ireturn, 1) := dk_172 (dk_at dksX9_drop_1 0 rfl rfl)
theorem dX9_drop_25 : decode cX9_drop 25 = .ok (.aload_n 0, 1) := dk_42 (dk_at dksX9_drop_1 1 rfl rfl)
theorem dX9_drop_26 : decode cX9_drop 26 = .ok (.getfield 13, 3) := dk_180 0 13 (dk_at dksX9_drop_1 2 rfl rfl)
theorem dX9_drop_29 : decode cX9_drop 29 = .ok (.iload_n 1, 1) := dk_27 (dk_at dksX9_drop_1 5 rfl rfl)
theorem dX9_drop_30 : decode cX9_drop 30 = .ok (.iaload, 1) := dk_46 (dk_at dksX9_drop_1 6 rfl rfl)
theorem dX9_drop_31 : decode cX9_drop 31 = .ok (.istore_n 2, 1) := dk_61 (dk_at dksX9_drop_1 7 rfl rfl)
theorem dX9_drop_32 : decode cX9_drop 32 = .ok (.aload_n 0, 1) := dk_42 (dk_at dksX9_drop_1 8 rfl rfl)
theorem dX9_drop_33 : decode cX9_drop 33 = .ok (.getfield 13, 3) := dk_180 0 13 (dk_at dksX9_drop_1 9 rfl rfl)
theorem dX9_drop_36 : decode cX9_drop 36 = .ok (.iload_n 1, 1) := dk_27 (dk_at dksX9_drop_1 12 rfl rfl)
theorem dX9_drop_37 : decode cX9_drop 37 = .ok (.iconst (-1), 1) := dk_2 (dk_at dksX9_drop_1 13 rfl rfl)
theorem dX9_drop_38 : decode cX9_drop 38 = .ok (.iastore, 1) := dk_79 (dk_at dksX9_drop_1 14 rfl rfl)
theorem dX9_drop_39 : decode cX9_drop 39 = .ok (.aload_n 0, 1) := dk_42 (dk_at dksX9_drop_1 15 rfl rfl)
theorem dX9_drop_40 : decode cX9_drop 40 = .ok (.iload_n 2, 1) := dk_28 (dk_at dksX9_drop_1 16 rfl rfl)
theorem dX9_drop_41 : decode cX9_drop 41 = .ok (.invokevirtual 72, 3) := dk_182 0 72 (dk_at dksX9_drop_1 17 rfl rfl)
theorem dX9_drop_44 : decode cX9_drop 44 = .ok (.ireturn, 1) := dk_172 (dk_at dksX9_drop_1 20 rfl rfl)
abbrev cX9_feed : ByteArray := prog_16_method_13_code
def yX9_feed : MethodName := ⟨RX9, "feed", "(I)I"⟩
def dkwX9_feed_2 : List UInt8 := [180, 0, 81, 172]
abbrev dktX9_feed_2 : List UInt8 := dkwX9_feed_2 ++ []
def dkwX9_feed_1 : List UInt8 := [18, 84, 172, 42, 180, 0, 25, 42, 180, 0, 81, 27, 79, 42, 89, 180, 0, 81, 4, 96, 181, 0, 81, 42]
abbrev dktX9_feed_1 : List UInt8 := dkwX9_feed_1 ++ dktX9_feed_2
def dkwX9_feed_0 : List UInt8 := [27, 133, 9, 20, 0, 79, 184, 0, 57, 154, 0, 6, 18, 67, 172, 42, 180, 0, 81, 16, 120, 160, 0, 6]
abbrev dktX9_feed_0 : List UInt8 := dkwX9_feed_0 ++ dktX9_feed_1
theorem dksX9_feed_0 : cX9_feed.data.toList.drop 0 = dktX9_feed_0 := by decide +kernel
theorem dksX9_feed_1 : cX9_feed.data.toList.drop 24 = dktX9_feed_1 := dk_seg dksX9_feed_0 24 rfl rfl
theorem dksX9_feed_2 : cX9_feed.data.toList.drop 48 = dktX9_feed_2 := dk_seg dksX9_feed_1 24 rfl rfl
theorem dX9_feed_0 : decode cX9_feed 0 = .ok (.iload_n 1, 1) := dk_27 (dk_at dksX9_feed_0 0 rfl rfl)
theorem dX9_feed_1 : decode cX9_feed 1 = .ok (.i2l, 1) := dk_133 (dk_at dksX9_feed_0 1 rfl rfl)
theorem dX9_feed_2 : decode cX9_feed 2 = .ok (.lconst 0, 1) := dk_9 (dk_at dksX9_feed_0 2 rfl rfl)
theorem dX9_feed_3 : decode cX9_feed 3 = .ok (.ldc2_w 79, 3) := dk_20 0 79 (dk_at dksX9_feed_0 3 rfl rfl)
theorem dX9_feed_6 : decode cX9_feed 6 = .ok (.invokestatic 57, 3) := dk_184 0 57 (dk_at dksX9_feed_0 6 rfl rfl)
theorem dX9_feed_9 : decode cX9_feed 9 = .ok (.ifCond .ne 6, 3) := dk_154 0 6 (dk_at dksX9_feed_0 9 rfl rfl)
theorem dX9_feed_12 : decode cX9_feed 12 = .ok (.ldc 67, 2) := dk_18 67 (dk_at dksX9_feed_0 12 rfl rfl)
theorem dX9_feed_14 : decode cX9_feed 14 = .ok (.ireturn, 1) := dk_172 (dk_at dksX9_feed_0 14 rfl rfl)
theorem dX9_feed_15 : decode cX9_feed 15 = .ok (.aload_n 0, 1) := dk_42 (dk_at dksX9_feed_0 15 rfl rfl)
theorem dX9_feed_16 : decode cX9_feed 16 = .ok (.getfield 81, 3) := dk_180 0 81 (dk_at dksX9_feed_0 16 rfl rfl)
theorem dX9_feed_19 : decode cX9_feed 19 = .ok (.bipush 120, 2) := dk_16 120 (dk_at dksX9_feed_0 19 rfl rfl)
theorem dX9_feed_21 : decode cX9_feed 21 = .ok (.if_icmp .ne 6, 3) := dk_160 0 6 (dk_at dksX9_feed_0 21 rfl rfl)
theorem dX9_feed_24 : decode cX9_feed 24 = .ok (.ldc 84, 2) := dk_18 84 (dk_at dksX9_feed_1 0 rfl rfl)
theorem dX9_feed_26 : decode cX9_feed 26 = .ok (.ireturn, 1) := dk_172 (dk_at dksX9_feed_1 2 rfl rfl)
theorem dX9_feed_27 : decode cX9_feed 27 = .ok (.aload_n 0, 1) := dk_42 (dk_at dksX9_feed_1 3 rfl rfl)
theorem dX9_feed_28 : decode cX9_feed 28 = .ok (.getfield 25, 3) := dk_180 0 25 (dk_at dksX9_feed_1 4 rfl rfl)
theorem dX9_feed_31 : decode cX9_feed 31 = .ok (.aload_n 0, 1) := dk_42 (dk_at dksX9_feed_1 7 rfl rfl)
theorem dX9_feed_32 : decode cX9_feed 32 = .ok (.getfield 81, 3) := dk_180 0 81 (dk_at dksX9_feed_1 8 rfl rfl)
theorem dX9_feed_35 : decode cX9_feed 35 = .ok (.iload_n 1, 1) := dk_27 (dk_at dksX9_feed_1 11 rfl rfl)
theorem dX9_feed_36 : decode cX9_feed 36 = .ok (.iastore, 1) := dk_79 (dk_at dksX9_feed_1 12 rfl rfl)
theorem dX9_feed_37 : decode cX9_feed 37 = .ok (.aload_n 0, 1) := dk_42 (dk_at dksX9_feed_1 13 rfl rfl)
theorem dX9_feed_38 : decode cX9_feed 38 = .ok (.dup, 1) := dk_89 (dk_at dksX9_feed_1 14 rfl rfl)
theorem dX9_feed_39 : decode cX9_feed 39 = .ok (.getfield 81, 3) := dk_180 0 81 (dk_at dksX9_feed_1 15 rfl rfl)
theorem dX9_feed_42 : decode cX9_feed 42 = .ok (.iconst 1, 1) := dk_4 (dk_at dksX9_feed_1 18 rfl rfl)
theorem dX9_feed_43 : decode cX9_feed 43 = .ok (.iadd, 1) := dk_96 (dk_at dksX9_feed_1 19 rfl rfl)
theorem dX9_feed_44 : decode cX9_feed 44 = .ok (.putfield 81, 3) := dk_181 0 81 (dk_at dksX9_feed_1 20 rfl rfl)
theorem dX9_feed_47 : decode cX9_feed 47 = .ok (.aload_n 0, 1) := dk_42 (dk_at dksX9_feed_1 23 rfl rfl)
theorem dX9_feed_48 : decode cX9_feed 48 = .ok (.getfield 81, 3) := dk_180 0 81 (dk_at dksX9_feed_2 0 rfl rfl)
theorem dX9_feed_51 : decode cX9_feed 51 = .ok (.ireturn, 1) := dk_172 (dk_at dksX9_feed_2 3 rfl rfl)
abbrev cX9_ministry : ByteArray := prog_16_method_21_code
def yX9_ministry : MethodName := ⟨RX9, "ministry", "()I"⟩
def dkwX9_ministry_3 : List UInt8 := [172]
abbrev dktX9_ministry_3 : List UInt8 := dkwX9_ministry_3 ++ []
def dkwX9_ministry_2 : List UInt8 := [46, 79, 132, 2, 1, 167, 255, 235, 42, 4, 181, 0, 135, 42, 3, 181, 0, 139, 42, 180, 0, 19, 5, 46]
abbrev dktX9_ministry_2 : List UInt8 := dkwX9_ministry_2 ++ dktX9_ministry_3
def dkwX9_ministry_1 : List UInt8 := [42, 180, 0, 88, 100, 172, 3, 61, 28, 16, 41, 162, 0, 21, 42, 180, 0, 19, 28, 42, 180, 0, 28, 28]
abbrev dktX9_ministry_1 : List UInt8 := dkwX9_ministry_1 ++ dktX9_ministry_2
def dkwX9_ministry_0 : List UInt8 := [42, 182, 0, 128, 60, 42, 3, 181, 0, 81, 27, 154, 0, 19, 42, 42, 180, 0, 105, 181, 0, 131, 18, 134]
abbrev dktX9_ministry_0 : List UInt8 := dkwX9_ministry_0 ++ dktX9_ministry_1
theorem dksX9_ministry_0 : cX9_ministry.data.toList.drop 0 = dktX9_ministry_0 := by decide +kernel
theorem dksX9_ministry_1 : cX9_ministry.data.toList.drop 24 = dktX9_ministry_1 := dk_seg dksX9_ministry_0 24 rfl rfl
theorem dksX9_ministry_2 : cX9_ministry.data.toList.drop 48 = dktX9_ministry_2 := dk_seg dksX9_ministry_1 24 rfl rfl
theorem dksX9_ministry_3 : cX9_ministry.data.toList.drop 72 = dktX9_ministry_3 := dk_seg dksX9_ministry_2 24 rfl rfl
theorem dX9_ministry_0 : decode cX9_ministry 0 = .ok (.aload_n 0, 1) := dk_42 (dk_at dksX9_ministry_0 0 rfl rfl)
theorem dX9_ministry_1 : decode cX9_ministry 1 = .ok (.invokevirtual 128, 3) := dk_182 0 128 (dk_at dksX9_ministry_0 1 rfl rfl)
theorem dX9_ministry_4 : decode cX9_ministry 4 = .ok (.istore_n 1, 1) := dk_60 (dk_at dksX9_ministry_0 4 rfl rfl)
theorem dX9_ministry_5 : decode cX9_ministry 5 = .ok (.aload_n 0, 1) := dk_42 (dk_at dksX9_ministry_0 5 rfl rfl)
theorem dX9_ministry_6 : decode cX9_ministry 6 = .ok (.iconst 0, 1) := dk_3 (dk_at dksX9_ministry_0 6 rfl rfl)
theorem dX9_ministry_7 : decode cX9_ministry 7 = .ok (.putfield 81, 3) := dk_181 0 81 (dk_at dksX9_ministry_0 7 rfl rfl)
theorem dX9_ministry_10 : decode cX9_ministry 10 = .ok (.iload_n 1, 1) := dk_27 (dk_at dksX9_ministry_0 10 rfl rfl)
theorem dX9_ministry_11 : decode cX9_ministry 11 = .ok (.ifCond .ne 19, 3) := dk_154 0 19 (dk_at dksX9_ministry_0 11 rfl rfl)
theorem dX9_ministry_14 : decode cX9_ministry 14 = .ok (.aload_n 0, 1) := dk_42 (dk_at dksX9_ministry_0 14 rfl rfl)
theorem dX9_ministry_15 : decode cX9_ministry 15 = .ok (.aload_n 0, 1) := dk_42 (dk_at dksX9_ministry_0 15 rfl rfl)
theorem dX9_ministry_16 : decode cX9_ministry 16 = .ok (.getfield 105, 3) := dk_180 0 105 (dk_at dksX9_ministry_0 16 rfl rfl)
theorem dX9_ministry_19 : decode cX9_ministry 19 = .ok (.putfield 131, 3) := dk_181 0 131 (dk_at dksX9_ministry_0 19 rfl rfl)
theorem dX9_ministry_22 : decode cX9_ministry 22 = .ok (.ldc 134, 2) := dk_18 134 (dk_at dksX9_ministry_0 22 rfl rfl)
theorem dX9_ministry_24 : decode cX9_ministry 24 = .ok (.aload_n 0, 1) := dk_42 (dk_at dksX9_ministry_1 0 rfl rfl)
theorem dX9_ministry_25 : decode cX9_ministry 25 = .ok (.getfield 88, 3) := dk_180 0 88 (dk_at dksX9_ministry_1 1 rfl rfl)
theorem dX9_ministry_28 : decode cX9_ministry 28 = .ok (.isub, 1) := dk_100 (dk_at dksX9_ministry_1 4 rfl rfl)
theorem dX9_ministry_29 : decode cX9_ministry 29 = .ok (.ireturn, 1) := dk_172 (dk_at dksX9_ministry_1 5 rfl rfl)
theorem dX9_ministry_30 : decode cX9_ministry 30 = .ok (.iconst 0, 1) := dk_3 (dk_at dksX9_ministry_1 6 rfl rfl)
theorem dX9_ministry_31 : decode cX9_ministry 31 = .ok (.istore_n 2, 1) := dk_61 (dk_at dksX9_ministry_1 7 rfl rfl)
theorem dX9_ministry_32 : decode cX9_ministry 32 = .ok (.iload_n 2, 1) := dk_28 (dk_at dksX9_ministry_1 8 rfl rfl)
theorem dX9_ministry_33 : decode cX9_ministry 33 = .ok (.bipush 41, 2) := dk_16 41 (dk_at dksX9_ministry_1 9 rfl rfl)
theorem dX9_ministry_35 : decode cX9_ministry 35 = .ok (.if_icmp .ge 21, 3) := dk_162 0 21 (dk_at dksX9_ministry_1 11 rfl rfl)
theorem dX9_ministry_38 : decode cX9_ministry 38 = .ok (.aload_n 0, 1) := dk_42 (dk_at dksX9_ministry_1 14 rfl rfl)
theorem dX9_ministry_39 : decode cX9_ministry 39 = .ok (.getfield 19, 3) := dk_180 0 19 (dk_at dksX9_ministry_1 15 rfl rfl)
theorem dX9_ministry_42 : decode cX9_ministry 42 = .ok (.iload_n 2, 1) := dk_28 (dk_at dksX9_ministry_1 18 rfl rfl)
theorem dX9_ministry_43 : decode cX9_ministry 43 = .ok (.aload_n 0, 1) := dk_42 (dk_at dksX9_ministry_1 19 rfl rfl)
theorem dX9_ministry_44 : decode cX9_ministry 44 = .ok (.getfield 28, 3) := dk_180 0 28 (dk_at dksX9_ministry_1 20 rfl rfl)
theorem dX9_ministry_47 : decode cX9_ministry 47 = .ok (.iload_n 2, 1) := dk_28 (dk_at dksX9_ministry_1 23 rfl rfl)
theorem dX9_ministry_48 : decode cX9_ministry 48 = .ok (.iaload, 1) := dk_46 (dk_at dksX9_ministry_2 0 rfl rfl)
theorem dX9_ministry_49 : decode cX9_ministry 49 = .ok (.iastore, 1) := dk_79 (dk_at dksX9_ministry_2 1 rfl rfl)
theorem dX9_ministry_50 : decode cX9_ministry 50 = .ok (.iinc 2 1, 3) := dk_132 2 1 (dk_at dksX9_ministry_2 2 rfl rfl)
theorem dX9_ministry_53 : decode cX9_ministry 53 = .ok (.goto (-21), 3) := dk_167 255 235 (dk_at dksX9_ministry_2 5 rfl rfl)
theorem dX9_ministry_56 : decode cX9_ministry 56 = .ok (.aload_n 0, 1) := dk_42 (dk_at dksX9_ministry_2 8 rfl rfl)
theorem dX9_ministry_57 : decode cX9_ministry 57 = .ok (.iconst 1, 1) := dk_4 (dk_at dksX9_ministry_2 9 rfl rfl)
theorem dX9_ministry_58 : decode cX9_ministry 58 = .ok (.putfield 135, 3) := dk_181 0 135 (dk_at dksX9_ministry_2 10 rfl rfl)
theorem dX9_ministry_61 : decode cX9_ministry 61 = .ok (.aload_n 0, 1) := dk_42 (dk_at dksX9_ministry_2 13 rfl rfl)
theorem dX9_ministry_62 : decode cX9_ministry 62 = .ok (.iconst 0, 1) := dk_3 (dk_at dksX9_ministry_2 14 rfl rfl)
theorem dX9_ministry_63 : decode cX9_ministry 63 = .ok (.putfield 139, 3) := dk_181 0 139 (dk_at dksX9_ministry_2 15 rfl rfl)
theorem dX9_ministry_66 : decode cX9_ministry 66 = .ok (.aload_n 0, 1) := dk_42 (dk_at dksX9_ministry_2 18 rfl rfl)
theorem dX9_ministry_67 : decode cX9_ministry 67 = .ok (.getfield 19, 3) := dk_180 0 19 (dk_at dksX9_ministry_2 19 rfl rfl)
theorem dX9_ministry_70 : decode cX9_ministry 70 = .ok (.iconst 2, 1) := dk_5 (dk_at dksX9_ministry_2 22 rfl rfl)
theorem dX9_ministry_71 : decode cX9_ministry 71 = .ok (.iaload, 1) := dk_46 (dk_at dksX9_ministry_2 23 rfl rfl)
theorem dX9_ministry_72 : decode cX9_ministry 72 = .ok (.ireturn, 1) := dk_172 (dk_at dksX9_ministry_3 0 rfl rfl)
abbrev cX9_readMinistry : ByteArray := prog_16_method_20_code
def yX9_readMinistry : MethodName := ⟨RX9, "readMinistry", "()Z"⟩
def dkwX9_readMinistry_4 : List UInt8 := [60, 167, 255, 230, 27, 172]
abbrev dktX9_readMinistry_4 : List UInt8 := dkwX9_readMinistry_4 ++ []
def dkwX9_readMinistry_3 : List UInt8 := [153, 0, 28, 42, 180, 0, 91, 6, 160, 0, 12, 42, 180, 0, 28, 5, 46, 154, 0, 11, 42, 182, 0, 124]
abbrev dktX9_readMinistry_3 : List UInt8 := dkwX9_readMinistry_3 ++ dktX9_readMinistry_4
def dkwX9_readMinistry_2 : List UInt8 := [182, 0, 120, 153, 0, 16, 42, 4, 16, 9, 4, 16, 59, 182, 0, 120, 154, 0, 5, 3, 172, 4, 60, 27]
abbrev dktX9_readMinistry_2 : List UInt8 := dkwX9_readMinistry_2 ++ dktX9_readMinistry_3
def dkwX9_readMinistry_1 : List UInt8 := [167, 255, 240, 42, 182, 0, 114, 42, 16, 109, 182, 0, 117, 153, 0, 28, 42, 3, 8, 3, 16, 44]
abbrev dktX9_readMinistry_1 : List UInt8 := dkwX9_readMinistry_1 ++ dktX9_readMinistry_2
def dkwX9_readMinistry_0 : List UInt8 := [42, 3, 181, 0, 85, 3, 60, 27, 16, 41, 162, 0, 16, 42, 180, 0, 28, 27, 3, 79, 132, 1, 1]
abbrev dktX9_readMinistry_0 : List UInt8 := dkwX9_readMinistry_0 ++ dktX9_readMinistry_1
theorem dksX9_readMinistry_0 : cX9_readMinistry.data.toList.drop 0 = dktX9_readMinistry_0 := by decide +kernel
theorem dksX9_readMinistry_1 : cX9_readMinistry.data.toList.drop 23 = dktX9_readMinistry_1 := dk_seg dksX9_readMinistry_0 23 rfl rfl
theorem dksX9_readMinistry_2 : cX9_readMinistry.data.toList.drop 45 = dktX9_readMinistry_2 := dk_seg dksX9_readMinistry_1 22 rfl rfl
theorem dksX9_readMinistry_3 : cX9_readMinistry.data.toList.drop 69 = dktX9_readMinistry_3 := dk_seg dksX9_readMinistry_2 24 rfl rfl
theorem dksX9_readMinistry_4 : cX9_readMinistry.data.toList.drop 93 = dktX9_readMinistry_4 := dk_seg dksX9_readMinistry_3 24 rfl rfl
theorem dX9_readMinistry_0 : decode cX9_readMinistry 0 = .ok (.aload_n 0, 1) := dk_42 (dk_at dksX9_readMinistry_0 0 rfl rfl)
theorem dX9_readMinistry_1 : decode cX9_readMinistry 1 = .ok (.iconst 0, 1) := dk_3 (dk_at dksX9_readMinistry_0 1 rfl rfl)
theorem dX9_readMinistry_2 : decode cX9_readMinistry 2 = .ok (.putfield 85, 3) := dk_181 0 85 (dk_at dksX9_readMinistry_0 2 rfl rfl)
theorem dX9_readMinistry_5 : decode cX9_readMinistry 5 = .ok (.iconst 0, 1) := dk_3 (dk_at dksX9_readMinistry_0 5 rfl rfl)
theorem dX9_readMinistry_6 : decode cX9_readMinistry 6 = .ok (.istore_n 1, 1) := dk_60 (dk_at dksX9_readMinistry_0 6 rfl rfl)
theorem dX9_readMinistry_7 : decode cX9_readMinistry 7 = .ok (.iload_n 1, 1) := dk_27 (dk_at dksX9_readMinistry_0 7 rfl rfl)
theorem dX9_readMinistry_8 : decode cX9_readMinistry 8 = .ok (.bipush 41, 2) := dk_16 41 (dk_at dksX9_readMinistry_0 8 rfl rfl)
theorem dX9_readMinistry_10 : decode cX9_readMinistry 10 = .ok (.if_icmp .ge 16, 3) := dk_162 0 16 (dk_at dksX9_readMinistry_0 10 rfl rfl)
theorem dX9_readMinistry_13 : decode cX9_readMinistry 13 = .ok (.aload_n 0, 1) := dk_42 (dk_at dksX9_readMinistry_0 13 rfl rfl)
theorem dX9_readMinistry_14 : decode cX9_readMinistry 14 = .ok (.getfield 28, 3) := dk_180 0 28 (dk_at dksX9_readMinistry_0 14 rfl rfl)
theorem dX9_readMinistry_17 : decode cX9_readMinistry 17 = .ok (.iload_n 1, 1) := dk_27 (dk_at dksX9_readMinistry_0 17 rfl rfl)
theorem dX9_readMinistry_18 : decode cX9_readMinistry 18 = .ok (.iconst 0, 1) := dk_3 (dk_at dksX9_readMinistry_0 18 rfl rfl)
theorem dX9_readMinistry_19 : decode cX9_readMinistry 19 = .ok (.iastore, 1) := dk_79 (dk_at dksX9_readMinistry_0 19 rfl rfl)
theorem dX9_readMinistry_20 : decode cX9_readMinistry 20 = .ok (.iinc 1 1, 3) := dk_132 1 1 (dk_at dksX9_readMinistry_0 20 rfl rfl)
theorem dX9_readMinistry_23 : decode cX9_readMinistry 23 = .ok (.goto (-16), 3) := dk_167 255 240 (dk_at dksX9_readMinistry_1 0 rfl rfl)
theorem dX9_readMinistry_26 : decode cX9_readMinistry 26 = .ok (.aload_n 0, 1) := dk_42 (dk_at dksX9_readMinistry_1 3 rfl rfl)
theorem dX9_readMinistry_27 : decode cX9_readMinistry 27 = .ok (.invokevirtual 114, 3) := dk_182 0 114 (dk_at dksX9_readMinistry_1 4 rfl rfl)
theorem dX9_readMinistry_30 : decode cX9_readMinistry 30 = .ok (.aload_n 0, 1) := dk_42 (dk_at dksX9_readMinistry_1 7 rfl rfl)
theorem dX9_readMinistry_31 : decode cX9_readMinistry 31 = .ok (.bipush 109, 2) := dk_16 109 (dk_at dksX9_readMinistry_1 8 rfl rfl)
theorem dX9_readMinistry_33 : decode cX9_readMinistry 33 = .ok (.invokevirtual 117, 3) := dk_182 0 117 (dk_at dksX9_readMinistry_1 10 rfl rfl)
theorem dX9_readMinistry_36 : decode cX9_readMinistry 36 = .ok (.ifCond .eq 28, 3) := dk_153 0 28 (dk_at dksX9_readMinistry_1 13 rfl rfl)
theorem dX9_readMinistry_39 : decode cX9_readMinistry 39 = .ok (.aload_n 0, 1) := dk_42 (dk_at dksX9_readMinistry_1 16 rfl rfl)
theorem dX9_readMinistry_40 : decode cX9_readMinistry 40 = .ok (.iconst 0, 1) := dk_3 (dk_at dksX9_readMinistry_1 17 rfl rfl)
theorem dX9_readMinistry_41 : decode cX9_readMinistry 41 = .ok (.iconst 5, 1) := dk_8 (dk_at dksX9_readMinistry_1 18 rfl rfl)
theorem dX9_readMinistry_42 : decode cX9_readMinistry 42 = .ok (.iconst 0, 1) := dk_3 (dk_at dksX9_readMinistry_1 19 rfl rfl)
theorem dX9_readMinistry_43 : decode cX9_readMinistry 43 = .ok (.bipush 44, 2) := dk_16 44 (dk_at dksX9_readMinistry_1 20 rfl rfl)
theorem dX9_readMinistry_45 : decode cX9_readMinistry 45 = .ok (.invokevirtual 120, 3) := dk_182 0 120 (dk_at dksX9_readMinistry_2 0 rfl rfl)
theorem dX9_readMinistry_48 : decode cX9_readMinistry 48 = .ok (.ifCond .eq 16, 3) := dk_153 0 16 (dk_at dksX9_readMinistry_2 3 rfl rfl)
theorem dX9_readMinistry_51 : decode cX9_readMinistry 51 = .ok (.aload_n 0, 1) := dk_42 (dk_at dksX9_readMinistry_2 6 rfl rfl)
theorem dX9_readMinistry_52 : decode cX9_readMinistry 52 = .ok (.iconst 1, 1) := dk_4 (dk_at dksX9_readMinistry_2 7 rfl rfl)
theorem dX9_readMinistry_53 : decode cX9_readMinistry 53 = .ok (.bipush 9, 2) := dk_16 9 (dk_at dksX9_readMinistry_2 8 rfl rfl)
theorem dX9_readMinistry_55 : decode cX9_readMinistry 55 = .ok (.iconst 1, 1) := dk_4 (dk_at dksX9_readMinistry_2 10 rfl rfl)
theorem dX9_readMinistry_56 : decode cX9_readMinistry 56 = .ok (.bipush 59, 2) := dk_16 59 (dk_at dksX9_readMinistry_2 11 rfl rfl)
theorem dX9_readMinistry_58 : decode cX9_readMinistry 58 = .ok (.invokevirtual 120, 3) := dk_182 0 120 (dk_at dksX9_readMinistry_2 13 rfl rfl)
theorem dX9_readMinistry_61 : decode cX9_readMinistry 61 = .ok (.ifCond .ne 5, 3) := dk_154 0 5 (dk_at dksX9_readMinistry_2 16 rfl rfl)
theorem dX9_readMinistry_64 : decode cX9_readMinistry 64 = .ok (.iconst 0, 1) := dk_3 (dk_at dksX9_readMinistry_2 19 rfl rfl)
theorem dX9_readMinistry_65 : decode cX9_readMinistry 65 = .ok (.ireturn, 1) := dk_172 (dk_at dksX9_readMinistry_2 20 rfl rfl)
theorem dX9_readMinistry_66 : decode cX9_readMinistry 66 = .ok (.iconst 1, 1) := dk_4 (dk_at dksX9_readMinistry_2 21 rfl rfl)
theorem dX9_readMinistry_67 : decode cX9_readMinistry 67 = .ok (.istore_n 1, 1) := dk_60 (dk_at dksX9_readMinistry_2 22 rfl rfl)
theorem dX9_readMinistry_68 : decode cX9_readMinistry 68 = .ok (.iload_n 1, 1) := dk_27 (dk_at dksX9_readMinistry_2 23 rfl rfl)
theorem dX9_readMinistry_69 : decode cX9_readMinistry 69 = .ok (.ifCond .eq 28, 3) := dk_153 0 28 (dk_at dksX9_readMinistry_3 0 rfl rfl)
theorem dX9_readMinistry_72 : decode cX9_readMinistry 72 = .ok (.aload_n 0, 1) := dk_42 (dk_at dksX9_readMinistry_3 3 rfl rfl)
theorem dX9_readMinistry_73 : decode cX9_readMinistry 73 = .ok (.getfield 91, 3) := dk_180 0 91 (dk_at dksX9_readMinistry_3 4 rfl rfl)
theorem dX9_readMinistry_76 : decode cX9_readMinistry 76 = .ok (.iconst 3, 1) := dk_6 (dk_at dksX9_readMinistry_3 7 rfl rfl)
theorem dX9_readMinistry_77 : decode cX9_readMinistry 77 = .ok (.if_icmp .ne 12, 3) := dk_160 0 12 (dk_at dksX9_readMinistry_3 8 rfl rfl)
theorem dX9_readMinistry_80 : decode cX9_readMinistry 80 = .ok (.aload_n 0, 1) := dk_42 (dk_at dksX9_readMinistry_3 11 rfl rfl)
theorem dX9_readMinistry_81 : decode cX9_readMinistry 81 = .ok (.getfield 28, 3) := dk_180 0 28 (dk_at dksX9_readMinistry_3 12 rfl rfl)
theorem dX9_readMinistry_84 : decode cX9_readMinistry 84 = .ok (.iconst 2, 1) := dk_5 (dk_at dksX9_readMinistry_3 15 rfl rfl)
theorem dX9_readMinistry_85 : decode cX9_readMinistry 85 = .ok (.iaload, 1) := dk_46 (dk_at dksX9_readMinistry_3 16 rfl rfl)
theorem dX9_readMinistry_86 : decode cX9_readMinistry 86 = .ok (.ifCond .ne 11, 3) := dk_154 0 11 (dk_at dksX9_readMinistry_3 17 rfl rfl)
theorem dX9_readMinistry_89 : decode cX9_readMinistry 89 = .ok (.aload_n 0, 1) := dk_42 (dk_at dksX9_readMinistry_3 20 rfl rfl)
theorem dX9_readMinistry_90 : decode cX9_readMinistry 90 = .ok (.invokevirtual 124, 3) := dk_182 0 124 (dk_at dksX9_readMinistry_3 21 rfl rfl)
theorem dX9_readMinistry_93 : decode cX9_readMinistry 93 = .ok (.istore_n 1, 1) := dk_60 (dk_at dksX9_readMinistry_4 0 rfl rfl)
theorem dX9_readMinistry_94 : decode cX9_readMinistry 94 = .ok (.goto (-26), 3) := dk_167 255 230 (dk_at dksX9_readMinistry_4 1 rfl rfl)
theorem dX9_readMinistry_97 : decode cX9_readMinistry 97 = .ok (.iload_n 1, 1) := dk_27 (dk_at dksX9_readMinistry_4 4 rfl rfl)
theorem dX9_readMinistry_98 : decode cX9_readMinistry 98 = .ok (.ireturn, 1) := dk_172 (dk_at dksX9_readMinistry_4 5 rfl rfl)
abbrev cX9_nextToken : ByteArray := prog_16_method_14_code
def yX9_nextToken : MethodName := ⟨RX9, "nextToken", "()V"⟩
def dkwX9_nextToken_9 : List UInt8 := [4, 167, 0, 4, 3, 181, 0, 91, 42, 89, 180, 0, 85, 4, 96, 181, 0, 85, 177]
abbrev dktX9_nextToken_9 : List UInt8 := dkwX9_nextToken_9 ++ []
def dkwX9_nextToken_8 : List UInt8 := [184, 0, 57, 154, 0, 21, 42, 180, 0, 94, 16, 44, 159, 0, 12, 42, 180, 0, 94, 16, 59, 160, 0, 7]
abbrev dktX9_nextToken_8 : List UInt8 := dkwX9_nextToken_8 ++ dktX9_nextToken_9
def dkwX9_nextToken_7 : List UInt8 := [180, 0, 25, 42, 180, 0, 85, 46, 181, 0, 94, 42, 42, 180, 0, 94, 133, 20, 0, 101, 20, 0, 103]
abbrev dktX9_nextToken_7 : List UInt8 := dkwX9_nextToken_7 ++ dktX9_nextToken_8
def dkwX9_nextToken_6 : List UInt8 := [164, 0, 7, 3, 167, 0, 4, 5, 181, 0, 91, 167, 0, 77, 42, 180, 0, 91, 154, 0, 70, 42, 42]
abbrev dktX9_nextToken_6 : List UInt8 := dkwX9_nextToken_6 ++ dktX9_nextToken_7
def dkwX9_nextToken_5 : List UInt8 := [42, 180, 0, 85, 42, 180, 0, 88, 164, 0, 28, 42, 42, 180, 0, 85, 42, 180, 0, 88, 100, 5]
abbrev dktX9_nextToken_5 : List UInt8 := dkwX9_nextToken_5 ++ dktX9_nextToken_6
def dkwX9_nextToken_4 : List UInt8 := [180, 0, 85, 46, 96, 16, 48, 100, 181, 0, 94, 42, 89, 180, 0, 85, 4, 96, 181, 0, 85, 167, 255, 173]
abbrev dktX9_nextToken_4 : List UInt8 := dkwX9_nextToken_4 ++ dktX9_nextToken_5
def dkwX9_nextToken_3 : List UInt8 := [16, 99, 164, 0, 10, 42, 180, 0, 94, 167, 0, 23, 16, 10, 42, 180, 0, 94, 104, 42, 180, 0, 25, 42]
abbrev dktX9_nextToken_3 : List UInt8 := dkwX9_nextToken_3 ++ dktX9_nextToken_4
def dkwX9_nextToken_2 : List UInt8 := [42, 180, 0, 85, 46, 133, 20, 0, 97, 20, 0, 99, 184, 0, 57, 153, 0, 56, 42, 42, 180, 0, 94]
abbrev dktX9_nextToken_2 : List UInt8 := dkwX9_nextToken_2 ++ dktX9_nextToken_3
def dkwX9_nextToken_1 : List UInt8 := [3, 181, 0, 91, 42, 3, 181, 0, 94, 42, 180, 0, 85, 42, 180, 0, 81, 162, 0, 78, 42, 180, 0, 25]
abbrev dktX9_nextToken_1 : List UInt8 := dkwX9_nextToken_1 ++ dktX9_nextToken_2
def dkwX9_nextToken_0 : List UInt8 := [42, 42, 180, 0, 85, 181, 0, 88, 42, 42, 180, 0, 85, 42, 180, 0, 81, 160, 0, 7, 6, 167, 0, 4]
abbrev dktX9_nextToken_0 : List UInt8 := dkwX9_nextToken_0 ++ dktX9_nextToken_1
theorem dksX9_nextToken_0 : cX9_nextToken.data.toList.drop 0 = dktX9_nextToken_0 := by decide +kernel
theorem dksX9_nextToken_1 : cX9_nextToken.data.toList.drop 24 = dktX9_nextToken_1 := dk_seg dksX9_nextToken_0 24 rfl rfl
theorem dksX9_nextToken_2 : cX9_nextToken.data.toList.drop 48 = dktX9_nextToken_2 := dk_seg dksX9_nextToken_1 24 rfl rfl
theorem dksX9_nextToken_3 : cX9_nextToken.data.toList.drop 71 = dktX9_nextToken_3 := dk_seg dksX9_nextToken_2 23 rfl rfl
theorem dksX9_nextToken_4 : cX9_nextToken.data.toList.drop 95 = dktX9_nextToken_4 := dk_seg dksX9_nextToken_3 24 rfl rfl
theorem dksX9_nextToken_5 : cX9_nextToken.data.toList.drop 119 = dktX9_nextToken_5 := dk_seg dksX9_nextToken_4 24 rfl rfl
theorem dksX9_nextToken_6 : cX9_nextToken.data.toList.drop 141 = dktX9_nextToken_6 := dk_seg dksX9_nextToken_5 22 rfl rfl
theorem dksX9_nextToken_7 : cX9_nextToken.data.toList.drop 164 = dktX9_nextToken_7 := dk_seg dksX9_nextToken_6 23 rfl rfl
theorem dksX9_nextToken_8 : cX9_nextToken.data.toList.drop 187 = dktX9_nextToken_8 := dk_seg dksX9_nextToken_7 23 rfl rfl
theorem dksX9_nextToken_9 : cX9_nextToken.data.toList.drop 211 = dktX9_nextToken_9 := dk_seg dksX9_nextToken_8 24 rfl rfl
theorem dX9_nextToken_0 : decode cX9_nextToken 0 = .ok (.aload_n 0, 1) := dk_42 (dk_at dksX9_nextToken_0 0 rfl rfl)
theorem dX9_nextToken_1 : decode cX9_nextToken 1 = .ok (.aload_n 0, 1) := dk_42 (dk_at dksX9_nextToken_0 1 rfl rfl)
theorem dX9_nextToken_2 : decode cX9_nextToken 2 = .ok (.getfield 85, 3) := dk_180 0 85 (dk_at dksX9_nextToken_0 2 rfl rfl)
theorem dX9_nextToken_5 : decode cX9_nextToken 5 = .ok (.putfield 88, 3) := dk_181 0 88 (dk_at dksX9_nextToken_0 5 rfl rfl)
theorem dX9_nextToken_8 : decode cX9_nextToken 8 = .ok (.aload_n 0, 1) := dk_42 (dk_at dksX9_nextToken_0 8 rfl rfl)
theorem dX9_nextToken_9 : decode cX9_nextToken 9 = .ok (.aload_n 0, 1) := dk_42 (dk_at dksX9_nextToken_0 9 rfl rfl)
theorem dX9_nextToken_10 : decode cX9_nextToken 10 = .ok (.getfield 85, 3) := dk_180 0 85 (dk_at dksX9_nextToken_0 10 rfl rfl)
theorem dX9_nextToken_13 : decode cX9_nextToken 13 = .ok (.aload_n 0, 1) := dk_42 (dk_at dksX9_nextToken_0 13 rfl rfl)
theorem dX9_nextToken_14 : decode cX9_nextToken 14 = .ok (.getfield 81, 3) := dk_180 0 81 (dk_at dksX9_nextToken_0 14 rfl rfl)
theorem dX9_nextToken_17 : decode cX9_nextToken 17 = .ok (.if_icmp .ne 7, 3) := dk_160 0 7 (dk_at dksX9_nextToken_0 17 rfl rfl)
theorem dX9_nextToken_20 : decode cX9_nextToken 20 = .ok (.iconst 3, 1) := dk_6 (dk_at dksX9_nextToken_0 20 rfl rfl)
theorem dX9_nextToken_21 : decode cX9_nextToken 21 = .ok (.goto 4, 3) := dk_167 0 4 (dk_at dksX9_nextToken_0 21 rfl rfl)
theorem dX9_nextToken_24 : decode cX9_nextToken 24 = .ok (.iconst 0, 1) := dk_3 (dk_at dksX9_nextToken_1 0 rfl rfl)
theorem dX9_nextToken_25 : decode cX9_nextToken 25 = .ok (.putfield 91, 3) := dk_181 0 91 (dk_at dksX9_nextToken_1 1 rfl rfl)
theorem dX9_nextToken_28 : decode cX9_nextToken 28 = .ok (.aload_n 0, 1) := dk_42 (dk_at dksX9_nextToken_1 4 rfl rfl)
theorem dX9_nextToken_29 : decode cX9_nextToken 29 = .ok (.iconst 0, 1) := dk_3 (dk_at dksX9_nextToken_1 5 rfl rfl)
theorem dX9_nextToken_30 : decode cX9_nextToken 30 = .ok (.putfield 94, 3) := dk_181 0 94 (dk_at dksX9_nextToken_1 6 rfl rfl)
theorem dX9_nextToken_33 : decode cX9_nextToken 33 = .ok (.aload_n 0, 1) := dk_42 (dk_at dksX9_nextToken_1 9 rfl rfl)
theorem dX9_nextToken_34 : decode cX9_nextToken 34 = .ok (.getfield 85, 3) := dk_180 0 85 (dk_at dksX9_nextToken_1 10 rfl rfl)
theorem dX9_nextToken_37 : decode cX9_nextToken 37 = .ok (.aload_n 0, 1) := dk_42 (dk_at dksX9_nextToken_1 13 rfl rfl)
theorem dX9_nextToken_38 : decode cX9_nextToken 38 = .ok (.getfield 81, 3) := dk_180 0 81 (dk_at dksX9_nextToken_1 14 rfl rfl)
theorem dX9_nextToken_41 : decode cX9_nextToken 41 = .ok (.if_icmp .ge 78, 3) := dk_162 0 78 (dk_at dksX9_nextToken_1 17 rfl rfl)
theorem dX9_nextToken_44 : decode cX9_nextToken 44 = .ok (.aload_n 0, 1) := dk_42 (dk_at dksX9_nextToken_1 20 rfl rfl)
theorem dX9_nextToken_45 : decode cX9_nextToken 45 = .ok (.getfield 25, 3) := dk_180 0 25 (dk_at dksX9_nextToken_1 21 rfl rfl)
theorem dX9_nextToken_48 : decode cX9_nextToken 48 = .ok (.aload_n 0, 1) := dk_42 (dk_at dksX9_nextToken_2 0 rfl rfl)
theorem dX9_nextToken_49 : decode cX9_nextToken 49 = .ok (.getfield 85, 3) := dk_180 0 85 (dk_at dksX9_nextToken_2 1 rfl rfl)
theorem dX9_nextToken_52 : decode cX9_nextToken 52 = .ok (.iaload, 1) := dk_46 (dk_at dksX9_nextToken_2 4 rfl rfl)
theorem dX9_nextToken_53 : decode cX9_nextToken 53 = .ok (.i2l, 1) := dk_133 (dk_at dksX9_nextToken_2 5 rfl rfl)
theorem dX9_nextToken_54 : decode cX9_nextToken 54 = .ok (.ldc2_w 97, 3) := dk_20 0 97 (dk_at dksX9_nextToken_2 6 rfl rfl)
theorem dX9_nextToken_57 : decode cX9_nextToken 57 = .ok (.ldc2_w 99, 3) := dk_20 0 99 (dk_at dksX9_nextToken_2 9 rfl rfl)
theorem dX9_nextToken_60 : decode cX9_nextToken 60 = .ok (.invokestatic 57, 3) := dk_184 0 57 (dk_at dksX9_nextToken_2 12 rfl rfl)
theorem dX9_nextToken_63 : decode cX9_nextToken 63 = .ok (.ifCond .eq 56, 3) := dk_153 0 56 (dk_at dksX9_nextToken_2 15 rfl rfl)
theorem dX9_nextToken_66 : decode cX9_nextToken 66 = .ok (.aload_n 0, 1) := dk_42 (dk_at dksX9_nextToken_2 18 rfl rfl)
theorem dX9_nextToken_67 : decode cX9_nextToken 67 = .ok (.aload_n 0, 1) := dk_42 (dk_at dksX9_nextToken_2 19 rfl rfl)
theorem dX9_nextToken_68 : decode cX9_nextToken 68 = .ok (.getfield 94, 3) := dk_180 0 94 (dk_at dksX9_nextToken_2 20 rfl rfl)
theorem dX9_nextToken_71 : decode cX9_nextToken 71 = .ok (.bipush 99, 2) := dk_16 99 (dk_at dksX9_nextToken_3 0 rfl rfl)
theorem dX9_nextToken_73 : decode cX9_nextToken 73 = .ok (.if_icmp .le 10, 3) := dk_164 0 10 (dk_at dksX9_nextToken_3 2 rfl rfl)
theorem dX9_nextToken_76 : decode cX9_nextToken 76 = .ok (.aload_n 0, 1) := dk_42 (dk_at dksX9_nextToken_3 5 rfl rfl)
theorem dX9_nextToken_77 : decode cX9_nextToken 77 = .ok (.getfield 94, 3) := dk_180 0 94 (dk_at dksX9_nextToken_3 6 rfl rfl)
theorem dX9_nextToken_80 : decode cX9_nextToken 80 = .ok (.goto 23, 3) := dk_167 0 23 (dk_at dksX9_nextToken_3 9 rfl rfl)
theorem dX9_nextToken_83 : decode cX9_nextToken 83 = .ok (.bipush 10, 2) := dk_16 10 (dk_at dksX9_nextToken_3 12 rfl rfl)
theorem dX9_nextToken_85 : decode cX9_nextToken 85 = .ok (.aload_n 0, 1) := dk_42 (dk_at dksX9_nextToken_3 14 rfl rfl)
theorem dX9_nextToken_86 : decode cX9_nextToken 86 = .ok (.getfield 94, 3) := dk_180 0 94 (dk_at dksX9_nextToken_3 15 rfl rfl)
theorem dX9_nextToken_89 : decode cX9_nextToken 89 = .ok (.imul, 1) := dk_104 (dk_at dksX9_nextToken_3 18 rfl rfl)
theorem dX9_nextToken_90 : decode cX9_nextToken 90 = .ok (.aload_n 0, 1) := dk_42 (dk_at dksX9_nextToken_3 19 rfl rfl)
theorem dX9_nextToken_91 : decode cX9_nextToken 91 = .ok (.getfield 25, 3) := dk_180 0 25 (dk_at dksX9_nextToken_3 20 rfl rfl)
theorem dX9_nextToken_94 : decode cX9_nextToken 94 = .ok (.aload_n 0, 1) := dk_42 (dk_at dksX9_nextToken_3 23 rfl rfl)
theorem dX9_nextToken_95 : decode cX9_nextToken 95 = .ok (.getfield 85, 3) := dk_180 0 85 (dk_at dksX9_nextToken_4 0 rfl rfl)
theorem dX9_nextToken_98 : decode cX9_nextToken 98 = .ok (.iaload, 1) := dk_46 (dk_at dksX9_nextToken_4 3 rfl rfl)
theorem dX9_nextToken_99 : decode cX9_nextToken 99 = .ok (.iadd, 1) := dk_96 (dk_at dksX9_nextToken_4 4 rfl rfl)
theorem dX9_nextToken_100 : decode cX9_nextToken 100 = .ok (.bipush 48, 2) := dk_16 48 (dk_at dksX9_nextToken_4 5 rfl rfl)
theorem dX9_nextToken_102 : decode cX9_nextToken 102 = .ok (.isub, 1) := dk_100 (dk_at dksX9_nextToken_4 7 rfl rfl)
theorem dX9_nextToken_103 : decode cX9_nextToken 103 = .ok (.putfield 94, 3) := dk_181 0 94 (dk_at dksX9_nextToken_4 8 rfl rfl)
theorem dX9_nextToken_106 : decode cX9_nextToken 106 = .ok (.aload_n 0, 1) := dk_42 (dk_at dksX9_nextToken_4 11 rfl rfl)
theorem dX9_nextToken_107 : decode cX9_nextToken 107 = .ok (.dup, 1) := dk_89 (dk_at dksX9_nextToken_4 12 rfl rfl)
theorem dX9_nextToken_108 : decode cX9_nextToken 108 = .ok (.getfield 85, 3) := dk_180 0 85 (dk_at dksX9_nextToken_4 13 rfl rfl)
theorem dX9_nextToken_111 : decode cX9_nextToken 111 = .ok (.iconst 1, 1) := dk_4 (dk_at dksX9_nextToken_4 16 rfl rfl)
theorem dX9_nextToken_112 : decode cX9_nextToken 112 = .ok (.iadd, 1) := dk_96 (dk_at dksX9_nextToken_4 17 rfl rfl)
theorem dX9_nextToken_113 : decode cX9_nextToken 113 = .ok (.putfield 85, 3) := dk_181 0 85 (dk_at dksX9_nextToken_4 18 rfl rfl)
theorem dX9_nextToken_116 : decode cX9_nextToken 116 = .ok (.goto (-83), 3) := dk_167 255 173 (dk_at dksX9_nextToken_4 21 rfl rfl)
theorem dX9_nextToken_119 : decode cX9_nextToken 119 = .ok (.aload_n 0, 1) := dk_42 (dk_at dksX9_nextToken_5 0 rfl rfl)
theorem dX9_nextToken_120 : decode cX9_nextToken 120 = .ok (.getfield 85, 3) := dk_180 0 85 (dk_at dksX9_nextToken_5 1 rfl rfl)
theorem dX9_nextToken_123 : decode cX9_nextToken 123 = .ok (.aload_n 0, 1) := dk_42 (dk_at dksX9_nextToken_5 4 rfl rfl)
theorem dX9_nextToken_124 : decode cX9_nextToken 124 = .ok (.getfield 88, 3) := dk_180 0 88 (dk_at dksX9_nextToken_5 5 rfl rfl)
theorem dX9_nextToken_127 : decode cX9_nextToken 127 = .ok (.if_icmp .le 28, 3) := dk_164 0 28 (dk_at dksX9_nextToken_5 8 rfl rfl)
theorem dX9_nextToken_130 : decode cX9_nextToken 130 = .ok (.aload_n 0, 1) := dk_42 (dk_at dksX9_nextToken_5 11 rfl rfl)
theorem dX9_nextToken_131 : decode cX9_nextToken 131 = .ok (.aload_n 0, 1) := dk_42 (dk_at dksX9_nextToken_5 12 rfl rfl)
theorem dX9_nextToken_132 : decode cX9_nextToken 132 = .ok (.getfield 85, 3) := dk_180 0 85 (dk_at dksX9_nextToken_5 13 rfl rfl)
theorem dX9_nextToken_135 : decode cX9_nextToken 135 = .ok (.aload_n 0, 1) := dk_42 (dk_at dksX9_nextToken_5 16 rfl rfl)
theorem dX9_nextToken_136 : decode cX9_nextToken 136 = .ok (.getfield 88, 3) := dk_180 0 88 (dk_at dksX9_nextToken_5 17 rfl rfl)
theorem dX9_nextToken_139 : decode cX9_nextToken 139 = .ok (.isub, 1) := dk_100 (dk_at dksX9_nextToken_5 20 rfl rfl)
theorem dX9_nextToken_140 : decode cX9_nextToken 140 = .ok (.iconst 2, 1) := dk_5 (dk_at dksX9_nextToken_5 21 rfl rfl)
theorem dX9_nextToken_141 : decode cX9_nextToken 141 = .ok (.if_icmp .le 7, 3) := dk_164 0 7 (dk_at dksX9_nextToken_6 0 rfl rfl)
theorem dX9_nextToken_144 : decode cX9_nextToken 144 = .ok (.iconst 0, 1) := dk_3 (dk_at dksX9_nextToken_6 3 rfl rfl)
theorem dX9_nextToken_145 : decode cX9_nextToken 145 = .ok (.goto 4, 3) := dk_167 0 4 (dk_at dksX9_nextToken_6 4 rfl rfl)
theorem dX9_nextToken_148 : decode cX9_nextToken 148 = .ok (.iconst 2, 1) := dk_5 (dk_at dksX9_nextToken_6 7 rfl rfl)
theorem dX9_nextToken_149 : decode cX9_nextToken 149 = .ok (.putfield 91, 3) := dk_181 0 91 (dk_at dksX9_nextToken_6 8 rfl rfl)
theorem dX9_nextToken_152 : decode cX9_nextToken 152 = .ok (.goto 77, 3) := dk_167 0 77 (dk_at dksX9_nextToken_6 11 rfl rfl)
theorem dX9_nextToken_155 : decode cX9_nextToken 155 = .ok (.aload_n 0, 1) := dk_42 (dk_at dksX9_nextToken_6 14 rfl rfl)
theorem dX9_nextToken_156 : decode cX9_nextToken 156 = .ok (.getfield 91, 3) := dk_180 0 91 (dk_at dksX9_nextToken_6 15 rfl rfl)
theorem dX9_nextToken_159 : decode cX9_nextToken 159 = .ok (.ifCond .ne 70, 3) := dk_154 0 70 (dk_at dksX9_nextToken_6 18 rfl rfl)
theorem dX9_nextToken_162 : decode cX9_nextToken 162 = .ok (.aload_n 0, 1) := dk_42 (dk_at dksX9_nextToken_6 21 rfl rfl)
theorem dX9_nextToken_163 : decode cX9_nextToken 163 = .ok (.aload_n 0, 1) := dk_42 (dk_at dksX9_nextToken_6 22 rfl rfl)
theorem dX9_nextToken_164 : decode cX9_nextToken 164 = .ok (.getfield 25, 3) := dk_180 0 25 (dk_at dksX9_nextToken_7 0 rfl rfl)
theorem dX9_nextToken_167 : decode cX9_nextToken 167 = .ok (.aload_n 0, 1) := dk_42 (dk_at dksX9_nextToken_7 3 rfl rfl)
theorem dX9_nextToken_168 : decode cX9_nextToken 168 = .ok (.getfield 85, 3) := dk_180 0 85 (dk_at dksX9_nextToken_7 4 rfl rfl)
theorem dX9_nextToken_171 : decode cX9_nextToken 171 = .ok (.iaload, 1) := dk_46 (dk_at dksX9_nextToken_7 7 rfl rfl)
theorem dX9_nextToken_172 : decode cX9_nextToken 172 = .ok (.putfield 94, 3) := dk_181 0 94 (dk_at dksX9_nextToken_7 8 rfl rfl)
theorem dX9_nextToken_175 : decode cX9_nextToken 175 = .ok (.aload_n 0, 1) := dk_42 (dk_at dksX9_nextToken_7 11 rfl rfl)
theorem dX9_nextToken_176 : decode cX9_nextToken 176 = .ok (.aload_n 0, 1) := dk_42 (dk_at dksX9_nextToken_7 12 rfl rfl)
theorem dX9_nextToken_177 : decode cX9_nextToken 177 = .ok (.getfield 94, 3) := dk_180 0 94 (dk_at dksX9_nextToken_7 13 rfl rfl)
theorem dX9_nextToken_180 : decode cX9_nextToken 180 = .ok (.i2l, 1) := dk_133 (dk_at dksX9_nextToken_7 16 rfl rfl)
theorem dX9_nextToken_181 : decode cX9_nextToken 181 = .ok (.ldc2_w 101, 3) := dk_20 0 101 (dk_at dksX9_nextToken_7 17 rfl rfl)
theorem dX9_nextToken_184 : decode cX9_nextToken 184 = .ok (.ldc2_w 103, 3) := dk_20 0 103 (dk_at dksX9_nextToken_7 20 rfl rfl)
theorem dX9_nextToken_187 : decode cX9_nextToken 187 = .ok (.invokestatic 57, 3) := dk_184 0 57 (dk_at dksX9_nextToken_8 0 rfl rfl)
theorem dX9_nextToken_190 : decode cX9_nextToken 190 = .ok (.ifCond .ne 21, 3) := dk_154 0 21 (dk_at dksX9_nextToken_8 3 rfl rfl)
theorem dX9_nextToken_193 : decode cX9_nextToken 193 = .ok (.aload_n 0, 1) := dk_42 (dk_at dksX9_nextToken_8 6 rfl rfl)
theorem dX9_nextToken_194 : decode cX9_nextToken 194 = .ok (.getfield 94, 3) := dk_180 0 94 (dk_at dksX9_nextToken_8 7 rfl rfl)
theorem dX9_nextToken_197 : decode cX9_nextToken 197 = .ok (.bipush 44, 2) := dk_16 44 (dk_at dksX9_nextToken_8 10 rfl rfl)
theorem dX9_nextToken_199 : decode cX9_nextToken 199 = .ok (.if_icmp .eq 12, 3) := dk_159 0 12 (dk_at dksX9_nextToken_8 12 rfl rfl)
theorem dX9_nextToken_202 : decode cX9_nextToken 202 = .ok (.aload_n 0, 1) := dk_42 (dk_at dksX9_nextToken_8 15 rfl rfl)
theorem dX9_nextToken_203 : decode cX9_nextToken 203 = .ok (.getfield 94, 3) := dk_180 0 94 (dk_at dksX9_nextToken_8 16 rfl rfl)
theorem dX9_nextToken_206 : decode cX9_nextToken 206 = .ok (.bipush 59, 2) := dk_16 59 (dk_at dksX9_nextToken_8 19 rfl rfl)
theorem dX9_nextToken_208 : decode cX9_nextToken 208 = .ok (.if_icmp .ne 7, 3) := dk_160 0 7 (dk_at dksX9_nextToken_8 21 rfl rfl)
theorem dX9_nextToken_211 : decode cX9_nextToken 211 = .ok (.iconst 1, 1) := dk_4 (dk_at dksX9_nextToken_9 0 rfl rfl)
theorem dX9_nextToken_212 : decode cX9_nextToken 212 = .ok (.goto 4, 3) := dk_167 0 4 (dk_at dksX9_nextToken_9 1 rfl rfl)
theorem dX9_nextToken_215 : decode cX9_nextToken 215 = .ok (.iconst 0, 1) := dk_3 (dk_at dksX9_nextToken_9 4 rfl rfl)
theorem dX9_nextToken_216 : decode cX9_nextToken 216 = .ok (.putfield 91, 3) := dk_181 0 91 (dk_at dksX9_nextToken_9 5 rfl rfl)
theorem dX9_nextToken_219 : decode cX9_nextToken 219 = .ok (.aload_n 0, 1) := dk_42 (dk_at dksX9_nextToken_9 8 rfl rfl)
theorem dX9_nextToken_220 : decode cX9_nextToken 220 = .ok (.dup, 1) := dk_89 (dk_at dksX9_nextToken_9 9 rfl rfl)
theorem dX9_nextToken_221 : decode cX9_nextToken 221 = .ok (.getfield 85, 3) := dk_180 0 85 (dk_at dksX9_nextToken_9 10 rfl rfl)
theorem dX9_nextToken_224 : decode cX9_nextToken 224 = .ok (.iconst 1, 1) := dk_4 (dk_at dksX9_nextToken_9 13 rfl rfl)
theorem dX9_nextToken_225 : decode cX9_nextToken 225 = .ok (.iadd, 1) := dk_96 (dk_at dksX9_nextToken_9 14 rfl rfl)
theorem dX9_nextToken_226 : decode cX9_nextToken 226 = .ok (.putfield 85, 3) := dk_181 0 85 (dk_at dksX9_nextToken_9 15 rfl rfl)
theorem dX9_nextToken_229 : decode cX9_nextToken 229 = .ok (.return_, 1) := dk_177 (dk_at dksX9_nextToken_9 18 rfl rfl)
abbrev cX9_takes : ByteArray := prog_16_method_17_code
def yX9_takes : MethodName := ⟨RX9, "takes", "(I)Z"⟩
def dkwX9_takes_0 : List UInt8 := [42, 27, 182, 0, 108, 154, 0, 9, 42, 4, 182, 0, 111, 172, 42, 182, 0, 114, 4, 172]
abbrev dktX9_takes_0 : List UInt8 := dkwX9_takes_0 ++ []
theorem dksX9_takes_0 : cX9_takes.data.toList.drop 0 = dktX9_takes_0 := by decide +kernel
theorem dX9_takes_0 : decode cX9_takes 0 = .ok (.aload_n 0, 1) := dk_42 (dk_at dksX9_takes_0 0 rfl rfl)
theorem dX9_takes_1 : decode cX9_takes 1 = .ok (.iload_n 1, 1) := dk_27 (dk_at dksX9_takes_0 1 rfl rfl)
theorem dX9_takes_2 : decode cX9_takes 2 = .ok (.invokevirtual 108, 3) := dk_182 0 108 (dk_at dksX9_takes_0 2 rfl rfl)
theorem dX9_takes_5 : decode cX9_takes 5 = .ok (.ifCond .ne 9, 3) := dk_154 0 9 (dk_at dksX9_takes_0 5 rfl rfl)
theorem dX9_takes_8 : decode cX9_takes 8 = .ok (.aload_n 0, 1) := dk_42 (dk_at dksX9_takes_0 8 rfl rfl)
theorem dX9_takes_9 : decode cX9_takes 9 = .ok (.iconst 1, 1) := dk_4 (dk_at dksX9_takes_0 9 rfl rfl)
theorem dX9_takes_10 : decode cX9_takes 10 = .ok (.invokevirtual 111, 3) := dk_182 0 111 (dk_at dksX9_takes_0 10 rfl rfl)
theorem dX9_takes_13 : decode cX9_takes 13 = .ok (.ireturn, 1) := dk_172 (dk_at dksX9_takes_0 13 rfl rfl)
theorem dX9_takes_14 : decode cX9_takes 14 = .ok (.aload_n 0, 1) := dk_42 (dk_at dksX9_takes_0 14 rfl rfl)
theorem dX9_takes_15 : decode cX9_takes 15 = .ok (.invokevirtual 114, 3) := dk_182 0 114 (dk_at dksX9_takes_0 15 rfl rfl)
theorem dX9_takes_18 : decode cX9_takes 18 = .ok (.iconst 1, 1) := dk_4 (dk_at dksX9_takes_0 18 rfl rfl)
theorem dX9_takes_19 : decode cX9_takes 19 = .ok (.ireturn, 1) := dk_172 (dk_at dksX9_takes_0 19 rfl rfl)
abbrev cX9_isLetter : ByteArray := prog_16_method_16_code
def yX9_isLetter : MethodName := ⟨RX9, "isLetter", "(I)Z"⟩
def dkwX9_isLetter_0 : List UInt8 := [42, 180, 0, 91, 4, 160, 0, 15, 42, 180, 0, 94, 27, 160, 0, 7, 4, 167, 0, 4, 3, 172]
abbrev dktX9_isLetter_0 : List UInt8 := dkwX9_isLetter_0 ++ []
theorem dksX9_isLetter_0 : cX9_isLetter.data.toList.drop 0 = dktX9_isLetter_0 := by decide +kernel
theorem dX9_isLetter_0 : decode cX9_isLetter 0 = .ok (.aload_n 0, 1) := dk_42 (dk_at dksX9_isLetter_0 0 rfl rfl)
theorem dX9_isLetter_1 : decode cX9_isLetter 1 = .ok (.getfield 91, 3) := dk_180 0 91 (dk_at dksX9_isLetter_0 1 rfl rfl)
theorem dX9_isLetter_4 : decode cX9_isLetter 4 = .ok (.iconst 1, 1) := dk_4 (dk_at dksX9_isLetter_0 4 rfl rfl)
theorem dX9_isLetter_5 : decode cX9_isLetter 5 = .ok (.if_icmp .ne 15, 3) := dk_160 0 15 (dk_at dksX9_isLetter_0 5 rfl rfl)
theorem dX9_isLetter_8 : decode cX9_isLetter 8 = .ok (.aload_n 0, 1) := dk_42 (dk_at dksX9_isLetter_0 8 rfl rfl)
theorem dX9_isLetter_9 : decode cX9_isLetter 9 = .ok (.getfield 94, 3) := dk_180 0 94 (dk_at dksX9_isLetter_0 9 rfl rfl)
theorem dX9_isLetter_12 : decode cX9_isLetter 12 = .ok (.iload_n 1, 1) := dk_27 (dk_at dksX9_isLetter_0 12 rfl rfl)
theorem dX9_isLetter_13 : decode cX9_isLetter 13 = .ok (.if_icmp .ne 7, 3) := dk_160 0 7 (dk_at dksX9_isLetter_0 13 rfl rfl)
theorem dX9_isLetter_16 : decode cX9_isLetter 16 = .ok (.iconst 1, 1) := dk_4 (dk_at dksX9_isLetter_0 16 rfl rfl)
theorem dX9_isLetter_17 : decode cX9_isLetter 17 = .ok (.goto 4, 3) := dk_167 0 4 (dk_at dksX9_isLetter_0 17 rfl rfl)
theorem dX9_isLetter_20 : decode cX9_isLetter 20 = .ok (.iconst 0, 1) := dk_3 (dk_at dksX9_isLetter_0 20 rfl rfl)
theorem dX9_isLetter_21 : decode cX9_isLetter 21 = .ok (.ireturn, 1) := dk_172 (dk_at dksX9_isLetter_0 21 rfl rfl)
abbrev cX9_faults : ByteArray := prog_16_method_15_code
def yX9_faults : MethodName := ⟨RX9, "faults", "(I)Z"⟩
def dkwX9_faults_0 : List UInt8 := [42, 27, 181, 0, 105, 3, 172]
abbrev dktX9_faults_0 : List UInt8 := dkwX9_faults_0 ++ []
theorem dksX9_faults_0 : cX9_faults.data.toList.drop 0 = dktX9_faults_0 := by decide +kernel
theorem dX9_faults_0 : decode cX9_faults 0 = .ok (.aload_n 0, 1) := dk_42 (dk_at dksX9_faults_0 0 rfl rfl)
theorem dX9_faults_1 : decode cX9_faults 1 = .ok (.iload_n 1, 1) := dk_27 (dk_at dksX9_faults_0 1 rfl rfl)
theorem dX9_faults_2 : decode cX9_faults 2 = .ok (.putfield 105, 3) := dk_181 0 105 (dk_at dksX9_faults_0 2 rfl rfl)
theorem dX9_faults_5 : decode cX9_faults 5 = .ok (.iconst 0, 1) := dk_3 (dk_at dksX9_faults_0 5 rfl rfl)
theorem dX9_faults_6 : decode cX9_faults 6 = .ok (.ireturn, 1) := dk_172 (dk_at dksX9_faults_0 6 rfl rfl)
abbrev cX9_takesNumber : ByteArray := prog_16_method_18_code
def yX9_takesNumber : MethodName := ⟨RX9, "takesNumber", "(IIII)Z"⟩
def dkwX9_takesNumber_2 : List UInt8 := [180, 0, 94, 79, 42, 182, 0, 114, 42, 21, 4, 182, 0, 117, 172]
abbrev dktX9_takesNumber_2 : List UInt8 := dkwX9_takesNumber_2 ++ []
def dkwX9_takesNumber_1 : List UInt8 := [42, 180, 0, 91, 5, 160, 0, 7, 5, 167, 0, 4, 4, 182, 0, 111, 172, 42, 180, 0, 28, 29, 42]
abbrev dktX9_takesNumber_1 : List UInt8 := dkwX9_takesNumber_1 ++ dktX9_takesNumber_2
def dkwX9_takesNumber_0 : List UInt8 := [42, 180, 0, 91, 5, 160, 0, 18, 42, 180, 0, 94, 133, 27, 133, 28, 133, 184, 0, 57, 154, 0, 21, 42]
abbrev dktX9_takesNumber_0 : List UInt8 := dkwX9_takesNumber_0 ++ dktX9_takesNumber_1
theorem dksX9_takesNumber_0 : cX9_takesNumber.data.toList.drop 0 = dktX9_takesNumber_0 := by decide +kernel
theorem dksX9_takesNumber_1 : cX9_takesNumber.data.toList.drop 24 = dktX9_takesNumber_1 := dk_seg dksX9_takesNumber_0 24 rfl rfl
theorem dksX9_takesNumber_2 : cX9_takesNumber.data.toList.drop 47 = dktX9_takesNumber_2 := dk_seg dksX9_takesNumber_1 23 rfl rfl
theorem dX9_takesNumber_0 : decode cX9_takesNumber 0 = .ok (.aload_n 0, 1) := dk_42 (dk_at dksX9_takesNumber_0 0 rfl rfl)
theorem dX9_takesNumber_1 : decode cX9_takesNumber 1 = .ok (.getfield 91, 3) := dk_180 0 91 (dk_at dksX9_takesNumber_0 1 rfl rfl)
theorem dX9_takesNumber_4 : decode cX9_takesNumber 4 = .ok (.iconst 2, 1) := dk_5 (dk_at dksX9_takesNumber_0 4 rfl rfl)
theorem dX9_takesNumber_5 : decode cX9_takesNumber 5 = .ok (.if_icmp .ne 18, 3) := dk_160 0 18 (dk_at dksX9_takesNumber_0 5 rfl rfl)
theorem dX9_takesNumber_8 : decode cX9_takesNumber 8 = .ok (.aload_n 0, 1) := dk_42 (dk_at dksX9_takesNumber_0 8 rfl rfl)
theorem dX9_takesNumber_9 : decode cX9_takesNumber 9 = .ok (.getfield 94, 3) := dk_180 0 94 (dk_at dksX9_takesNumber_0 9 rfl rfl)
theorem dX9_takesNumber_12 : decode cX9_takesNumber 12 = .ok (.i2l, 1) := dk_133 (dk_at dksX9_takesNumber_0 12 rfl rfl)
theorem dX9_takesNumber_13 : decode cX9_takesNumber 13 = .ok (.iload_n 1, 1) := dk_27 (dk_at dksX9_takesNumber_0 13 rfl rfl)
theorem dX9_takesNumber_14 : decode cX9_takesNumber 14 = .ok (.i2l, 1) := dk_133 (dk_at dksX9_takesNumber_0 14 rfl rfl)
theorem dX9_takesNumber_15 : decode cX9_takesNumber 15 = .ok (.iload_n 2, 1) := dk_28 (dk_at dksX9_takesNumber_0 15 rfl rfl)
theorem dX9_takesNumber_16 : decode cX9_takesNumber 16 = .ok (.i2l, 1) := dk_133 (dk_at dksX9_takesNumber_0 16 rfl rfl)
theorem dX9_takesNumber_17 : decode cX9_takesNumber 17 = .ok (.invokestatic 57, 3) := dk_184 0 57 (dk_at dksX9_takesNumber_0 17 rfl rfl)
theorem dX9_takesNumber_20 : decode cX9_takesNumber 20 = .ok (.ifCond .ne 21, 3) := dk_154 0 21 (dk_at dksX9_takesNumber_0 20 rfl rfl)
theorem dX9_takesNumber_23 : decode cX9_takesNumber 23 = .ok (.aload_n 0, 1) := dk_42 (dk_at dksX9_takesNumber_0 23 rfl rfl)
theorem dX9_takesNumber_24 : decode cX9_takesNumber 24 = .ok (.aload_n 0, 1) := dk_42 (dk_at dksX9_takesNumber_1 0 rfl rfl)
theorem dX9_takesNumber_25 : decode cX9_takesNumber 25 = .ok (.getfield 91, 3) := dk_180 0 91 (dk_at dksX9_takesNumber_1 1 rfl rfl)
theorem dX9_takesNumber_28 : decode cX9_takesNumber 28 = .ok (.iconst 2, 1) := dk_5 (dk_at dksX9_takesNumber_1 4 rfl rfl)
theorem dX9_takesNumber_29 : decode cX9_takesNumber 29 = .ok (.if_icmp .ne 7, 3) := dk_160 0 7 (dk_at dksX9_takesNumber_1 5 rfl rfl)
theorem dX9_takesNumber_32 : decode cX9_takesNumber 32 = .ok (.iconst 2, 1) := dk_5 (dk_at dksX9_takesNumber_1 8 rfl rfl)
theorem dX9_takesNumber_33 : decode cX9_takesNumber 33 = .ok (.goto 4, 3) := dk_167 0 4 (dk_at dksX9_takesNumber_1 9 rfl rfl)
theorem dX9_takesNumber_36 : decode cX9_takesNumber 36 = .ok (.iconst 1, 1) := dk_4 (dk_at dksX9_takesNumber_1 12 rfl rfl)
theorem dX9_takesNumber_37 : decode cX9_takesNumber 37 = .ok (.invokevirtual 111, 3) := dk_182 0 111 (dk_at dksX9_takesNumber_1 13 rfl rfl)
theorem dX9_takesNumber_40 : decode cX9_takesNumber 40 = .ok (.ireturn, 1) := dk_172 (dk_at dksX9_takesNumber_1 16 rfl rfl)
theorem dX9_takesNumber_41 : decode cX9_takesNumber 41 = .ok (.aload_n 0, 1) := dk_42 (dk_at dksX9_takesNumber_1 17 rfl rfl)
theorem dX9_takesNumber_42 : decode cX9_takesNumber 42 = .ok (.getfield 28, 3) := dk_180 0 28 (dk_at dksX9_takesNumber_1 18 rfl rfl)
theorem dX9_takesNumber_45 : decode cX9_takesNumber 45 = .ok (.iload_n 3, 1) := dk_29 (dk_at dksX9_takesNumber_1 21 rfl rfl)
theorem dX9_takesNumber_46 : decode cX9_takesNumber 46 = .ok (.aload_n 0, 1) := dk_42 (dk_at dksX9_takesNumber_1 22 rfl rfl)
theorem dX9_takesNumber_47 : decode cX9_takesNumber 47 = .ok (.getfield 94, 3) := dk_180 0 94 (dk_at dksX9_takesNumber_2 0 rfl rfl)
theorem dX9_takesNumber_50 : decode cX9_takesNumber 50 = .ok (.iastore, 1) := dk_79 (dk_at dksX9_takesNumber_2 3 rfl rfl)
theorem dX9_takesNumber_51 : decode cX9_takesNumber 51 = .ok (.aload_n 0, 1) := dk_42 (dk_at dksX9_takesNumber_2 4 rfl rfl)
theorem dX9_takesNumber_52 : decode cX9_takesNumber 52 = .ok (.invokevirtual 114, 3) := dk_182 0 114 (dk_at dksX9_takesNumber_2 5 rfl rfl)
theorem dX9_takesNumber_55 : decode cX9_takesNumber 55 = .ok (.aload_n 0, 1) := dk_42 (dk_at dksX9_takesNumber_2 8 rfl rfl)
theorem dX9_takesNumber_56 : decode cX9_takesNumber 56 = .ok (.iload 4, 2) := dk_21 4 (dk_at dksX9_takesNumber_2 9 rfl rfl)
theorem dX9_takesNumber_58 : decode cX9_takesNumber 58 = .ok (.invokevirtual 117, 3) := dk_182 0 117 (dk_at dksX9_takesNumber_2 11 rfl rfl)
theorem dX9_takesNumber_61 : decode cX9_takesNumber 61 = .ok (.ireturn, 1) := dk_172 (dk_at dksX9_takesNumber_2 14 rfl rfl)
abbrev cX9_readChair : ByteArray := prog_16_method_19_code
def yX9_readChair : MethodName := ⟨RX9, "readChair", "()Z"⟩
def dkwX9_readChair_7 : List UInt8 := [28, 96, 16, 59, 182, 0, 120, 153, 0, 7, 4, 167, 0, 4, 3, 172]
abbrev dktX9_readChair_7 : List UInt8 := dkwX9_readChair_7 ++ []
def dkwX9_readChair_6 : List UInt8 := [153, 0, 38, 42, 3, 16, 9, 16, 17, 28, 96, 16, 44, 182, 0, 120, 153, 0, 22, 42, 3, 6, 16, 23]
abbrev dktX9_readChair_6 : List UInt8 := dkwX9_readChair_6 ++ dktX9_readChair_7
def dkwX9_readChair_5 : List UInt8 := [180, 0, 28, 5, 92, 46, 4, 96, 79, 42, 3, 16, 60, 16, 11, 28, 96, 16, 44, 182, 0, 120]
abbrev dktX9_readChair_5 : List UInt8 := dkwX9_readChair_5 ++ dktX9_readChair_6
def dkwX9_readChair_4 : List UInt8 := [167, 0, 4, 6, 182, 0, 111, 172, 42, 182, 0, 114, 42, 180, 0, 28, 8, 28, 96, 27, 79, 42]
abbrev dktX9_readChair_4 : List UInt8 := dkwX9_readChair_4 ++ dktX9_readChair_5
def dkwX9_readChair_3 : List UInt8 := [180, 0, 28, 5, 46, 61, 27, 153, 0, 9, 28, 16, 6, 160, 0, 17, 42, 27, 154, 0, 7, 4]
abbrev dktX9_readChair_3 : List UInt8 := dkwX9_readChair_3 ++ dktX9_readChair_4
def dkwX9_readChair_2 : List UInt8 := [153, 0, 7, 7, 167, 0, 17, 42, 16, 116, 182, 0, 108, 153, 0, 7, 8, 167, 0, 4, 3, 60, 42]
abbrev dktX9_readChair_2 : List UInt8 := dkwX9_readChair_2 ++ dktX9_readChair_3
def dkwX9_readChair_1 : List UInt8 := [167, 0, 43, 42, 16, 99, 182, 0, 108, 153, 0, 7, 6, 167, 0, 30, 42, 16, 111, 182, 0, 108]
abbrev dktX9_readChair_1 : List UInt8 := dkwX9_readChair_1 ++ dktX9_readChair_2
def dkwX9_readChair_0 : List UInt8 := [42, 16, 112, 182, 0, 108, 153, 0, 7, 4, 167, 0, 56, 42, 16, 114, 182, 0, 108, 153, 0, 7, 5]
abbrev dktX9_readChair_0 : List UInt8 := dkwX9_readChair_0 ++ dktX9_readChair_1
theorem dksX9_readChair_0 : cX9_readChair.data.toList.drop 0 = dktX9_readChair_0 := by decide +kernel
theorem dksX9_readChair_1 : cX9_readChair.data.toList.drop 23 = dktX9_readChair_1 := dk_seg dksX9_readChair_0 23 rfl rfl
theorem dksX9_readChair_2 : cX9_readChair.data.toList.drop 45 = dktX9_readChair_2 := dk_seg dksX9_readChair_1 22 rfl rfl
theorem dksX9_readChair_3 : cX9_readChair.data.toList.drop 68 = dktX9_readChair_3 := dk_seg dksX9_readChair_2 23 rfl rfl
theorem dksX9_readChair_4 : cX9_readChair.data.toList.drop 90 = dktX9_readChair_4 := dk_seg dksX9_readChair_3 22 rfl rfl
theorem dksX9_readChair_5 : cX9_readChair.data.toList.drop 112 = dktX9_readChair_5 := dk_seg dksX9_readChair_4 22 rfl rfl
theorem dksX9_readChair_6 : cX9_readChair.data.toList.drop 134 = dktX9_readChair_6 := dk_seg dksX9_readChair_5 22 rfl rfl
theorem dksX9_readChair_7 : cX9_readChair.data.toList.drop 158 = dktX9_readChair_7 := dk_seg dksX9_readChair_6 24 rfl rfl
theorem dX9_readChair_0 : decode cX9_readChair 0 = .ok (.aload_n 0, 1) := dk_42 (dk_at dksX9_readChair_0 0 rfl rfl)
theorem dX9_readChair_1 : decode cX9_readChair 1 = .ok (.bipush 112, 2) := dk_16 112 (dk_at dksX9_readChair_0 1 rfl rfl)
theorem dX9_readChair_3 : decode cX9_readChair 3 = .ok (.invokevirtual 108, 3) := dk_182 0 108 (dk_at dksX9_readChair_0 3 rfl rfl)
theorem dX9_readChair_6 : decode cX9_readChair 6 = .ok (.ifCond .eq 7, 3) := dk_153 0 7 (dk_at dksX9_readChair_0 6 rfl rfl)
theorem dX9_readChair_9 : decode cX9_readChair 9 = .ok (.iconst 1, 1) := dk_4 (dk_at dksX9_readChair_0 9 rfl rfl)
theorem dX9_readChair_10 : decode cX9_readChair 10 = .ok (.goto 56, 3) := dk_167 0 56 (dk_at dksX9_readChair_0 10 rfl rfl)
theorem dX9_readChair_13 : decode cX9_readChair 13 = .ok (.aload_n 0, 1) := dk_42 (dk_at dksX9_readChair_0 13 rfl rfl)
theorem dX9_readChair_14 : decode cX9_readChair 14 = .ok (.bipush 114, 2) := dk_16 114 (dk_at dksX9_readChair_0 14 rfl rfl)
theorem dX9_readChair_16 : decode cX9_readChair 16 = .ok (.invokevirtual 108, 3) := dk_182 0 108 (dk_at dksX9_readChair_0 16 rfl rfl)
theorem dX9_readChair_19 : decode cX9_readChair 19 = .ok (.ifCond .eq 7, 3) := dk_153 0 7 (dk_at dksX9_readChair_0 19 rfl rfl)
theorem dX9_readChair_22 : decode cX9_readChair 22 = .ok (.iconst 2, 1) := dk_5 (dk_at dksX9_readChair_0 22 rfl rfl)
theorem dX9_readChair_23 : decode cX9_readChair 23 = .ok (.goto 43, 3) := dk_167 0 43 (dk_at dksX9_readChair_1 0 rfl rfl)
theorem dX9_readChair_26 : decode cX9_readChair 26 = .ok (.aload_n 0, 1) := dk_42 (dk_at dksX9_readChair_1 3 rfl rfl)
theorem dX9_readChair_27 : decode cX9_readChair 27 = .ok (.bipush 99, 2) := dk_16 99 (dk_at dksX9_readChair_1 4 rfl rfl)
theorem dX9_readChair_29 : decode cX9_readChair 29 = .ok (.invokevirtual 108, 3) := dk_182 0 108 (dk_at dksX9_readChair_1 6 rfl rfl)
theorem dX9_readChair_32 : decode cX9_readChair 32 = .ok (.ifCond .eq 7, 3) := dk_153 0 7 (dk_at dksX9_readChair_1 9 rfl rfl)
theorem dX9_readChair_35 : decode cX9_readChair 35 = .ok (.iconst 3, 1) := dk_6 (dk_at dksX9_readChair_1 12 rfl rfl)
theorem dX9_readChair_36 : decode cX9_readChair 36 = .ok (.goto 30, 3) := dk_167 0 30 (dk_at dksX9_readChair_1 13 rfl rfl)
theorem dX9_readChair_39 : decode cX9_readChair 39 = .ok (.aload_n 0, 1) := dk_42 (dk_at dksX9_readChair_1 16 rfl rfl)
theorem dX9_readChair_40 : decode cX9_readChair 40 = .ok (.bipush 111, 2) := dk_16 111 (dk_at dksX9_readChair_1 17 rfl rfl)
theorem dX9_readChair_42 : decode cX9_readChair 42 = .ok (.invokevirtual 108, 3) := dk_182 0 108 (dk_at dksX9_readChair_1 19 rfl rfl)
theorem dX9_readChair_45 : decode cX9_readChair 45 = .ok (.ifCond .eq 7, 3) := dk_153 0 7 (dk_at dksX9_readChair_2 0 rfl rfl)
theorem dX9_readChair_48 : decode cX9_readChair 48 = .ok (.iconst 4, 1) := dk_7 (dk_at dksX9_readChair_2 3 rfl rfl)
theorem dX9_readChair_49 : decode cX9_readChair 49 = .ok (.goto 17, 3) := dk_167 0 17 (dk_at dksX9_readChair_2 4 rfl rfl)
theorem dX9_readChair_52 : decode cX9_readChair 52 = .ok (.aload_n 0, 1) := dk_42 (dk_at dksX9_readChair_2 7 rfl rfl)
theorem dX9_readChair_53 : decode cX9_readChair 53 = .ok (.bipush 116, 2) := dk_16 116 (dk_at dksX9_readChair_2 8 rfl rfl)
theorem dX9_readChair_55 : decode cX9_readChair 55 = .ok (.invokevirtual 108, 3) := dk_182 0 108 (dk_at dksX9_readChair_2 10 rfl rfl)
theorem dX9_readChair_58 : decode cX9_readChair 58 = .ok (.ifCond .eq 7, 3) := dk_153 0 7 (dk_at dksX9_readChair_2 13 rfl rfl)
theorem dX9_readChair_61 : decode cX9_readChair 61 = .ok (.iconst 5, 1) := dk_8 (dk_at dksX9_readChair_2 16 rfl rfl)
theorem dX9_readChair_62 : decode cX9_readChair 62 = .ok (.goto 4, 3) := dk_167 0 4 (dk_at dksX9_readChair_2 17 rfl rfl)
theorem dX9_readChair_65 : decode cX9_readChair 65 = .ok (.iconst 0, 1) := dk_3 (dk_at dksX9_readChair_2 20 rfl rfl)
theorem dX9_readChair_66 : decode cX9_readChair 66 = .ok (.istore_n 1, 1) := dk_60 (dk_at dksX9_readChair_2 21 rfl rfl)
theorem dX9_readChair_67 : decode cX9_readChair 67 = .ok (.aload_n 0, 1) := dk_42 (dk_at dksX9_readChair_2 22 rfl rfl)
theorem dX9_readChair_68 : decode cX9_readChair 68 = .ok (.getfield 28, 3) := dk_180 0 28 (dk_at dksX9_readChair_3 0 rfl rfl)
theorem dX9_readChair_71 : decode cX9_readChair 71 = .ok (.iconst 2, 1) := dk_5 (dk_at dksX9_readChair_3 3 rfl rfl)
theorem dX9_readChair_72 : decode cX9_readChair 72 = .ok (.iaload, 1) := dk_46 (dk_at dksX9_readChair_3 4 rfl rfl)
theorem dX9_readChair_73 : decode cX9_readChair 73 = .ok (.istore_n 2, 1) := dk_61 (dk_at dksX9_readChair_3 5 rfl rfl)
theorem dX9_readChair_74 : decode cX9_readChair 74 = .ok (.iload_n 1, 1) := dk_27 (dk_at dksX9_readChair_3 6 rfl rfl)
theorem dX9_readChair_75 : decode cX9_readChair 75 = .ok (.ifCond .eq 9, 3) := dk_153 0 9 (dk_at dksX9_readChair_3 7 rfl rfl)
theorem dX9_readChair_78 : decode cX9_readChair 78 = .ok (.iload_n 2, 1) := dk_28 (dk_at dksX9_readChair_3 10 rfl rfl)
theorem dX9_readChair_79 : decode cX9_readChair 79 = .ok (.bipush 6, 2) := dk_16 6 (dk_at dksX9_readChair_3 11 rfl rfl)
theorem dX9_readChair_81 : decode cX9_readChair 81 = .ok (.if_icmp .ne 17, 3) := dk_160 0 17 (dk_at dksX9_readChair_3 13 rfl rfl)
theorem dX9_readChair_84 : decode cX9_readChair 84 = .ok (.aload_n 0, 1) := dk_42 (dk_at dksX9_readChair_3 16 rfl rfl)
theorem dX9_readChair_85 : decode cX9_readChair 85 = .ok (.iload_n 1, 1) := dk_27 (dk_at dksX9_readChair_3 17 rfl rfl)
theorem dX9_readChair_86 : decode cX9_readChair 86 = .ok (.ifCond .ne 7, 3) := dk_154 0 7 (dk_at dksX9_readChair_3 18 rfl rfl)
theorem dX9_readChair_89 : decode cX9_readChair 89 = .ok (.iconst 1, 1) := dk_4 (dk_at dksX9_readChair_3 21 rfl rfl)
theorem dX9_readChair_90 : decode cX9_readChair 90 = .ok (.goto 4, 3) := dk_167 0 4 (dk_at dksX9_readChair_4 0 rfl rfl)
theorem dX9_readChair_93 : decode cX9_readChair 93 = .ok (.iconst 3, 1) := dk_6 (dk_at dksX9_readChair_4 3 rfl rfl)
theorem dX9_readChair_94 : decode cX9_readChair 94 = .ok (.invokevirtual 111, 3) := dk_182 0 111 (dk_at dksX9_readChair_4 4 rfl rfl)
theorem dX9_readChair_97 : decode cX9_readChair 97 = .ok (.ireturn, 1) := dk_172 (dk_at dksX9_readChair_4 7 rfl rfl)
theorem dX9_readChair_98 : decode cX9_readChair 98 = .ok (.aload_n 0, 1) := dk_42 (dk_at dksX9_readChair_4 8 rfl rfl)
theorem dX9_readChair_99 : decode cX9_readChair 99 = .ok (.invokevirtual 114, 3) := dk_182 0 114 (dk_at dksX9_readChair_4 9 rfl rfl)
theorem dX9_readChair_102 : decode cX9_readChair 102 = .ok (.aload_n 0, 1) := dk_42 (dk_at dksX9_readChair_4 12 rfl rfl)
theorem dX9_readChair_103 : decode cX9_readChair 103 = .ok (.getfield 28, 3) := dk_180 0 28 (dk_at dksX9_readChair_4 13 rfl rfl)
theorem dX9_readChair_106 : decode cX9_readChair 106 = .ok (.iconst 5, 1) := dk_8 (dk_at dksX9_readChair_4 16 rfl rfl)
theorem dX9_readChair_107 : decode cX9_readChair 107 = .ok (.iload_n 2, 1) := dk_28 (dk_at dksX9_readChair_4 17 rfl rfl)
theorem dX9_readChair_108 : decode cX9_readChair 108 = .ok (.iadd, 1) := dk_96 (dk_at dksX9_readChair_4 18 rfl rfl)
theorem dX9_readChair_109 : decode cX9_readChair 109 = .ok (.iload_n 1, 1) := dk_27 (dk_at dksX9_readChair_4 19 rfl rfl)
theorem dX9_readChair_110 : decode cX9_readChair 110 = .ok (.iastore, 1) := dk_79 (dk_at dksX9_readChair_4 20 rfl rfl)
theorem dX9_readChair_111 : decode cX9_readChair 111 = .ok (.aload_n 0, 1) := dk_42 (dk_at dksX9_readChair_4 21 rfl rfl)
theorem dX9_readChair_112 : decode cX9_readChair 112 = .ok (.getfield 28, 3) := dk_180 0 28 (dk_at dksX9_readChair_5 0 rfl rfl)
theorem dX9_readChair_115 : decode cX9_readChair 115 = .ok (.iconst 2, 1) := dk_5 (dk_at dksX9_readChair_5 3 rfl rfl)
theorem dX9_readChair_116 : decode cX9_readChair 116 = .ok (.dup2, 1) := dk_92 (dk_at dksX9_readChair_5 4 rfl rfl)
theorem dX9_readChair_117 : decode cX9_readChair 117 = .ok (.iaload, 1) := dk_46 (dk_at dksX9_readChair_5 5 rfl rfl)
theorem dX9_readChair_118 : decode cX9_readChair 118 = .ok (.iconst 1, 1) := dk_4 (dk_at dksX9_readChair_5 6 rfl rfl)
theorem dX9_readChair_119 : decode cX9_readChair 119 = .ok (.iadd, 1) := dk_96 (dk_at dksX9_readChair_5 7 rfl rfl)
theorem dX9_readChair_120 : decode cX9_readChair 120 = .ok (.iastore, 1) := dk_79 (dk_at dksX9_readChair_5 8 rfl rfl)
theorem dX9_readChair_121 : decode cX9_readChair 121 = .ok (.aload_n 0, 1) := dk_42 (dk_at dksX9_readChair_5 9 rfl rfl)
theorem dX9_readChair_122 : decode cX9_readChair 122 = .ok (.iconst 0, 1) := dk_3 (dk_at dksX9_readChair_5 10 rfl rfl)
theorem dX9_readChair_123 : decode cX9_readChair 123 = .ok (.bipush 60, 2) := dk_16 60 (dk_at dksX9_readChair_5 11 rfl rfl)
theorem dX9_readChair_125 : decode cX9_readChair 125 = .ok (.bipush 11, 2) := dk_16 11 (dk_at dksX9_readChair_5 13 rfl rfl)
theorem dX9_readChair_127 : decode cX9_readChair 127 = .ok (.iload_n 2, 1) := dk_28 (dk_at dksX9_readChair_5 15 rfl rfl)
theorem dX9_readChair_128 : decode cX9_readChair 128 = .ok (.iadd, 1) := dk_96 (dk_at dksX9_readChair_5 16 rfl rfl)
theorem dX9_readChair_129 : decode cX9_readChair 129 = .ok (.bipush 44, 2) := dk_16 44 (dk_at dksX9_readChair_5 17 rfl rfl)
theorem dX9_readChair_131 : decode cX9_readChair 131 = .ok (.invokevirtual 120, 3) := dk_182 0 120 (dk_at dksX9_readChair_5 19 rfl rfl)
theorem dX9_readChair_134 : decode cX9_readChair 134 = .ok (.ifCond .eq 38, 3) := dk_153 0 38 (dk_at dksX9_readChair_6 0 rfl rfl)
theorem dX9_readChair_137 : decode cX9_readChair 137 = .ok (.aload_n 0, 1) := dk_42 (dk_at dksX9_readChair_6 3 rfl rfl)
theorem dX9_readChair_138 : decode cX9_readChair 138 = .ok (.iconst 0, 1) := dk_3 (dk_at dksX9_readChair_6 4 rfl rfl)
theorem dX9_readChair_139 : decode cX9_readChair 139 = .ok (.bipush 9, 2) := dk_16 9 (dk_at dksX9_readChair_6 5 rfl rfl)
theorem dX9_readChair_141 : decode cX9_readChair 141 = .ok (.bipush 17, 2) := dk_16 17 (dk_at dksX9_readChair_6 7 rfl rfl)
theorem dX9_readChair_143 : decode cX9_readChair 143 = .ok (.iload_n 2, 1) := dk_28 (dk_at dksX9_readChair_6 9 rfl rfl)
theorem dX9_readChair_144 : decode cX9_readChair 144 = .ok (.iadd, 1) := dk_96 (dk_at dksX9_readChair_6 10 rfl rfl)
theorem dX9_readChair_145 : decode cX9_readChair 145 = .ok (.bipush 44, 2) := dk_16 44 (dk_at dksX9_readChair_6 11 rfl rfl)
theorem dX9_readChair_147 : decode cX9_readChair 147 = .ok (.invokevirtual 120, 3) := dk_182 0 120 (dk_at dksX9_readChair_6 13 rfl rfl)
theorem dX9_readChair_150 : decode cX9_readChair 150 = .ok (.ifCond .eq 22, 3) := dk_153 0 22 (dk_at dksX9_readChair_6 16 rfl rfl)
theorem dX9_readChair_153 : decode cX9_readChair 153 = .ok (.aload_n 0, 1) := dk_42 (dk_at dksX9_readChair_6 19 rfl rfl)
theorem dX9_readChair_154 : decode cX9_readChair 154 = .ok (.iconst 0, 1) := dk_3 (dk_at dksX9_readChair_6 20 rfl rfl)
theorem dX9_readChair_155 : decode cX9_readChair 155 = .ok (.iconst 3, 1) := dk_6 (dk_at dksX9_readChair_6 21 rfl rfl)
theorem dX9_readChair_156 : decode cX9_readChair 156 = .ok (.bipush 23, 2) := dk_16 23 (dk_at dksX9_readChair_6 22 rfl rfl)
theorem dX9_readChair_158 : decode cX9_readChair 158 = .ok (.iload_n 2, 1) := dk_28 (dk_at dksX9_readChair_7 0 rfl rfl)
theorem dX9_readChair_159 : decode cX9_readChair 159 = .ok (.iadd, 1) := dk_96 (dk_at dksX9_readChair_7 1 rfl rfl)
theorem dX9_readChair_160 : decode cX9_readChair 160 = .ok (.bipush 59, 2) := dk_16 59 (dk_at dksX9_readChair_7 2 rfl rfl)
theorem dX9_readChair_162 : decode cX9_readChair 162 = .ok (.invokevirtual 120, 3) := dk_182 0 120 (dk_at dksX9_readChair_7 4 rfl rfl)
theorem dX9_readChair_165 : decode cX9_readChair 165 = .ok (.ifCond .eq 7, 3) := dk_153 0 7 (dk_at dksX9_readChair_7 7 rfl rfl)
theorem dX9_readChair_168 : decode cX9_readChair 168 = .ok (.iconst 1, 1) := dk_4 (dk_at dksX9_readChair_7 10 rfl rfl)
theorem dX9_readChair_169 : decode cX9_readChair 169 = .ok (.goto 4, 3) := dk_167 0 4 (dk_at dksX9_readChair_7 11 rfl rfl)
theorem dX9_readChair_172 : decode cX9_readChair 172 = .ok (.iconst 0, 1) := dk_3 (dk_at dksX9_readChair_7 14 rfl rfl)
theorem dX9_readChair_173 : decode cX9_readChair 173 = .ok (.ireturn, 1) := dk_172 (dk_at dksX9_readChair_7 15 rfl rfl)
abbrev cX9_fault : ByteArray := prog_16_method_22_code
def yX9_fault : MethodName := ⟨RX9, "fault", "()I"⟩
theorem dX9_fault_0 : decode cX9_fault 0 = .ok (.aload_n 0, 1) := by decide +kernel
theorem dX9_fault_1 : decode cX9_fault 1 = .ok (.getfield 131, 3) := by decide +kernel
theorem dX9_fault_4 : decode cX9_fault 4 = .ok (.ireturn, 1) := by decide +kernel
abbrev cX9_undo : ByteArray := prog_16_method_33_code
def yX9_undo : MethodName := ⟨RX9, "undo", "()I"⟩
def dkwX9_undo_2 : List UInt8 := [79, 132, 1, 1, 167, 255, 227, 42, 180, 0, 139, 172]
abbrev dktX9_undo_2 : List UInt8 := dkwX9_undo_2 ++ []
def dkwX9_undo_1 : List UInt8 := [16, 41, 162, 0, 29, 42, 180, 0, 19, 27, 42, 180, 0, 34, 16, 41, 42, 180, 0, 139, 104, 27, 96, 46]
abbrev dktX9_undo_1 : List UInt8 := dkwX9_undo_1 ++ dktX9_undo_2
def dkwX9_undo_0 : List UInt8 := [42, 180, 0, 139, 154, 0, 6, 18, 169, 172, 42, 89, 180, 0, 139, 4, 100, 181, 0, 139, 3, 60, 27]
abbrev dktX9_undo_0 : List UInt8 := dkwX9_undo_0 ++ dktX9_undo_1
theorem dksX9_undo_0 : cX9_undo.data.toList.drop 0 = dktX9_undo_0 := by decide +kernel
theorem dksX9_undo_1 : cX9_undo.data.toList.drop 23 = dktX9_undo_1 := dk_seg dksX9_undo_0 23 rfl rfl
theorem dksX9_undo_2 : cX9_undo.data.toList.drop 47 = dktX9_undo_2 := dk_seg dksX9_undo_1 24 rfl rfl
theorem dX9_undo_0 : decode cX9_undo 0 = .ok (.aload_n 0, 1) := dk_42 (dk_at dksX9_undo_0 0 rfl rfl)
theorem dX9_undo_1 : decode cX9_undo 1 = .ok (.getfield 139, 3) := dk_180 0 139 (dk_at dksX9_undo_0 1 rfl rfl)
theorem dX9_undo_4 : decode cX9_undo 4 = .ok (.ifCond .ne 6, 3) := dk_154 0 6 (dk_at dksX9_undo_0 4 rfl rfl)
theorem dX9_undo_7 : decode cX9_undo 7 = .ok (.ldc 169, 2) := dk_18 169 (dk_at dksX9_undo_0 7 rfl rfl)
theorem dX9_undo_9 : decode cX9_undo 9 = .ok (.ireturn, 1) := dk_172 (dk_at dksX9_undo_0 9 rfl rfl)
theorem dX9_undo_10 : decode cX9_undo 10 = .ok (.aload_n 0, 1) := dk_42 (dk_at dksX9_undo_0 10 rfl rfl)
theorem dX9_undo_11 : decode cX9_undo 11 = .ok (.dup, 1) := dk_89 (dk_at dksX9_undo_0 11 rfl rfl)
theorem dX9_undo_12 : decode cX9_undo 12 = .ok (.getfield 139, 3) := dk_180 0 139 (dk_at dksX9_undo_0 12 rfl rfl)
theorem dX9_undo_15 : decode cX9_undo 15 = .ok (.iconst 1, 1) := dk_4 (dk_at dksX9_undo_0 15 rfl rfl)
theorem dX9_undo_16 : decode cX9_undo 16 = .ok (.isub, 1) := dk_100 (dk_at dksX9_undo_0 16 rfl rfl)
theorem dX9_undo_17 : decode cX9_undo 17 = .ok (.putfield 139, 3) := dk_181 0 139 (dk_at dksX9_undo_0 17 rfl rfl)
theorem dX9_undo_20 : decode cX9_undo 20 = .ok (.iconst 0, 1) := dk_3 (dk_at dksX9_undo_0 20 rfl rfl)
theorem dX9_undo_21 : decode cX9_undo 21 = .ok (.istore_n 1, 1) := dk_60 (dk_at dksX9_undo_0 21 rfl rfl)
theorem dX9_undo_22 : decode cX9_undo 22 = .ok (.iload_n 1, 1) := dk_27 (dk_at dksX9_undo_0 22 rfl rfl)
theorem dX9_undo_23 : decode cX9_undo 23 = .ok (.bipush 41, 2) := dk_16 41 (dk_at dksX9_undo_1 0 rfl rfl)
theorem dX9_undo_25 : decode cX9_undo 25 = .ok (.if_icmp .ge 29, 3) := dk_162 0 29 (dk_at dksX9_undo_1 2 rfl rfl)
theorem dX9_undo_28 : decode cX9_undo 28 = .ok (.aload_n 0, 1) := dk_42 (dk_at dksX9_undo_1 5 rfl rfl)
theorem dX9_undo_29 : decode cX9_undo 29 = .ok (.getfield 19, 3) := dk_180 0 19 (dk_at dksX9_undo_1 6 rfl rfl)
theorem dX9_undo_32 : decode cX9_undo 32 = .ok (.iload_n 1, 1) := dk_27 (dk_at dksX9_undo_1 9 rfl rfl)
theorem dX9_undo_33 : decode cX9_undo 33 = .ok (.aload_n 0, 1) := dk_42 (dk_at dksX9_undo_1 10 rfl rfl)
theorem dX9_undo_34 : decode cX9_undo 34 = .ok (.getfield 34, 3) := dk_180 0 34 (dk_at dksX9_undo_1 11 rfl rfl)
theorem dX9_undo_37 : decode cX9_undo 37 = .ok (.bipush 41, 2) := dk_16 41 (dk_at dksX9_undo_1 14 rfl rfl)
theorem dX9_undo_39 : decode cX9_undo 39 = .ok (.aload_n 0, 1) := dk_42 (dk_at dksX9_undo_1 16 rfl rfl)
theorem dX9_undo_40 : decode cX9_undo 40 = .ok (.getfield 139, 3) := dk_180 0 139 (dk_at dksX9_undo_1 17 rfl rfl)
theorem dX9_undo_43 : decode cX9_undo 43 = .ok (.imul, 1) := dk_104 (dk_at dksX9_undo_1 20 rfl rfl)
theorem dX9_undo_44 : decode cX9_undo 44 = .ok (.iload_n 1, 1) := dk_27 (dk_at dksX9_undo_1 21 rfl rfl)
theorem dX9_undo_45 : decode cX9_undo 45 = .ok (.iadd, 1) := dk_96 (dk_at dksX9_undo_1 22 rfl rfl)
theorem dX9_undo_46 : decode cX9_undo 46 = .ok (.iaload, 1) := dk_46 (dk_at dksX9_undo_1 23 rfl rfl)
theorem dX9_undo_47 : decode cX9_undo 47 = .ok (.iastore, 1) := dk_79 (dk_at dksX9_undo_2 0 rfl rfl)
theorem dX9_undo_48 : decode cX9_undo 48 = .ok (.iinc 1 1, 3) := dk_132 1 1 (dk_at dksX9_undo_2 1 rfl rfl)
theorem dX9_undo_51 : decode cX9_undo 51 = .ok (.goto (-29), 3) := dk_167 255 227 (dk_at dksX9_undo_2 4 rfl rfl)
theorem dX9_undo_54 : decode cX9_undo 54 = .ok (.aload_n 0, 1) := dk_42 (dk_at dksX9_undo_2 7 rfl rfl)
theorem dX9_undo_55 : decode cX9_undo 55 = .ok (.getfield 139, 3) := dk_180 0 139 (dk_at dksX9_undo_2 8 rfl rfl)
theorem dX9_undo_58 : decode cX9_undo 58 = .ok (.ireturn, 1) := dk_172 (dk_at dksX9_undo_2 11 rfl rfl)
abbrev cX9_nights : ByteArray := prog_16_method_34_code
def yX9_nights : MethodName := ⟨RX9, "nights", "(I)I"⟩
def dkwX9_nights_2 : List UInt8 := [162, 0, 17, 42, 182, 0, 172, 42, 182, 0, 175, 132, 2, 1, 167, 255, 240, 42, 3, 182, 0, 153, 172]
abbrev dktX9_nights_2 : List UInt8 := dkwX9_nights_2 ++ []
def dkwX9_nights_1 : List UInt8 := [172, 42, 180, 0, 19, 6, 46, 27, 96, 17, 3, 231, 164, 0, 6, 18, 84, 172, 3, 61, 28, 27]
abbrev dktX9_nights_1 : List UInt8 := dkwX9_nights_1 ++ dktX9_nights_2
def dkwX9_nights_0 : List UInt8 := [42, 180, 0, 135, 154, 0, 6, 18, 169, 172, 27, 133, 10, 20, 0, 170, 184, 0, 57, 154, 0, 6, 18, 67]
abbrev dktX9_nights_0 : List UInt8 := dkwX9_nights_0 ++ dktX9_nights_1
theorem dksX9_nights_0 : cX9_nights.data.toList.drop 0 = dktX9_nights_0 := by decide +kernel
theorem dksX9_nights_1 : cX9_nights.data.toList.drop 24 = dktX9_nights_1 := dk_seg dksX9_nights_0 24 rfl rfl
theorem dksX9_nights_2 : cX9_nights.data.toList.drop 46 = dktX9_nights_2 := dk_seg dksX9_nights_1 22 rfl rfl
theorem dX9_nights_0 : decode cX9_nights 0 = .ok (.aload_n 0, 1) := dk_42 (dk_at dksX9_nights_0 0 rfl rfl)
theorem dX9_nights_1 : decode cX9_nights 1 = .ok (.getfield 135, 3) := dk_180 0 135 (dk_at dksX9_nights_0 1 rfl rfl)
theorem dX9_nights_4 : decode cX9_nights 4 = .ok (.ifCond .ne 6, 3) := dk_154 0 6 (dk_at dksX9_nights_0 4 rfl rfl)
theorem dX9_nights_7 : decode cX9_nights 7 = .ok (.ldc 169, 2) := dk_18 169 (dk_at dksX9_nights_0 7 rfl rfl)
theorem dX9_nights_9 : decode cX9_nights 9 = .ok (.ireturn, 1) := dk_172 (dk_at dksX9_nights_0 9 rfl rfl)
theorem dX9_nights_10 : decode cX9_nights 10 = .ok (.iload_n 1, 1) := dk_27 (dk_at dksX9_nights_0 10 rfl rfl)
theorem dX9_nights_11 : decode cX9_nights 11 = .ok (.i2l, 1) := dk_133 (dk_at dksX9_nights_0 11 rfl rfl)
theorem dX9_nights_12 : decode cX9_nights 12 = .ok (.lconst 1, 1) := dk_10 (dk_at dksX9_nights_0 12 rfl rfl)
theorem dX9_nights_13 : decode cX9_nights 13 = .ok (.ldc2_w 170, 3) := dk_20 0 170 (dk_at dksX9_nights_0 13 rfl rfl)
theorem dX9_nights_16 : decode cX9_nights 16 = .ok (.invokestatic 57, 3) := dk_184 0 57 (dk_at dksX9_nights_0 16 rfl rfl)
theorem dX9_nights_19 : decode cX9_nights 19 = .ok (.ifCond .ne 6, 3) := dk_154 0 6 (dk_at dksX9_nights_0 19 rfl rfl)
theorem dX9_nights_22 : decode cX9_nights 22 = .ok (.ldc 67, 2) := dk_18 67 (dk_at dksX9_nights_0 22 rfl rfl)
theorem dX9_nights_24 : decode cX9_nights 24 = .ok (.ireturn, 1) := dk_172 (dk_at dksX9_nights_1 0 rfl rfl)
theorem dX9_nights_25 : decode cX9_nights 25 = .ok (.aload_n 0, 1) := dk_42 (dk_at dksX9_nights_1 1 rfl rfl)
theorem dX9_nights_26 : decode cX9_nights 26 = .ok (.getfield 19, 3) := dk_180 0 19 (dk_at dksX9_nights_1 2 rfl rfl)
theorem dX9_nights_29 : decode cX9_nights 29 = .ok (.iconst 3, 1) := dk_6 (dk_at dksX9_nights_1 5 rfl rfl)
theorem dX9_nights_30 : decode cX9_nights 30 = .ok (.iaload, 1) := dk_46 (dk_at dksX9_nights_1 6 rfl rfl)
theorem dX9_nights_31 : decode cX9_nights 31 = .ok (.iload_n 1, 1) := dk_27 (dk_at dksX9_nights_1 7 rfl rfl)
theorem dX9_nights_32 : decode cX9_nights 32 = .ok (.iadd, 1) := dk_96 (dk_at dksX9_nights_1 8 rfl rfl)
theorem dX9_nights_33 : decode cX9_nights 33 = .ok (.sipush 999, 3) := dk_17 3 231 (dk_at dksX9_nights_1 9 rfl rfl)
theorem dX9_nights_36 : decode cX9_nights 36 = .ok (.if_icmp .le 6, 3) := dk_164 0 6 (dk_at dksX9_nights_1 12 rfl rfl)
theorem dX9_nights_39 : decode cX9_nights 39 = .ok (.ldc 84, 2) := dk_18 84 (dk_at dksX9_nights_1 15 rfl rfl)
theorem dX9_nights_41 : decode cX9_nights 41 = .ok (.ireturn, 1) := dk_172 (dk_at dksX9_nights_1 17 rfl rfl)
theorem dX9_nights_42 : decode cX9_nights 42 = .ok (.iconst 0, 1) := dk_3 (dk_at dksX9_nights_1 18 rfl rfl)
theorem dX9_nights_43 : decode cX9_nights 43 = .ok (.istore_n 2, 1) := dk_61 (dk_at dksX9_nights_1 19 rfl rfl)
theorem dX9_nights_44 : decode cX9_nights 44 = .ok (.iload_n 2, 1) := dk_28 (dk_at dksX9_nights_1 20 rfl rfl)
theorem dX9_nights_45 : decode cX9_nights 45 = .ok (.iload_n 1, 1) := dk_27 (dk_at dksX9_nights_1 21 rfl rfl)
theorem dX9_nights_46 : decode cX9_nights 46 = .ok (.if_icmp .ge 17, 3) := dk_162 0 17 (dk_at dksX9_nights_2 0 rfl rfl)
theorem dX9_nights_49 : decode cX9_nights 49 = .ok (.aload_n 0, 1) := dk_42 (dk_at dksX9_nights_2 3 rfl rfl)
theorem dX9_nights_50 : decode cX9_nights 50 = .ok (.invokevirtual 172, 3) := dk_182 0 172 (dk_at dksX9_nights_2 4 rfl rfl)
theorem dX9_nights_53 : decode cX9_nights 53 = .ok (.aload_n 0, 1) := dk_42 (dk_at dksX9_nights_2 7 rfl rfl)
theorem dX9_nights_54 : decode cX9_nights 54 = .ok (.invokevirtual 175, 3) := dk_182 0 175 (dk_at dksX9_nights_2 8 rfl rfl)
theorem dX9_nights_57 : decode cX9_nights 57 = .ok (.iinc 2 1, 3) := dk_132 2 1 (dk_at dksX9_nights_2 11 rfl rfl)
theorem dX9_nights_60 : decode cX9_nights 60 = .ok (.goto (-16), 3) := dk_167 255 240 (dk_at dksX9_nights_2 14 rfl rfl)
theorem dX9_nights_63 : decode cX9_nights 63 = .ok (.aload_n 0, 1) := dk_42 (dk_at dksX9_nights_2 17 rfl rfl)
theorem dX9_nights_64 : decode cX9_nights 64 = .ok (.iconst 0, 1) := dk_3 (dk_at dksX9_nights_2 18 rfl rfl)
theorem dX9_nights_65 : decode cX9_nights 65 = .ok (.invokevirtual 153, 3) := dk_182 0 153 (dk_at dksX9_nights_2 19 rfl rfl)
theorem dX9_nights_68 : decode cX9_nights 68 = .ok (.ireturn, 1) := dk_172 (dk_at dksX9_nights_2 22 rfl rfl)
abbrev cX9_note : ByteArray := prog_16_method_32_code
def yX9_note : MethodName := ⟨RX9, "note", "()V"⟩
def dkwX9_note_3 : List UInt8 := [42, 180, 0, 19, 27, 46, 79, 132, 1, 1, 167, 255, 227, 42, 89, 180, 0, 139, 4, 96, 181, 0, 139, 177]
abbrev dktX9_note_3 : List UInt8 := dkwX9_note_3 ++ []
def dkwX9_note_2 : List UInt8 := [181, 0, 139, 3, 60, 27, 16, 41, 162, 0, 29, 42, 180, 0, 34, 16, 41, 42, 180, 0, 139, 104, 27, 96]
abbrev dktX9_note_2 : List UInt8 := dkwX9_note_2 ++ dktX9_note_3
def dkwX9_note_1 : List UInt8 := [180, 0, 34, 27, 16, 41, 96, 46, 79, 132, 1, 1, 167, 255, 231, 42, 89, 180, 0, 139, 4, 100]
abbrev dktX9_note_1 : List UInt8 := dkwX9_note_1 ++ dktX9_note_2
def dkwX9_note_0 : List UInt8 := [42, 180, 0, 139, 16, 24, 160, 0, 43, 3, 60, 27, 17, 3, 175, 162, 0, 24, 42, 180, 0, 34, 27, 42]
abbrev dktX9_note_0 : List UInt8 := dkwX9_note_0 ++ dktX9_note_1
theorem dksX9_note_0 : cX9_note.data.toList.drop 0 = dktX9_note_0 := by decide +kernel
theorem dksX9_note_1 : cX9_note.data.toList.drop 24 = dktX9_note_1 := dk_seg dksX9_note_0 24 rfl rfl
theorem dksX9_note_2 : cX9_note.data.toList.drop 46 = dktX9_note_2 := dk_seg dksX9_note_1 22 rfl rfl
theorem dksX9_note_3 : cX9_note.data.toList.drop 70 = dktX9_note_3 := dk_seg dksX9_note_2 24 rfl rfl
theorem dX9_note_0 : decode cX9_note 0 = .ok (.aload_n 0, 1) := dk_42 (dk_at dksX9_note_0 0 rfl rfl)
theorem dX9_note_1 : decode cX9_note 1 = .ok (.getfield 139, 3) := dk_180 0 139 (dk_at dksX9_note_0 1 rfl rfl)
theorem dX9_note_4 : decode cX9_note 4 = .ok (.bipush 24, 2) := dk_16 24 (dk_at dksX9_note_0 4 rfl rfl)
theorem dX9_note_6 : decode cX9_note 6 = .ok (.if_icmp .ne 43, 3) := dk_160 0 43 (dk_at dksX9_note_0 6 rfl rfl)
theorem dX9_note_9 : decode cX9_note 9 = .ok (.iconst 0, 1) := dk_3 (dk_at dksX9_note_0 9 rfl rfl)
theorem dX9_note_10 : decode cX9_note 10 = .ok (.istore_n 1, 1) := dk_60 (dk_at dksX9_note_0 10 rfl rfl)
theorem dX9_note_11 : decode cX9_note 11 = .ok (.iload_n 1, 1) := dk_27 (dk_at dksX9_note_0 11 rfl rfl)
theorem dX9_note_12 : decode cX9_note 12 = .ok (.sipush 943, 3) := dk_17 3 175 (dk_at dksX9_note_0 12 rfl rfl)
theorem dX9_note_15 : decode cX9_note 15 = .ok (.if_icmp .ge 24, 3) := dk_162 0 24 (dk_at dksX9_note_0 15 rfl rfl)
theorem dX9_note_18 : decode cX9_note 18 = .ok (.aload_n 0, 1) := dk_42 (dk_at dksX9_note_0 18 rfl rfl)
theorem dX9_note_19 : decode cX9_note 19 = .ok (.getfield 34, 3) := dk_180 0 34 (dk_at dksX9_note_0 19 rfl rfl)
theorem dX9_note_22 : decode cX9_note 22 = .ok (.iload_n 1, 1) := dk_27 (dk_at dksX9_note_0 22 rfl rfl)
theorem dX9_note_23 : decode cX9_note 23 = .ok (.aload_n 0, 1) := dk_42 (dk_at dksX9_note_0 23 rfl rfl)
theorem dX9_note_24 : decode cX9_note 24 = .ok (.getfield 34, 3) := dk_180 0 34 (dk_at dksX9_note_1 0 rfl rfl)
theorem dX9_note_27 : decode cX9_note 27 = .ok (.iload_n 1, 1) := dk_27 (dk_at dksX9_note_1 3 rfl rfl)
theorem dX9_note_28 : decode cX9_note 28 = .ok (.bipush 41, 2) := dk_16 41 (dk_at dksX9_note_1 4 rfl rfl)
theorem dX9_note_30 : decode cX9_note 30 = .ok (.iadd, 1) := dk_96 (dk_at dksX9_note_1 6 rfl rfl)
theorem dX9_note_31 : decode cX9_note 31 = .ok (.iaload, 1) := dk_46 (dk_at dksX9_note_1 7 rfl rfl)
theorem dX9_note_32 : decode cX9_note 32 = .ok (.iastore, 1) := dk_79 (dk_at dksX9_note_1 8 rfl rfl)
theorem dX9_note_33 : decode cX9_note 33 = .ok (.iinc 1 1, 3) := dk_132 1 1 (dk_at dksX9_note_1 9 rfl rfl)
theorem dX9_note_36 : decode cX9_note 36 = .ok (.goto (-25), 3) := dk_167 255 231 (dk_at dksX9_note_1 12 rfl rfl)
theorem dX9_note_39 : decode cX9_note 39 = .ok (.aload_n 0, 1) := dk_42 (dk_at dksX9_note_1 15 rfl rfl)
theorem dX9_note_40 : decode cX9_note 40 = .ok (.dup, 1) := dk_89 (dk_at dksX9_note_1 16 rfl rfl)
theorem dX9_note_41 : decode cX9_note 41 = .ok (.getfield 139, 3) := dk_180 0 139 (dk_at dksX9_note_1 17 rfl rfl)
theorem dX9_note_44 : decode cX9_note 44 = .ok (.iconst 1, 1) := dk_4 (dk_at dksX9_note_1 20 rfl rfl)
theorem dX9_note_45 : decode cX9_note 45 = .ok (.isub, 1) := dk_100 (dk_at dksX9_note_1 21 rfl rfl)
theorem dX9_note_46 : decode cX9_note 46 = .ok (.putfield 139, 3) := dk_181 0 139 (dk_at dksX9_note_2 0 rfl rfl)
theorem dX9_note_49 : decode cX9_note 49 = .ok (.iconst 0, 1) := dk_3 (dk_at dksX9_note_2 3 rfl rfl)
theorem dX9_note_50 : decode cX9_note 50 = .ok (.istore_n 1, 1) := dk_60 (dk_at dksX9_note_2 4 rfl rfl)
theorem dX9_note_51 : decode cX9_note 51 = .ok (.iload_n 1, 1) := dk_27 (dk_at dksX9_note_2 5 rfl rfl)
theorem dX9_note_52 : decode cX9_note 52 = .ok (.bipush 41, 2) := dk_16 41 (dk_at dksX9_note_2 6 rfl rfl)
theorem dX9_note_54 : decode cX9_note 54 = .ok (.if_icmp .ge 29, 3) := dk_162 0 29 (dk_at dksX9_note_2 8 rfl rfl)
theorem dX9_note_57 : decode cX9_note 57 = .ok (.aload_n 0, 1) := dk_42 (dk_at dksX9_note_2 11 rfl rfl)
theorem dX9_note_58 : decode cX9_note 58 = .ok (.getfield 34, 3) := dk_180 0 34 (dk_at dksX9_note_2 12 rfl rfl)
theorem dX9_note_61 : decode cX9_note 61 = .ok (.bipush 41, 2) := dk_16 41 (dk_at dksX9_note_2 15 rfl rfl)
theorem dX9_note_63 : decode cX9_note 63 = .ok (.aload_n 0, 1) := dk_42 (dk_at dksX9_note_2 17 rfl rfl)
theorem dX9_note_64 : decode cX9_note 64 = .ok (.getfield 139, 3) := dk_180 0 139 (dk_at dksX9_note_2 18 rfl rfl)
theorem dX9_note_67 : decode cX9_note 67 = .ok (.imul, 1) := dk_104 (dk_at dksX9_note_2 21 rfl rfl)
theorem dX9_note_68 : decode cX9_note 68 = .ok (.iload_n 1, 1) := dk_27 (dk_at dksX9_note_2 22 rfl rfl)
theorem dX9_note_69 : decode cX9_note 69 = .ok (.iadd, 1) := dk_96 (dk_at dksX9_note_2 23 rfl rfl)
theorem dX9_note_70 : decode cX9_note 70 = .ok (.aload_n 0, 1) := dk_42 (dk_at dksX9_note_3 0 rfl rfl)
theorem dX9_note_71 : decode cX9_note 71 = .ok (.getfield 19, 3) := dk_180 0 19 (dk_at dksX9_note_3 1 rfl rfl)
theorem dX9_note_74 : decode cX9_note 74 = .ok (.iload_n 1, 1) := dk_27 (dk_at dksX9_note_3 4 rfl rfl)
theorem dX9_note_75 : decode cX9_note 75 = .ok (.iaload, 1) := dk_46 (dk_at dksX9_note_3 5 rfl rfl)
theorem dX9_note_76 : decode cX9_note 76 = .ok (.iastore, 1) := dk_79 (dk_at dksX9_note_3 6 rfl rfl)
theorem dX9_note_77 : decode cX9_note 77 = .ok (.iinc 1 1, 3) := dk_132 1 1 (dk_at dksX9_note_3 7 rfl rfl)
theorem dX9_note_80 : decode cX9_note 80 = .ok (.goto (-29), 3) := dk_167 255 227 (dk_at dksX9_note_3 10 rfl rfl)
theorem dX9_note_83 : decode cX9_note 83 = .ok (.aload_n 0, 1) := dk_42 (dk_at dksX9_note_3 13 rfl rfl)
theorem dX9_note_84 : decode cX9_note 84 = .ok (.dup, 1) := dk_89 (dk_at dksX9_note_3 14 rfl rfl)
theorem dX9_note_85 : decode cX9_note 85 = .ok (.getfield 139, 3) := dk_180 0 139 (dk_at dksX9_note_3 15 rfl rfl)
theorem dX9_note_88 : decode cX9_note 88 = .ok (.iconst 1, 1) := dk_4 (dk_at dksX9_note_3 18 rfl rfl)
theorem dX9_note_89 : decode cX9_note 89 = .ok (.iadd, 1) := dk_96 (dk_at dksX9_note_3 19 rfl rfl)
theorem dX9_note_90 : decode cX9_note 90 = .ok (.putfield 139, 3) := dk_181 0 139 (dk_at dksX9_note_3 20 rfl rfl)
theorem dX9_note_93 : decode cX9_note 93 = .ok (.return_, 1) := dk_177 (dk_at dksX9_note_3 23 rfl rfl)
abbrev cX9_oneNight : ByteArray := prog_16_method_30_code
def yX9_oneNight : MethodName := ⟨RX9, "oneNight", "()V"⟩
def dkwX9_oneNight_10 : List UInt8 := [96, 79, 177]
abbrev dktX9_oneNight_10 : List UInt8 := dkwX9_oneNight_10 ++ []
def dkwX9_oneNight_9 : List UInt8 := [153, 0, 7, 4, 167, 0, 4, 3, 96, 79, 132, 1, 1, 167, 255, 152, 42, 180, 0, 19, 6, 92, 46, 4]
abbrev dktX9_oneNight_9 : List UInt8 := dkwX9_oneNight_9 ++ dktX9_oneNight_10
def dkwX9_oneNight_8 : List UInt8 := [167, 0, 4, 3, 100, 79, 42, 180, 0, 19, 16, 35, 27, 96, 92, 46, 42, 180, 0, 156, 27, 184, 0, 162]
abbrev dktX9_oneNight_8 : List UInt8 := dkwX9_oneNight_8 ++ dktX9_oneNight_9
def dkwX9_oneNight_7 : List UInt8 := [79, 42, 180, 0, 19, 16, 17, 27, 96, 92, 46, 42, 180, 0, 156, 27, 184, 0, 162, 153, 0, 7, 4]
abbrev dktX9_oneNight_7 : List UInt8 := dkwX9_oneNight_7 ++ dktX9_oneNight_8
def dkwX9_oneNight_6 : List UInt8 := [180, 0, 31, 27, 46, 100, 61, 42, 180, 0, 19, 16, 11, 27, 96, 28, 156, 0, 7, 3, 167, 0, 4, 28]
abbrev dktX9_oneNight_6 : List UInt8 := dkwX9_oneNight_6 ++ dktX9_oneNight_7
def dkwX9_oneNight_5 : List UInt8 := [3, 60, 27, 42, 180, 0, 19, 5, 46, 162, 0, 100, 42, 180, 0, 19, 16, 11, 27, 96, 46, 42]
abbrev dktX9_oneNight_5 : List UInt8 := dkwX9_oneNight_5 ++ dktX9_oneNight_6
def dkwX9_oneNight_4 : List UInt8 := [154, 0, 18, 42, 180, 0, 31, 28, 92, 46, 42, 27, 28, 182, 0, 166, 96, 79, 132, 1, 1, 167, 255, 171]
abbrev dktX9_oneNight_4 : List UInt8 := dkwX9_oneNight_4 ++ dktX9_oneNight_5
def dkwX9_oneNight_3 : List UInt8 := [89, 180, 0, 156, 29, 153, 0, 9, 4, 27, 120, 167, 0, 4, 3, 128, 181, 0, 156, 28, 155, 0, 22, 29]
abbrev dktX9_oneNight_3 : List UInt8 := dkwX9_oneNight_3 ++ dktX9_oneNight_4
def dkwX9_oneNight_2 : List UInt8 := [28, 155, 0, 20, 42, 180, 0, 19, 7, 46, 28, 184, 0, 162, 153, 0, 7, 4, 167, 0, 4, 3, 62, 42]
abbrev dktX9_oneNight_2 : List UInt8 := dkwX9_oneNight_2 ++ dktX9_oneNight_3
def dkwX9_oneNight_1 : List UInt8 := [132, 1, 1, 167, 255, 236, 3, 60, 27, 42, 180, 0, 19, 5, 46, 162, 0, 81, 42, 27, 182, 0, 159, 61]
abbrev dktX9_oneNight_1 : List UInt8 := dkwX9_oneNight_1 ++ dktX9_oneNight_2
def dkwX9_oneNight_0 : List UInt8 := [42, 3, 181, 0, 156, 3, 60, 27, 42, 180, 0, 19, 5, 46, 162, 0, 16, 42, 180, 0, 31, 27, 3, 79]
abbrev dktX9_oneNight_0 : List UInt8 := dkwX9_oneNight_0 ++ dktX9_oneNight_1
theorem dksX9_oneNight_0 : cX9_oneNight.data.toList.drop 0 = dktX9_oneNight_0 := by decide +kernel
theorem dksX9_oneNight_1 : cX9_oneNight.data.toList.drop 24 = dktX9_oneNight_1 := dk_seg dksX9_oneNight_0 24 rfl rfl
theorem dksX9_oneNight_2 : cX9_oneNight.data.toList.drop 48 = dktX9_oneNight_2 := dk_seg dksX9_oneNight_1 24 rfl rfl
theorem dksX9_oneNight_3 : cX9_oneNight.data.toList.drop 72 = dktX9_oneNight_3 := dk_seg dksX9_oneNight_2 24 rfl rfl
theorem dksX9_oneNight_4 : cX9_oneNight.data.toList.drop 96 = dktX9_oneNight_4 := dk_seg dksX9_oneNight_3 24 rfl rfl
theorem dksX9_oneNight_5 : cX9_oneNight.data.toList.drop 120 = dktX9_oneNight_5 := dk_seg dksX9_oneNight_4 24 rfl rfl
theorem dksX9_oneNight_6 : cX9_oneNight.data.toList.drop 142 = dktX9_oneNight_6 := dk_seg dksX9_oneNight_5 22 rfl rfl
theorem dksX9_oneNight_7 : cX9_oneNight.data.toList.drop 166 = dktX9_oneNight_7 := dk_seg dksX9_oneNight_6 24 rfl rfl
theorem dksX9_oneNight_8 : cX9_oneNight.data.toList.drop 189 = dktX9_oneNight_8 := dk_seg dksX9_oneNight_7 23 rfl rfl
theorem dksX9_oneNight_9 : cX9_oneNight.data.toList.drop 213 = dktX9_oneNight_9 := dk_seg dksX9_oneNight_8 24 rfl rfl
theorem dksX9_oneNight_10 : cX9_oneNight.data.toList.drop 237 = dktX9_oneNight_10 := dk_seg dksX9_oneNight_9 24 rfl rfl
theorem dX9_oneNight_0 : decode cX9_oneNight 0 = .ok (.aload_n 0, 1) := dk_42 (dk_at dksX9_oneNight_0 0 rfl rfl)
theorem dX9_oneNight_1 : decode cX9_oneNight 1 = .ok (.iconst 0, 1) := dk_3 (dk_at dksX9_oneNight_0 1 rfl rfl)
theorem dX9_oneNight_2 : decode cX9_oneNight 2 = .ok (.putfield 156, 3) := dk_181 0 156 (dk_at dksX9_oneNight_0 2 rfl rfl)
theorem dX9_oneNight_5 : decode cX9_oneNight 5 = .ok (.iconst 0, 1) := dk_3 (dk_at dksX9_oneNight_0 5 rfl rfl)
theorem dX9_oneNight_6 : decode cX9_oneNight 6 = .ok (.istore_n 1, 1) := dk_60 (dk_at dksX9_oneNight_0 6 rfl rfl)
theorem dX9_oneNight_7 : decode cX9_oneNight 7 = .ok (.iload_n 1, 1) := dk_27 (dk_at dksX9_oneNight_0 7 rfl rfl)
theorem dX9_oneNight_8 : decode cX9_oneNight 8 = .ok (.aload_n 0, 1) := dk_42 (dk_at dksX9_oneNight_0 8 rfl rfl)
theorem dX9_oneNight_9 : decode cX9_oneNight 9 = .ok (.getfield 19, 3) := dk_180 0 19 (dk_at dksX9_oneNight_0 9 rfl rfl)
theorem dX9_oneNight_12 : decode cX9_oneNight 12 = .ok (.iconst 2, 1) := dk_5 (dk_at dksX9_oneNight_0 12 rfl rfl)
theorem dX9_oneNight_13 : decode cX9_oneNight 13 = .ok (.iaload, 1) := dk_46 (dk_at dksX9_oneNight_0 13 rfl rfl)
theorem dX9_oneNight_14 : decode cX9_oneNight 14 = .ok (.if_icmp .ge 16, 3) := dk_162 0 16 (dk_at dksX9_oneNight_0 14 rfl rfl)
theorem dX9_oneNight_17 : decode cX9_oneNight 17 = .ok (.aload_n 0, 1) := dk_42 (dk_at dksX9_oneNight_0 17 rfl rfl)
theorem dX9_oneNight_18 : decode cX9_oneNight 18 = .ok (.getfield 31, 3) := dk_180 0 31 (dk_at dksX9_oneNight_0 18 rfl rfl)
theorem dX9_oneNight_21 : decode cX9_oneNight 21 = .ok (.iload_n 1, 1) := dk_27 (dk_at dksX9_oneNight_0 21 rfl rfl)
theorem dX9_oneNight_22 : decode cX9_oneNight 22 = .ok (.iconst 0, 1) := dk_3 (dk_at dksX9_oneNight_0 22 rfl rfl)
theorem dX9_oneNight_23 : decode cX9_oneNight 23 = .ok (.iastore, 1) := dk_79 (dk_at dksX9_oneNight_0 23 rfl rfl)
theorem dX9_oneNight_24 : decode cX9_oneNight 24 = .ok (.iinc 1 1, 3) := dk_132 1 1 (dk_at dksX9_oneNight_1 0 rfl rfl)
theorem dX9_oneNight_27 : decode cX9_oneNight 27 = .ok (.goto (-20), 3) := dk_167 255 236 (dk_at dksX9_oneNight_1 3 rfl rfl)
theorem dX9_oneNight_30 : decode cX9_oneNight 30 = .ok (.iconst 0, 1) := dk_3 (dk_at dksX9_oneNight_1 6 rfl rfl)
theorem dX9_oneNight_31 : decode cX9_oneNight 31 = .ok (.istore_n 1, 1) := dk_60 (dk_at dksX9_oneNight_1 7 rfl rfl)
theorem dX9_oneNight_32 : decode cX9_oneNight 32 = .ok (.iload_n 1, 1) := dk_27 (dk_at dksX9_oneNight_1 8 rfl rfl)
theorem dX9_oneNight_33 : decode cX9_oneNight 33 = .ok (.aload_n 0, 1) := dk_42 (dk_at dksX9_oneNight_1 9 rfl rfl)
theorem dX9_oneNight_34 : decode cX9_oneNight 34 = .ok (.getfield 19, 3) := dk_180 0 19 (dk_at dksX9_oneNight_1 10 rfl rfl)
theorem dX9_oneNight_37 : decode cX9_oneNight 37 = .ok (.iconst 2, 1) := dk_5 (dk_at dksX9_oneNight_1 13 rfl rfl)
theorem dX9_oneNight_38 : decode cX9_oneNight 38 = .ok (.iaload, 1) := dk_46 (dk_at dksX9_oneNight_1 14 rfl rfl)
theorem dX9_oneNight_39 : decode cX9_oneNight 39 = .ok (.if_icmp .ge 81, 3) := dk_162 0 81 (dk_at dksX9_oneNight_1 15 rfl rfl)
theorem dX9_oneNight_42 : decode cX9_oneNight 42 = .ok (.aload_n 0, 1) := dk_42 (dk_at dksX9_oneNight_1 18 rfl rfl)
theorem dX9_oneNight_43 : decode cX9_oneNight 43 = .ok (.iload_n 1, 1) := dk_27 (dk_at dksX9_oneNight_1 19 rfl rfl)
theorem dX9_oneNight_44 : decode cX9_oneNight 44 = .ok (.invokevirtual 159, 3) := dk_182 0 159 (dk_at dksX9_oneNight_1 20 rfl rfl)
theorem dX9_oneNight_47 : decode cX9_oneNight 47 = .ok (.istore_n 2, 1) := dk_61 (dk_at dksX9_oneNight_1 23 rfl rfl)
theorem dX9_oneNight_48 : decode cX9_oneNight 48 = .ok (.iload_n 2, 1) := dk_28 (dk_at dksX9_oneNight_2 0 rfl rfl)
theorem dX9_oneNight_49 : decode cX9_oneNight 49 = .ok (.ifCond .lt 20, 3) := dk_155 0 20 (dk_at dksX9_oneNight_2 1 rfl rfl)
theorem dX9_oneNight_52 : decode cX9_oneNight 52 = .ok (.aload_n 0, 1) := dk_42 (dk_at dksX9_oneNight_2 4 rfl rfl)
theorem dX9_oneNight_53 : decode cX9_oneNight 53 = .ok (.getfield 19, 3) := dk_180 0 19 (dk_at dksX9_oneNight_2 5 rfl rfl)
theorem dX9_oneNight_56 : decode cX9_oneNight 56 = .ok (.iconst 4, 1) := dk_7 (dk_at dksX9_oneNight_2 8 rfl rfl)
theorem dX9_oneNight_57 : decode cX9_oneNight 57 = .ok (.iaload, 1) := dk_46 (dk_at dksX9_oneNight_2 9 rfl rfl)
theorem dX9_oneNight_58 : decode cX9_oneNight 58 = .ok (.iload_n 2, 1) := dk_28 (dk_at dksX9_oneNight_2 10 rfl rfl)
theorem dX9_oneNight_59 : decode cX9_oneNight 59 = .ok (.invokestatic 162, 3) := dk_184 0 162 (dk_at dksX9_oneNight_2 11 rfl rfl)
theorem dX9_oneNight_62 : decode cX9_oneNight 62 = .ok (.ifCond .eq 7, 3) := dk_153 0 7 (dk_at dksX9_oneNight_2 14 rfl rfl)
theorem dX9_oneNight_65 : decode cX9_oneNight 65 = .ok (.iconst 1, 1) := dk_4 (dk_at dksX9_oneNight_2 17 rfl rfl)
theorem dX9_oneNight_66 : decode cX9_oneNight 66 = .ok (.goto 4, 3) := dk_167 0 4 (dk_at dksX9_oneNight_2 18 rfl rfl)
theorem dX9_oneNight_69 : decode cX9_oneNight 69 = .ok (.iconst 0, 1) := dk_3 (dk_at dksX9_oneNight_2 21 rfl rfl)
theorem dX9_oneNight_70 : decode cX9_oneNight 70 = .ok (.istore_n 3, 1) := dk_62 (dk_at dksX9_oneNight_2 22 rfl rfl)
theorem dX9_oneNight_71 : decode cX9_oneNight 71 = .ok (.aload_n 0, 1) := dk_42 (dk_at dksX9_oneNight_2 23 rfl rfl)
theorem dX9_oneNight_72 : decode cX9_oneNight 72 = .ok (.dup, 1) := dk_89 (dk_at dksX9_oneNight_3 0 rfl rfl)
theorem dX9_oneNight_73 : decode cX9_oneNight 73 = .ok (.getfield 156, 3) := dk_180 0 156 (dk_at dksX9_oneNight_3 1 rfl rfl)
theorem dX9_oneNight_76 : decode cX9_oneNight 76 = .ok (.iload_n 3, 1) := dk_29 (dk_at dksX9_oneNight_3 4 rfl rfl)
theorem dX9_oneNight_77 : decode cX9_oneNight 77 = .ok (.ifCond .eq 9, 3) := dk_153 0 9 (dk_at dksX9_oneNight_3 5 rfl rfl)
theorem dX9_oneNight_80 : decode cX9_oneNight 80 = .ok (.iconst 1, 1) := dk_4 (dk_at dksX9_oneNight_3 8 rfl rfl)
theorem dX9_oneNight_81 : decode cX9_oneNight 81 = .ok (.iload_n 1, 1) := dk_27 (dk_at dksX9_oneNight_3 9 rfl rfl)
theorem dX9_oneNight_82 : decode cX9_oneNight 82 = .ok (.ishl, 1) := dk_120 (dk_at dksX9_oneNight_3 10 rfl rfl)
theorem dX9_oneNight_83 : decode cX9_oneNight 83 = .ok (.goto 4, 3) := dk_167 0 4 (dk_at dksX9_oneNight_3 11 rfl rfl)
theorem dX9_oneNight_86 : decode cX9_oneNight 86 = .ok (.iconst 0, 1) := dk_3 (dk_at dksX9_oneNight_3 14 rfl rfl)
theorem dX9_oneNight_87 : decode cX9_oneNight 87 = .ok (.ior, 1) := dk_128 (dk_at dksX9_oneNight_3 15 rfl rfl)
theorem dX9_oneNight_88 : decode cX9_oneNight 88 = .ok (.putfield 156, 3) := dk_181 0 156 (dk_at dksX9_oneNight_3 16 rfl rfl)
theorem dX9_oneNight_91 : decode cX9_oneNight 91 = .ok (.iload_n 2, 1) := dk_28 (dk_at dksX9_oneNight_3 19 rfl rfl)
theorem dX9_oneNight_92 : decode cX9_oneNight 92 = .ok (.ifCond .lt 22, 3) := dk_155 0 22 (dk_at dksX9_oneNight_3 20 rfl rfl)
theorem dX9_oneNight_95 : decode cX9_oneNight 95 = .ok (.iload_n 3, 1) := dk_29 (dk_at dksX9_oneNight_3 23 rfl rfl)
theorem dX9_oneNight_96 : decode cX9_oneNight 96 = .ok (.ifCond .ne 18, 3) := dk_154 0 18 (dk_at dksX9_oneNight_4 0 rfl rfl)
theorem dX9_oneNight_99 : decode cX9_oneNight 99 = .ok (.aload_n 0, 1) := dk_42 (dk_at dksX9_oneNight_4 3 rfl rfl)
theorem dX9_oneNight_100 : decode cX9_oneNight 100 = .ok (.getfield 31, 3) := dk_180 0 31 (dk_at dksX9_oneNight_4 4 rfl rfl)
theorem dX9_oneNight_103 : decode cX9_oneNight 103 = .ok (.iload_n 2, 1) := dk_28 (dk_at dksX9_oneNight_4 7 rfl rfl)
theorem dX9_oneNight_104 : decode cX9_oneNight 104 = .ok (.dup2, 1) := dk_92 (dk_at dksX9_oneNight_4 8 rfl rfl)
theorem dX9_oneNight_105 : decode cX9_oneNight 105 = .ok (.iaload, 1) := dk_46 (dk_at dksX9_oneNight_4 9 rfl rfl)
theorem dX9_oneNight_106 : decode cX9_oneNight 106 = .ok (.aload_n 0, 1) := dk_42 (dk_at dksX9_oneNight_4 10 rfl rfl)
theorem dX9_oneNight_107 : decode cX9_oneNight 107 = .ok (.iload_n 1, 1) := dk_27 (dk_at dksX9_oneNight_4 11 rfl rfl)
theorem dX9_oneNight_108 : decode cX9_oneNight 108 = .ok (.iload_n 2, 1) := dk_28 (dk_at dksX9_oneNight_4 12 rfl rfl)
theorem dX9_oneNight_109 : decode cX9_oneNight 109 = .ok (.invokevirtual 166, 3) := dk_182 0 166 (dk_at dksX9_oneNight_4 13 rfl rfl)
theorem dX9_oneNight_112 : decode cX9_oneNight 112 = .ok (.iadd, 1) := dk_96 (dk_at dksX9_oneNight_4 16 rfl rfl)
theorem dX9_oneNight_113 : decode cX9_oneNight 113 = .ok (.iastore, 1) := dk_79 (dk_at dksX9_oneNight_4 17 rfl rfl)
theorem dX9_oneNight_114 : decode cX9_oneNight 114 = .ok (.iinc 1 1, 3) := dk_132 1 1 (dk_at dksX9_oneNight_4 18 rfl rfl)
theorem dX9_oneNight_117 : decode cX9_oneNight 117 = .ok (.goto (-85), 3) := dk_167 255 171 (dk_at dksX9_oneNight_4 21 rfl rfl)
theorem dX9_oneNight_120 : decode cX9_oneNight 120 = .ok (.iconst 0, 1) := dk_3 (dk_at dksX9_oneNight_5 0 rfl rfl)
theorem dX9_oneNight_121 : decode cX9_oneNight 121 = .ok (.istore_n 1, 1) := dk_60 (dk_at dksX9_oneNight_5 1 rfl rfl)
theorem dX9_oneNight_122 : decode cX9_oneNight 122 = .ok (.iload_n 1, 1) := dk_27 (dk_at dksX9_oneNight_5 2 rfl rfl)
theorem dX9_oneNight_123 : decode cX9_oneNight 123 = .ok (.aload_n 0, 1) := dk_42 (dk_at dksX9_oneNight_5 3 rfl rfl)
theorem dX9_oneNight_124 : decode cX9_oneNight 124 = .ok (.getfield 19, 3) := dk_180 0 19 (dk_at dksX9_oneNight_5 4 rfl rfl)
theorem dX9_oneNight_127 : decode cX9_oneNight 127 = .ok (.iconst 2, 1) := dk_5 (dk_at dksX9_oneNight_5 7 rfl rfl)
theorem dX9_oneNight_128 : decode cX9_oneNight 128 = .ok (.iaload, 1) := dk_46 (dk_at dksX9_oneNight_5 8 rfl rfl)
theorem dX9_oneNight_129 : decode cX9_oneNight 129 = .ok (.if_icmp .ge 100, 3) := dk_162 0 100 (dk_at dksX9_oneNight_5 9 rfl rfl)
theorem dX9_oneNight_132 : decode cX9_oneNight 132 = .ok (.aload_n 0, 1) := dk_42 (dk_at dksX9_oneNight_5 12 rfl rfl)
theorem dX9_oneNight_133 : decode cX9_oneNight 133 = .ok (.getfield 19, 3) := dk_180 0 19 (dk_at dksX9_oneNight_5 13 rfl rfl)
theorem dX9_oneNight_136 : decode cX9_oneNight 136 = .ok (.bipush 11, 2) := dk_16 11 (dk_at dksX9_oneNight_5 16 rfl rfl)
theorem dX9_oneNight_138 : decode cX9_oneNight 138 = .ok (.iload_n 1, 1) := dk_27 (dk_at dksX9_oneNight_5 18 rfl rfl)
theorem dX9_oneNight_139 : decode cX9_oneNight 139 = .ok (.iadd, 1) := dk_96 (dk_at dksX9_oneNight_5 19 rfl rfl)
theorem dX9_oneNight_140 : decode cX9_oneNight 140 = .ok (.iaload, 1) := dk_46 (dk_at dksX9_oneNight_5 20 rfl rfl)
theorem dX9_oneNight_141 : decode cX9_oneNight 141 = .ok (.aload_n 0, 1) := dk_42 (dk_at dksX9_oneNight_5 21 rfl rfl)
theorem dX9_oneNight_142 : decode cX9_oneNight 142 = .ok (.getfield 31, 3) := dk_180 0 31 (dk_at dksX9_oneNight_6 0 rfl rfl)
theorem dX9_oneNight_145 : decode cX9_oneNight 145 = .ok (.iload_n 1, 1) := dk_27 (dk_at dksX9_oneNight_6 3 rfl rfl)
theorem dX9_oneNight_146 : decode cX9_oneNight 146 = .ok (.iaload, 1) := dk_46 (dk_at dksX9_oneNight_6 4 rfl rfl)
theorem dX9_oneNight_147 : decode cX9_oneNight 147 = .ok (.isub, 1) := dk_100 (dk_at dksX9_oneNight_6 5 rfl rfl)
theorem dX9_oneNight_148 : decode cX9_oneNight 148 = .ok (.istore_n 2, 1) := dk_61 (dk_at dksX9_oneNight_6 6 rfl rfl)
theorem dX9_oneNight_149 : decode cX9_oneNight 149 = .ok (.aload_n 0, 1) := dk_42 (dk_at dksX9_oneNight_6 7 rfl rfl)
theorem dX9_oneNight_150 : decode cX9_oneNight 150 = .ok (.getfield 19, 3) := dk_180 0 19 (dk_at dksX9_oneNight_6 8 rfl rfl)
theorem dX9_oneNight_153 : decode cX9_oneNight 153 = .ok (.bipush 11, 2) := dk_16 11 (dk_at dksX9_oneNight_6 11 rfl rfl)
theorem dX9_oneNight_155 : decode cX9_oneNight 155 = .ok (.iload_n 1, 1) := dk_27 (dk_at dksX9_oneNight_6 13 rfl rfl)
theorem dX9_oneNight_156 : decode cX9_oneNight 156 = .ok (.iadd, 1) := dk_96 (dk_at dksX9_oneNight_6 14 rfl rfl)
theorem dX9_oneNight_157 : decode cX9_oneNight 157 = .ok (.iload_n 2, 1) := dk_28 (dk_at dksX9_oneNight_6 15 rfl rfl)
theorem dX9_oneNight_158 : decode cX9_oneNight 158 = .ok (.ifCond .ge 7, 3) := dk_156 0 7 (dk_at dksX9_oneNight_6 16 rfl rfl)
theorem dX9_oneNight_161 : decode cX9_oneNight 161 = .ok (.iconst 0, 1) := dk_3 (dk_at dksX9_oneNight_6 19 rfl rfl)
theorem dX9_oneNight_162 : decode cX9_oneNight 162 = .ok (.goto 4, 3) := dk_167 0 4 (dk_at dksX9_oneNight_6 20 rfl rfl)
theorem dX9_oneNight_165 : decode cX9_oneNight 165 = .ok (.iload_n 2, 1) := dk_28 (dk_at dksX9_oneNight_6 23 rfl rfl)
theorem dX9_oneNight_166 : decode cX9_oneNight 166 = .ok (.iastore, 1) := dk_79 (dk_at dksX9_oneNight_7 0 rfl rfl)
theorem dX9_oneNight_167 : decode cX9_oneNight 167 = .ok (.aload_n 0, 1) := dk_42 (dk_at dksX9_oneNight_7 1 rfl rfl)
theorem dX9_oneNight_168 : decode cX9_oneNight 168 = .ok (.getfield 19, 3) := dk_180 0 19 (dk_at dksX9_oneNight_7 2 rfl rfl)
theorem dX9_oneNight_171 : decode cX9_oneNight 171 = .ok (.bipush 17, 2) := dk_16 17 (dk_at dksX9_oneNight_7 5 rfl rfl)
theorem dX9_oneNight_173 : decode cX9_oneNight 173 = .ok (.iload_n 1, 1) := dk_27 (dk_at dksX9_oneNight_7 7 rfl rfl)
theorem dX9_oneNight_174 : decode cX9_oneNight 174 = .ok (.iadd, 1) := dk_96 (dk_at dksX9_oneNight_7 8 rfl rfl)
theorem dX9_oneNight_175 : decode cX9_oneNight 175 = .ok (.dup2, 1) := dk_92 (dk_at dksX9_oneNight_7 9 rfl rfl)
theorem dX9_oneNight_176 : decode cX9_oneNight 176 = .ok (.iaload, 1) := dk_46 (dk_at dksX9_oneNight_7 10 rfl rfl)
theorem dX9_oneNight_177 : decode cX9_oneNight 177 = .ok (.aload_n 0, 1) := dk_42 (dk_at dksX9_oneNight_7 11 rfl rfl)
theorem dX9_oneNight_178 : decode cX9_oneNight 178 = .ok (.getfield 156, 3) := dk_180 0 156 (dk_at dksX9_oneNight_7 12 rfl rfl)
theorem dX9_oneNight_181 : decode cX9_oneNight 181 = .ok (.iload_n 1, 1) := dk_27 (dk_at dksX9_oneNight_7 15 rfl rfl)
theorem dX9_oneNight_182 : decode cX9_oneNight 182 = .ok (.invokestatic 162, 3) := dk_184 0 162 (dk_at dksX9_oneNight_7 16 rfl rfl)
theorem dX9_oneNight_185 : decode cX9_oneNight 185 = .ok (.ifCond .eq 7, 3) := dk_153 0 7 (dk_at dksX9_oneNight_7 19 rfl rfl)
theorem dX9_oneNight_188 : decode cX9_oneNight 188 = .ok (.iconst 1, 1) := dk_4 (dk_at dksX9_oneNight_7 22 rfl rfl)
theorem dX9_oneNight_189 : decode cX9_oneNight 189 = .ok (.goto 4, 3) := dk_167 0 4 (dk_at dksX9_oneNight_8 0 rfl rfl)
theorem dX9_oneNight_192 : decode cX9_oneNight 192 = .ok (.iconst 0, 1) := dk_3 (dk_at dksX9_oneNight_8 3 rfl rfl)
theorem dX9_oneNight_193 : decode cX9_oneNight 193 = .ok (.isub, 1) := dk_100 (dk_at dksX9_oneNight_8 4 rfl rfl)
theorem dX9_oneNight_194 : decode cX9_oneNight 194 = .ok (.iastore, 1) := dk_79 (dk_at dksX9_oneNight_8 5 rfl rfl)
theorem dX9_oneNight_195 : decode cX9_oneNight 195 = .ok (.aload_n 0, 1) := dk_42 (dk_at dksX9_oneNight_8 6 rfl rfl)
theorem dX9_oneNight_196 : decode cX9_oneNight 196 = .ok (.getfield 19, 3) := dk_180 0 19 (dk_at dksX9_oneNight_8 7 rfl rfl)
theorem dX9_oneNight_199 : decode cX9_oneNight 199 = .ok (.bipush 35, 2) := dk_16 35 (dk_at dksX9_oneNight_8 10 rfl rfl)
theorem dX9_oneNight_201 : decode cX9_oneNight 201 = .ok (.iload_n 1, 1) := dk_27 (dk_at dksX9_oneNight_8 12 rfl rfl)
theorem dX9_oneNight_202 : decode cX9_oneNight 202 = .ok (.iadd, 1) := dk_96 (dk_at dksX9_oneNight_8 13 rfl rfl)
theorem dX9_oneNight_203 : decode cX9_oneNight 203 = .ok (.dup2, 1) := dk_92 (dk_at dksX9_oneNight_8 14 rfl rfl)
theorem dX9_oneNight_204 : decode cX9_oneNight 204 = .ok (.iaload, 1) := dk_46 (dk_at dksX9_oneNight_8 15 rfl rfl)
theorem dX9_oneNight_205 : decode cX9_oneNight 205 = .ok (.aload_n 0, 1) := dk_42 (dk_at dksX9_oneNight_8 16 rfl rfl)
theorem dX9_oneNight_206 : decode cX9_oneNight 206 = .ok (.getfield 156, 3) := dk_180 0 156 (dk_at dksX9_oneNight_8 17 rfl rfl)
theorem dX9_oneNight_209 : decode cX9_oneNight 209 = .ok (.iload_n 1, 1) := dk_27 (dk_at dksX9_oneNight_8 20 rfl rfl)
theorem dX9_oneNight_210 : decode cX9_oneNight 210 = .ok (.invokestatic 162, 3) := dk_184 0 162 (dk_at dksX9_oneNight_8 21 rfl rfl)
theorem dX9_oneNight_213 : decode cX9_oneNight 213 = .ok (.ifCond .eq 7, 3) := dk_153 0 7 (dk_at dksX9_oneNight_9 0 rfl rfl)
theorem dX9_oneNight_216 : decode cX9_oneNight 216 = .ok (.iconst 1, 1) := dk_4 (dk_at dksX9_oneNight_9 3 rfl rfl)
theorem dX9_oneNight_217 : decode cX9_oneNight 217 = .ok (.goto 4, 3) := dk_167 0 4 (dk_at dksX9_oneNight_9 4 rfl rfl)
theorem dX9_oneNight_220 : decode cX9_oneNight 220 = .ok (.iconst 0, 1) := dk_3 (dk_at dksX9_oneNight_9 7 rfl rfl)
theorem dX9_oneNight_221 : decode cX9_oneNight 221 = .ok (.iadd, 1) := dk_96 (dk_at dksX9_oneNight_9 8 rfl rfl)
theorem dX9_oneNight_222 : decode cX9_oneNight 222 = .ok (.iastore, 1) := dk_79 (dk_at dksX9_oneNight_9 9 rfl rfl)
theorem dX9_oneNight_223 : decode cX9_oneNight 223 = .ok (.iinc 1 1, 3) := dk_132 1 1 (dk_at dksX9_oneNight_9 10 rfl rfl)
theorem dX9_oneNight_226 : decode cX9_oneNight 226 = .ok (.goto (-104), 3) := dk_167 255 152 (dk_at dksX9_oneNight_9 13 rfl rfl)
theorem dX9_oneNight_229 : decode cX9_oneNight 229 = .ok (.aload_n 0, 1) := dk_42 (dk_at dksX9_oneNight_9 16 rfl rfl)
theorem dX9_oneNight_230 : decode cX9_oneNight 230 = .ok (.getfield 19, 3) := dk_180 0 19 (dk_at dksX9_oneNight_9 17 rfl rfl)
theorem dX9_oneNight_233 : decode cX9_oneNight 233 = .ok (.iconst 3, 1) := dk_6 (dk_at dksX9_oneNight_9 20 rfl rfl)
theorem dX9_oneNight_234 : decode cX9_oneNight 234 = .ok (.dup2, 1) := dk_92 (dk_at dksX9_oneNight_9 21 rfl rfl)
theorem dX9_oneNight_235 : decode cX9_oneNight 235 = .ok (.iaload, 1) := dk_46 (dk_at dksX9_oneNight_9 22 rfl rfl)
theorem dX9_oneNight_236 : decode cX9_oneNight 236 = .ok (.iconst 1, 1) := dk_4 (dk_at dksX9_oneNight_9 23 rfl rfl)
theorem dX9_oneNight_237 : decode cX9_oneNight 237 = .ok (.iadd, 1) := dk_96 (dk_at dksX9_oneNight_10 0 rfl rfl)
theorem dX9_oneNight_238 : decode cX9_oneNight 238 = .ok (.iastore, 1) := dk_79 (dk_at dksX9_oneNight_10 1 rfl rfl)
theorem dX9_oneNight_239 : decode cX9_oneNight 239 = .ok (.return_, 1) := dk_177 (dk_at dksX9_oneNight_10 2 rfl rfl)
abbrev cX9_targetOf : ByteArray := prog_16_method_28_code
def yX9_targetOf : MethodName := ⟨RX9, "targetOf", "(I)I"⟩
def dkwX9_targetOf_4 : List UInt8 := [153, 0, 8, 28, 27, 160, 0, 8, 18, 149, 167, 0, 4, 28, 172]
abbrev dktX9_targetOf_4 : List UInt8 := dkwX9_targetOf_4 ++ []
def dkwX9_targetOf_3 : List UInt8 := [27, 4, 96, 42, 180, 0, 19, 5, 46, 112, 61, 167, 0, 3, 42, 180, 0, 19, 16, 17, 27, 96, 46]
abbrev dktX9_targetOf_3 : List UInt8 := dkwX9_targetOf_3 ++ dktX9_targetOf_4
def dkwX9_targetOf_2 : List UInt8 := [42, 42, 27, 182, 0, 150, 4, 100, 182, 0, 153, 61, 167, 0, 26, 42, 3, 182, 0, 153, 61, 167, 0, 17]
abbrev dktX9_targetOf_2 : List UInt8 := dkwX9_targetOf_2 ++ dktX9_targetOf_3
def dkwX9_targetOf_1 : List UInt8 := [170, 0, 0, 0, 0, 0, 0, 66, 0, 0, 0, 1, 0, 0, 0, 3, 0, 0, 0, 28, 0, 0, 0, 43, 0, 0, 0, 52]
abbrev dktX9_targetOf_1 : List UInt8 := dkwX9_targetOf_1 ++ dktX9_targetOf_2
def dkwX9_targetOf_0 : List UInt8 := [18, 149, 61, 42, 180, 0, 19, 16, 23, 27, 96, 46]
abbrev dktX9_targetOf_0 : List UInt8 := dkwX9_targetOf_0 ++ dktX9_targetOf_1
theorem dksX9_targetOf_0 : cX9_targetOf.data.toList.drop 0 = dktX9_targetOf_0 := by decide +kernel
theorem dksX9_targetOf_1 : cX9_targetOf.data.toList.drop 12 = dktX9_targetOf_1 := dk_seg dksX9_targetOf_0 12 rfl rfl
theorem dksX9_targetOf_2 : cX9_targetOf.data.toList.drop 40 = dktX9_targetOf_2 := dk_seg dksX9_targetOf_1 28 rfl rfl
theorem dksX9_targetOf_3 : cX9_targetOf.data.toList.drop 64 = dktX9_targetOf_3 := dk_seg dksX9_targetOf_2 24 rfl rfl
theorem dksX9_targetOf_4 : cX9_targetOf.data.toList.drop 87 = dktX9_targetOf_4 := dk_seg dksX9_targetOf_3 23 rfl rfl
theorem dX9_targetOf_0 : decode cX9_targetOf 0 = .ok (.ldc 149, 2) := dk_18 149 (dk_at dksX9_targetOf_0 0 rfl rfl)
theorem dX9_targetOf_2 : decode cX9_targetOf 2 = .ok (.istore_n 2, 1) := dk_61 (dk_at dksX9_targetOf_0 2 rfl rfl)
theorem dX9_targetOf_3 : decode cX9_targetOf 3 = .ok (.aload_n 0, 1) := dk_42 (dk_at dksX9_targetOf_0 3 rfl rfl)
theorem dX9_targetOf_4 : decode cX9_targetOf 4 = .ok (.getfield 19, 3) := dk_180 0 19 (dk_at dksX9_targetOf_0 4 rfl rfl)
theorem dX9_targetOf_7 : decode cX9_targetOf 7 = .ok (.bipush 23, 2) := dk_16 23 (dk_at dksX9_targetOf_0 7 rfl rfl)
theorem dX9_targetOf_9 : decode cX9_targetOf 9 = .ok (.iload_n 1, 1) := dk_27 (dk_at dksX9_targetOf_0 9 rfl rfl)
theorem dX9_targetOf_10 : decode cX9_targetOf 10 = .ok (.iadd, 1) := dk_96 (dk_at dksX9_targetOf_0 10 rfl rfl)
theorem dX9_targetOf_11 : decode cX9_targetOf 11 = .ok (.iaload, 1) := dk_46 (dk_at dksX9_targetOf_0 11 rfl rfl)
theorem dX9_targetOf_12 : decode cX9_targetOf 12 = .ok (.tableswitch 66 1 3 #[28, 43, 52], 28) := by decide +kernel
theorem dX9_targetOf_40 : decode cX9_targetOf 40 = .ok (.aload_n 0, 1) := dk_42 (dk_at dksX9_targetOf_2 0 rfl rfl)
theorem dX9_targetOf_41 : decode cX9_targetOf 41 = .ok (.aload_n 0, 1) := dk_42 (dk_at dksX9_targetOf_2 1 rfl rfl)
theorem dX9_targetOf_42 : decode cX9_targetOf 42 = .ok (.iload_n 1, 1) := dk_27 (dk_at dksX9_targetOf_2 2 rfl rfl)
theorem dX9_targetOf_43 : decode cX9_targetOf 43 = .ok (.invokevirtual 150, 3) := dk_182 0 150 (dk_at dksX9_targetOf_2 3 rfl rfl)
theorem dX9_targetOf_46 : decode cX9_targetOf 46 = .ok (.iconst 1, 1) := dk_4 (dk_at dksX9_targetOf_2 6 rfl rfl)
theorem dX9_targetOf_47 : decode cX9_targetOf 47 = .ok (.isub, 1) := dk_100 (dk_at dksX9_targetOf_2 7 rfl rfl)
theorem dX9_targetOf_48 : decode cX9_targetOf 48 = .ok (.invokevirtual 153, 3) := dk_182 0 153 (dk_at dksX9_targetOf_2 8 rfl rfl)
theorem dX9_targetOf_51 : decode cX9_targetOf 51 = .ok (.istore_n 2, 1) := dk_61 (dk_at dksX9_targetOf_2 11 rfl rfl)
theorem dX9_targetOf_52 : decode cX9_targetOf 52 = .ok (.goto 26, 3) := dk_167 0 26 (dk_at dksX9_targetOf_2 12 rfl rfl)
theorem dX9_targetOf_55 : decode cX9_targetOf 55 = .ok (.aload_n 0, 1) := dk_42 (dk_at dksX9_targetOf_2 15 rfl rfl)
theorem dX9_targetOf_56 : decode cX9_targetOf 56 = .ok (.iconst 0, 1) := dk_3 (dk_at dksX9_targetOf_2 16 rfl rfl)
theorem dX9_targetOf_57 : decode cX9_targetOf 57 = .ok (.invokevirtual 153, 3) := dk_182 0 153 (dk_at dksX9_targetOf_2 17 rfl rfl)
theorem dX9_targetOf_60 : decode cX9_targetOf 60 = .ok (.istore_n 2, 1) := dk_61 (dk_at dksX9_targetOf_2 20 rfl rfl)
theorem dX9_targetOf_61 : decode cX9_targetOf 61 = .ok (.goto 17, 3) := dk_167 0 17 (dk_at dksX9_targetOf_2 21 rfl rfl)
theorem dX9_targetOf_64 : decode cX9_targetOf 64 = .ok (.iload_n 1, 1) := dk_27 (dk_at dksX9_targetOf_3 0 rfl rfl)
theorem dX9_targetOf_65 : decode cX9_targetOf 65 = .ok (.iconst 1, 1) := dk_4 (dk_at dksX9_targetOf_3 1 rfl rfl)
theorem dX9_targetOf_66 : decode cX9_targetOf 66 = .ok (.iadd, 1) := dk_96 (dk_at dksX9_targetOf_3 2 rfl rfl)
theorem dX9_targetOf_67 : decode cX9_targetOf 67 = .ok (.aload_n 0, 1) := dk_42 (dk_at dksX9_targetOf_3 3 rfl rfl)
theorem dX9_targetOf_68 : decode cX9_targetOf 68 = .ok (.getfield 19, 3) := dk_180 0 19 (dk_at dksX9_targetOf_3 4 rfl rfl)
theorem dX9_targetOf_71 : decode cX9_targetOf 71 = .ok (.iconst 2, 1) := dk_5 (dk_at dksX9_targetOf_3 7 rfl rfl)
theorem dX9_targetOf_72 : decode cX9_targetOf 72 = .ok (.iaload, 1) := dk_46 (dk_at dksX9_targetOf_3 8 rfl rfl)
theorem dX9_targetOf_73 : decode cX9_targetOf 73 = .ok (.irem, 1) := dk_112 (dk_at dksX9_targetOf_3 9 rfl rfl)
theorem dX9_targetOf_74 : decode cX9_targetOf 74 = .ok (.istore_n 2, 1) := dk_61 (dk_at dksX9_targetOf_3 10 rfl rfl)
theorem dX9_targetOf_75 : decode cX9_targetOf 75 = .ok (.goto 3, 3) := dk_167 0 3 (dk_at dksX9_targetOf_3 11 rfl rfl)
theorem dX9_targetOf_78 : decode cX9_targetOf 78 = .ok (.aload_n 0, 1) := dk_42 (dk_at dksX9_targetOf_3 14 rfl rfl)
theorem dX9_targetOf_79 : decode cX9_targetOf 79 = .ok (.getfield 19, 3) := dk_180 0 19 (dk_at dksX9_targetOf_3 15 rfl rfl)
theorem dX9_targetOf_82 : decode cX9_targetOf 82 = .ok (.bipush 17, 2) := dk_16 17 (dk_at dksX9_targetOf_3 18 rfl rfl)
theorem dX9_targetOf_84 : decode cX9_targetOf 84 = .ok (.iload_n 1, 1) := dk_27 (dk_at dksX9_targetOf_3 20 rfl rfl)
theorem dX9_targetOf_85 : decode cX9_targetOf 85 = .ok (.iadd, 1) := dk_96 (dk_at dksX9_targetOf_3 21 rfl rfl)
theorem dX9_targetOf_86 : decode cX9_targetOf 86 = .ok (.iaload, 1) := dk_46 (dk_at dksX9_targetOf_3 22 rfl rfl)
theorem dX9_targetOf_87 : decode cX9_targetOf 87 = .ok (.ifCond .eq 8, 3) := dk_153 0 8 (dk_at dksX9_targetOf_4 0 rfl rfl)
theorem dX9_targetOf_90 : decode cX9_targetOf 90 = .ok (.iload_n 2, 1) := dk_28 (dk_at dksX9_targetOf_4 3 rfl rfl)
theorem dX9_targetOf_91 : decode cX9_targetOf 91 = .ok (.iload_n 1, 1) := dk_27 (dk_at dksX9_targetOf_4 4 rfl rfl)
theorem dX9_targetOf_92 : decode cX9_targetOf 92 = .ok (.if_icmp .ne 8, 3) := dk_160 0 8 (dk_at dksX9_targetOf_4 5 rfl rfl)
theorem dX9_targetOf_95 : decode cX9_targetOf 95 = .ok (.ldc 149, 2) := dk_18 149 (dk_at dksX9_targetOf_4 8 rfl rfl)
theorem dX9_targetOf_97 : decode cX9_targetOf 97 = .ok (.goto 4, 3) := dk_167 0 4 (dk_at dksX9_targetOf_4 10 rfl rfl)
theorem dX9_targetOf_100 : decode cX9_targetOf 100 = .ok (.iload_n 2, 1) := dk_28 (dk_at dksX9_targetOf_4 13 rfl rfl)
theorem dX9_targetOf_101 : decode cX9_targetOf 101 = .ok (.ireturn, 1) := dk_172 (dk_at dksX9_targetOf_4 14 rfl rfl)
abbrev cX9_rankOf : ByteArray := prog_16_method_26_code
def yX9_rankOf : MethodName := ⟨RX9, "rankOf", "(I)I"⟩
def dkwX9_rankOf_2 : List UInt8 := [4, 167, 0, 4, 3, 96, 61, 132, 3, 1, 167, 255, 204, 28, 172]
abbrev dktX9_rankOf_2 : List UInt8 := dkwX9_rankOf_2 ++ []
def dkwX9_rankOf_1 : List UInt8 := [182, 0, 146, 163, 0, 21, 42, 29, 182, 0, 146, 42, 27, 182, 0, 146, 160, 0, 12, 29, 27, 162, 0, 7]
abbrev dktX9_rankOf_1 : List UInt8 := dkwX9_rankOf_1 ++ dktX9_rankOf_2
def dkwX9_rankOf_0 : List UInt8 := [3, 61, 3, 62, 29, 42, 180, 0, 19, 5, 46, 162, 0, 48, 28, 42, 29, 182, 0, 146, 42, 27]
abbrev dktX9_rankOf_0 : List UInt8 := dkwX9_rankOf_0 ++ dktX9_rankOf_1
theorem dksX9_rankOf_0 : cX9_rankOf.data.toList.drop 0 = dktX9_rankOf_0 := by decide +kernel
theorem dksX9_rankOf_1 : cX9_rankOf.data.toList.drop 22 = dktX9_rankOf_1 := dk_seg dksX9_rankOf_0 22 rfl rfl
theorem dksX9_rankOf_2 : cX9_rankOf.data.toList.drop 46 = dktX9_rankOf_2 := dk_seg dksX9_rankOf_1 24 rfl rfl
theorem dX9_rankOf_0 : decode cX9_rankOf 0 = .ok (.iconst 0, 1) := dk_3 (dk_at dksX9_rankOf_0 0 rfl rfl)
theorem dX9_rankOf_1 : decode cX9_rankOf 1 = .ok (.istore_n 2, 1) := dk_61 (dk_at dksX9_rankOf_0 1 rfl rfl)
theorem dX9_rankOf_2 : decode cX9_rankOf 2 = .ok (.iconst 0, 1) := dk_3 (dk_at dksX9_rankOf_0 2 rfl rfl)
theorem dX9_rankOf_3 : decode cX9_rankOf 3 = .ok (.istore_n 3, 1) := dk_62 (dk_at dksX9_rankOf_0 3 rfl rfl)
theorem dX9_rankOf_4 : decode cX9_rankOf 4 = .ok (.iload_n 3, 1) := dk_29 (dk_at dksX9_rankOf_0 4 rfl rfl)
theorem dX9_rankOf_5 : decode cX9_rankOf 5 = .ok (.aload_n 0, 1) := dk_42 (dk_at dksX9_rankOf_0 5 rfl rfl)
theorem dX9_rankOf_6 : decode cX9_rankOf 6 = .ok (.getfield 19, 3) := dk_180 0 19 (dk_at dksX9_rankOf_0 6 rfl rfl)
theorem dX9_rankOf_9 : decode cX9_rankOf 9 = .ok (.iconst 2, 1) := dk_5 (dk_at dksX9_rankOf_0 9 rfl rfl)
theorem dX9_rankOf_10 : decode cX9_rankOf 10 = .ok (.iaload, 1) := dk_46 (dk_at dksX9_rankOf_0 10 rfl rfl)
theorem dX9_rankOf_11 : decode cX9_rankOf 11 = .ok (.if_icmp .ge 48, 3) := dk_162 0 48 (dk_at dksX9_rankOf_0 11 rfl rfl)
theorem dX9_rankOf_14 : decode cX9_rankOf 14 = .ok (.iload_n 2, 1) := dk_28 (dk_at dksX9_rankOf_0 14 rfl rfl)
theorem dX9_rankOf_15 : decode cX9_rankOf 15 = .ok (.aload_n 0, 1) := dk_42 (dk_at dksX9_rankOf_0 15 rfl rfl)
theorem dX9_rankOf_16 : decode cX9_rankOf 16 = .ok (.iload_n 3, 1) := dk_29 (dk_at dksX9_rankOf_0 16 rfl rfl)
theorem dX9_rankOf_17 : decode cX9_rankOf 17 = .ok (.invokevirtual 146, 3) := dk_182 0 146 (dk_at dksX9_rankOf_0 17 rfl rfl)
theorem dX9_rankOf_20 : decode cX9_rankOf 20 = .ok (.aload_n 0, 1) := dk_42 (dk_at dksX9_rankOf_0 20 rfl rfl)
theorem dX9_rankOf_21 : decode cX9_rankOf 21 = .ok (.iload_n 1, 1) := dk_27 (dk_at dksX9_rankOf_0 21 rfl rfl)
theorem dX9_rankOf_22 : decode cX9_rankOf 22 = .ok (.invokevirtual 146, 3) := dk_182 0 146 (dk_at dksX9_rankOf_1 0 rfl rfl)
theorem dX9_rankOf_25 : decode cX9_rankOf 25 = .ok (.if_icmp .gt 21, 3) := dk_163 0 21 (dk_at dksX9_rankOf_1 3 rfl rfl)
theorem dX9_rankOf_28 : decode cX9_rankOf 28 = .ok (.aload_n 0, 1) := dk_42 (dk_at dksX9_rankOf_1 6 rfl rfl)
theorem dX9_rankOf_29 : decode cX9_rankOf 29 = .ok (.iload_n 3, 1) := dk_29 (dk_at dksX9_rankOf_1 7 rfl rfl)
theorem dX9_rankOf_30 : decode cX9_rankOf 30 = .ok (.invokevirtual 146, 3) := dk_182 0 146 (dk_at dksX9_rankOf_1 8 rfl rfl)
theorem dX9_rankOf_33 : decode cX9_rankOf 33 = .ok (.aload_n 0, 1) := dk_42 (dk_at dksX9_rankOf_1 11 rfl rfl)
theorem dX9_rankOf_34 : decode cX9_rankOf 34 = .ok (.iload_n 1, 1) := dk_27 (dk_at dksX9_rankOf_1 12 rfl rfl)
theorem dX9_rankOf_35 : decode cX9_rankOf 35 = .ok (.invokevirtual 146, 3) := dk_182 0 146 (dk_at dksX9_rankOf_1 13 rfl rfl)
theorem dX9_rankOf_38 : decode cX9_rankOf 38 = .ok (.if_icmp .ne 12, 3) := dk_160 0 12 (dk_at dksX9_rankOf_1 16 rfl rfl)
theorem dX9_rankOf_41 : decode cX9_rankOf 41 = .ok (.iload_n 3, 1) := dk_29 (dk_at dksX9_rankOf_1 19 rfl rfl)
theorem dX9_rankOf_42 : decode cX9_rankOf 42 = .ok (.iload_n 1, 1) := dk_27 (dk_at dksX9_rankOf_1 20 rfl rfl)
theorem dX9_rankOf_43 : decode cX9_rankOf 43 = .ok (.if_icmp .ge 7, 3) := dk_162 0 7 (dk_at dksX9_rankOf_1 21 rfl rfl)
theorem dX9_rankOf_46 : decode cX9_rankOf 46 = .ok (.iconst 1, 1) := dk_4 (dk_at dksX9_rankOf_2 0 rfl rfl)
theorem dX9_rankOf_47 : decode cX9_rankOf 47 = .ok (.goto 4, 3) := dk_167 0 4 (dk_at dksX9_rankOf_2 1 rfl rfl)
theorem dX9_rankOf_50 : decode cX9_rankOf 50 = .ok (.iconst 0, 1) := dk_3 (dk_at dksX9_rankOf_2 4 rfl rfl)
theorem dX9_rankOf_51 : decode cX9_rankOf 51 = .ok (.iadd, 1) := dk_96 (dk_at dksX9_rankOf_2 5 rfl rfl)
theorem dX9_rankOf_52 : decode cX9_rankOf 52 = .ok (.istore_n 2, 1) := dk_61 (dk_at dksX9_rankOf_2 6 rfl rfl)
theorem dX9_rankOf_53 : decode cX9_rankOf 53 = .ok (.iinc 3 1, 3) := dk_132 3 1 (dk_at dksX9_rankOf_2 7 rfl rfl)
theorem dX9_rankOf_56 : decode cX9_rankOf 56 = .ok (.goto (-52), 3) := dk_167 255 204 (dk_at dksX9_rankOf_2 10 rfl rfl)
theorem dX9_rankOf_59 : decode cX9_rankOf 59 = .ok (.iload_n 2, 1) := dk_28 (dk_at dksX9_rankOf_2 13 rfl rfl)
theorem dX9_rankOf_60 : decode cX9_rankOf 60 = .ok (.ireturn, 1) := dk_172 (dk_at dksX9_rankOf_2 14 rfl rfl)
abbrev cX9_highOf : ByteArray := prog_16_method_25_code
def yX9_highOf : MethodName := ⟨RX9, "highOf", "(I)I"⟩
def dkwX9_highOf_1 : List UInt8 := [96, 46, 184, 0, 142, 172]
abbrev dktX9_highOf_1 : List UInt8 := dkwX9_highOf_1 ++ []
def dkwX9_highOf_0 : List UInt8 := [42, 180, 0, 19, 8, 27, 96, 46, 42, 180, 0, 19, 16, 11, 27, 96, 46, 42, 180, 0, 19, 16, 29, 27]
abbrev dktX9_highOf_0 : List UInt8 := dkwX9_highOf_0 ++ dktX9_highOf_1
theorem dksX9_highOf_0 : cX9_highOf.data.toList.drop 0 = dktX9_highOf_0 := by decide +kernel
theorem dksX9_highOf_1 : cX9_highOf.data.toList.drop 24 = dktX9_highOf_1 := dk_seg dksX9_highOf_0 24 rfl rfl
theorem dX9_highOf_0 : decode cX9_highOf 0 = .ok (.aload_n 0, 1) := dk_42 (dk_at dksX9_highOf_0 0 rfl rfl)
theorem dX9_highOf_1 : decode cX9_highOf 1 = .ok (.getfield 19, 3) := dk_180 0 19 (dk_at dksX9_highOf_0 1 rfl rfl)
theorem dX9_highOf_4 : decode cX9_highOf 4 = .ok (.iconst 5, 1) := dk_8 (dk_at dksX9_highOf_0 4 rfl rfl)
theorem dX9_highOf_5 : decode cX9_highOf 5 = .ok (.iload_n 1, 1) := dk_27 (dk_at dksX9_highOf_0 5 rfl rfl)
theorem dX9_highOf_6 : decode cX9_highOf 6 = .ok (.iadd, 1) := dk_96 (dk_at dksX9_highOf_0 6 rfl rfl)
theorem dX9_highOf_7 : decode cX9_highOf 7 = .ok (.iaload, 1) := dk_46 (dk_at dksX9_highOf_0 7 rfl rfl)
theorem dX9_highOf_8 : decode cX9_highOf 8 = .ok (.aload_n 0, 1) := dk_42 (dk_at dksX9_highOf_0 8 rfl rfl)
theorem dX9_highOf_9 : decode cX9_highOf 9 = .ok (.getfield 19, 3) := dk_180 0 19 (dk_at dksX9_highOf_0 9 rfl rfl)
theorem dX9_highOf_12 : decode cX9_highOf 12 = .ok (.bipush 11, 2) := dk_16 11 (dk_at dksX9_highOf_0 12 rfl rfl)
theorem dX9_highOf_14 : decode cX9_highOf 14 = .ok (.iload_n 1, 1) := dk_27 (dk_at dksX9_highOf_0 14 rfl rfl)
theorem dX9_highOf_15 : decode cX9_highOf 15 = .ok (.iadd, 1) := dk_96 (dk_at dksX9_highOf_0 15 rfl rfl)
theorem dX9_highOf_16 : decode cX9_highOf 16 = .ok (.iaload, 1) := dk_46 (dk_at dksX9_highOf_0 16 rfl rfl)
theorem dX9_highOf_17 : decode cX9_highOf 17 = .ok (.aload_n 0, 1) := dk_42 (dk_at dksX9_highOf_0 17 rfl rfl)
theorem dX9_highOf_18 : decode cX9_highOf 18 = .ok (.getfield 19, 3) := dk_180 0 19 (dk_at dksX9_highOf_0 18 rfl rfl)
theorem dX9_highOf_21 : decode cX9_highOf 21 = .ok (.bipush 29, 2) := dk_16 29 (dk_at dksX9_highOf_0 21 rfl rfl)
theorem dX9_highOf_23 : decode cX9_highOf 23 = .ok (.iload_n 1, 1) := dk_27 (dk_at dksX9_highOf_0 23 rfl rfl)
theorem dX9_highOf_24 : decode cX9_highOf 24 = .ok (.iadd, 1) := dk_96 (dk_at dksX9_highOf_1 0 rfl rfl)
theorem dX9_highOf_25 : decode cX9_highOf 25 = .ok (.iaload, 1) := dk_46 (dk_at dksX9_highOf_1 1 rfl rfl)
theorem dX9_highOf_26 : decode cX9_highOf 26 = .ok (.invokestatic 142, 3) := dk_184 0 142 (dk_at dksX9_highOf_1 2 rfl rfl)
theorem dX9_highOf_29 : decode cX9_highOf 29 = .ok (.ireturn, 1) := dk_172 (dk_at dksX9_highOf_1 5 rfl rfl)
abbrev cX9_highBy : ByteArray := prog_16_method_24_code
def yX9_highBy : MethodName := ⟨RX9, "highBy", "(III)I"⟩
def dkwX9_highBy_3 : List UInt8 := [167, 0, 4, 3, 172, 27, 28, 96, 172]
abbrev dktX9_highBy_3 : List UInt8 := dkwX9_highBy_3 ++ []
def dkwX9_highBy_2 : List UInt8 := [27, 28, 96, 5, 108, 5, 104, 172, 27, 5, 28, 104, 96, 172, 27, 172, 27, 158, 0, 9, 27, 8, 96]
abbrev dktX9_highBy_2 : List UInt8 := dkwX9_highBy_2 ++ dktX9_highBy_3
def dkwX9_highBy_1 : List UInt8 := [170, 0, 0, 0, 0, 0, 59, 0, 0, 0, 2, 0, 0, 0, 5, 0, 0, 0, 31, 0, 0, 0, 39, 0, 0, 0, 45, 0, 0, 0, 47]
abbrev dktX9_highBy_1 : List UInt8 := dkwX9_highBy_1 ++ dktX9_highBy_2
def dkwX9_highBy_0 : List UInt8 := [26]
abbrev dktX9_highBy_0 : List UInt8 := dkwX9_highBy_0 ++ dktX9_highBy_1
theorem dksX9_highBy_0 : cX9_highBy.data.toList.drop 0 = dktX9_highBy_0 := by decide +kernel
theorem dksX9_highBy_1 : cX9_highBy.data.toList.drop 1 = dktX9_highBy_1 := dk_seg dksX9_highBy_0 1 rfl rfl
theorem dksX9_highBy_2 : cX9_highBy.data.toList.drop 32 = dktX9_highBy_2 := dk_seg dksX9_highBy_1 31 rfl rfl
theorem dksX9_highBy_3 : cX9_highBy.data.toList.drop 55 = dktX9_highBy_3 := dk_seg dksX9_highBy_2 23 rfl rfl
theorem dX9_highBy_0 : decode cX9_highBy 0 = .ok (.iload_n 0, 1) := dk_26 (dk_at dksX9_highBy_0 0 rfl rfl)
theorem dX9_highBy_1 : decode cX9_highBy 1 = .ok (.tableswitch 59 2 5 #[31, 39, 45, 47], 31) := by decide +kernel
theorem dX9_highBy_32 : decode cX9_highBy 32 = .ok (.iload_n 1, 1) := dk_27 (dk_at dksX9_highBy_2 0 rfl rfl)
theorem dX9_highBy_33 : decode cX9_highBy 33 = .ok (.iload_n 2, 1) := dk_28 (dk_at dksX9_highBy_2 1 rfl rfl)
theorem dX9_highBy_34 : decode cX9_highBy 34 = .ok (.iadd, 1) := dk_96 (dk_at dksX9_highBy_2 2 rfl rfl)
theorem dX9_highBy_35 : decode cX9_highBy 35 = .ok (.iconst 2, 1) := dk_5 (dk_at dksX9_highBy_2 3 rfl rfl)
theorem dX9_highBy_36 : decode cX9_highBy 36 = .ok (.idiv, 1) := dk_108 (dk_at dksX9_highBy_2 4 rfl rfl)
theorem dX9_highBy_37 : decode cX9_highBy 37 = .ok (.iconst 2, 1) := dk_5 (dk_at dksX9_highBy_2 5 rfl rfl)
theorem dX9_highBy_38 : decode cX9_highBy 38 = .ok (.imul, 1) := dk_104 (dk_at dksX9_highBy_2 6 rfl rfl)
theorem dX9_highBy_39 : decode cX9_highBy 39 = .ok (.ireturn, 1) := dk_172 (dk_at dksX9_highBy_2 7 rfl rfl)
theorem dX9_highBy_40 : decode cX9_highBy 40 = .ok (.iload_n 1, 1) := dk_27 (dk_at dksX9_highBy_2 8 rfl rfl)
theorem dX9_highBy_41 : decode cX9_highBy 41 = .ok (.iconst 2, 1) := dk_5 (dk_at dksX9_highBy_2 9 rfl rfl)
theorem dX9_highBy_42 : decode cX9_highBy 42 = .ok (.iload_n 2, 1) := dk_28 (dk_at dksX9_highBy_2 10 rfl rfl)
theorem dX9_highBy_43 : decode cX9_highBy 43 = .ok (.imul, 1) := dk_104 (dk_at dksX9_highBy_2 11 rfl rfl)
theorem dX9_highBy_44 : decode cX9_highBy 44 = .ok (.iadd, 1) := dk_96 (dk_at dksX9_highBy_2 12 rfl rfl)
theorem dX9_highBy_45 : decode cX9_highBy 45 = .ok (.ireturn, 1) := dk_172 (dk_at dksX9_highBy_2 13 rfl rfl)
theorem dX9_highBy_46 : decode cX9_highBy 46 = .ok (.iload_n 1, 1) := dk_27 (dk_at dksX9_highBy_2 14 rfl rfl)
theorem dX9_highBy_47 : decode cX9_highBy 47 = .ok (.ireturn, 1) := dk_172 (dk_at dksX9_highBy_2 15 rfl rfl)
theorem dX9_highBy_48 : decode cX9_highBy 48 = .ok (.iload_n 1, 1) := dk_27 (dk_at dksX9_highBy_2 16 rfl rfl)
theorem dX9_highBy_49 : decode cX9_highBy 49 = .ok (.ifCond .le 9, 3) := dk_158 0 9 (dk_at dksX9_highBy_2 17 rfl rfl)
theorem dX9_highBy_52 : decode cX9_highBy 52 = .ok (.iload_n 1, 1) := dk_27 (dk_at dksX9_highBy_2 20 rfl rfl)
theorem dX9_highBy_53 : decode cX9_highBy 53 = .ok (.iconst 5, 1) := dk_8 (dk_at dksX9_highBy_2 21 rfl rfl)
theorem dX9_highBy_54 : decode cX9_highBy 54 = .ok (.iadd, 1) := dk_96 (dk_at dksX9_highBy_2 22 rfl rfl)
theorem dX9_highBy_55 : decode cX9_highBy 55 = .ok (.goto 4, 3) := dk_167 0 4 (dk_at dksX9_highBy_3 0 rfl rfl)
theorem dX9_highBy_58 : decode cX9_highBy 58 = .ok (.iconst 0, 1) := dk_3 (dk_at dksX9_highBy_3 3 rfl rfl)
theorem dX9_highBy_59 : decode cX9_highBy 59 = .ok (.ireturn, 1) := dk_172 (dk_at dksX9_highBy_3 4 rfl rfl)
theorem dX9_highBy_60 : decode cX9_highBy 60 = .ok (.iload_n 1, 1) := dk_27 (dk_at dksX9_highBy_3 5 rfl rfl)
theorem dX9_highBy_61 : decode cX9_highBy 61 = .ok (.iload_n 2, 1) := dk_28 (dk_at dksX9_highBy_3 6 rfl rfl)
theorem dX9_highBy_62 : decode cX9_highBy 62 = .ok (.iadd, 1) := dk_96 (dk_at dksX9_highBy_3 7 rfl rfl)
theorem dX9_highBy_63 : decode cX9_highBy 63 = .ok (.ireturn, 1) := dk_172 (dk_at dksX9_highBy_3 8 rfl rfl)
abbrev cX9_atRank : ByteArray := prog_16_method_27_code
def yX9_atRank : MethodName := ⟨RX9, "atRank", "(I)I"⟩
def dkwX9_atRank_1 : List UInt8 := [29, 167, 0, 4, 28, 61, 132, 3, 1, 167, 255, 228, 28, 172]
abbrev dktX9_atRank_1 : List UInt8 := dkwX9_atRank_1 ++ []
def dkwX9_atRank_0 : List UInt8 := [18, 149, 61, 3, 62, 29, 42, 180, 0, 19, 5, 46, 162, 0, 24, 42, 29, 182, 0, 150, 27, 160, 0, 7]
abbrev dktX9_atRank_0 : List UInt8 := dkwX9_atRank_0 ++ dktX9_atRank_1
theorem dksX9_atRank_0 : cX9_atRank.data.toList.drop 0 = dktX9_atRank_0 := by decide +kernel
theorem dksX9_atRank_1 : cX9_atRank.data.toList.drop 24 = dktX9_atRank_1 := dk_seg dksX9_atRank_0 24 rfl rfl
theorem dX9_atRank_0 : decode cX9_atRank 0 = .ok (.ldc 149, 2) := dk_18 149 (dk_at dksX9_atRank_0 0 rfl rfl)
theorem dX9_atRank_2 : decode cX9_atRank 2 = .ok (.istore_n 2, 1) := dk_61 (dk_at dksX9_atRank_0 2 rfl rfl)
theorem dX9_atRank_3 : decode cX9_atRank 3 = .ok (.iconst 0, 1) := dk_3 (dk_at dksX9_atRank_0 3 rfl rfl)
theorem dX9_atRank_4 : decode cX9_atRank 4 = .ok (.istore_n 3, 1) := dk_62 (dk_at dksX9_atRank_0 4 rfl rfl)
theorem dX9_atRank_5 : decode cX9_atRank 5 = .ok (.iload_n 3, 1) := dk_29 (dk_at dksX9_atRank_0 5 rfl rfl)
theorem dX9_atRank_6 : decode cX9_atRank 6 = .ok (.aload_n 0, 1) := dk_42 (dk_at dksX9_atRank_0 6 rfl rfl)
theorem dX9_atRank_7 : decode cX9_atRank 7 = .ok (.getfield 19, 3) := dk_180 0 19 (dk_at dksX9_atRank_0 7 rfl rfl)
theorem dX9_atRank_10 : decode cX9_atRank 10 = .ok (.iconst 2, 1) := dk_5 (dk_at dksX9_atRank_0 10 rfl rfl)
theorem dX9_atRank_11 : decode cX9_atRank 11 = .ok (.iaload, 1) := dk_46 (dk_at dksX9_atRank_0 11 rfl rfl)
theorem dX9_atRank_12 : decode cX9_atRank 12 = .ok (.if_icmp .ge 24, 3) := dk_162 0 24 (dk_at dksX9_atRank_0 12 rfl rfl)
theorem dX9_atRank_15 : decode cX9_atRank 15 = .ok (.aload_n 0, 1) := dk_42 (dk_at dksX9_atRank_0 15 rfl rfl)
theorem dX9_atRank_16 : decode cX9_atRank 16 = .ok (.iload_n 3, 1) := dk_29 (dk_at dksX9_atRank_0 16 rfl rfl)
theorem dX9_atRank_17 : decode cX9_atRank 17 = .ok (.invokevirtual 150, 3) := dk_182 0 150 (dk_at dksX9_atRank_0 17 rfl rfl)
theorem dX9_atRank_20 : decode cX9_atRank 20 = .ok (.iload_n 1, 1) := dk_27 (dk_at dksX9_atRank_0 20 rfl rfl)
theorem dX9_atRank_21 : decode cX9_atRank 21 = .ok (.if_icmp .ne 7, 3) := dk_160 0 7 (dk_at dksX9_atRank_0 21 rfl rfl)
theorem dX9_atRank_24 : decode cX9_atRank 24 = .ok (.iload_n 3, 1) := dk_29 (dk_at dksX9_atRank_1 0 rfl rfl)
theorem dX9_atRank_25 : decode cX9_atRank 25 = .ok (.goto 4, 3) := dk_167 0 4 (dk_at dksX9_atRank_1 1 rfl rfl)
theorem dX9_atRank_28 : decode cX9_atRank 28 = .ok (.iload_n 2, 1) := dk_28 (dk_at dksX9_atRank_1 4 rfl rfl)
theorem dX9_atRank_29 : decode cX9_atRank 29 = .ok (.istore_n 2, 1) := dk_61 (dk_at dksX9_atRank_1 5 rfl rfl)
theorem dX9_atRank_30 : decode cX9_atRank 30 = .ok (.iinc 3 1, 3) := dk_132 3 1 (dk_at dksX9_atRank_1 6 rfl rfl)
theorem dX9_atRank_33 : decode cX9_atRank 33 = .ok (.goto (-28), 3) := dk_167 255 228 (dk_at dksX9_atRank_1 9 rfl rfl)
theorem dX9_atRank_36 : decode cX9_atRank 36 = .ok (.iload_n 2, 1) := dk_28 (dk_at dksX9_atRank_1 12 rfl rfl)
theorem dX9_atRank_37 : decode cX9_atRank 37 = .ok (.ireturn, 1) := dk_172 (dk_at dksX9_atRank_1 13 rfl rfl)
abbrev cX9_has : ByteArray := prog_16_method_3_code
def yX9_has : MethodName := ⟨RX9, "has", "(II)Z"⟩
def dkwX9_has_0 : List UInt8 := [26, 27, 122, 4, 126, 4, 160, 0, 7, 4, 167, 0, 4, 3, 172]
abbrev dktX9_has_0 : List UInt8 := dkwX9_has_0 ++ []
theorem dksX9_has_0 : cX9_has.data.toList.drop 0 = dktX9_has_0 := by decide +kernel
theorem dX9_has_0 : decode cX9_has 0 = .ok (.iload_n 0, 1) := dk_26 (dk_at dksX9_has_0 0 rfl rfl)
theorem dX9_has_1 : decode cX9_has 1 = .ok (.iload_n 1, 1) := dk_27 (dk_at dksX9_has_0 1 rfl rfl)
theorem dX9_has_2 : decode cX9_has 2 = .ok (.ishr, 1) := dk_122 (dk_at dksX9_has_0 2 rfl rfl)
theorem dX9_has_3 : decode cX9_has 3 = .ok (.iconst 1, 1) := dk_4 (dk_at dksX9_has_0 3 rfl rfl)
theorem dX9_has_4 : decode cX9_has 4 = .ok (.iand, 1) := dk_126 (dk_at dksX9_has_0 4 rfl rfl)
theorem dX9_has_5 : decode cX9_has 5 = .ok (.iconst 1, 1) := dk_4 (dk_at dksX9_has_0 5 rfl rfl)
theorem dX9_has_6 : decode cX9_has 6 = .ok (.if_icmp .ne 7, 3) := dk_160 0 7 (dk_at dksX9_has_0 6 rfl rfl)
theorem dX9_has_9 : decode cX9_has 9 = .ok (.iconst 1, 1) := dk_4 (dk_at dksX9_has_0 9 rfl rfl)
theorem dX9_has_10 : decode cX9_has 10 = .ok (.goto 4, 3) := dk_167 0 4 (dk_at dksX9_has_0 10 rfl rfl)
theorem dX9_has_13 : decode cX9_has 13 = .ok (.iconst 0, 1) := dk_3 (dk_at dksX9_has_0 13 rfl rfl)
theorem dX9_has_14 : decode cX9_has 14 = .ok (.ireturn, 1) := dk_172 (dk_at dksX9_has_0 14 rfl rfl)
abbrev cX9_sawnOff : ByteArray := prog_16_method_29_code
def yX9_sawnOff : MethodName := ⟨RX9, "sawnOff", "(II)I"⟩
def dkwX9_sawnOff_1 : List UInt8 := [16, 17, 27, 96, 46, 5, 108, 167, 0, 12, 42, 180, 0, 19, 16, 17, 27, 96, 46, 172]
abbrev dktX9_sawnOff_1 : List UInt8 := dkwX9_sawnOff_1 ++ []
def dkwX9_sawnOff_0 : List UInt8 := [42, 180, 0, 19, 8, 28, 96, 46, 62, 29, 7, 159, 0, 8, 29, 8, 160, 0, 17, 42, 180, 0, 19]
abbrev dktX9_sawnOff_0 : List UInt8 := dkwX9_sawnOff_0 ++ dktX9_sawnOff_1
theorem dksX9_sawnOff_0 : cX9_sawnOff.data.toList.drop 0 = dktX9_sawnOff_0 := by decide +kernel
theorem dksX9_sawnOff_1 : cX9_sawnOff.data.toList.drop 23 = dktX9_sawnOff_1 := dk_seg dksX9_sawnOff_0 23 rfl rfl
theorem dX9_sawnOff_0 : decode cX9_sawnOff 0 = .ok (.aload_n 0, 1) := dk_42 (dk_at dksX9_sawnOff_0 0 rfl rfl)
theorem dX9_sawnOff_1 : decode cX9_sawnOff 1 = .ok (.getfield 19, 3) := dk_180 0 19 (dk_at dksX9_sawnOff_0 1 rfl rfl)
theorem dX9_sawnOff_4 : decode cX9_sawnOff 4 = .ok (.iconst 5, 1) := dk_8 (dk_at dksX9_sawnOff_0 4 rfl rfl)
theorem dX9_sawnOff_5 : decode cX9_sawnOff 5 = .ok (.iload_n 2, 1) := dk_28 (dk_at dksX9_sawnOff_0 5 rfl rfl)
theorem dX9_sawnOff_6 : decode cX9_sawnOff 6 = .ok (.iadd, 1) := dk_96 (dk_at dksX9_sawnOff_0 6 rfl rfl)
theorem dX9_sawnOff_7 : decode cX9_sawnOff 7 = .ok (.iaload, 1) := dk_46 (dk_at dksX9_sawnOff_0 7 rfl rfl)
theorem dX9_sawnOff_8 : decode cX9_sawnOff 8 = .ok (.istore_n 3, 1) := dk_62 (dk_at dksX9_sawnOff_0 8 rfl rfl)
theorem dX9_sawnOff_9 : decode cX9_sawnOff 9 = .ok (.iload_n 3, 1) := dk_29 (dk_at dksX9_sawnOff_0 9 rfl rfl)
theorem dX9_sawnOff_10 : decode cX9_sawnOff 10 = .ok (.iconst 4, 1) := dk_7 (dk_at dksX9_sawnOff_0 10 rfl rfl)
theorem dX9_sawnOff_11 : decode cX9_sawnOff 11 = .ok (.if_icmp .eq 8, 3) := dk_159 0 8 (dk_at dksX9_sawnOff_0 11 rfl rfl)
theorem dX9_sawnOff_14 : decode cX9_sawnOff 14 = .ok (.iload_n 3, 1) := dk_29 (dk_at dksX9_sawnOff_0 14 rfl rfl)
theorem dX9_sawnOff_15 : decode cX9_sawnOff 15 = .ok (.iconst 5, 1) := dk_8 (dk_at dksX9_sawnOff_0 15 rfl rfl)
theorem dX9_sawnOff_16 : decode cX9_sawnOff 16 = .ok (.if_icmp .ne 17, 3) := dk_160 0 17 (dk_at dksX9_sawnOff_0 16 rfl rfl)
theorem dX9_sawnOff_19 : decode cX9_sawnOff 19 = .ok (.aload_n 0, 1) := dk_42 (dk_at dksX9_sawnOff_0 19 rfl rfl)
theorem dX9_sawnOff_20 : decode cX9_sawnOff 20 = .ok (.getfield 19, 3) := dk_180 0 19 (dk_at dksX9_sawnOff_0 20 rfl rfl)
theorem dX9_sawnOff_23 : decode cX9_sawnOff 23 = .ok (.bipush 17, 2) := dk_16 17 (dk_at dksX9_sawnOff_1 0 rfl rfl)
theorem dX9_sawnOff_25 : decode cX9_sawnOff 25 = .ok (.iload_n 1, 1) := dk_27 (dk_at dksX9_sawnOff_1 2 rfl rfl)
theorem dX9_sawnOff_26 : decode cX9_sawnOff 26 = .ok (.iadd, 1) := dk_96 (dk_at dksX9_sawnOff_1 3 rfl rfl)
theorem dX9_sawnOff_27 : decode cX9_sawnOff 27 = .ok (.iaload, 1) := dk_46 (dk_at dksX9_sawnOff_1 4 rfl rfl)
theorem dX9_sawnOff_28 : decode cX9_sawnOff 28 = .ok (.iconst 2, 1) := dk_5 (dk_at dksX9_sawnOff_1 5 rfl rfl)
theorem dX9_sawnOff_29 : decode cX9_sawnOff 29 = .ok (.idiv, 1) := dk_108 (dk_at dksX9_sawnOff_1 6 rfl rfl)
theorem dX9_sawnOff_30 : decode cX9_sawnOff 30 = .ok (.goto 12, 3) := dk_167 0 12 (dk_at dksX9_sawnOff_1 7 rfl rfl)
theorem dX9_sawnOff_33 : decode cX9_sawnOff 33 = .ok (.aload_n 0, 1) := dk_42 (dk_at dksX9_sawnOff_1 10 rfl rfl)
theorem dX9_sawnOff_34 : decode cX9_sawnOff 34 = .ok (.getfield 19, 3) := dk_180 0 19 (dk_at dksX9_sawnOff_1 11 rfl rfl)
theorem dX9_sawnOff_37 : decode cX9_sawnOff 37 = .ok (.bipush 17, 2) := dk_16 17 (dk_at dksX9_sawnOff_1 14 rfl rfl)
theorem dX9_sawnOff_39 : decode cX9_sawnOff 39 = .ok (.iload_n 1, 1) := dk_27 (dk_at dksX9_sawnOff_1 16 rfl rfl)
theorem dX9_sawnOff_40 : decode cX9_sawnOff 40 = .ok (.iadd, 1) := dk_96 (dk_at dksX9_sawnOff_1 17 rfl rfl)
theorem dX9_sawnOff_41 : decode cX9_sawnOff 41 = .ok (.iaload, 1) := dk_46 (dk_at dksX9_sawnOff_1 18 rfl rfl)
theorem dX9_sawnOff_42 : decode cX9_sawnOff 42 = .ok (.ireturn, 1) := dk_172 (dk_at dksX9_sawnOff_1 19 rfl rfl)
abbrev cX9_cushions : ByteArray := prog_16_method_35_code
def yX9_cushions : MethodName := ⟨RX9, "cushions", "(II)I"⟩
def dkwX9_cushions_2 : List UInt8 := [172]
abbrev dktX9_cushions_2 : List UInt8 := dkwX9_cushions_2 ++ []
def dkwX9_cushions_1 : List UInt8 := [182, 0, 172, 42, 180, 0, 19, 16, 29, 27, 96, 46, 62, 42, 180, 0, 19, 16, 29, 27, 96, 28, 79, 29]
abbrev dktX9_cushions_1 : List UInt8 := dkwX9_cushions_1 ++ dktX9_cushions_2
def dkwX9_cushions_0 : List UInt8 := [42, 27, 182, 0, 178, 153, 0, 15, 28, 133, 9, 20, 0, 181, 184, 0, 57, 154, 0, 6, 18, 67, 172, 42]
abbrev dktX9_cushions_0 : List UInt8 := dkwX9_cushions_0 ++ dktX9_cushions_1
theorem dksX9_cushions_0 : cX9_cushions.data.toList.drop 0 = dktX9_cushions_0 := by decide +kernel
theorem dksX9_cushions_1 : cX9_cushions.data.toList.drop 24 = dktX9_cushions_1 := dk_seg dksX9_cushions_0 24 rfl rfl
theorem dksX9_cushions_2 : cX9_cushions.data.toList.drop 48 = dktX9_cushions_2 := dk_seg dksX9_cushions_1 24 rfl rfl
theorem dX9_cushions_0 : decode cX9_cushions 0 = .ok (.aload_n 0, 1) := dk_42 (dk_at dksX9_cushions_0 0 rfl rfl)
theorem dX9_cushions_1 : decode cX9_cushions 1 = .ok (.iload_n 1, 1) := dk_27 (dk_at dksX9_cushions_0 1 rfl rfl)
theorem dX9_cushions_2 : decode cX9_cushions 2 = .ok (.invokevirtual 178, 3) := dk_182 0 178 (dk_at dksX9_cushions_0 2 rfl rfl)
theorem dX9_cushions_5 : decode cX9_cushions 5 = .ok (.ifCond .eq 15, 3) := dk_153 0 15 (dk_at dksX9_cushions_0 5 rfl rfl)
theorem dX9_cushions_8 : decode cX9_cushions 8 = .ok (.iload_n 2, 1) := dk_28 (dk_at dksX9_cushions_0 8 rfl rfl)
theorem dX9_cushions_9 : decode cX9_cushions 9 = .ok (.i2l, 1) := dk_133 (dk_at dksX9_cushions_0 9 rfl rfl)
theorem dX9_cushions_10 : decode cX9_cushions 10 = .ok (.lconst 0, 1) := dk_9 (dk_at dksX9_cushions_0 10 rfl rfl)
theorem dX9_cushions_11 : decode cX9_cushions 11 = .ok (.ldc2_w 181, 3) := dk_20 0 181 (dk_at dksX9_cushions_0 11 rfl rfl)
theorem dX9_cushions_14 : decode cX9_cushions 14 = .ok (.invokestatic 57, 3) := dk_184 0 57 (dk_at dksX9_cushions_0 14 rfl rfl)
theorem dX9_cushions_17 : decode cX9_cushions 17 = .ok (.ifCond .ne 6, 3) := dk_154 0 6 (dk_at dksX9_cushions_0 17 rfl rfl)
theorem dX9_cushions_20 : decode cX9_cushions 20 = .ok (.ldc 67, 2) := dk_18 67 (dk_at dksX9_cushions_0 20 rfl rfl)
theorem dX9_cushions_22 : decode cX9_cushions 22 = .ok (.ireturn, 1) := dk_172 (dk_at dksX9_cushions_0 22 rfl rfl)
theorem dX9_cushions_23 : decode cX9_cushions 23 = .ok (.aload_n 0, 1) := dk_42 (dk_at dksX9_cushions_0 23 rfl rfl)
theorem dX9_cushions_24 : decode cX9_cushions 24 = .ok (.invokevirtual 172, 3) := dk_182 0 172 (dk_at dksX9_cushions_1 0 rfl rfl)
theorem dX9_cushions_27 : decode cX9_cushions 27 = .ok (.aload_n 0, 1) := dk_42 (dk_at dksX9_cushions_1 3 rfl rfl)
theorem dX9_cushions_28 : decode cX9_cushions 28 = .ok (.getfield 19, 3) := dk_180 0 19 (dk_at dksX9_cushions_1 4 rfl rfl)
theorem dX9_cushions_31 : decode cX9_cushions 31 = .ok (.bipush 29, 2) := dk_16 29 (dk_at dksX9_cushions_1 7 rfl rfl)
theorem dX9_cushions_33 : decode cX9_cushions 33 = .ok (.iload_n 1, 1) := dk_27 (dk_at dksX9_cushions_1 9 rfl rfl)
theorem dX9_cushions_34 : decode cX9_cushions 34 = .ok (.iadd, 1) := dk_96 (dk_at dksX9_cushions_1 10 rfl rfl)
theorem dX9_cushions_35 : decode cX9_cushions 35 = .ok (.iaload, 1) := dk_46 (dk_at dksX9_cushions_1 11 rfl rfl)
theorem dX9_cushions_36 : decode cX9_cushions 36 = .ok (.istore_n 3, 1) := dk_62 (dk_at dksX9_cushions_1 12 rfl rfl)
theorem dX9_cushions_37 : decode cX9_cushions 37 = .ok (.aload_n 0, 1) := dk_42 (dk_at dksX9_cushions_1 13 rfl rfl)
theorem dX9_cushions_38 : decode cX9_cushions 38 = .ok (.getfield 19, 3) := dk_180 0 19 (dk_at dksX9_cushions_1 14 rfl rfl)
theorem dX9_cushions_41 : decode cX9_cushions 41 = .ok (.bipush 29, 2) := dk_16 29 (dk_at dksX9_cushions_1 17 rfl rfl)
theorem dX9_cushions_43 : decode cX9_cushions 43 = .ok (.iload_n 1, 1) := dk_27 (dk_at dksX9_cushions_1 19 rfl rfl)
theorem dX9_cushions_44 : decode cX9_cushions 44 = .ok (.iadd, 1) := dk_96 (dk_at dksX9_cushions_1 20 rfl rfl)
theorem dX9_cushions_45 : decode cX9_cushions 45 = .ok (.iload_n 2, 1) := dk_28 (dk_at dksX9_cushions_1 21 rfl rfl)
theorem dX9_cushions_46 : decode cX9_cushions 46 = .ok (.iastore, 1) := dk_79 (dk_at dksX9_cushions_1 22 rfl rfl)
theorem dX9_cushions_47 : decode cX9_cushions 47 = .ok (.iload_n 3, 1) := dk_29 (dk_at dksX9_cushions_1 23 rfl rfl)
theorem dX9_cushions_48 : decode cX9_cushions 48 = .ok (.ireturn, 1) := dk_172 (dk_at dksX9_cushions_2 0 rfl rfl)
abbrev cX9_isChair : ByteArray := prog_16_method_23_code
def yX9_isChair : MethodName := ⟨RX9, "isChair", "(I)Z"⟩
def dkwX9_isChair_0 : List UInt8 := [27, 133, 9, 42, 180, 0, 19, 5, 46, 4, 100, 133, 184, 0, 57, 172]
abbrev dktX9_isChair_0 : List UInt8 := dkwX9_isChair_0 ++ []
theorem dksX9_isChair_0 : cX9_isChair.data.toList.drop 0 = dktX9_isChair_0 := by decide +kernel
theorem dX9_isChair_0 : decode cX9_isChair 0 = .ok (.iload_n 1, 1) := dk_27 (dk_at dksX9_isChair_0 0 rfl rfl)
theorem dX9_isChair_1 : decode cX9_isChair 1 = .ok (.i2l, 1) := dk_133 (dk_at dksX9_isChair_0 1 rfl rfl)
theorem dX9_isChair_2 : decode cX9_isChair 2 = .ok (.lconst 0, 1) := dk_9 (dk_at dksX9_isChair_0 2 rfl rfl)
theorem dX9_isChair_3 : decode cX9_isChair 3 = .ok (.aload_n 0, 1) := dk_42 (dk_at dksX9_isChair_0 3 rfl rfl)
theorem dX9_isChair_4 : decode cX9_isChair 4 = .ok (.getfield 19, 3) := dk_180 0 19 (dk_at dksX9_isChair_0 4 rfl rfl)
theorem dX9_isChair_7 : decode cX9_isChair 7 = .ok (.iconst 2, 1) := dk_5 (dk_at dksX9_isChair_0 7 rfl rfl)
theorem dX9_isChair_8 : decode cX9_isChair 8 = .ok (.iaload, 1) := dk_46 (dk_at dksX9_isChair_0 8 rfl rfl)
theorem dX9_isChair_9 : decode cX9_isChair 9 = .ok (.iconst 1, 1) := dk_4 (dk_at dksX9_isChair_0 9 rfl rfl)
theorem dX9_isChair_10 : decode cX9_isChair 10 = .ok (.isub, 1) := dk_100 (dk_at dksX9_isChair_0 10 rfl rfl)
theorem dX9_isChair_11 : decode cX9_isChair 11 = .ok (.i2l, 1) := dk_133 (dk_at dksX9_isChair_0 11 rfl rfl)
theorem dX9_isChair_12 : decode cX9_isChair 12 = .ok (.invokestatic 57, 3) := dk_184 0 57 (dk_at dksX9_isChair_0 12 rfl rfl)
theorem dX9_isChair_15 : decode cX9_isChair 15 = .ok (.ireturn, 1) := dk_172 (dk_at dksX9_isChair_0 15 rfl rfl)
abbrev cX9_mend : ByteArray := prog_16_method_37_code
def yX9_mend : MethodName := ⟨RX9, "mend", "(I)I"⟩
def dkwX9_mend_2 : List UInt8 := [172]
abbrev dktX9_mend_2 : List UInt8 := dkwX9_mend_2 ++ []
def dkwX9_mend_1 : List UInt8 := [160, 0, 6, 18, 84, 172, 42, 182, 0, 172, 42, 27, 182, 0, 183, 42, 180, 0, 19, 16, 11, 27, 96, 46]
abbrev dktX9_mend_1 : List UInt8 := dkwX9_mend_1 ++ dktX9_mend_2
def dkwX9_mend_0 : List UInt8 := [42, 27, 182, 0, 178, 154, 0, 6, 18, 67, 172, 42, 180, 0, 19, 16, 11, 27, 96, 46, 16, 60]
abbrev dktX9_mend_0 : List UInt8 := dkwX9_mend_0 ++ dktX9_mend_1
theorem dksX9_mend_0 : cX9_mend.data.toList.drop 0 = dktX9_mend_0 := by decide +kernel
theorem dksX9_mend_1 : cX9_mend.data.toList.drop 22 = dktX9_mend_1 := dk_seg dksX9_mend_0 22 rfl rfl
theorem dksX9_mend_2 : cX9_mend.data.toList.drop 46 = dktX9_mend_2 := dk_seg dksX9_mend_1 24 rfl rfl
theorem dX9_mend_0 : decode cX9_mend 0 = .ok (.aload_n 0, 1) := dk_42 (dk_at dksX9_mend_0 0 rfl rfl)
theorem dX9_mend_1 : decode cX9_mend 1 = .ok (.iload_n 1, 1) := dk_27 (dk_at dksX9_mend_0 1 rfl rfl)
theorem dX9_mend_2 : decode cX9_mend 2 = .ok (.invokevirtual 178, 3) := dk_182 0 178 (dk_at dksX9_mend_0 2 rfl rfl)
theorem dX9_mend_5 : decode cX9_mend 5 = .ok (.ifCond .ne 6, 3) := dk_154 0 6 (dk_at dksX9_mend_0 5 rfl rfl)
theorem dX9_mend_8 : decode cX9_mend 8 = .ok (.ldc 67, 2) := dk_18 67 (dk_at dksX9_mend_0 8 rfl rfl)
theorem dX9_mend_10 : decode cX9_mend 10 = .ok (.ireturn, 1) := dk_172 (dk_at dksX9_mend_0 10 rfl rfl)
theorem dX9_mend_11 : decode cX9_mend 11 = .ok (.aload_n 0, 1) := dk_42 (dk_at dksX9_mend_0 11 rfl rfl)
theorem dX9_mend_12 : decode cX9_mend 12 = .ok (.getfield 19, 3) := dk_180 0 19 (dk_at dksX9_mend_0 12 rfl rfl)
theorem dX9_mend_15 : decode cX9_mend 15 = .ok (.bipush 11, 2) := dk_16 11 (dk_at dksX9_mend_0 15 rfl rfl)
theorem dX9_mend_17 : decode cX9_mend 17 = .ok (.iload_n 1, 1) := dk_27 (dk_at dksX9_mend_0 17 rfl rfl)
theorem dX9_mend_18 : decode cX9_mend 18 = .ok (.iadd, 1) := dk_96 (dk_at dksX9_mend_0 18 rfl rfl)
theorem dX9_mend_19 : decode cX9_mend 19 = .ok (.iaload, 1) := dk_46 (dk_at dksX9_mend_0 19 rfl rfl)
theorem dX9_mend_20 : decode cX9_mend 20 = .ok (.bipush 60, 2) := dk_16 60 (dk_at dksX9_mend_0 20 rfl rfl)
theorem dX9_mend_22 : decode cX9_mend 22 = .ok (.if_icmp .ne 6, 3) := dk_160 0 6 (dk_at dksX9_mend_1 0 rfl rfl)
theorem dX9_mend_25 : decode cX9_mend 25 = .ok (.ldc 84, 2) := dk_18 84 (dk_at dksX9_mend_1 3 rfl rfl)
theorem dX9_mend_27 : decode cX9_mend 27 = .ok (.ireturn, 1) := dk_172 (dk_at dksX9_mend_1 5 rfl rfl)
theorem dX9_mend_28 : decode cX9_mend 28 = .ok (.aload_n 0, 1) := dk_42 (dk_at dksX9_mend_1 6 rfl rfl)
theorem dX9_mend_29 : decode cX9_mend 29 = .ok (.invokevirtual 172, 3) := dk_182 0 172 (dk_at dksX9_mend_1 7 rfl rfl)
theorem dX9_mend_32 : decode cX9_mend 32 = .ok (.aload_n 0, 1) := dk_42 (dk_at dksX9_mend_1 10 rfl rfl)
theorem dX9_mend_33 : decode cX9_mend 33 = .ok (.iload_n 1, 1) := dk_27 (dk_at dksX9_mend_1 11 rfl rfl)
theorem dX9_mend_34 : decode cX9_mend 34 = .ok (.invokevirtual 183, 3) := dk_182 0 183 (dk_at dksX9_mend_1 12 rfl rfl)
theorem dX9_mend_37 : decode cX9_mend 37 = .ok (.aload_n 0, 1) := dk_42 (dk_at dksX9_mend_1 15 rfl rfl)
theorem dX9_mend_38 : decode cX9_mend 38 = .ok (.getfield 19, 3) := dk_180 0 19 (dk_at dksX9_mend_1 16 rfl rfl)
theorem dX9_mend_41 : decode cX9_mend 41 = .ok (.bipush 11, 2) := dk_16 11 (dk_at dksX9_mend_1 19 rfl rfl)
theorem dX9_mend_43 : decode cX9_mend 43 = .ok (.iload_n 1, 1) := dk_27 (dk_at dksX9_mend_1 21 rfl rfl)
theorem dX9_mend_44 : decode cX9_mend 44 = .ok (.iadd, 1) := dk_96 (dk_at dksX9_mend_1 22 rfl rfl)
theorem dX9_mend_45 : decode cX9_mend 45 = .ok (.iaload, 1) := dk_46 (dk_at dksX9_mend_1 23 rfl rfl)
theorem dX9_mend_46 : decode cX9_mend 46 = .ok (.ireturn, 1) := dk_172 (dk_at dksX9_mend_2 0 rfl rfl)
abbrev cX9_glue : ByteArray := prog_16_method_36_code
def yX9_glue : MethodName := ⟨RX9, "glue", "(I)V"⟩
def dkwX9_glue_1 : List UInt8 := [96, 28, 16, 60, 164, 0, 8, 16, 60, 167, 0, 4, 28, 79, 177]
abbrev dktX9_glue_1 : List UInt8 := dkwX9_glue_1 ++ []
def dkwX9_glue_0 : List UInt8 := [42, 180, 0, 19, 16, 11, 27, 96, 46, 42, 180, 0, 19, 4, 46, 96, 61, 42, 180, 0, 19, 16, 11, 27]
abbrev dktX9_glue_0 : List UInt8 := dkwX9_glue_0 ++ dktX9_glue_1
theorem dksX9_glue_0 : cX9_glue.data.toList.drop 0 = dktX9_glue_0 := by decide +kernel
theorem dksX9_glue_1 : cX9_glue.data.toList.drop 24 = dktX9_glue_1 := dk_seg dksX9_glue_0 24 rfl rfl
theorem dX9_glue_0 : decode cX9_glue 0 = .ok (.aload_n 0, 1) := dk_42 (dk_at dksX9_glue_0 0 rfl rfl)
theorem dX9_glue_1 : decode cX9_glue 1 = .ok (.getfield 19, 3) := dk_180 0 19 (dk_at dksX9_glue_0 1 rfl rfl)
theorem dX9_glue_4 : decode cX9_glue 4 = .ok (.bipush 11, 2) := dk_16 11 (dk_at dksX9_glue_0 4 rfl rfl)
theorem dX9_glue_6 : decode cX9_glue 6 = .ok (.iload_n 1, 1) := dk_27 (dk_at dksX9_glue_0 6 rfl rfl)
theorem dX9_glue_7 : decode cX9_glue 7 = .ok (.iadd, 1) := dk_96 (dk_at dksX9_glue_0 7 rfl rfl)
theorem dX9_glue_8 : decode cX9_glue 8 = .ok (.iaload, 1) := dk_46 (dk_at dksX9_glue_0 8 rfl rfl)
theorem dX9_glue_9 : decode cX9_glue 9 = .ok (.aload_n 0, 1) := dk_42 (dk_at dksX9_glue_0 9 rfl rfl)
theorem dX9_glue_10 : decode cX9_glue 10 = .ok (.getfield 19, 3) := dk_180 0 19 (dk_at dksX9_glue_0 10 rfl rfl)
theorem dX9_glue_13 : decode cX9_glue 13 = .ok (.iconst 1, 1) := dk_4 (dk_at dksX9_glue_0 13 rfl rfl)
theorem dX9_glue_14 : decode cX9_glue 14 = .ok (.iaload, 1) := dk_46 (dk_at dksX9_glue_0 14 rfl rfl)
theorem dX9_glue_15 : decode cX9_glue 15 = .ok (.iadd, 1) := dk_96 (dk_at dksX9_glue_0 15 rfl rfl)
theorem dX9_glue_16 : decode cX9_glue 16 = .ok (.istore_n 2, 1) := dk_61 (dk_at dksX9_glue_0 16 rfl rfl)
theorem dX9_glue_17 : decode cX9_glue 17 = .ok (.aload_n 0, 1) := dk_42 (dk_at dksX9_glue_0 17 rfl rfl)
theorem dX9_glue_18 : decode cX9_glue 18 = .ok (.getfield 19, 3) := dk_180 0 19 (dk_at dksX9_glue_0 18 rfl rfl)
theorem dX9_glue_21 : decode cX9_glue 21 = .ok (.bipush 11, 2) := dk_16 11 (dk_at dksX9_glue_0 21 rfl rfl)
theorem dX9_glue_23 : decode cX9_glue 23 = .ok (.iload_n 1, 1) := dk_27 (dk_at dksX9_glue_0 23 rfl rfl)
theorem dX9_glue_24 : decode cX9_glue 24 = .ok (.iadd, 1) := dk_96 (dk_at dksX9_glue_1 0 rfl rfl)
theorem dX9_glue_25 : decode cX9_glue 25 = .ok (.iload_n 2, 1) := dk_28 (dk_at dksX9_glue_1 1 rfl rfl)
theorem dX9_glue_26 : decode cX9_glue 26 = .ok (.bipush 60, 2) := dk_16 60 (dk_at dksX9_glue_1 2 rfl rfl)
theorem dX9_glue_28 : decode cX9_glue 28 = .ok (.if_icmp .le 8, 3) := dk_164 0 8 (dk_at dksX9_glue_1 4 rfl rfl)
theorem dX9_glue_31 : decode cX9_glue 31 = .ok (.bipush 60, 2) := dk_16 60 (dk_at dksX9_glue_1 7 rfl rfl)
theorem dX9_glue_33 : decode cX9_glue 33 = .ok (.goto 4, 3) := dk_167 0 4 (dk_at dksX9_glue_1 9 rfl rfl)
theorem dX9_glue_36 : decode cX9_glue 36 = .ok (.iload_n 2, 1) := dk_28 (dk_at dksX9_glue_1 12 rfl rfl)
theorem dX9_glue_37 : decode cX9_glue 37 = .ok (.iastore, 1) := dk_79 (dk_at dksX9_glue_1 13 rfl rfl)
theorem dX9_glue_38 : decode cX9_glue 38 = .ok (.return_, 1) := dk_177 (dk_at dksX9_glue_1 14 rfl rfl)
abbrev cX9_watch : ByteArray := prog_16_method_38_code
def yX9_watch : MethodName := ⟨RX9, "watch", "(II)I"⟩
def dkwX9_watch_4 : List UInt8 := [46, 172]
abbrev dktX9_watch_4 : List UInt8 := dkwX9_watch_4 ++ []
def dkwX9_watch_3 : List UInt8 := [18, 84, 172, 42, 182, 0, 172, 42, 180, 0, 19, 7, 92, 46, 4, 27, 120, 130, 79, 42, 180, 0, 19, 7]
abbrev dktX9_watch_3 : List UInt8 := dkwX9_watch_3 ++ dktX9_watch_4
def dkwX9_watch_2 : List UInt8 := [172, 28, 4, 160, 0, 24, 42, 180, 0, 19, 7, 46, 184, 0, 187, 42, 180, 0, 19, 3, 46, 161, 0, 6]
abbrev dktX9_watch_2 : List UInt8 := dkwX9_watch_2 ++ dktX9_watch_3
def dkwX9_watch_1 : List UInt8 := [180, 0, 19, 7, 46, 27, 184, 0, 162, 28, 4, 160, 0, 7, 4, 167, 0, 4, 3, 160, 0, 6, 18, 169]
abbrev dktX9_watch_1 : List UInt8 := dkwX9_watch_1 ++ dktX9_watch_2
def dkwX9_watch_0 : List UInt8 := [42, 27, 182, 0, 178, 153, 0, 13, 28, 133, 9, 10, 184, 0, 57, 154, 0, 6, 18, 67, 172, 42]
abbrev dktX9_watch_0 : List UInt8 := dkwX9_watch_0 ++ dktX9_watch_1
theorem dksX9_watch_0 : cX9_watch.data.toList.drop 0 = dktX9_watch_0 := by decide +kernel
theorem dksX9_watch_1 : cX9_watch.data.toList.drop 22 = dktX9_watch_1 := dk_seg dksX9_watch_0 22 rfl rfl
theorem dksX9_watch_2 : cX9_watch.data.toList.drop 46 = dktX9_watch_2 := dk_seg dksX9_watch_1 24 rfl rfl
theorem dksX9_watch_3 : cX9_watch.data.toList.drop 70 = dktX9_watch_3 := dk_seg dksX9_watch_2 24 rfl rfl
theorem dksX9_watch_4 : cX9_watch.data.toList.drop 94 = dktX9_watch_4 := dk_seg dksX9_watch_3 24 rfl rfl
theorem dX9_watch_0 : decode cX9_watch 0 = .ok (.aload_n 0, 1) := dk_42 (dk_at dksX9_watch_0 0 rfl rfl)
theorem dX9_watch_1 : decode cX9_watch 1 = .ok (.iload_n 1, 1) := dk_27 (dk_at dksX9_watch_0 1 rfl rfl)
theorem dX9_watch_2 : decode cX9_watch 2 = .ok (.invokevirtual 178, 3) := dk_182 0 178 (dk_at dksX9_watch_0 2 rfl rfl)
theorem dX9_watch_5 : decode cX9_watch 5 = .ok (.ifCond .eq 13, 3) := dk_153 0 13 (dk_at dksX9_watch_0 5 rfl rfl)
theorem dX9_watch_8 : decode cX9_watch 8 = .ok (.iload_n 2, 1) := dk_28 (dk_at dksX9_watch_0 8 rfl rfl)
theorem dX9_watch_9 : decode cX9_watch 9 = .ok (.i2l, 1) := dk_133 (dk_at dksX9_watch_0 9 rfl rfl)
theorem dX9_watch_10 : decode cX9_watch 10 = .ok (.lconst 0, 1) := dk_9 (dk_at dksX9_watch_0 10 rfl rfl)
theorem dX9_watch_11 : decode cX9_watch 11 = .ok (.lconst 1, 1) := dk_10 (dk_at dksX9_watch_0 11 rfl rfl)
theorem dX9_watch_12 : decode cX9_watch 12 = .ok (.invokestatic 57, 3) := dk_184 0 57 (dk_at dksX9_watch_0 12 rfl rfl)
theorem dX9_watch_15 : decode cX9_watch 15 = .ok (.ifCond .ne 6, 3) := dk_154 0 6 (dk_at dksX9_watch_0 15 rfl rfl)
theorem dX9_watch_18 : decode cX9_watch 18 = .ok (.ldc 67, 2) := dk_18 67 (dk_at dksX9_watch_0 18 rfl rfl)
theorem dX9_watch_20 : decode cX9_watch 20 = .ok (.ireturn, 1) := dk_172 (dk_at dksX9_watch_0 20 rfl rfl)
theorem dX9_watch_21 : decode cX9_watch 21 = .ok (.aload_n 0, 1) := dk_42 (dk_at dksX9_watch_0 21 rfl rfl)
theorem dX9_watch_22 : decode cX9_watch 22 = .ok (.getfield 19, 3) := dk_180 0 19 (dk_at dksX9_watch_1 0 rfl rfl)
theorem dX9_watch_25 : decode cX9_watch 25 = .ok (.iconst 4, 1) := dk_7 (dk_at dksX9_watch_1 3 rfl rfl)
theorem dX9_watch_26 : decode cX9_watch 26 = .ok (.iaload, 1) := dk_46 (dk_at dksX9_watch_1 4 rfl rfl)
theorem dX9_watch_27 : decode cX9_watch 27 = .ok (.iload_n 1, 1) := dk_27 (dk_at dksX9_watch_1 5 rfl rfl)
theorem dX9_watch_28 : decode cX9_watch 28 = .ok (.invokestatic 162, 3) := dk_184 0 162 (dk_at dksX9_watch_1 6 rfl rfl)
theorem dX9_watch_31 : decode cX9_watch 31 = .ok (.iload_n 2, 1) := dk_28 (dk_at dksX9_watch_1 9 rfl rfl)
theorem dX9_watch_32 : decode cX9_watch 32 = .ok (.iconst 1, 1) := dk_4 (dk_at dksX9_watch_1 10 rfl rfl)
theorem dX9_watch_33 : decode cX9_watch 33 = .ok (.if_icmp .ne 7, 3) := dk_160 0 7 (dk_at dksX9_watch_1 11 rfl rfl)
theorem dX9_watch_36 : decode cX9_watch 36 = .ok (.iconst 1, 1) := dk_4 (dk_at dksX9_watch_1 14 rfl rfl)
theorem dX9_watch_37 : decode cX9_watch 37 = .ok (.goto 4, 3) := dk_167 0 4 (dk_at dksX9_watch_1 15 rfl rfl)
theorem dX9_watch_40 : decode cX9_watch 40 = .ok (.iconst 0, 1) := dk_3 (dk_at dksX9_watch_1 18 rfl rfl)
theorem dX9_watch_41 : decode cX9_watch 41 = .ok (.if_icmp .ne 6, 3) := dk_160 0 6 (dk_at dksX9_watch_1 19 rfl rfl)
theorem dX9_watch_44 : decode cX9_watch 44 = .ok (.ldc 169, 2) := dk_18 169 (dk_at dksX9_watch_1 22 rfl rfl)
theorem dX9_watch_46 : decode cX9_watch 46 = .ok (.ireturn, 1) := dk_172 (dk_at dksX9_watch_2 0 rfl rfl)
theorem dX9_watch_47 : decode cX9_watch 47 = .ok (.iload_n 2, 1) := dk_28 (dk_at dksX9_watch_2 1 rfl rfl)
theorem dX9_watch_48 : decode cX9_watch 48 = .ok (.iconst 1, 1) := dk_4 (dk_at dksX9_watch_2 2 rfl rfl)
theorem dX9_watch_49 : decode cX9_watch 49 = .ok (.if_icmp .ne 24, 3) := dk_160 0 24 (dk_at dksX9_watch_2 3 rfl rfl)
theorem dX9_watch_52 : decode cX9_watch 52 = .ok (.aload_n 0, 1) := dk_42 (dk_at dksX9_watch_2 6 rfl rfl)
theorem dX9_watch_53 : decode cX9_watch 53 = .ok (.getfield 19, 3) := dk_180 0 19 (dk_at dksX9_watch_2 7 rfl rfl)
theorem dX9_watch_56 : decode cX9_watch 56 = .ok (.iconst 4, 1) := dk_7 (dk_at dksX9_watch_2 10 rfl rfl)
theorem dX9_watch_57 : decode cX9_watch 57 = .ok (.iaload, 1) := dk_46 (dk_at dksX9_watch_2 11 rfl rfl)
theorem dX9_watch_58 : decode cX9_watch 58 = .ok (.invokestatic 187, 3) := dk_184 0 187 (dk_at dksX9_watch_2 12 rfl rfl)
theorem dX9_watch_61 : decode cX9_watch 61 = .ok (.aload_n 0, 1) := dk_42 (dk_at dksX9_watch_2 15 rfl rfl)
theorem dX9_watch_62 : decode cX9_watch 62 = .ok (.getfield 19, 3) := dk_180 0 19 (dk_at dksX9_watch_2 16 rfl rfl)
theorem dX9_watch_65 : decode cX9_watch 65 = .ok (.iconst 0, 1) := dk_3 (dk_at dksX9_watch_2 19 rfl rfl)
theorem dX9_watch_66 : decode cX9_watch 66 = .ok (.iaload, 1) := dk_46 (dk_at dksX9_watch_2 20 rfl rfl)
theorem dX9_watch_67 : decode cX9_watch 67 = .ok (.if_icmp .lt 6, 3) := dk_161 0 6 (dk_at dksX9_watch_2 21 rfl rfl)
theorem dX9_watch_70 : decode cX9_watch 70 = .ok (.ldc 84, 2) := dk_18 84 (dk_at dksX9_watch_3 0 rfl rfl)
theorem dX9_watch_72 : decode cX9_watch 72 = .ok (.ireturn, 1) := dk_172 (dk_at dksX9_watch_3 2 rfl rfl)
theorem dX9_watch_73 : decode cX9_watch 73 = .ok (.aload_n 0, 1) := dk_42 (dk_at dksX9_watch_3 3 rfl rfl)
theorem dX9_watch_74 : decode cX9_watch 74 = .ok (.invokevirtual 172, 3) := dk_182 0 172 (dk_at dksX9_watch_3 4 rfl rfl)
theorem dX9_watch_77 : decode cX9_watch 77 = .ok (.aload_n 0, 1) := dk_42 (dk_at dksX9_watch_3 7 rfl rfl)
theorem dX9_watch_78 : decode cX9_watch 78 = .ok (.getfield 19, 3) := dk_180 0 19 (dk_at dksX9_watch_3 8 rfl rfl)
theorem dX9_watch_81 : decode cX9_watch 81 = .ok (.iconst 4, 1) := dk_7 (dk_at dksX9_watch_3 11 rfl rfl)
theorem dX9_watch_82 : decode cX9_watch 82 = .ok (.dup2, 1) := dk_92 (dk_at dksX9_watch_3 12 rfl rfl)
theorem dX9_watch_83 : decode cX9_watch 83 = .ok (.iaload, 1) := dk_46 (dk_at dksX9_watch_3 13 rfl rfl)
theorem dX9_watch_84 : decode cX9_watch 84 = .ok (.iconst 1, 1) := dk_4 (dk_at dksX9_watch_3 14 rfl rfl)
theorem dX9_watch_85 : decode cX9_watch 85 = .ok (.iload_n 1, 1) := dk_27 (dk_at dksX9_watch_3 15 rfl rfl)
theorem dX9_watch_86 : decode cX9_watch 86 = .ok (.ishl, 1) := dk_120 (dk_at dksX9_watch_3 16 rfl rfl)
theorem dX9_watch_87 : decode cX9_watch 87 = .ok (.ixor, 1) := dk_130 (dk_at dksX9_watch_3 17 rfl rfl)
theorem dX9_watch_88 : decode cX9_watch 88 = .ok (.iastore, 1) := dk_79 (dk_at dksX9_watch_3 18 rfl rfl)
theorem dX9_watch_89 : decode cX9_watch 89 = .ok (.aload_n 0, 1) := dk_42 (dk_at dksX9_watch_3 19 rfl rfl)
theorem dX9_watch_90 : decode cX9_watch 90 = .ok (.getfield 19, 3) := dk_180 0 19 (dk_at dksX9_watch_3 20 rfl rfl)
theorem dX9_watch_93 : decode cX9_watch 93 = .ok (.iconst 4, 1) := dk_7 (dk_at dksX9_watch_3 23 rfl rfl)
theorem dX9_watch_94 : decode cX9_watch 94 = .ok (.iaload, 1) := dk_46 (dk_at dksX9_watch_4 0 rfl rfl)
theorem dX9_watch_95 : decode cX9_watch 95 = .ok (.ireturn, 1) := dk_172 (dk_at dksX9_watch_4 1 rfl rfl)
abbrev cX9_ones : ByteArray := prog_16_method_4_code
def yX9_ones : MethodName := ⟨RX9, "ones", "(I)I"⟩
def dkwX9_ones_0 : List UInt8 := [3, 60, 26, 61, 28, 153, 0, 15, 132, 1, 1, 28, 28, 4, 100, 126, 61, 167, 255, 243, 27, 172]
abbrev dktX9_ones_0 : List UInt8 := dkwX9_ones_0 ++ []
theorem dksX9_ones_0 : cX9_ones.data.toList.drop 0 = dktX9_ones_0 := by decide +kernel
theorem dX9_ones_0 : decode cX9_ones 0 = .ok (.iconst 0, 1) := dk_3 (dk_at dksX9_ones_0 0 rfl rfl)
theorem dX9_ones_1 : decode cX9_ones 1 = .ok (.istore_n 1, 1) := dk_60 (dk_at dksX9_ones_0 1 rfl rfl)
theorem dX9_ones_2 : decode cX9_ones 2 = .ok (.iload_n 0, 1) := dk_26 (dk_at dksX9_ones_0 2 rfl rfl)
theorem dX9_ones_3 : decode cX9_ones 3 = .ok (.istore_n 2, 1) := dk_61 (dk_at dksX9_ones_0 3 rfl rfl)
theorem dX9_ones_4 : decode cX9_ones 4 = .ok (.iload_n 2, 1) := dk_28 (dk_at dksX9_ones_0 4 rfl rfl)
theorem dX9_ones_5 : decode cX9_ones 5 = .ok (.ifCond .eq 15, 3) := dk_153 0 15 (dk_at dksX9_ones_0 5 rfl rfl)
theorem dX9_ones_8 : decode cX9_ones 8 = .ok (.iinc 1 1, 3) := dk_132 1 1 (dk_at dksX9_ones_0 8 rfl rfl)
theorem dX9_ones_11 : decode cX9_ones 11 = .ok (.iload_n 2, 1) := dk_28 (dk_at dksX9_ones_0 11 rfl rfl)
theorem dX9_ones_12 : decode cX9_ones 12 = .ok (.iload_n 2, 1) := dk_28 (dk_at dksX9_ones_0 12 rfl rfl)
theorem dX9_ones_13 : decode cX9_ones 13 = .ok (.iconst 1, 1) := dk_4 (dk_at dksX9_ones_0 13 rfl rfl)
theorem dX9_ones_14 : decode cX9_ones 14 = .ok (.isub, 1) := dk_100 (dk_at dksX9_ones_0 14 rfl rfl)
theorem dX9_ones_15 : decode cX9_ones 15 = .ok (.iand, 1) := dk_126 (dk_at dksX9_ones_0 15 rfl rfl)
theorem dX9_ones_16 : decode cX9_ones 16 = .ok (.istore_n 2, 1) := dk_61 (dk_at dksX9_ones_0 16 rfl rfl)
theorem dX9_ones_17 : decode cX9_ones 17 = .ok (.goto (-13), 3) := dk_167 255 243 (dk_at dksX9_ones_0 17 rfl rfl)
theorem dX9_ones_20 : decode cX9_ones 20 = .ok (.iload_n 1, 1) := dk_27 (dk_at dksX9_ones_0 20 rfl rfl)
theorem dX9_ones_21 : decode cX9_ones 21 = .ok (.ireturn, 1) := dk_172 (dk_at dksX9_ones_0 21 rfl rfl)
abbrev cX9_change : ByteArray := prog_16_method_40_code
def yX9_change : MethodName := ⟨RX9, "change", "(II)I"⟩
def dkwX9_change_2 : List UInt8 := [28, 182, 0, 190, 42, 27, 182, 0, 159, 172]
abbrev dktX9_change_2 : List UInt8 := dkwX9_change_2 ++ []
def dkwX9_change_1 : List UInt8 := [42, 182, 0, 172, 42, 16, 17, 27, 28, 182, 0, 190, 42, 16, 23, 27, 28, 182, 0, 190, 42, 16, 35, 27]
abbrev dktX9_change_1 : List UInt8 := dkwX9_change_1 ++ dktX9_change_2
def dkwX9_change_0 : List UInt8 := [42, 27, 182, 0, 178, 153, 0, 16, 42, 28, 182, 0, 178, 153, 0, 8, 27, 28, 160, 0, 6, 18, 67, 172]
abbrev dktX9_change_0 : List UInt8 := dkwX9_change_0 ++ dktX9_change_1
theorem dksX9_change_0 : cX9_change.data.toList.drop 0 = dktX9_change_0 := by decide +kernel
theorem dksX9_change_1 : cX9_change.data.toList.drop 24 = dktX9_change_1 := dk_seg dksX9_change_0 24 rfl rfl
theorem dksX9_change_2 : cX9_change.data.toList.drop 48 = dktX9_change_2 := dk_seg dksX9_change_1 24 rfl rfl
theorem dX9_change_0 : decode cX9_change 0 = .ok (.aload_n 0, 1) := dk_42 (dk_at dksX9_change_0 0 rfl rfl)
theorem dX9_change_1 : decode cX9_change 1 = .ok (.iload_n 1, 1) := dk_27 (dk_at dksX9_change_0 1 rfl rfl)
theorem dX9_change_2 : decode cX9_change 2 = .ok (.invokevirtual 178, 3) := dk_182 0 178 (dk_at dksX9_change_0 2 rfl rfl)
theorem dX9_change_5 : decode cX9_change 5 = .ok (.ifCond .eq 16, 3) := dk_153 0 16 (dk_at dksX9_change_0 5 rfl rfl)
theorem dX9_change_8 : decode cX9_change 8 = .ok (.aload_n 0, 1) := dk_42 (dk_at dksX9_change_0 8 rfl rfl)
theorem dX9_change_9 : decode cX9_change 9 = .ok (.iload_n 2, 1) := dk_28 (dk_at dksX9_change_0 9 rfl rfl)
theorem dX9_change_10 : decode cX9_change 10 = .ok (.invokevirtual 178, 3) := dk_182 0 178 (dk_at dksX9_change_0 10 rfl rfl)
theorem dX9_change_13 : decode cX9_change 13 = .ok (.ifCond .eq 8, 3) := dk_153 0 8 (dk_at dksX9_change_0 13 rfl rfl)
theorem dX9_change_16 : decode cX9_change 16 = .ok (.iload_n 1, 1) := dk_27 (dk_at dksX9_change_0 16 rfl rfl)
theorem dX9_change_17 : decode cX9_change 17 = .ok (.iload_n 2, 1) := dk_28 (dk_at dksX9_change_0 17 rfl rfl)
theorem dX9_change_18 : decode cX9_change 18 = .ok (.if_icmp .ne 6, 3) := dk_160 0 6 (dk_at dksX9_change_0 18 rfl rfl)
theorem dX9_change_21 : decode cX9_change 21 = .ok (.ldc 67, 2) := dk_18 67 (dk_at dksX9_change_0 21 rfl rfl)
theorem dX9_change_23 : decode cX9_change 23 = .ok (.ireturn, 1) := dk_172 (dk_at dksX9_change_0 23 rfl rfl)
theorem dX9_change_24 : decode cX9_change 24 = .ok (.aload_n 0, 1) := dk_42 (dk_at dksX9_change_1 0 rfl rfl)
theorem dX9_change_25 : decode cX9_change 25 = .ok (.invokevirtual 172, 3) := dk_182 0 172 (dk_at dksX9_change_1 1 rfl rfl)
theorem dX9_change_28 : decode cX9_change 28 = .ok (.aload_n 0, 1) := dk_42 (dk_at dksX9_change_1 4 rfl rfl)
theorem dX9_change_29 : decode cX9_change 29 = .ok (.bipush 17, 2) := dk_16 17 (dk_at dksX9_change_1 5 rfl rfl)
theorem dX9_change_31 : decode cX9_change 31 = .ok (.iload_n 1, 1) := dk_27 (dk_at dksX9_change_1 7 rfl rfl)
theorem dX9_change_32 : decode cX9_change 32 = .ok (.iload_n 2, 1) := dk_28 (dk_at dksX9_change_1 8 rfl rfl)
theorem dX9_change_33 : decode cX9_change 33 = .ok (.invokevirtual 190, 3) := dk_182 0 190 (dk_at dksX9_change_1 9 rfl rfl)
theorem dX9_change_36 : decode cX9_change 36 = .ok (.aload_n 0, 1) := dk_42 (dk_at dksX9_change_1 12 rfl rfl)
theorem dX9_change_37 : decode cX9_change 37 = .ok (.bipush 23, 2) := dk_16 23 (dk_at dksX9_change_1 13 rfl rfl)
theorem dX9_change_39 : decode cX9_change 39 = .ok (.iload_n 1, 1) := dk_27 (dk_at dksX9_change_1 15 rfl rfl)
theorem dX9_change_40 : decode cX9_change 40 = .ok (.iload_n 2, 1) := dk_28 (dk_at dksX9_change_1 16 rfl rfl)
theorem dX9_change_41 : decode cX9_change 41 = .ok (.invokevirtual 190, 3) := dk_182 0 190 (dk_at dksX9_change_1 17 rfl rfl)
theorem dX9_change_44 : decode cX9_change 44 = .ok (.aload_n 0, 1) := dk_42 (dk_at dksX9_change_1 20 rfl rfl)
theorem dX9_change_45 : decode cX9_change 45 = .ok (.bipush 35, 2) := dk_16 35 (dk_at dksX9_change_1 21 rfl rfl)
theorem dX9_change_47 : decode cX9_change 47 = .ok (.iload_n 1, 1) := dk_27 (dk_at dksX9_change_1 23 rfl rfl)
theorem dX9_change_48 : decode cX9_change 48 = .ok (.iload_n 2, 1) := dk_28 (dk_at dksX9_change_2 0 rfl rfl)
theorem dX9_change_49 : decode cX9_change 49 = .ok (.invokevirtual 190, 3) := dk_182 0 190 (dk_at dksX9_change_2 1 rfl rfl)
theorem dX9_change_52 : decode cX9_change 52 = .ok (.aload_n 0, 1) := dk_42 (dk_at dksX9_change_2 4 rfl rfl)
theorem dX9_change_53 : decode cX9_change 53 = .ok (.iload_n 1, 1) := dk_27 (dk_at dksX9_change_2 5 rfl rfl)
theorem dX9_change_54 : decode cX9_change 54 = .ok (.invokevirtual 159, 3) := dk_182 0 159 (dk_at dksX9_change_2 6 rfl rfl)
theorem dX9_change_57 : decode cX9_change 57 = .ok (.ireturn, 1) := dk_172 (dk_at dksX9_change_2 9 rfl rfl)
abbrev cX9_exchange : ByteArray := prog_16_method_39_code
def yX9_exchange : MethodName := ⟨RX9, "exchange", "(III)V"⟩
def dkwX9_exchange_1 : List UInt8 := [46, 79, 42, 180, 0, 19, 27, 29, 96, 21, 4, 79, 177]
abbrev dktX9_exchange_1 : List UInt8 := dkwX9_exchange_1 ++ []
def dkwX9_exchange_0 : List UInt8 := [42, 180, 0, 19, 27, 28, 96, 46, 54, 4, 42, 180, 0, 19, 27, 28, 96, 42, 180, 0, 19, 27, 29, 96]
abbrev dktX9_exchange_0 : List UInt8 := dkwX9_exchange_0 ++ dktX9_exchange_1
theorem dksX9_exchange_0 : cX9_exchange.data.toList.drop 0 = dktX9_exchange_0 := by decide +kernel
theorem dksX9_exchange_1 : cX9_exchange.data.toList.drop 24 = dktX9_exchange_1 := dk_seg dksX9_exchange_0 24 rfl rfl
theorem dX9_exchange_0 : decode cX9_exchange 0 = .ok (.aload_n 0, 1) := dk_42 (dk_at dksX9_exchange_0 0 rfl rfl)
theorem dX9_exchange_1 : decode cX9_exchange 1 = .ok (.getfield 19, 3) := dk_180 0 19 (dk_at dksX9_exchange_0 1 rfl rfl)
theorem dX9_exchange_4 : decode cX9_exchange 4 = .ok (.iload_n 1, 1) := dk_27 (dk_at dksX9_exchange_0 4 rfl rfl)
theorem dX9_exchange_5 : decode cX9_exchange 5 = .ok (.iload_n 2, 1) := dk_28 (dk_at dksX9_exchange_0 5 rfl rfl)
theorem dX9_exchange_6 : decode cX9_exchange 6 = .ok (.iadd, 1) := dk_96 (dk_at dksX9_exchange_0 6 rfl rfl)
theorem dX9_exchange_7 : decode cX9_exchange 7 = .ok (.iaload, 1) := dk_46 (dk_at dksX9_exchange_0 7 rfl rfl)
theorem dX9_exchange_8 : decode cX9_exchange 8 = .ok (.istore 4, 2) := dk_54 4 (dk_at dksX9_exchange_0 8 rfl rfl)
theorem dX9_exchange_10 : decode cX9_exchange 10 = .ok (.aload_n 0, 1) := dk_42 (dk_at dksX9_exchange_0 10 rfl rfl)
theorem dX9_exchange_11 : decode cX9_exchange 11 = .ok (.getfield 19, 3) := dk_180 0 19 (dk_at dksX9_exchange_0 11 rfl rfl)
theorem dX9_exchange_14 : decode cX9_exchange 14 = .ok (.iload_n 1, 1) := dk_27 (dk_at dksX9_exchange_0 14 rfl rfl)
theorem dX9_exchange_15 : decode cX9_exchange 15 = .ok (.iload_n 2, 1) := dk_28 (dk_at dksX9_exchange_0 15 rfl rfl)
theorem dX9_exchange_16 : decode cX9_exchange 16 = .ok (.iadd, 1) := dk_96 (dk_at dksX9_exchange_0 16 rfl rfl)
theorem dX9_exchange_17 : decode cX9_exchange 17 = .ok (.aload_n 0, 1) := dk_42 (dk_at dksX9_exchange_0 17 rfl rfl)
theorem dX9_exchange_18 : decode cX9_exchange 18 = .ok (.getfield 19, 3) := dk_180 0 19 (dk_at dksX9_exchange_0 18 rfl rfl)
theorem dX9_exchange_21 : decode cX9_exchange 21 = .ok (.iload_n 1, 1) := dk_27 (dk_at dksX9_exchange_0 21 rfl rfl)
theorem dX9_exchange_22 : decode cX9_exchange 22 = .ok (.iload_n 3, 1) := dk_29 (dk_at dksX9_exchange_0 22 rfl rfl)
theorem dX9_exchange_23 : decode cX9_exchange 23 = .ok (.iadd, 1) := dk_96 (dk_at dksX9_exchange_0 23 rfl rfl)
theorem dX9_exchange_24 : decode cX9_exchange 24 = .ok (.iaload, 1) := dk_46 (dk_at dksX9_exchange_1 0 rfl rfl)
theorem dX9_exchange_25 : decode cX9_exchange 25 = .ok (.iastore, 1) := dk_79 (dk_at dksX9_exchange_1 1 rfl rfl)
theorem dX9_exchange_26 : decode cX9_exchange 26 = .ok (.aload_n 0, 1) := dk_42 (dk_at dksX9_exchange_1 2 rfl rfl)
theorem dX9_exchange_27 : decode cX9_exchange 27 = .ok (.getfield 19, 3) := dk_180 0 19 (dk_at dksX9_exchange_1 3 rfl rfl)
theorem dX9_exchange_30 : decode cX9_exchange 30 = .ok (.iload_n 1, 1) := dk_27 (dk_at dksX9_exchange_1 6 rfl rfl)
theorem dX9_exchange_31 : decode cX9_exchange 31 = .ok (.iload_n 3, 1) := dk_29 (dk_at dksX9_exchange_1 7 rfl rfl)
theorem dX9_exchange_32 : decode cX9_exchange 32 = .ok (.iadd, 1) := dk_96 (dk_at dksX9_exchange_1 8 rfl rfl)
theorem dX9_exchange_33 : decode cX9_exchange 33 = .ok (.iload 4, 2) := dk_21 4 (dk_at dksX9_exchange_1 9 rfl rfl)
theorem dX9_exchange_35 : decode cX9_exchange 35 = .ok (.iastore, 1) := dk_79 (dk_at dksX9_exchange_1 11 rfl rfl)
theorem dX9_exchange_36 : decode cX9_exchange 36 = .ok (.return_, 1) := dk_177 (dk_at dksX9_exchange_1 12 rfl rfl)
abbrev cX9_saw : ByteArray := prog_16_method_41_code
def yX9_saw : MethodName := ⟨RX9, "saw", "(II)I"⟩
def dkwX9_saw_2 : List UInt8 := [172]
abbrev dktX9_saw_2 : List UInt8 := dkwX9_saw_2 ++ []
def dkwX9_saw_1 : List UInt8 := [182, 0, 172, 42, 180, 0, 19, 16, 17, 27, 96, 46, 62, 42, 180, 0, 19, 16, 17, 27, 96, 28, 79, 29]
abbrev dktX9_saw_1 : List UInt8 := dkwX9_saw_1 ++ dktX9_saw_2
def dkwX9_saw_0 : List UInt8 := [42, 27, 182, 0, 178, 153, 0, 15, 28, 133, 9, 20, 0, 194, 184, 0, 57, 154, 0, 6, 18, 67, 172, 42]
abbrev dktX9_saw_0 : List UInt8 := dkwX9_saw_0 ++ dktX9_saw_1
theorem dksX9_saw_0 : cX9_saw.data.toList.drop 0 = dktX9_saw_0 := by decide +kernel
theorem dksX9_saw_1 : cX9_saw.data.toList.drop 24 = dktX9_saw_1 := dk_seg dksX9_saw_0 24 rfl rfl
theorem dksX9_saw_2 : cX9_saw.data.toList.drop 48 = dktX9_saw_2 := dk_seg dksX9_saw_1 24 rfl rfl
theorem dX9_saw_0 : decode cX9_saw 0 = .ok (.aload_n 0, 1) := dk_42 (dk_at dksX9_saw_0 0 rfl rfl)
theorem dX9_saw_1 : decode cX9_saw 1 = .ok (.iload_n 1, 1) := dk_27 (dk_at dksX9_saw_0 1 rfl rfl)
theorem dX9_saw_2 : decode cX9_saw 2 = .ok (.invokevirtual 178, 3) := dk_182 0 178 (dk_at dksX9_saw_0 2 rfl rfl)
theorem dX9_saw_5 : decode cX9_saw 5 = .ok (.ifCond .eq 15, 3) := dk_153 0 15 (dk_at dksX9_saw_0 5 rfl rfl)
theorem dX9_saw_8 : decode cX9_saw 8 = .ok (.iload_n 2, 1) := dk_28 (dk_at dksX9_saw_0 8 rfl rfl)
theorem dX9_saw_9 : decode cX9_saw 9 = .ok (.i2l, 1) := dk_133 (dk_at dksX9_saw_0 9 rfl rfl)
theorem dX9_saw_10 : decode cX9_saw 10 = .ok (.lconst 0, 1) := dk_9 (dk_at dksX9_saw_0 10 rfl rfl)
theorem dX9_saw_11 : decode cX9_saw 11 = .ok (.ldc2_w 194, 3) := dk_20 0 194 (dk_at dksX9_saw_0 11 rfl rfl)
theorem dX9_saw_14 : decode cX9_saw 14 = .ok (.invokestatic 57, 3) := dk_184 0 57 (dk_at dksX9_saw_0 14 rfl rfl)
theorem dX9_saw_17 : decode cX9_saw 17 = .ok (.ifCond .ne 6, 3) := dk_154 0 6 (dk_at dksX9_saw_0 17 rfl rfl)
theorem dX9_saw_20 : decode cX9_saw 20 = .ok (.ldc 67, 2) := dk_18 67 (dk_at dksX9_saw_0 20 rfl rfl)
theorem dX9_saw_22 : decode cX9_saw 22 = .ok (.ireturn, 1) := dk_172 (dk_at dksX9_saw_0 22 rfl rfl)
theorem dX9_saw_23 : decode cX9_saw 23 = .ok (.aload_n 0, 1) := dk_42 (dk_at dksX9_saw_0 23 rfl rfl)
theorem dX9_saw_24 : decode cX9_saw 24 = .ok (.invokevirtual 172, 3) := dk_182 0 172 (dk_at dksX9_saw_1 0 rfl rfl)
theorem dX9_saw_27 : decode cX9_saw 27 = .ok (.aload_n 0, 1) := dk_42 (dk_at dksX9_saw_1 3 rfl rfl)
theorem dX9_saw_28 : decode cX9_saw 28 = .ok (.getfield 19, 3) := dk_180 0 19 (dk_at dksX9_saw_1 4 rfl rfl)
theorem dX9_saw_31 : decode cX9_saw 31 = .ok (.bipush 17, 2) := dk_16 17 (dk_at dksX9_saw_1 7 rfl rfl)
theorem dX9_saw_33 : decode cX9_saw 33 = .ok (.iload_n 1, 1) := dk_27 (dk_at dksX9_saw_1 9 rfl rfl)
theorem dX9_saw_34 : decode cX9_saw 34 = .ok (.iadd, 1) := dk_96 (dk_at dksX9_saw_1 10 rfl rfl)
theorem dX9_saw_35 : decode cX9_saw 35 = .ok (.iaload, 1) := dk_46 (dk_at dksX9_saw_1 11 rfl rfl)
theorem dX9_saw_36 : decode cX9_saw 36 = .ok (.istore_n 3, 1) := dk_62 (dk_at dksX9_saw_1 12 rfl rfl)
theorem dX9_saw_37 : decode cX9_saw 37 = .ok (.aload_n 0, 1) := dk_42 (dk_at dksX9_saw_1 13 rfl rfl)
theorem dX9_saw_38 : decode cX9_saw 38 = .ok (.getfield 19, 3) := dk_180 0 19 (dk_at dksX9_saw_1 14 rfl rfl)
theorem dX9_saw_41 : decode cX9_saw 41 = .ok (.bipush 17, 2) := dk_16 17 (dk_at dksX9_saw_1 17 rfl rfl)
theorem dX9_saw_43 : decode cX9_saw 43 = .ok (.iload_n 1, 1) := dk_27 (dk_at dksX9_saw_1 19 rfl rfl)
theorem dX9_saw_44 : decode cX9_saw 44 = .ok (.iadd, 1) := dk_96 (dk_at dksX9_saw_1 20 rfl rfl)
theorem dX9_saw_45 : decode cX9_saw 45 = .ok (.iload_n 2, 1) := dk_28 (dk_at dksX9_saw_1 21 rfl rfl)
theorem dX9_saw_46 : decode cX9_saw 46 = .ok (.iastore, 1) := dk_79 (dk_at dksX9_saw_1 22 rfl rfl)
theorem dX9_saw_47 : decode cX9_saw 47 = .ok (.iload_n 3, 1) := dk_29 (dk_at dksX9_saw_1 23 rfl rfl)
theorem dX9_saw_48 : decode cX9_saw 48 = .ok (.ireturn, 1) := dk_172 (dk_at dksX9_saw_2 0 rfl rfl)
abbrev cX9_chair : ByteArray := prog_16_method_42_code
def yX9_chair : MethodName := ⟨RX9, "chair", "(II)I"⟩
def dkwX9_chair_5 : List UInt8 := [172, 42, 27, 182, 0, 159, 172, 42, 180, 0, 19, 16, 35, 27, 96, 46, 172, 18, 67, 172]
abbrev dktX9_chair_5 : List UInt8 := dkwX9_chair_5 ++ []
def dkwX9_chair_4 : List UInt8 := [167, 0, 4, 3, 172, 42, 180, 0, 19, 16, 17, 27, 96, 46, 172, 42, 180, 0, 19, 16, 23, 27, 96, 46]
abbrev dktX9_chair_4 : List UInt8 := dkwX9_chair_4 ++ dktX9_chair_5
def dkwX9_chair_3 : List UInt8 := [182, 0, 146, 172, 42, 27, 182, 0, 150, 172, 42, 180, 0, 19, 7, 46, 27, 184, 0, 162, 153, 0, 7, 4]
abbrev dktX9_chair_3 : List UInt8 := dkwX9_chair_3 ++ dktX9_chair_4
def dkwX9_chair_2 : List UInt8 := [42, 180, 0, 19, 16, 11, 27, 96, 46, 172, 42, 180, 0, 19, 16, 29, 27, 96, 46, 172, 42, 27]
abbrev dktX9_chair_2 : List UInt8 := dkwX9_chair_2 ++ dktX9_chair_3
def dkwX9_chair_1 : List UInt8 := [170, 0, 0, 0, 0, 0, 0, 139, 0, 0, 0, 0, 0, 0, 0, 8, 0, 0, 0, 52, 0, 0, 0, 62, 0, 0, 0, 72, 0, 0, 0, 78, 0, 0, 0, 84, 0, 0, 0, 103, 0, 0, 0, 113, 0, 0, 0, 123, 0, 0, 0, 129]
abbrev dktX9_chair_1 : List UInt8 := dkwX9_chair_1 ++ dktX9_chair_2
def dkwX9_chair_0 : List UInt8 := [42, 27, 182, 0, 178, 154, 0, 6, 18, 67, 172, 28]
abbrev dktX9_chair_0 : List UInt8 := dkwX9_chair_0 ++ dktX9_chair_1
theorem dksX9_chair_0 : cX9_chair.data.toList.drop 0 = dktX9_chair_0 := by decide +kernel
theorem dksX9_chair_1 : cX9_chair.data.toList.drop 12 = dktX9_chair_1 := dk_seg dksX9_chair_0 12 rfl rfl
theorem dksX9_chair_2 : cX9_chair.data.toList.drop 64 = dktX9_chair_2 := dk_seg dksX9_chair_1 52 rfl rfl
theorem dksX9_chair_3 : cX9_chair.data.toList.drop 86 = dktX9_chair_3 := dk_seg dksX9_chair_2 22 rfl rfl
theorem dksX9_chair_4 : cX9_chair.data.toList.drop 110 = dktX9_chair_4 := dk_seg dksX9_chair_3 24 rfl rfl
theorem dksX9_chair_5 : cX9_chair.data.toList.drop 134 = dktX9_chair_5 := dk_seg dksX9_chair_4 24 rfl rfl
theorem dX9_chair_0 : decode cX9_chair 0 = .ok (.aload_n 0, 1) := dk_42 (dk_at dksX9_chair_0 0 rfl rfl)
theorem dX9_chair_1 : decode cX9_chair 1 = .ok (.iload_n 1, 1) := dk_27 (dk_at dksX9_chair_0 1 rfl rfl)
theorem dX9_chair_2 : decode cX9_chair 2 = .ok (.invokevirtual 178, 3) := dk_182 0 178 (dk_at dksX9_chair_0 2 rfl rfl)
theorem dX9_chair_5 : decode cX9_chair 5 = .ok (.ifCond .ne 6, 3) := dk_154 0 6 (dk_at dksX9_chair_0 5 rfl rfl)
theorem dX9_chair_8 : decode cX9_chair 8 = .ok (.ldc 67, 2) := dk_18 67 (dk_at dksX9_chair_0 8 rfl rfl)
theorem dX9_chair_10 : decode cX9_chair 10 = .ok (.ireturn, 1) := dk_172 (dk_at dksX9_chair_0 10 rfl rfl)
theorem dX9_chair_11 : decode cX9_chair 11 = .ok (.iload_n 2, 1) := dk_28 (dk_at dksX9_chair_0 11 rfl rfl)
theorem dX9_chair_12 : decode cX9_chair 12 = .ok (.tableswitch 139 0 8 #[52, 62, 72, 78, 84, 103, 113, 123, 129], 52) := by decide +kernel
theorem dX9_chair_64 : decode cX9_chair 64 = .ok (.aload_n 0, 1) := dk_42 (dk_at dksX9_chair_2 0 rfl rfl)
theorem dX9_chair_65 : decode cX9_chair 65 = .ok (.getfield 19, 3) := dk_180 0 19 (dk_at dksX9_chair_2 1 rfl rfl)
theorem dX9_chair_68 : decode cX9_chair 68 = .ok (.bipush 11, 2) := dk_16 11 (dk_at dksX9_chair_2 4 rfl rfl)
theorem dX9_chair_70 : decode cX9_chair 70 = .ok (.iload_n 1, 1) := dk_27 (dk_at dksX9_chair_2 6 rfl rfl)
theorem dX9_chair_71 : decode cX9_chair 71 = .ok (.iadd, 1) := dk_96 (dk_at dksX9_chair_2 7 rfl rfl)
theorem dX9_chair_72 : decode cX9_chair 72 = .ok (.iaload, 1) := dk_46 (dk_at dksX9_chair_2 8 rfl rfl)
theorem dX9_chair_73 : decode cX9_chair 73 = .ok (.ireturn, 1) := dk_172 (dk_at dksX9_chair_2 9 rfl rfl)
theorem dX9_chair_74 : decode cX9_chair 74 = .ok (.aload_n 0, 1) := dk_42 (dk_at dksX9_chair_2 10 rfl rfl)
theorem dX9_chair_75 : decode cX9_chair 75 = .ok (.getfield 19, 3) := dk_180 0 19 (dk_at dksX9_chair_2 11 rfl rfl)
theorem dX9_chair_78 : decode cX9_chair 78 = .ok (.bipush 29, 2) := dk_16 29 (dk_at dksX9_chair_2 14 rfl rfl)
theorem dX9_chair_80 : decode cX9_chair 80 = .ok (.iload_n 1, 1) := dk_27 (dk_at dksX9_chair_2 16 rfl rfl)
theorem dX9_chair_81 : decode cX9_chair 81 = .ok (.iadd, 1) := dk_96 (dk_at dksX9_chair_2 17 rfl rfl)
theorem dX9_chair_82 : decode cX9_chair 82 = .ok (.iaload, 1) := dk_46 (dk_at dksX9_chair_2 18 rfl rfl)
theorem dX9_chair_83 : decode cX9_chair 83 = .ok (.ireturn, 1) := dk_172 (dk_at dksX9_chair_2 19 rfl rfl)
theorem dX9_chair_84 : decode cX9_chair 84 = .ok (.aload_n 0, 1) := dk_42 (dk_at dksX9_chair_2 20 rfl rfl)
theorem dX9_chair_85 : decode cX9_chair 85 = .ok (.iload_n 1, 1) := dk_27 (dk_at dksX9_chair_2 21 rfl rfl)
theorem dX9_chair_86 : decode cX9_chair 86 = .ok (.invokevirtual 146, 3) := dk_182 0 146 (dk_at dksX9_chair_3 0 rfl rfl)
theorem dX9_chair_89 : decode cX9_chair 89 = .ok (.ireturn, 1) := dk_172 (dk_at dksX9_chair_3 3 rfl rfl)
theorem dX9_chair_90 : decode cX9_chair 90 = .ok (.aload_n 0, 1) := dk_42 (dk_at dksX9_chair_3 4 rfl rfl)
theorem dX9_chair_91 : decode cX9_chair 91 = .ok (.iload_n 1, 1) := dk_27 (dk_at dksX9_chair_3 5 rfl rfl)
theorem dX9_chair_92 : decode cX9_chair 92 = .ok (.invokevirtual 150, 3) := dk_182 0 150 (dk_at dksX9_chair_3 6 rfl rfl)
theorem dX9_chair_95 : decode cX9_chair 95 = .ok (.ireturn, 1) := dk_172 (dk_at dksX9_chair_3 9 rfl rfl)
theorem dX9_chair_96 : decode cX9_chair 96 = .ok (.aload_n 0, 1) := dk_42 (dk_at dksX9_chair_3 10 rfl rfl)
theorem dX9_chair_97 : decode cX9_chair 97 = .ok (.getfield 19, 3) := dk_180 0 19 (dk_at dksX9_chair_3 11 rfl rfl)
theorem dX9_chair_100 : decode cX9_chair 100 = .ok (.iconst 4, 1) := dk_7 (dk_at dksX9_chair_3 14 rfl rfl)
theorem dX9_chair_101 : decode cX9_chair 101 = .ok (.iaload, 1) := dk_46 (dk_at dksX9_chair_3 15 rfl rfl)
theorem dX9_chair_102 : decode cX9_chair 102 = .ok (.iload_n 1, 1) := dk_27 (dk_at dksX9_chair_3 16 rfl rfl)
theorem dX9_chair_103 : decode cX9_chair 103 = .ok (.invokestatic 162, 3) := dk_184 0 162 (dk_at dksX9_chair_3 17 rfl rfl)
theorem dX9_chair_106 : decode cX9_chair 106 = .ok (.ifCond .eq 7, 3) := dk_153 0 7 (dk_at dksX9_chair_3 20 rfl rfl)
theorem dX9_chair_109 : decode cX9_chair 109 = .ok (.iconst 1, 1) := dk_4 (dk_at dksX9_chair_3 23 rfl rfl)
theorem dX9_chair_110 : decode cX9_chair 110 = .ok (.goto 4, 3) := dk_167 0 4 (dk_at dksX9_chair_4 0 rfl rfl)
theorem dX9_chair_113 : decode cX9_chair 113 = .ok (.iconst 0, 1) := dk_3 (dk_at dksX9_chair_4 3 rfl rfl)
theorem dX9_chair_114 : decode cX9_chair 114 = .ok (.ireturn, 1) := dk_172 (dk_at dksX9_chair_4 4 rfl rfl)
theorem dX9_chair_115 : decode cX9_chair 115 = .ok (.aload_n 0, 1) := dk_42 (dk_at dksX9_chair_4 5 rfl rfl)
theorem dX9_chair_116 : decode cX9_chair 116 = .ok (.getfield 19, 3) := dk_180 0 19 (dk_at dksX9_chair_4 6 rfl rfl)
theorem dX9_chair_119 : decode cX9_chair 119 = .ok (.bipush 17, 2) := dk_16 17 (dk_at dksX9_chair_4 9 rfl rfl)
theorem dX9_chair_121 : decode cX9_chair 121 = .ok (.iload_n 1, 1) := dk_27 (dk_at dksX9_chair_4 11 rfl rfl)
theorem dX9_chair_122 : decode cX9_chair 122 = .ok (.iadd, 1) := dk_96 (dk_at dksX9_chair_4 12 rfl rfl)
theorem dX9_chair_123 : decode cX9_chair 123 = .ok (.iaload, 1) := dk_46 (dk_at dksX9_chair_4 13 rfl rfl)
theorem dX9_chair_124 : decode cX9_chair 124 = .ok (.ireturn, 1) := dk_172 (dk_at dksX9_chair_4 14 rfl rfl)
theorem dX9_chair_125 : decode cX9_chair 125 = .ok (.aload_n 0, 1) := dk_42 (dk_at dksX9_chair_4 15 rfl rfl)
theorem dX9_chair_126 : decode cX9_chair 126 = .ok (.getfield 19, 3) := dk_180 0 19 (dk_at dksX9_chair_4 16 rfl rfl)
theorem dX9_chair_129 : decode cX9_chair 129 = .ok (.bipush 23, 2) := dk_16 23 (dk_at dksX9_chair_4 19 rfl rfl)
theorem dX9_chair_131 : decode cX9_chair 131 = .ok (.iload_n 1, 1) := dk_27 (dk_at dksX9_chair_4 21 rfl rfl)
theorem dX9_chair_132 : decode cX9_chair 132 = .ok (.iadd, 1) := dk_96 (dk_at dksX9_chair_4 22 rfl rfl)
theorem dX9_chair_133 : decode cX9_chair 133 = .ok (.iaload, 1) := dk_46 (dk_at dksX9_chair_4 23 rfl rfl)
theorem dX9_chair_134 : decode cX9_chair 134 = .ok (.ireturn, 1) := dk_172 (dk_at dksX9_chair_5 0 rfl rfl)
theorem dX9_chair_135 : decode cX9_chair 135 = .ok (.aload_n 0, 1) := dk_42 (dk_at dksX9_chair_5 1 rfl rfl)
theorem dX9_chair_136 : decode cX9_chair 136 = .ok (.iload_n 1, 1) := dk_27 (dk_at dksX9_chair_5 2 rfl rfl)
theorem dX9_chair_137 : decode cX9_chair 137 = .ok (.invokevirtual 159, 3) := dk_182 0 159 (dk_at dksX9_chair_5 3 rfl rfl)
theorem dX9_chair_140 : decode cX9_chair 140 = .ok (.ireturn, 1) := dk_172 (dk_at dksX9_chair_5 6 rfl rfl)
theorem dX9_chair_141 : decode cX9_chair 141 = .ok (.aload_n 0, 1) := dk_42 (dk_at dksX9_chair_5 7 rfl rfl)
theorem dX9_chair_142 : decode cX9_chair 142 = .ok (.getfield 19, 3) := dk_180 0 19 (dk_at dksX9_chair_5 8 rfl rfl)
theorem dX9_chair_145 : decode cX9_chair 145 = .ok (.bipush 35, 2) := dk_16 35 (dk_at dksX9_chair_5 11 rfl rfl)
theorem dX9_chair_147 : decode cX9_chair 147 = .ok (.iload_n 1, 1) := dk_27 (dk_at dksX9_chair_5 13 rfl rfl)
theorem dX9_chair_148 : decode cX9_chair 148 = .ok (.iadd, 1) := dk_96 (dk_at dksX9_chair_5 14 rfl rfl)
theorem dX9_chair_149 : decode cX9_chair 149 = .ok (.iaload, 1) := dk_46 (dk_at dksX9_chair_5 15 rfl rfl)
theorem dX9_chair_150 : decode cX9_chair 150 = .ok (.ireturn, 1) := dk_172 (dk_at dksX9_chair_5 16 rfl rfl)
theorem dX9_chair_151 : decode cX9_chair 151 = .ok (.ldc 67, 2) := dk_18 67 (dk_at dksX9_chair_5 17 rfl rfl)
theorem dX9_chair_153 : decode cX9_chair 153 = .ok (.ireturn, 1) := dk_172 (dk_at dksX9_chair_5 19 rfl rfl)
abbrev cX9_ranked : ByteArray := prog_16_method_43_code
def yX9_ranked : MethodName := ⟨RX9, "ranked", "(I)I"⟩
def dkwX9_ranked_1 : List UInt8 := [167, 0, 5, 18, 67, 172]
abbrev dktX9_ranked_1 : List UInt8 := dkwX9_ranked_1 ++ []
def dkwX9_ranked_0 : List UInt8 := [27, 133, 9, 42, 180, 0, 19, 5, 46, 4, 100, 133, 184, 0, 57, 153, 0, 11, 42, 27, 182, 0, 153]
abbrev dktX9_ranked_0 : List UInt8 := dkwX9_ranked_0 ++ dktX9_ranked_1
theorem dksX9_ranked_0 : cX9_ranked.data.toList.drop 0 = dktX9_ranked_0 := by decide +kernel
theorem dksX9_ranked_1 : cX9_ranked.data.toList.drop 23 = dktX9_ranked_1 := dk_seg dksX9_ranked_0 23 rfl rfl
theorem dX9_ranked_0 : decode cX9_ranked 0 = .ok (.iload_n 1, 1) := dk_27 (dk_at dksX9_ranked_0 0 rfl rfl)
theorem dX9_ranked_1 : decode cX9_ranked 1 = .ok (.i2l, 1) := dk_133 (dk_at dksX9_ranked_0 1 rfl rfl)
theorem dX9_ranked_2 : decode cX9_ranked 2 = .ok (.lconst 0, 1) := dk_9 (dk_at dksX9_ranked_0 2 rfl rfl)
theorem dX9_ranked_3 : decode cX9_ranked 3 = .ok (.aload_n 0, 1) := dk_42 (dk_at dksX9_ranked_0 3 rfl rfl)
theorem dX9_ranked_4 : decode cX9_ranked 4 = .ok (.getfield 19, 3) := dk_180 0 19 (dk_at dksX9_ranked_0 4 rfl rfl)
theorem dX9_ranked_7 : decode cX9_ranked 7 = .ok (.iconst 2, 1) := dk_5 (dk_at dksX9_ranked_0 7 rfl rfl)
theorem dX9_ranked_8 : decode cX9_ranked 8 = .ok (.iaload, 1) := dk_46 (dk_at dksX9_ranked_0 8 rfl rfl)
theorem dX9_ranked_9 : decode cX9_ranked 9 = .ok (.iconst 1, 1) := dk_4 (dk_at dksX9_ranked_0 9 rfl rfl)
theorem dX9_ranked_10 : decode cX9_ranked 10 = .ok (.isub, 1) := dk_100 (dk_at dksX9_ranked_0 10 rfl rfl)
theorem dX9_ranked_11 : decode cX9_ranked 11 = .ok (.i2l, 1) := dk_133 (dk_at dksX9_ranked_0 11 rfl rfl)
theorem dX9_ranked_12 : decode cX9_ranked 12 = .ok (.invokestatic 57, 3) := dk_184 0 57 (dk_at dksX9_ranked_0 12 rfl rfl)
theorem dX9_ranked_15 : decode cX9_ranked 15 = .ok (.ifCond .eq 11, 3) := dk_153 0 11 (dk_at dksX9_ranked_0 15 rfl rfl)
theorem dX9_ranked_18 : decode cX9_ranked 18 = .ok (.aload_n 0, 1) := dk_42 (dk_at dksX9_ranked_0 18 rfl rfl)
theorem dX9_ranked_19 : decode cX9_ranked 19 = .ok (.iload_n 1, 1) := dk_27 (dk_at dksX9_ranked_0 19 rfl rfl)
theorem dX9_ranked_20 : decode cX9_ranked 20 = .ok (.invokevirtual 153, 3) := dk_182 0 153 (dk_at dksX9_ranked_0 20 rfl rfl)
theorem dX9_ranked_23 : decode cX9_ranked 23 = .ok (.goto 5, 3) := dk_167 0 5 (dk_at dksX9_ranked_1 0 rfl rfl)
theorem dX9_ranked_26 : decode cX9_ranked 26 = .ok (.ldc 67, 2) := dk_18 67 (dk_at dksX9_ranked_1 3 rfl rfl)
theorem dX9_ranked_28 : decode cX9_ranked 28 = .ok (.ireturn, 1) := dk_172 (dk_at dksX9_ranked_1 5 rfl rfl)
abbrev cX9_ahead : ByteArray := prog_16_method_49_code
def yX9_ahead : MethodName := ⟨RX9, "ahead", "(III)I"⟩
def dkwX9_ahead_3 : List UInt8 := [42, 180, 0, 19, 16, 11, 27, 96, 46, 54, 4, 42, 182, 0, 199, 21, 4, 172]
abbrev dktX9_ahead_3 : List UInt8 := dkwX9_ahead_3 ++ []
def dkwX9_ahead_2 : List UInt8 := [154, 0, 11, 42, 27, 182, 0, 146, 167, 0, 25, 29, 4, 160, 0, 11, 42, 27, 182, 0, 150, 167, 0, 12]
abbrev dktX9_ahead_2 : List UInt8 := dkwX9_ahead_2 ++ dktX9_ahead_3
def dkwX9_ahead_1 : List UInt8 := [20, 0, 65, 184, 0, 57, 154, 0, 6, 18, 67, 172, 42, 182, 0, 204, 42, 28, 182, 0, 196, 29]
abbrev dktX9_ahead_1 : List UInt8 := dkwX9_ahead_1 ++ dktX9_ahead_2
def dkwX9_ahead_0 : List UInt8 := [42, 27, 182, 0, 178, 153, 0, 27, 28, 133, 9, 20, 0, 202, 184, 0, 57, 153, 0, 15, 29, 133, 9]
abbrev dktX9_ahead_0 : List UInt8 := dkwX9_ahead_0 ++ dktX9_ahead_1
theorem dksX9_ahead_0 : cX9_ahead.data.toList.drop 0 = dktX9_ahead_0 := by decide +kernel
theorem dksX9_ahead_1 : cX9_ahead.data.toList.drop 23 = dktX9_ahead_1 := dk_seg dksX9_ahead_0 23 rfl rfl
theorem dksX9_ahead_2 : cX9_ahead.data.toList.drop 45 = dktX9_ahead_2 := dk_seg dksX9_ahead_1 22 rfl rfl
theorem dksX9_ahead_3 : cX9_ahead.data.toList.drop 69 = dktX9_ahead_3 := dk_seg dksX9_ahead_2 24 rfl rfl
theorem dX9_ahead_0 : decode cX9_ahead 0 = .ok (.aload_n 0, 1) := dk_42 (dk_at dksX9_ahead_0 0 rfl rfl)
theorem dX9_ahead_1 : decode cX9_ahead 1 = .ok (.iload_n 1, 1) := dk_27 (dk_at dksX9_ahead_0 1 rfl rfl)
theorem dX9_ahead_2 : decode cX9_ahead 2 = .ok (.invokevirtual 178, 3) := dk_182 0 178 (dk_at dksX9_ahead_0 2 rfl rfl)
theorem dX9_ahead_5 : decode cX9_ahead 5 = .ok (.ifCond .eq 27, 3) := dk_153 0 27 (dk_at dksX9_ahead_0 5 rfl rfl)
theorem dX9_ahead_8 : decode cX9_ahead 8 = .ok (.iload_n 2, 1) := dk_28 (dk_at dksX9_ahead_0 8 rfl rfl)
theorem dX9_ahead_9 : decode cX9_ahead 9 = .ok (.i2l, 1) := dk_133 (dk_at dksX9_ahead_0 9 rfl rfl)
theorem dX9_ahead_10 : decode cX9_ahead 10 = .ok (.lconst 0, 1) := dk_9 (dk_at dksX9_ahead_0 10 rfl rfl)
theorem dX9_ahead_11 : decode cX9_ahead 11 = .ok (.ldc2_w 202, 3) := dk_20 0 202 (dk_at dksX9_ahead_0 11 rfl rfl)
theorem dX9_ahead_14 : decode cX9_ahead 14 = .ok (.invokestatic 57, 3) := dk_184 0 57 (dk_at dksX9_ahead_0 14 rfl rfl)
theorem dX9_ahead_17 : decode cX9_ahead 17 = .ok (.ifCond .eq 15, 3) := dk_153 0 15 (dk_at dksX9_ahead_0 17 rfl rfl)
theorem dX9_ahead_20 : decode cX9_ahead 20 = .ok (.iload_n 3, 1) := dk_29 (dk_at dksX9_ahead_0 20 rfl rfl)
theorem dX9_ahead_21 : decode cX9_ahead 21 = .ok (.i2l, 1) := dk_133 (dk_at dksX9_ahead_0 21 rfl rfl)
theorem dX9_ahead_22 : decode cX9_ahead 22 = .ok (.lconst 0, 1) := dk_9 (dk_at dksX9_ahead_0 22 rfl rfl)
theorem dX9_ahead_23 : decode cX9_ahead 23 = .ok (.ldc2_w 65, 3) := dk_20 0 65 (dk_at dksX9_ahead_1 0 rfl rfl)
theorem dX9_ahead_26 : decode cX9_ahead 26 = .ok (.invokestatic 57, 3) := dk_184 0 57 (dk_at dksX9_ahead_1 3 rfl rfl)
theorem dX9_ahead_29 : decode cX9_ahead 29 = .ok (.ifCond .ne 6, 3) := dk_154 0 6 (dk_at dksX9_ahead_1 6 rfl rfl)
theorem dX9_ahead_32 : decode cX9_ahead 32 = .ok (.ldc 67, 2) := dk_18 67 (dk_at dksX9_ahead_1 9 rfl rfl)
theorem dX9_ahead_34 : decode cX9_ahead 34 = .ok (.ireturn, 1) := dk_172 (dk_at dksX9_ahead_1 11 rfl rfl)
theorem dX9_ahead_35 : decode cX9_ahead 35 = .ok (.aload_n 0, 1) := dk_42 (dk_at dksX9_ahead_1 12 rfl rfl)
theorem dX9_ahead_36 : decode cX9_ahead 36 = .ok (.invokevirtual 204, 3) := dk_182 0 204 (dk_at dksX9_ahead_1 13 rfl rfl)
theorem dX9_ahead_39 : decode cX9_ahead 39 = .ok (.aload_n 0, 1) := dk_42 (dk_at dksX9_ahead_1 16 rfl rfl)
theorem dX9_ahead_40 : decode cX9_ahead 40 = .ok (.iload_n 2, 1) := dk_28 (dk_at dksX9_ahead_1 17 rfl rfl)
theorem dX9_ahead_41 : decode cX9_ahead 41 = .ok (.invokevirtual 196, 3) := dk_182 0 196 (dk_at dksX9_ahead_1 18 rfl rfl)
theorem dX9_ahead_44 : decode cX9_ahead 44 = .ok (.iload_n 3, 1) := dk_29 (dk_at dksX9_ahead_1 21 rfl rfl)
theorem dX9_ahead_45 : decode cX9_ahead 45 = .ok (.ifCond .ne 11, 3) := dk_154 0 11 (dk_at dksX9_ahead_2 0 rfl rfl)
theorem dX9_ahead_48 : decode cX9_ahead 48 = .ok (.aload_n 0, 1) := dk_42 (dk_at dksX9_ahead_2 3 rfl rfl)
theorem dX9_ahead_49 : decode cX9_ahead 49 = .ok (.iload_n 1, 1) := dk_27 (dk_at dksX9_ahead_2 4 rfl rfl)
theorem dX9_ahead_50 : decode cX9_ahead 50 = .ok (.invokevirtual 146, 3) := dk_182 0 146 (dk_at dksX9_ahead_2 5 rfl rfl)
theorem dX9_ahead_53 : decode cX9_ahead 53 = .ok (.goto 25, 3) := dk_167 0 25 (dk_at dksX9_ahead_2 8 rfl rfl)
theorem dX9_ahead_56 : decode cX9_ahead 56 = .ok (.iload_n 3, 1) := dk_29 (dk_at dksX9_ahead_2 11 rfl rfl)
theorem dX9_ahead_57 : decode cX9_ahead 57 = .ok (.iconst 1, 1) := dk_4 (dk_at dksX9_ahead_2 12 rfl rfl)
theorem dX9_ahead_58 : decode cX9_ahead 58 = .ok (.if_icmp .ne 11, 3) := dk_160 0 11 (dk_at dksX9_ahead_2 13 rfl rfl)
theorem dX9_ahead_61 : decode cX9_ahead 61 = .ok (.aload_n 0, 1) := dk_42 (dk_at dksX9_ahead_2 16 rfl rfl)
theorem dX9_ahead_62 : decode cX9_ahead 62 = .ok (.iload_n 1, 1) := dk_27 (dk_at dksX9_ahead_2 17 rfl rfl)
theorem dX9_ahead_63 : decode cX9_ahead 63 = .ok (.invokevirtual 150, 3) := dk_182 0 150 (dk_at dksX9_ahead_2 18 rfl rfl)
theorem dX9_ahead_66 : decode cX9_ahead 66 = .ok (.goto 12, 3) := dk_167 0 12 (dk_at dksX9_ahead_2 21 rfl rfl)
theorem dX9_ahead_69 : decode cX9_ahead 69 = .ok (.aload_n 0, 1) := dk_42 (dk_at dksX9_ahead_3 0 rfl rfl)
theorem dX9_ahead_70 : decode cX9_ahead 70 = .ok (.getfield 19, 3) := dk_180 0 19 (dk_at dksX9_ahead_3 1 rfl rfl)
theorem dX9_ahead_73 : decode cX9_ahead 73 = .ok (.bipush 11, 2) := dk_16 11 (dk_at dksX9_ahead_3 4 rfl rfl)
theorem dX9_ahead_75 : decode cX9_ahead 75 = .ok (.iload_n 1, 1) := dk_27 (dk_at dksX9_ahead_3 6 rfl rfl)
theorem dX9_ahead_76 : decode cX9_ahead 76 = .ok (.iadd, 1) := dk_96 (dk_at dksX9_ahead_3 7 rfl rfl)
theorem dX9_ahead_77 : decode cX9_ahead 77 = .ok (.iaload, 1) := dk_46 (dk_at dksX9_ahead_3 8 rfl rfl)
theorem dX9_ahead_78 : decode cX9_ahead 78 = .ok (.istore 4, 2) := dk_54 4 (dk_at dksX9_ahead_3 9 rfl rfl)
theorem dX9_ahead_80 : decode cX9_ahead 80 = .ok (.aload_n 0, 1) := dk_42 (dk_at dksX9_ahead_3 11 rfl rfl)
theorem dX9_ahead_81 : decode cX9_ahead 81 = .ok (.invokevirtual 199, 3) := dk_182 0 199 (dk_at dksX9_ahead_3 12 rfl rfl)
theorem dX9_ahead_84 : decode cX9_ahead 84 = .ok (.iload 4, 2) := dk_21 4 (dk_at dksX9_ahead_3 15 rfl rfl)
theorem dX9_ahead_86 : decode cX9_ahead 86 = .ok (.ireturn, 1) := dk_172 (dk_at dksX9_ahead_3 17 rfl rfl)
abbrev cX9_putAside : ByteArray := prog_16_method_44_code
def yX9_putAside : MethodName := ⟨RX9, "putAside", "()V"⟩
def dkwX9_putAside_1 : List UInt8 := [167, 255, 235, 177]
abbrev dktX9_putAside_1 : List UInt8 := dkwX9_putAside_1 ++ []
def dkwX9_putAside_0 : List UInt8 := [3, 60, 27, 16, 41, 162, 0, 21, 42, 180, 0, 37, 27, 42, 180, 0, 19, 27, 46, 79, 132, 1, 1]
abbrev dktX9_putAside_0 : List UInt8 := dkwX9_putAside_0 ++ dktX9_putAside_1
theorem dksX9_putAside_0 : cX9_putAside.data.toList.drop 0 = dktX9_putAside_0 := by decide +kernel
theorem dksX9_putAside_1 : cX9_putAside.data.toList.drop 23 = dktX9_putAside_1 := dk_seg dksX9_putAside_0 23 rfl rfl
theorem dX9_putAside_0 : decode cX9_putAside 0 = .ok (.iconst 0, 1) := dk_3 (dk_at dksX9_putAside_0 0 rfl rfl)
theorem dX9_putAside_1 : decode cX9_putAside 1 = .ok (.istore_n 1, 1) := dk_60 (dk_at dksX9_putAside_0 1 rfl rfl)
theorem dX9_putAside_2 : decode cX9_putAside 2 = .ok (.iload_n 1, 1) := dk_27 (dk_at dksX9_putAside_0 2 rfl rfl)
theorem dX9_putAside_3 : decode cX9_putAside 3 = .ok (.bipush 41, 2) := dk_16 41 (dk_at dksX9_putAside_0 3 rfl rfl)
theorem dX9_putAside_5 : decode cX9_putAside 5 = .ok (.if_icmp .ge 21, 3) := dk_162 0 21 (dk_at dksX9_putAside_0 5 rfl rfl)
theorem dX9_putAside_8 : decode cX9_putAside 8 = .ok (.aload_n 0, 1) := dk_42 (dk_at dksX9_putAside_0 8 rfl rfl)
theorem dX9_putAside_9 : decode cX9_putAside 9 = .ok (.getfield 37, 3) := dk_180 0 37 (dk_at dksX9_putAside_0 9 rfl rfl)
theorem dX9_putAside_12 : decode cX9_putAside 12 = .ok (.iload_n 1, 1) := dk_27 (dk_at dksX9_putAside_0 12 rfl rfl)
theorem dX9_putAside_13 : decode cX9_putAside 13 = .ok (.aload_n 0, 1) := dk_42 (dk_at dksX9_putAside_0 13 rfl rfl)
theorem dX9_putAside_14 : decode cX9_putAside 14 = .ok (.getfield 19, 3) := dk_180 0 19 (dk_at dksX9_putAside_0 14 rfl rfl)
theorem dX9_putAside_17 : decode cX9_putAside 17 = .ok (.iload_n 1, 1) := dk_27 (dk_at dksX9_putAside_0 17 rfl rfl)
theorem dX9_putAside_18 : decode cX9_putAside 18 = .ok (.iaload, 1) := dk_46 (dk_at dksX9_putAside_0 18 rfl rfl)
theorem dX9_putAside_19 : decode cX9_putAside 19 = .ok (.iastore, 1) := dk_79 (dk_at dksX9_putAside_0 19 rfl rfl)
theorem dX9_putAside_20 : decode cX9_putAside 20 = .ok (.iinc 1 1, 3) := dk_132 1 1 (dk_at dksX9_putAside_0 20 rfl rfl)
theorem dX9_putAside_23 : decode cX9_putAside 23 = .ok (.goto (-21), 3) := dk_167 255 235 (dk_at dksX9_putAside_1 0 rfl rfl)
theorem dX9_putAside_26 : decode cX9_putAside 26 = .ok (.return_, 1) := dk_177 (dk_at dksX9_putAside_1 3 rfl rfl)
abbrev cX9_goOn : ByteArray := prog_16_method_46_code
def yX9_goOn : MethodName := ⟨RX9, "goOn", "(I)V"⟩
def dkwX9_goOn_0 : List UInt8 := [3, 61, 28, 27, 162, 0, 13, 42, 182, 0, 175, 132, 2, 1, 167, 255, 244, 177]
abbrev dktX9_goOn_0 : List UInt8 := dkwX9_goOn_0 ++ []
theorem dksX9_goOn_0 : cX9_goOn.data.toList.drop 0 = dktX9_goOn_0 := by decide +kernel
theorem dX9_goOn_0 : decode cX9_goOn 0 = .ok (.iconst 0, 1) := dk_3 (dk_at dksX9_goOn_0 0 rfl rfl)
theorem dX9_goOn_1 : decode cX9_goOn 1 = .ok (.istore_n 2, 1) := dk_61 (dk_at dksX9_goOn_0 1 rfl rfl)
theorem dX9_goOn_2 : decode cX9_goOn 2 = .ok (.iload_n 2, 1) := dk_28 (dk_at dksX9_goOn_0 2 rfl rfl)
theorem dX9_goOn_3 : decode cX9_goOn 3 = .ok (.iload_n 1, 1) := dk_27 (dk_at dksX9_goOn_0 3 rfl rfl)
theorem dX9_goOn_4 : decode cX9_goOn 4 = .ok (.if_icmp .ge 13, 3) := dk_162 0 13 (dk_at dksX9_goOn_0 4 rfl rfl)
theorem dX9_goOn_7 : decode cX9_goOn 7 = .ok (.aload_n 0, 1) := dk_42 (dk_at dksX9_goOn_0 7 rfl rfl)
theorem dX9_goOn_8 : decode cX9_goOn 8 = .ok (.invokevirtual 175, 3) := dk_182 0 175 (dk_at dksX9_goOn_0 8 rfl rfl)
theorem dX9_goOn_11 : decode cX9_goOn 11 = .ok (.iinc 2 1, 3) := dk_132 2 1 (dk_at dksX9_goOn_0 11 rfl rfl)
theorem dX9_goOn_14 : decode cX9_goOn 14 = .ok (.goto (-12), 3) := dk_167 255 244 (dk_at dksX9_goOn_0 14 rfl rfl)
theorem dX9_goOn_17 : decode cX9_goOn 17 = .ok (.return_, 1) := dk_177 (dk_at dksX9_goOn_0 17 rfl rfl)
abbrev cX9_takeBack : ByteArray := prog_16_method_45_code
def yX9_takeBack : MethodName := ⟨RX9, "takeBack", "()V"⟩
def dkwX9_takeBack_1 : List UInt8 := [167, 255, 235, 177]
abbrev dktX9_takeBack_1 : List UInt8 := dkwX9_takeBack_1 ++ []
def dkwX9_takeBack_0 : List UInt8 := [3, 60, 27, 16, 41, 162, 0, 21, 42, 180, 0, 19, 27, 42, 180, 0, 37, 27, 46, 79, 132, 1, 1]
abbrev dktX9_takeBack_0 : List UInt8 := dkwX9_takeBack_0 ++ dktX9_takeBack_1
theorem dksX9_takeBack_0 : cX9_takeBack.data.toList.drop 0 = dktX9_takeBack_0 := by decide +kernel
theorem dksX9_takeBack_1 : cX9_takeBack.data.toList.drop 23 = dktX9_takeBack_1 := dk_seg dksX9_takeBack_0 23 rfl rfl
theorem dX9_takeBack_0 : decode cX9_takeBack 0 = .ok (.iconst 0, 1) := dk_3 (dk_at dksX9_takeBack_0 0 rfl rfl)
theorem dX9_takeBack_1 : decode cX9_takeBack 1 = .ok (.istore_n 1, 1) := dk_60 (dk_at dksX9_takeBack_0 1 rfl rfl)
theorem dX9_takeBack_2 : decode cX9_takeBack 2 = .ok (.iload_n 1, 1) := dk_27 (dk_at dksX9_takeBack_0 2 rfl rfl)
theorem dX9_takeBack_3 : decode cX9_takeBack 3 = .ok (.bipush 41, 2) := dk_16 41 (dk_at dksX9_takeBack_0 3 rfl rfl)
theorem dX9_takeBack_5 : decode cX9_takeBack 5 = .ok (.if_icmp .ge 21, 3) := dk_162 0 21 (dk_at dksX9_takeBack_0 5 rfl rfl)
theorem dX9_takeBack_8 : decode cX9_takeBack 8 = .ok (.aload_n 0, 1) := dk_42 (dk_at dksX9_takeBack_0 8 rfl rfl)
theorem dX9_takeBack_9 : decode cX9_takeBack 9 = .ok (.getfield 19, 3) := dk_180 0 19 (dk_at dksX9_takeBack_0 9 rfl rfl)
theorem dX9_takeBack_12 : decode cX9_takeBack 12 = .ok (.iload_n 1, 1) := dk_27 (dk_at dksX9_takeBack_0 12 rfl rfl)
theorem dX9_takeBack_13 : decode cX9_takeBack 13 = .ok (.aload_n 0, 1) := dk_42 (dk_at dksX9_takeBack_0 13 rfl rfl)
theorem dX9_takeBack_14 : decode cX9_takeBack 14 = .ok (.getfield 37, 3) := dk_180 0 37 (dk_at dksX9_takeBack_0 14 rfl rfl)
theorem dX9_takeBack_17 : decode cX9_takeBack 17 = .ok (.iload_n 1, 1) := dk_27 (dk_at dksX9_takeBack_0 17 rfl rfl)
theorem dX9_takeBack_18 : decode cX9_takeBack 18 = .ok (.iaload, 1) := dk_46 (dk_at dksX9_takeBack_0 18 rfl rfl)
theorem dX9_takeBack_19 : decode cX9_takeBack 19 = .ok (.iastore, 1) := dk_79 (dk_at dksX9_takeBack_0 19 rfl rfl)
theorem dX9_takeBack_20 : decode cX9_takeBack 20 = .ok (.iinc 1 1, 3) := dk_132 1 1 (dk_at dksX9_takeBack_0 20 rfl rfl)
theorem dX9_takeBack_23 : decode cX9_takeBack 23 = .ok (.goto (-21), 3) := dk_167 255 235 (dk_at dksX9_takeBack_1 0 rfl rfl)
theorem dX9_takeBack_26 : decode cX9_takeBack 26 = .ok (.return_, 1) := dk_177 (dk_at dksX9_takeBack_1 3 rfl rfl)
abbrev cX9_minister : ByteArray := prog_16_method_50_code
def yX9_minister : MethodName := ⟨RX9, "minister", "(I)I"⟩
def dkwX9_minister_1 : List UInt8 := [172, 42, 182, 0, 204, 42, 27, 182, 0, 196, 42, 3, 182, 0, 153, 61, 42, 182, 0, 199, 28, 172]
abbrev dktX9_minister_1 : List UInt8 := dkwX9_minister_1 ++ []
def dkwX9_minister_0 : List UInt8 := [42, 180, 0, 135, 154, 0, 6, 18, 169, 172, 27, 133, 9, 20, 0, 202, 184, 0, 57, 154, 0, 6, 18, 67]
abbrev dktX9_minister_0 : List UInt8 := dkwX9_minister_0 ++ dktX9_minister_1
theorem dksX9_minister_0 : cX9_minister.data.toList.drop 0 = dktX9_minister_0 := by decide +kernel
theorem dksX9_minister_1 : cX9_minister.data.toList.drop 24 = dktX9_minister_1 := dk_seg dksX9_minister_0 24 rfl rfl
theorem dX9_minister_0 : decode cX9_minister 0 = .ok (.aload_n 0, 1) := dk_42 (dk_at dksX9_minister_0 0 rfl rfl)
theorem dX9_minister_1 : decode cX9_minister 1 = .ok (.getfield 135, 3) := dk_180 0 135 (dk_at dksX9_minister_0 1 rfl rfl)
theorem dX9_minister_4 : decode cX9_minister 4 = .ok (.ifCond .ne 6, 3) := dk_154 0 6 (dk_at dksX9_minister_0 4 rfl rfl)
theorem dX9_minister_7 : decode cX9_minister 7 = .ok (.ldc 169, 2) := dk_18 169 (dk_at dksX9_minister_0 7 rfl rfl)
theorem dX9_minister_9 : decode cX9_minister 9 = .ok (.ireturn, 1) := dk_172 (dk_at dksX9_minister_0 9 rfl rfl)
theorem dX9_minister_10 : decode cX9_minister 10 = .ok (.iload_n 1, 1) := dk_27 (dk_at dksX9_minister_0 10 rfl rfl)
theorem dX9_minister_11 : decode cX9_minister 11 = .ok (.i2l, 1) := dk_133 (dk_at dksX9_minister_0 11 rfl rfl)
theorem dX9_minister_12 : decode cX9_minister 12 = .ok (.lconst 0, 1) := dk_9 (dk_at dksX9_minister_0 12 rfl rfl)
theorem dX9_minister_13 : decode cX9_minister 13 = .ok (.ldc2_w 202, 3) := dk_20 0 202 (dk_at dksX9_minister_0 13 rfl rfl)
theorem dX9_minister_16 : decode cX9_minister 16 = .ok (.invokestatic 57, 3) := dk_184 0 57 (dk_at dksX9_minister_0 16 rfl rfl)
theorem dX9_minister_19 : decode cX9_minister 19 = .ok (.ifCond .ne 6, 3) := dk_154 0 6 (dk_at dksX9_minister_0 19 rfl rfl)
theorem dX9_minister_22 : decode cX9_minister 22 = .ok (.ldc 67, 2) := dk_18 67 (dk_at dksX9_minister_0 22 rfl rfl)
theorem dX9_minister_24 : decode cX9_minister 24 = .ok (.ireturn, 1) := dk_172 (dk_at dksX9_minister_1 0 rfl rfl)
theorem dX9_minister_25 : decode cX9_minister 25 = .ok (.aload_n 0, 1) := dk_42 (dk_at dksX9_minister_1 1 rfl rfl)
theorem dX9_minister_26 : decode cX9_minister 26 = .ok (.invokevirtual 204, 3) := dk_182 0 204 (dk_at dksX9_minister_1 2 rfl rfl)
theorem dX9_minister_29 : decode cX9_minister 29 = .ok (.aload_n 0, 1) := dk_42 (dk_at dksX9_minister_1 5 rfl rfl)
theorem dX9_minister_30 : decode cX9_minister 30 = .ok (.iload_n 1, 1) := dk_27 (dk_at dksX9_minister_1 6 rfl rfl)
theorem dX9_minister_31 : decode cX9_minister 31 = .ok (.invokevirtual 196, 3) := dk_182 0 196 (dk_at dksX9_minister_1 7 rfl rfl)
theorem dX9_minister_34 : decode cX9_minister 34 = .ok (.aload_n 0, 1) := dk_42 (dk_at dksX9_minister_1 10 rfl rfl)
theorem dX9_minister_35 : decode cX9_minister 35 = .ok (.iconst 0, 1) := dk_3 (dk_at dksX9_minister_1 11 rfl rfl)
theorem dX9_minister_36 : decode cX9_minister 36 = .ok (.invokevirtual 153, 3) := dk_182 0 153 (dk_at dksX9_minister_1 12 rfl rfl)
theorem dX9_minister_39 : decode cX9_minister 39 = .ok (.istore_n 2, 1) := dk_61 (dk_at dksX9_minister_1 15 rfl rfl)
theorem dX9_minister_40 : decode cX9_minister 40 = .ok (.aload_n 0, 1) := dk_42 (dk_at dksX9_minister_1 16 rfl rfl)
theorem dX9_minister_41 : decode cX9_minister 41 = .ok (.invokevirtual 199, 3) := dk_182 0 199 (dk_at dksX9_minister_1 17 rfl rfl)
theorem dX9_minister_44 : decode cX9_minister 44 = .ok (.iload_n 2, 1) := dk_28 (dk_at dksX9_minister_1 20 rfl rfl)
theorem dX9_minister_45 : decode cX9_minister 45 = .ok (.ireturn, 1) := dk_172 (dk_at dksX9_minister_1 21 rfl rfl)
abbrev cX9_floor : ByteArray := prog_16_method_51_code
def yX9_floor : MethodName := ⟨RX9, "floor", "(I)I"⟩
def dkwX9_floor_3 : List UInt8 := [153, 0, 7, 28, 167, 0, 5, 18, 149, 172]
abbrev dktX9_floor_3 : List UInt8 := dkwX9_floor_3 ++ []
def dkwX9_floor_2 : List UInt8 := [180, 0, 19, 16, 11, 27, 96, 46, 154, 0, 7, 4, 167, 0, 4, 3, 62, 42, 182, 0, 199, 29]
abbrev dktX9_floor_2 : List UInt8 := dkwX9_floor_2 ++ dktX9_floor_3
def dkwX9_floor_1 : List UInt8 := [96, 46, 158, 0, 19, 28, 16, 60, 162, 0, 13, 42, 182, 0, 175, 132, 2, 1, 167, 255, 231, 42]
abbrev dktX9_floor_1 : List UInt8 := dkwX9_floor_1 ++ dktX9_floor_2
def dkwX9_floor_0 : List UInt8 := [42, 27, 182, 0, 178, 154, 0, 6, 18, 67, 172, 42, 182, 0, 204, 3, 61, 42, 180, 0, 19, 16, 11, 27]
abbrev dktX9_floor_0 : List UInt8 := dkwX9_floor_0 ++ dktX9_floor_1
theorem dksX9_floor_0 : cX9_floor.data.toList.drop 0 = dktX9_floor_0 := by decide +kernel
theorem dksX9_floor_1 : cX9_floor.data.toList.drop 24 = dktX9_floor_1 := dk_seg dksX9_floor_0 24 rfl rfl
theorem dksX9_floor_2 : cX9_floor.data.toList.drop 46 = dktX9_floor_2 := dk_seg dksX9_floor_1 22 rfl rfl
theorem dksX9_floor_3 : cX9_floor.data.toList.drop 68 = dktX9_floor_3 := dk_seg dksX9_floor_2 22 rfl rfl
theorem dX9_floor_0 : decode cX9_floor 0 = .ok (.aload_n 0, 1) := dk_42 (dk_at dksX9_floor_0 0 rfl rfl)
theorem dX9_floor_1 : decode cX9_floor 1 = .ok (.iload_n 1, 1) := dk_27 (dk_at dksX9_floor_0 1 rfl rfl)
theorem dX9_floor_2 : decode cX9_floor 2 = .ok (.invokevirtual 178, 3) := dk_182 0 178 (dk_at dksX9_floor_0 2 rfl rfl)
theorem dX9_floor_5 : decode cX9_floor 5 = .ok (.ifCond .ne 6, 3) := dk_154 0 6 (dk_at dksX9_floor_0 5 rfl rfl)
theorem dX9_floor_8 : decode cX9_floor 8 = .ok (.ldc 67, 2) := dk_18 67 (dk_at dksX9_floor_0 8 rfl rfl)
theorem dX9_floor_10 : decode cX9_floor 10 = .ok (.ireturn, 1) := dk_172 (dk_at dksX9_floor_0 10 rfl rfl)
theorem dX9_floor_11 : decode cX9_floor 11 = .ok (.aload_n 0, 1) := dk_42 (dk_at dksX9_floor_0 11 rfl rfl)
theorem dX9_floor_12 : decode cX9_floor 12 = .ok (.invokevirtual 204, 3) := dk_182 0 204 (dk_at dksX9_floor_0 12 rfl rfl)
theorem dX9_floor_15 : decode cX9_floor 15 = .ok (.iconst 0, 1) := dk_3 (dk_at dksX9_floor_0 15 rfl rfl)
theorem dX9_floor_16 : decode cX9_floor 16 = .ok (.istore_n 2, 1) := dk_61 (dk_at dksX9_floor_0 16 rfl rfl)
theorem dX9_floor_17 : decode cX9_floor 17 = .ok (.aload_n 0, 1) := dk_42 (dk_at dksX9_floor_0 17 rfl rfl)
theorem dX9_floor_18 : decode cX9_floor 18 = .ok (.getfield 19, 3) := dk_180 0 19 (dk_at dksX9_floor_0 18 rfl rfl)
theorem dX9_floor_21 : decode cX9_floor 21 = .ok (.bipush 11, 2) := dk_16 11 (dk_at dksX9_floor_0 21 rfl rfl)
theorem dX9_floor_23 : decode cX9_floor 23 = .ok (.iload_n 1, 1) := dk_27 (dk_at dksX9_floor_0 23 rfl rfl)
theorem dX9_floor_24 : decode cX9_floor 24 = .ok (.iadd, 1) := dk_96 (dk_at dksX9_floor_1 0 rfl rfl)
theorem dX9_floor_25 : decode cX9_floor 25 = .ok (.iaload, 1) := dk_46 (dk_at dksX9_floor_1 1 rfl rfl)
theorem dX9_floor_26 : decode cX9_floor 26 = .ok (.ifCond .le 19, 3) := dk_158 0 19 (dk_at dksX9_floor_1 2 rfl rfl)
theorem dX9_floor_29 : decode cX9_floor 29 = .ok (.iload_n 2, 1) := dk_28 (dk_at dksX9_floor_1 5 rfl rfl)
theorem dX9_floor_30 : decode cX9_floor 30 = .ok (.bipush 60, 2) := dk_16 60 (dk_at dksX9_floor_1 6 rfl rfl)
theorem dX9_floor_32 : decode cX9_floor 32 = .ok (.if_icmp .ge 13, 3) := dk_162 0 13 (dk_at dksX9_floor_1 8 rfl rfl)
theorem dX9_floor_35 : decode cX9_floor 35 = .ok (.aload_n 0, 1) := dk_42 (dk_at dksX9_floor_1 11 rfl rfl)
theorem dX9_floor_36 : decode cX9_floor 36 = .ok (.invokevirtual 175, 3) := dk_182 0 175 (dk_at dksX9_floor_1 12 rfl rfl)
theorem dX9_floor_39 : decode cX9_floor 39 = .ok (.iinc 2 1, 3) := dk_132 2 1 (dk_at dksX9_floor_1 15 rfl rfl)
theorem dX9_floor_42 : decode cX9_floor 42 = .ok (.goto (-25), 3) := dk_167 255 231 (dk_at dksX9_floor_1 18 rfl rfl)
theorem dX9_floor_45 : decode cX9_floor 45 = .ok (.aload_n 0, 1) := dk_42 (dk_at dksX9_floor_1 21 rfl rfl)
theorem dX9_floor_46 : decode cX9_floor 46 = .ok (.getfield 19, 3) := dk_180 0 19 (dk_at dksX9_floor_2 0 rfl rfl)
theorem dX9_floor_49 : decode cX9_floor 49 = .ok (.bipush 11, 2) := dk_16 11 (dk_at dksX9_floor_2 3 rfl rfl)
theorem dX9_floor_51 : decode cX9_floor 51 = .ok (.iload_n 1, 1) := dk_27 (dk_at dksX9_floor_2 5 rfl rfl)
theorem dX9_floor_52 : decode cX9_floor 52 = .ok (.iadd, 1) := dk_96 (dk_at dksX9_floor_2 6 rfl rfl)
theorem dX9_floor_53 : decode cX9_floor 53 = .ok (.iaload, 1) := dk_46 (dk_at dksX9_floor_2 7 rfl rfl)
theorem dX9_floor_54 : decode cX9_floor 54 = .ok (.ifCond .ne 7, 3) := dk_154 0 7 (dk_at dksX9_floor_2 8 rfl rfl)
theorem dX9_floor_57 : decode cX9_floor 57 = .ok (.iconst 1, 1) := dk_4 (dk_at dksX9_floor_2 11 rfl rfl)
theorem dX9_floor_58 : decode cX9_floor 58 = .ok (.goto 4, 3) := dk_167 0 4 (dk_at dksX9_floor_2 12 rfl rfl)
theorem dX9_floor_61 : decode cX9_floor 61 = .ok (.iconst 0, 1) := dk_3 (dk_at dksX9_floor_2 15 rfl rfl)
theorem dX9_floor_62 : decode cX9_floor 62 = .ok (.istore_n 3, 1) := dk_62 (dk_at dksX9_floor_2 16 rfl rfl)
theorem dX9_floor_63 : decode cX9_floor 63 = .ok (.aload_n 0, 1) := dk_42 (dk_at dksX9_floor_2 17 rfl rfl)
theorem dX9_floor_64 : decode cX9_floor 64 = .ok (.invokevirtual 199, 3) := dk_182 0 199 (dk_at dksX9_floor_2 18 rfl rfl)
theorem dX9_floor_67 : decode cX9_floor 67 = .ok (.iload_n 3, 1) := dk_29 (dk_at dksX9_floor_2 21 rfl rfl)
theorem dX9_floor_68 : decode cX9_floor 68 = .ok (.ifCond .eq 7, 3) := dk_153 0 7 (dk_at dksX9_floor_3 0 rfl rfl)
theorem dX9_floor_71 : decode cX9_floor 71 = .ok (.iload_n 2, 1) := dk_28 (dk_at dksX9_floor_3 3 rfl rfl)
theorem dX9_floor_72 : decode cX9_floor 72 = .ok (.goto 5, 3) := dk_167 0 5 (dk_at dksX9_floor_3 4 rfl rfl)
theorem dX9_floor_75 : decode cX9_floor 75 = .ok (.ldc 149, 2) := dk_18 149 (dk_at dksX9_floor_3 7 rfl rfl)
theorem dX9_floor_77 : decode cX9_floor 77 = .ok (.ireturn, 1) := dk_172 (dk_at dksX9_floor_3 9 rfl rfl)
abbrev cX9_rises : ByteArray := prog_16_method_52_code
def yX9_rises : MethodName := ⟨RX9, "rises", "(II)I"⟩
def dkwX9_rises_3 : List UInt8 := [182, 0, 199, 21, 4, 153, 0, 7, 29, 167, 0, 5, 18, 149, 172]
abbrev dktX9_rises_3 : List UInt8 := dkwX9_rises_3 ++ []
def dkwX9_rises_2 : List UInt8 := [132, 3, 1, 167, 255, 234, 42, 27, 182, 0, 150, 28, 163, 0, 7, 4, 167, 0, 4, 3, 54, 4, 42]
abbrev dktX9_rises_2 : List UInt8 := dkwX9_rises_2 ++ dktX9_rises_3
def dkwX9_rises_1 : List UInt8 := [182, 0, 204, 3, 62, 42, 27, 182, 0, 150, 28, 164, 0, 19, 29, 16, 60, 162, 0, 13, 42, 182, 0, 175]
abbrev dktX9_rises_1 : List UInt8 := dkwX9_rises_1 ++ dktX9_rises_2
def dkwX9_rises_0 : List UInt8 := [42, 27, 182, 0, 178, 153, 0, 15, 28, 133, 9, 20, 0, 207, 184, 0, 57, 154, 0, 6, 18, 67, 172, 42]
abbrev dktX9_rises_0 : List UInt8 := dkwX9_rises_0 ++ dktX9_rises_1
theorem dksX9_rises_0 : cX9_rises.data.toList.drop 0 = dktX9_rises_0 := by decide +kernel
theorem dksX9_rises_1 : cX9_rises.data.toList.drop 24 = dktX9_rises_1 := dk_seg dksX9_rises_0 24 rfl rfl
theorem dksX9_rises_2 : cX9_rises.data.toList.drop 48 = dktX9_rises_2 := dk_seg dksX9_rises_1 24 rfl rfl
theorem dksX9_rises_3 : cX9_rises.data.toList.drop 71 = dktX9_rises_3 := dk_seg dksX9_rises_2 23 rfl rfl
theorem dX9_rises_0 : decode cX9_rises 0 = .ok (.aload_n 0, 1) := dk_42 (dk_at dksX9_rises_0 0 rfl rfl)
theorem dX9_rises_1 : decode cX9_rises 1 = .ok (.iload_n 1, 1) := dk_27 (dk_at dksX9_rises_0 1 rfl rfl)
theorem dX9_rises_2 : decode cX9_rises 2 = .ok (.invokevirtual 178, 3) := dk_182 0 178 (dk_at dksX9_rises_0 2 rfl rfl)
theorem dX9_rises_5 : decode cX9_rises 5 = .ok (.ifCond .eq 15, 3) := dk_153 0 15 (dk_at dksX9_rises_0 5 rfl rfl)
theorem dX9_rises_8 : decode cX9_rises 8 = .ok (.iload_n 2, 1) := dk_28 (dk_at dksX9_rises_0 8 rfl rfl)
theorem dX9_rises_9 : decode cX9_rises 9 = .ok (.i2l, 1) := dk_133 (dk_at dksX9_rises_0 9 rfl rfl)
theorem dX9_rises_10 : decode cX9_rises 10 = .ok (.lconst 0, 1) := dk_9 (dk_at dksX9_rises_0 10 rfl rfl)
theorem dX9_rises_11 : decode cX9_rises 11 = .ok (.ldc2_w 207, 3) := dk_20 0 207 (dk_at dksX9_rises_0 11 rfl rfl)
theorem dX9_rises_14 : decode cX9_rises 14 = .ok (.invokestatic 57, 3) := dk_184 0 57 (dk_at dksX9_rises_0 14 rfl rfl)
theorem dX9_rises_17 : decode cX9_rises 17 = .ok (.ifCond .ne 6, 3) := dk_154 0 6 (dk_at dksX9_rises_0 17 rfl rfl)
theorem dX9_rises_20 : decode cX9_rises 20 = .ok (.ldc 67, 2) := dk_18 67 (dk_at dksX9_rises_0 20 rfl rfl)
theorem dX9_rises_22 : decode cX9_rises 22 = .ok (.ireturn, 1) := dk_172 (dk_at dksX9_rises_0 22 rfl rfl)
theorem dX9_rises_23 : decode cX9_rises 23 = .ok (.aload_n 0, 1) := dk_42 (dk_at dksX9_rises_0 23 rfl rfl)
theorem dX9_rises_24 : decode cX9_rises 24 = .ok (.invokevirtual 204, 3) := dk_182 0 204 (dk_at dksX9_rises_1 0 rfl rfl)
theorem dX9_rises_27 : decode cX9_rises 27 = .ok (.iconst 0, 1) := dk_3 (dk_at dksX9_rises_1 3 rfl rfl)
theorem dX9_rises_28 : decode cX9_rises 28 = .ok (.istore_n 3, 1) := dk_62 (dk_at dksX9_rises_1 4 rfl rfl)
theorem dX9_rises_29 : decode cX9_rises 29 = .ok (.aload_n 0, 1) := dk_42 (dk_at dksX9_rises_1 5 rfl rfl)
theorem dX9_rises_30 : decode cX9_rises 30 = .ok (.iload_n 1, 1) := dk_27 (dk_at dksX9_rises_1 6 rfl rfl)
theorem dX9_rises_31 : decode cX9_rises 31 = .ok (.invokevirtual 150, 3) := dk_182 0 150 (dk_at dksX9_rises_1 7 rfl rfl)
theorem dX9_rises_34 : decode cX9_rises 34 = .ok (.iload_n 2, 1) := dk_28 (dk_at dksX9_rises_1 10 rfl rfl)
theorem dX9_rises_35 : decode cX9_rises 35 = .ok (.if_icmp .le 19, 3) := dk_164 0 19 (dk_at dksX9_rises_1 11 rfl rfl)
theorem dX9_rises_38 : decode cX9_rises 38 = .ok (.iload_n 3, 1) := dk_29 (dk_at dksX9_rises_1 14 rfl rfl)
theorem dX9_rises_39 : decode cX9_rises 39 = .ok (.bipush 60, 2) := dk_16 60 (dk_at dksX9_rises_1 15 rfl rfl)
theorem dX9_rises_41 : decode cX9_rises 41 = .ok (.if_icmp .ge 13, 3) := dk_162 0 13 (dk_at dksX9_rises_1 17 rfl rfl)
theorem dX9_rises_44 : decode cX9_rises 44 = .ok (.aload_n 0, 1) := dk_42 (dk_at dksX9_rises_1 20 rfl rfl)
theorem dX9_rises_45 : decode cX9_rises 45 = .ok (.invokevirtual 175, 3) := dk_182 0 175 (dk_at dksX9_rises_1 21 rfl rfl)
theorem dX9_rises_48 : decode cX9_rises 48 = .ok (.iinc 3 1, 3) := dk_132 3 1 (dk_at dksX9_rises_2 0 rfl rfl)
theorem dX9_rises_51 : decode cX9_rises 51 = .ok (.goto (-22), 3) := dk_167 255 234 (dk_at dksX9_rises_2 3 rfl rfl)
theorem dX9_rises_54 : decode cX9_rises 54 = .ok (.aload_n 0, 1) := dk_42 (dk_at dksX9_rises_2 6 rfl rfl)
theorem dX9_rises_55 : decode cX9_rises 55 = .ok (.iload_n 1, 1) := dk_27 (dk_at dksX9_rises_2 7 rfl rfl)
theorem dX9_rises_56 : decode cX9_rises 56 = .ok (.invokevirtual 150, 3) := dk_182 0 150 (dk_at dksX9_rises_2 8 rfl rfl)
theorem dX9_rises_59 : decode cX9_rises 59 = .ok (.iload_n 2, 1) := dk_28 (dk_at dksX9_rises_2 11 rfl rfl)
theorem dX9_rises_60 : decode cX9_rises 60 = .ok (.if_icmp .gt 7, 3) := dk_163 0 7 (dk_at dksX9_rises_2 12 rfl rfl)
theorem dX9_rises_63 : decode cX9_rises 63 = .ok (.iconst 1, 1) := dk_4 (dk_at dksX9_rises_2 15 rfl rfl)
theorem dX9_rises_64 : decode cX9_rises 64 = .ok (.goto 4, 3) := dk_167 0 4 (dk_at dksX9_rises_2 16 rfl rfl)
theorem dX9_rises_67 : decode cX9_rises 67 = .ok (.iconst 0, 1) := dk_3 (dk_at dksX9_rises_2 19 rfl rfl)
theorem dX9_rises_68 : decode cX9_rises 68 = .ok (.istore 4, 2) := dk_54 4 (dk_at dksX9_rises_2 20 rfl rfl)
theorem dX9_rises_70 : decode cX9_rises 70 = .ok (.aload_n 0, 1) := dk_42 (dk_at dksX9_rises_2 22 rfl rfl)
theorem dX9_rises_71 : decode cX9_rises 71 = .ok (.invokevirtual 199, 3) := dk_182 0 199 (dk_at dksX9_rises_3 0 rfl rfl)
theorem dX9_rises_74 : decode cX9_rises 74 = .ok (.iload 4, 2) := dk_21 4 (dk_at dksX9_rises_3 3 rfl rfl)
theorem dX9_rises_76 : decode cX9_rises 76 = .ok (.ifCond .eq 7, 3) := dk_153 0 7 (dk_at dksX9_rises_3 5 rfl rfl)
theorem dX9_rises_79 : decode cX9_rises 79 = .ok (.iload_n 3, 1) := dk_29 (dk_at dksX9_rises_3 8 rfl rfl)
theorem dX9_rises_80 : decode cX9_rises 80 = .ok (.goto 5, 3) := dk_167 0 5 (dk_at dksX9_rises_3 9 rfl rfl)
theorem dX9_rises_83 : decode cX9_rises 83 = .ok (.ldc 149, 2) := dk_18 149 (dk_at dksX9_rises_3 12 rfl rfl)
theorem dX9_rises_85 : decode cX9_rises 85 = .ok (.ireturn, 1) := dk_172 (dk_at dksX9_rises_3 14 rfl rfl)
abbrev cX9_calm : ByteArray := prog_16_method_53_code
def yX9_calm : MethodName := ⟨RX9, "calm", "()I"⟩
def dkwX9_calm_2 : List UInt8 := [29, 160, 0, 7, 28, 167, 0, 4, 27, 60, 132, 2, 1, 167, 255, 216, 42, 182, 0, 199, 27, 172]
abbrev dktX9_calm_2 : List UInt8 := dkwX9_calm_2 ++ []
def dkwX9_calm_1 : List UInt8 := [163, 0, 40, 27, 156, 0, 36, 42, 16, 11, 182, 0, 209, 62, 42, 182, 0, 175, 42, 16, 11, 182, 0, 209]
abbrev dktX9_calm_1 : List UInt8 := dkwX9_calm_1 ++ dktX9_calm_2
def dkwX9_calm_0 : List UInt8 := [42, 180, 0, 135, 154, 0, 6, 18, 169, 172, 42, 182, 0, 204, 18, 149, 60, 3, 61, 28, 16, 60]
abbrev dktX9_calm_0 : List UInt8 := dkwX9_calm_0 ++ dktX9_calm_1
theorem dksX9_calm_0 : cX9_calm.data.toList.drop 0 = dktX9_calm_0 := by decide +kernel
theorem dksX9_calm_1 : cX9_calm.data.toList.drop 22 = dktX9_calm_1 := dk_seg dksX9_calm_0 22 rfl rfl
theorem dksX9_calm_2 : cX9_calm.data.toList.drop 46 = dktX9_calm_2 := dk_seg dksX9_calm_1 24 rfl rfl
theorem dX9_calm_0 : decode cX9_calm 0 = .ok (.aload_n 0, 1) := dk_42 (dk_at dksX9_calm_0 0 rfl rfl)
theorem dX9_calm_1 : decode cX9_calm 1 = .ok (.getfield 135, 3) := dk_180 0 135 (dk_at dksX9_calm_0 1 rfl rfl)
theorem dX9_calm_4 : decode cX9_calm 4 = .ok (.ifCond .ne 6, 3) := dk_154 0 6 (dk_at dksX9_calm_0 4 rfl rfl)
theorem dX9_calm_7 : decode cX9_calm 7 = .ok (.ldc 169, 2) := dk_18 169 (dk_at dksX9_calm_0 7 rfl rfl)
theorem dX9_calm_9 : decode cX9_calm 9 = .ok (.ireturn, 1) := dk_172 (dk_at dksX9_calm_0 9 rfl rfl)
theorem dX9_calm_10 : decode cX9_calm 10 = .ok (.aload_n 0, 1) := dk_42 (dk_at dksX9_calm_0 10 rfl rfl)
theorem dX9_calm_11 : decode cX9_calm 11 = .ok (.invokevirtual 204, 3) := dk_182 0 204 (dk_at dksX9_calm_0 11 rfl rfl)
theorem dX9_calm_14 : decode cX9_calm 14 = .ok (.ldc 149, 2) := dk_18 149 (dk_at dksX9_calm_0 14 rfl rfl)
theorem dX9_calm_16 : decode cX9_calm 16 = .ok (.istore_n 1, 1) := dk_60 (dk_at dksX9_calm_0 16 rfl rfl)
theorem dX9_calm_17 : decode cX9_calm 17 = .ok (.iconst 0, 1) := dk_3 (dk_at dksX9_calm_0 17 rfl rfl)
theorem dX9_calm_18 : decode cX9_calm 18 = .ok (.istore_n 2, 1) := dk_61 (dk_at dksX9_calm_0 18 rfl rfl)
theorem dX9_calm_19 : decode cX9_calm 19 = .ok (.iload_n 2, 1) := dk_28 (dk_at dksX9_calm_0 19 rfl rfl)
theorem dX9_calm_20 : decode cX9_calm 20 = .ok (.bipush 60, 2) := dk_16 60 (dk_at dksX9_calm_0 20 rfl rfl)
theorem dX9_calm_22 : decode cX9_calm 22 = .ok (.if_icmp .gt 40, 3) := dk_163 0 40 (dk_at dksX9_calm_1 0 rfl rfl)
theorem dX9_calm_25 : decode cX9_calm 25 = .ok (.iload_n 1, 1) := dk_27 (dk_at dksX9_calm_1 3 rfl rfl)
theorem dX9_calm_26 : decode cX9_calm 26 = .ok (.ifCond .ge 36, 3) := dk_156 0 36 (dk_at dksX9_calm_1 4 rfl rfl)
theorem dX9_calm_29 : decode cX9_calm 29 = .ok (.aload_n 0, 1) := dk_42 (dk_at dksX9_calm_1 7 rfl rfl)
theorem dX9_calm_30 : decode cX9_calm 30 = .ok (.bipush 11, 2) := dk_16 11 (dk_at dksX9_calm_1 8 rfl rfl)
theorem dX9_calm_32 : decode cX9_calm 32 = .ok (.invokevirtual 209, 3) := dk_182 0 209 (dk_at dksX9_calm_1 10 rfl rfl)
theorem dX9_calm_35 : decode cX9_calm 35 = .ok (.istore_n 3, 1) := dk_62 (dk_at dksX9_calm_1 13 rfl rfl)
theorem dX9_calm_36 : decode cX9_calm 36 = .ok (.aload_n 0, 1) := dk_42 (dk_at dksX9_calm_1 14 rfl rfl)
theorem dX9_calm_37 : decode cX9_calm 37 = .ok (.invokevirtual 175, 3) := dk_182 0 175 (dk_at dksX9_calm_1 15 rfl rfl)
theorem dX9_calm_40 : decode cX9_calm 40 = .ok (.aload_n 0, 1) := dk_42 (dk_at dksX9_calm_1 18 rfl rfl)
theorem dX9_calm_41 : decode cX9_calm 41 = .ok (.bipush 11, 2) := dk_16 11 (dk_at dksX9_calm_1 19 rfl rfl)
theorem dX9_calm_43 : decode cX9_calm 43 = .ok (.invokevirtual 209, 3) := dk_182 0 209 (dk_at dksX9_calm_1 21 rfl rfl)
theorem dX9_calm_46 : decode cX9_calm 46 = .ok (.iload_n 3, 1) := dk_29 (dk_at dksX9_calm_2 0 rfl rfl)
theorem dX9_calm_47 : decode cX9_calm 47 = .ok (.if_icmp .ne 7, 3) := dk_160 0 7 (dk_at dksX9_calm_2 1 rfl rfl)
theorem dX9_calm_50 : decode cX9_calm 50 = .ok (.iload_n 2, 1) := dk_28 (dk_at dksX9_calm_2 4 rfl rfl)
theorem dX9_calm_51 : decode cX9_calm 51 = .ok (.goto 4, 3) := dk_167 0 4 (dk_at dksX9_calm_2 5 rfl rfl)
theorem dX9_calm_54 : decode cX9_calm 54 = .ok (.iload_n 1, 1) := dk_27 (dk_at dksX9_calm_2 8 rfl rfl)
theorem dX9_calm_55 : decode cX9_calm 55 = .ok (.istore_n 1, 1) := dk_60 (dk_at dksX9_calm_2 9 rfl rfl)
theorem dX9_calm_56 : decode cX9_calm 56 = .ok (.iinc 2 1, 3) := dk_132 2 1 (dk_at dksX9_calm_2 10 rfl rfl)
theorem dX9_calm_59 : decode cX9_calm 59 = .ok (.goto (-40), 3) := dk_167 255 216 (dk_at dksX9_calm_2 13 rfl rfl)
theorem dX9_calm_62 : decode cX9_calm 62 = .ok (.aload_n 0, 1) := dk_42 (dk_at dksX9_calm_2 16 rfl rfl)
theorem dX9_calm_63 : decode cX9_calm 63 = .ok (.invokevirtual 199, 3) := dk_182 0 199 (dk_at dksX9_calm_2 17 rfl rfl)
theorem dX9_calm_66 : decode cX9_calm 66 = .ok (.iload_n 1, 1) := dk_27 (dk_at dksX9_calm_2 20 rfl rfl)
theorem dX9_calm_67 : decode cX9_calm 67 = .ok (.ireturn, 1) := dk_172 (dk_at dksX9_calm_2 21 rfl rfl)
abbrev cX9_sumOf : ByteArray := prog_16_method_31_code
def yX9_sumOf : MethodName := ⟨RX9, "sumOf", "(I)I"⟩
def dkwX9_sumOf_1 : List UInt8 := [61, 132, 3, 1, 167, 255, 232, 28, 172]
abbrev dktX9_sumOf_1 : List UInt8 := dkwX9_sumOf_1 ++ []
def dkwX9_sumOf_0 : List UInt8 := [3, 61, 3, 62, 29, 42, 180, 0, 19, 5, 46, 162, 0, 20, 28, 42, 180, 0, 19, 27, 29, 96, 46, 96]
abbrev dktX9_sumOf_0 : List UInt8 := dkwX9_sumOf_0 ++ dktX9_sumOf_1
theorem dksX9_sumOf_0 : cX9_sumOf.data.toList.drop 0 = dktX9_sumOf_0 := by decide +kernel
theorem dksX9_sumOf_1 : cX9_sumOf.data.toList.drop 24 = dktX9_sumOf_1 := dk_seg dksX9_sumOf_0 24 rfl rfl
theorem dX9_sumOf_0 : decode cX9_sumOf 0 = .ok (.iconst 0, 1) := dk_3 (dk_at dksX9_sumOf_0 0 rfl rfl)
theorem dX9_sumOf_1 : decode cX9_sumOf 1 = .ok (.istore_n 2, 1) := dk_61 (dk_at dksX9_sumOf_0 1 rfl rfl)
theorem dX9_sumOf_2 : decode cX9_sumOf 2 = .ok (.iconst 0, 1) := dk_3 (dk_at dksX9_sumOf_0 2 rfl rfl)
theorem dX9_sumOf_3 : decode cX9_sumOf 3 = .ok (.istore_n 3, 1) := dk_62 (dk_at dksX9_sumOf_0 3 rfl rfl)
theorem dX9_sumOf_4 : decode cX9_sumOf 4 = .ok (.iload_n 3, 1) := dk_29 (dk_at dksX9_sumOf_0 4 rfl rfl)
theorem dX9_sumOf_5 : decode cX9_sumOf 5 = .ok (.aload_n 0, 1) := dk_42 (dk_at dksX9_sumOf_0 5 rfl rfl)
theorem dX9_sumOf_6 : decode cX9_sumOf 6 = .ok (.getfield 19, 3) := dk_180 0 19 (dk_at dksX9_sumOf_0 6 rfl rfl)
theorem dX9_sumOf_9 : decode cX9_sumOf 9 = .ok (.iconst 2, 1) := dk_5 (dk_at dksX9_sumOf_0 9 rfl rfl)
theorem dX9_sumOf_10 : decode cX9_sumOf 10 = .ok (.iaload, 1) := dk_46 (dk_at dksX9_sumOf_0 10 rfl rfl)
theorem dX9_sumOf_11 : decode cX9_sumOf 11 = .ok (.if_icmp .ge 20, 3) := dk_162 0 20 (dk_at dksX9_sumOf_0 11 rfl rfl)
theorem dX9_sumOf_14 : decode cX9_sumOf 14 = .ok (.iload_n 2, 1) := dk_28 (dk_at dksX9_sumOf_0 14 rfl rfl)
theorem dX9_sumOf_15 : decode cX9_sumOf 15 = .ok (.aload_n 0, 1) := dk_42 (dk_at dksX9_sumOf_0 15 rfl rfl)
theorem dX9_sumOf_16 : decode cX9_sumOf 16 = .ok (.getfield 19, 3) := dk_180 0 19 (dk_at dksX9_sumOf_0 16 rfl rfl)
theorem dX9_sumOf_19 : decode cX9_sumOf 19 = .ok (.iload_n 1, 1) := dk_27 (dk_at dksX9_sumOf_0 19 rfl rfl)
theorem dX9_sumOf_20 : decode cX9_sumOf 20 = .ok (.iload_n 3, 1) := dk_29 (dk_at dksX9_sumOf_0 20 rfl rfl)
theorem dX9_sumOf_21 : decode cX9_sumOf 21 = .ok (.iadd, 1) := dk_96 (dk_at dksX9_sumOf_0 21 rfl rfl)
theorem dX9_sumOf_22 : decode cX9_sumOf 22 = .ok (.iaload, 1) := dk_46 (dk_at dksX9_sumOf_0 22 rfl rfl)
theorem dX9_sumOf_23 : decode cX9_sumOf 23 = .ok (.iadd, 1) := dk_96 (dk_at dksX9_sumOf_0 23 rfl rfl)
theorem dX9_sumOf_24 : decode cX9_sumOf 24 = .ok (.istore_n 2, 1) := dk_61 (dk_at dksX9_sumOf_1 0 rfl rfl)
theorem dX9_sumOf_25 : decode cX9_sumOf 25 = .ok (.iinc 3 1, 3) := dk_132 3 1 (dk_at dksX9_sumOf_1 1 rfl rfl)
theorem dX9_sumOf_28 : decode cX9_sumOf 28 = .ok (.goto (-24), 3) := dk_167 255 232 (dk_at dksX9_sumOf_1 4 rfl rfl)
theorem dX9_sumOf_31 : decode cX9_sumOf 31 = .ok (.iload_n 2, 1) := dk_28 (dk_at dksX9_sumOf_1 7 rfl rfl)
theorem dX9_sumOf_32 : decode cX9_sumOf 32 = .ok (.ireturn, 1) := dk_172 (dk_at dksX9_sumOf_1 8 rfl rfl)
abbrev cX9_cushionFor : ByteArray := prog_16_method_54_code
def yX9_cushionFor : MethodName := ⟨RX9, "cushionFor", "(III)I"⟩
def dkwX9_cushionFor_4 : List UInt8 := [21, 4, 172]
abbrev dktX9_cushionFor_4 : List UInt8 := dkwX9_cushionFor_4 ++ []
def dkwX9_cushionFor_3 : List UInt8 := [27, 29, 182, 0, 214, 28, 163, 0, 8, 21, 5, 167, 0, 5, 21, 4, 54, 4, 132, 5, 1, 167, 255, 211]
abbrev dktX9_cushionFor_3 : List UInt8 := dkwX9_cushionFor_3 ++ dktX9_cushionFor_4
def dkwX9_cushionFor_2 : List UInt8 := [21, 5, 16, 20, 163, 0, 44, 21, 4, 156, 0, 39, 42, 180, 0, 19, 16, 29, 27, 96, 21, 5, 79, 42]
abbrev dktX9_cushionFor_2 : List UInt8 := dkwX9_cushionFor_2 ++ dktX9_cushionFor_3
def dkwX9_cushionFor_1 : List UInt8 := [20, 0, 212, 184, 0, 57, 154, 0, 6, 18, 67, 172, 42, 182, 0, 204, 18, 149, 54, 4, 3, 54, 5]
abbrev dktX9_cushionFor_1 : List UInt8 := dkwX9_cushionFor_1 ++ dktX9_cushionFor_2
def dkwX9_cushionFor_0 : List UInt8 := [42, 27, 182, 0, 178, 153, 0, 27, 28, 133, 9, 20, 0, 207, 184, 0, 57, 153, 0, 15, 29, 133, 9]
abbrev dktX9_cushionFor_0 : List UInt8 := dkwX9_cushionFor_0 ++ dktX9_cushionFor_1
theorem dksX9_cushionFor_0 : cX9_cushionFor.data.toList.drop 0 = dktX9_cushionFor_0 := by decide +kernel
theorem dksX9_cushionFor_1 : cX9_cushionFor.data.toList.drop 23 = dktX9_cushionFor_1 := dk_seg dksX9_cushionFor_0 23 rfl rfl
theorem dksX9_cushionFor_2 : cX9_cushionFor.data.toList.drop 46 = dktX9_cushionFor_2 := dk_seg dksX9_cushionFor_1 23 rfl rfl
theorem dksX9_cushionFor_3 : cX9_cushionFor.data.toList.drop 70 = dktX9_cushionFor_3 := dk_seg dksX9_cushionFor_2 24 rfl rfl
theorem dksX9_cushionFor_4 : cX9_cushionFor.data.toList.drop 94 = dktX9_cushionFor_4 := dk_seg dksX9_cushionFor_3 24 rfl rfl
theorem dX9_cushionFor_0 : decode cX9_cushionFor 0 = .ok (.aload_n 0, 1) := dk_42 (dk_at dksX9_cushionFor_0 0 rfl rfl)
theorem dX9_cushionFor_1 : decode cX9_cushionFor 1 = .ok (.iload_n 1, 1) := dk_27 (dk_at dksX9_cushionFor_0 1 rfl rfl)
theorem dX9_cushionFor_2 : decode cX9_cushionFor 2 = .ok (.invokevirtual 178, 3) := dk_182 0 178 (dk_at dksX9_cushionFor_0 2 rfl rfl)
theorem dX9_cushionFor_5 : decode cX9_cushionFor 5 = .ok (.ifCond .eq 27, 3) := dk_153 0 27 (dk_at dksX9_cushionFor_0 5 rfl rfl)
theorem dX9_cushionFor_8 : decode cX9_cushionFor 8 = .ok (.iload_n 2, 1) := dk_28 (dk_at dksX9_cushionFor_0 8 rfl rfl)
theorem dX9_cushionFor_9 : decode cX9_cushionFor 9 = .ok (.i2l, 1) := dk_133 (dk_at dksX9_cushionFor_0 9 rfl rfl)
theorem dX9_cushionFor_10 : decode cX9_cushionFor 10 = .ok (.lconst 0, 1) := dk_9 (dk_at dksX9_cushionFor_0 10 rfl rfl)
theorem dX9_cushionFor_11 : decode cX9_cushionFor 11 = .ok (.ldc2_w 207, 3) := dk_20 0 207 (dk_at dksX9_cushionFor_0 11 rfl rfl)
theorem dX9_cushionFor_14 : decode cX9_cushionFor 14 = .ok (.invokestatic 57, 3) := dk_184 0 57 (dk_at dksX9_cushionFor_0 14 rfl rfl)
theorem dX9_cushionFor_17 : decode cX9_cushionFor 17 = .ok (.ifCond .eq 15, 3) := dk_153 0 15 (dk_at dksX9_cushionFor_0 17 rfl rfl)
theorem dX9_cushionFor_20 : decode cX9_cushionFor 20 = .ok (.iload_n 3, 1) := dk_29 (dk_at dksX9_cushionFor_0 20 rfl rfl)
theorem dX9_cushionFor_21 : decode cX9_cushionFor 21 = .ok (.i2l, 1) := dk_133 (dk_at dksX9_cushionFor_0 21 rfl rfl)
theorem dX9_cushionFor_22 : decode cX9_cushionFor 22 = .ok (.lconst 0, 1) := dk_9 (dk_at dksX9_cushionFor_0 22 rfl rfl)
theorem dX9_cushionFor_23 : decode cX9_cushionFor 23 = .ok (.ldc2_w 212, 3) := dk_20 0 212 (dk_at dksX9_cushionFor_1 0 rfl rfl)
theorem dX9_cushionFor_26 : decode cX9_cushionFor 26 = .ok (.invokestatic 57, 3) := dk_184 0 57 (dk_at dksX9_cushionFor_1 3 rfl rfl)
theorem dX9_cushionFor_29 : decode cX9_cushionFor 29 = .ok (.ifCond .ne 6, 3) := dk_154 0 6 (dk_at dksX9_cushionFor_1 6 rfl rfl)
theorem dX9_cushionFor_32 : decode cX9_cushionFor 32 = .ok (.ldc 67, 2) := dk_18 67 (dk_at dksX9_cushionFor_1 9 rfl rfl)
theorem dX9_cushionFor_34 : decode cX9_cushionFor 34 = .ok (.ireturn, 1) := dk_172 (dk_at dksX9_cushionFor_1 11 rfl rfl)
theorem dX9_cushionFor_35 : decode cX9_cushionFor 35 = .ok (.aload_n 0, 1) := dk_42 (dk_at dksX9_cushionFor_1 12 rfl rfl)
theorem dX9_cushionFor_36 : decode cX9_cushionFor 36 = .ok (.invokevirtual 204, 3) := dk_182 0 204 (dk_at dksX9_cushionFor_1 13 rfl rfl)
theorem dX9_cushionFor_39 : decode cX9_cushionFor 39 = .ok (.ldc 149, 2) := dk_18 149 (dk_at dksX9_cushionFor_1 16 rfl rfl)
theorem dX9_cushionFor_41 : decode cX9_cushionFor 41 = .ok (.istore 4, 2) := dk_54 4 (dk_at dksX9_cushionFor_1 18 rfl rfl)
theorem dX9_cushionFor_43 : decode cX9_cushionFor 43 = .ok (.iconst 0, 1) := dk_3 (dk_at dksX9_cushionFor_1 20 rfl rfl)
theorem dX9_cushionFor_44 : decode cX9_cushionFor 44 = .ok (.istore 5, 2) := dk_54 5 (dk_at dksX9_cushionFor_1 21 rfl rfl)
theorem dX9_cushionFor_46 : decode cX9_cushionFor 46 = .ok (.iload 5, 2) := dk_21 5 (dk_at dksX9_cushionFor_2 0 rfl rfl)
theorem dX9_cushionFor_48 : decode cX9_cushionFor 48 = .ok (.bipush 20, 2) := dk_16 20 (dk_at dksX9_cushionFor_2 2 rfl rfl)
theorem dX9_cushionFor_50 : decode cX9_cushionFor 50 = .ok (.if_icmp .gt 44, 3) := dk_163 0 44 (dk_at dksX9_cushionFor_2 4 rfl rfl)
theorem dX9_cushionFor_53 : decode cX9_cushionFor 53 = .ok (.iload 4, 2) := dk_21 4 (dk_at dksX9_cushionFor_2 7 rfl rfl)
theorem dX9_cushionFor_55 : decode cX9_cushionFor 55 = .ok (.ifCond .ge 39, 3) := dk_156 0 39 (dk_at dksX9_cushionFor_2 9 rfl rfl)
theorem dX9_cushionFor_58 : decode cX9_cushionFor 58 = .ok (.aload_n 0, 1) := dk_42 (dk_at dksX9_cushionFor_2 12 rfl rfl)
theorem dX9_cushionFor_59 : decode cX9_cushionFor 59 = .ok (.getfield 19, 3) := dk_180 0 19 (dk_at dksX9_cushionFor_2 13 rfl rfl)
theorem dX9_cushionFor_62 : decode cX9_cushionFor 62 = .ok (.bipush 29, 2) := dk_16 29 (dk_at dksX9_cushionFor_2 16 rfl rfl)
theorem dX9_cushionFor_64 : decode cX9_cushionFor 64 = .ok (.iload_n 1, 1) := dk_27 (dk_at dksX9_cushionFor_2 18 rfl rfl)
theorem dX9_cushionFor_65 : decode cX9_cushionFor 65 = .ok (.iadd, 1) := dk_96 (dk_at dksX9_cushionFor_2 19 rfl rfl)
theorem dX9_cushionFor_66 : decode cX9_cushionFor 66 = .ok (.iload 5, 2) := dk_21 5 (dk_at dksX9_cushionFor_2 20 rfl rfl)
theorem dX9_cushionFor_68 : decode cX9_cushionFor 68 = .ok (.iastore, 1) := dk_79 (dk_at dksX9_cushionFor_2 22 rfl rfl)
theorem dX9_cushionFor_69 : decode cX9_cushionFor 69 = .ok (.aload_n 0, 1) := dk_42 (dk_at dksX9_cushionFor_2 23 rfl rfl)
theorem dX9_cushionFor_70 : decode cX9_cushionFor 70 = .ok (.iload_n 1, 1) := dk_27 (dk_at dksX9_cushionFor_3 0 rfl rfl)
theorem dX9_cushionFor_71 : decode cX9_cushionFor 71 = .ok (.iload_n 3, 1) := dk_29 (dk_at dksX9_cushionFor_3 1 rfl rfl)
theorem dX9_cushionFor_72 : decode cX9_cushionFor 72 = .ok (.invokevirtual 214, 3) := dk_182 0 214 (dk_at dksX9_cushionFor_3 2 rfl rfl)
theorem dX9_cushionFor_75 : decode cX9_cushionFor 75 = .ok (.iload_n 2, 1) := dk_28 (dk_at dksX9_cushionFor_3 5 rfl rfl)
theorem dX9_cushionFor_76 : decode cX9_cushionFor 76 = .ok (.if_icmp .gt 8, 3) := dk_163 0 8 (dk_at dksX9_cushionFor_3 6 rfl rfl)
theorem dX9_cushionFor_79 : decode cX9_cushionFor 79 = .ok (.iload 5, 2) := dk_21 5 (dk_at dksX9_cushionFor_3 9 rfl rfl)
theorem dX9_cushionFor_81 : decode cX9_cushionFor 81 = .ok (.goto 5, 3) := dk_167 0 5 (dk_at dksX9_cushionFor_3 11 rfl rfl)
theorem dX9_cushionFor_84 : decode cX9_cushionFor 84 = .ok (.iload 4, 2) := dk_21 4 (dk_at dksX9_cushionFor_3 14 rfl rfl)
theorem dX9_cushionFor_86 : decode cX9_cushionFor 86 = .ok (.istore 4, 2) := dk_54 4 (dk_at dksX9_cushionFor_3 16 rfl rfl)
theorem dX9_cushionFor_88 : decode cX9_cushionFor 88 = .ok (.iinc 5 1, 3) := dk_132 5 1 (dk_at dksX9_cushionFor_3 18 rfl rfl)
theorem dX9_cushionFor_91 : decode cX9_cushionFor 91 = .ok (.goto (-45), 3) := dk_167 255 211 (dk_at dksX9_cushionFor_3 21 rfl rfl)
theorem dX9_cushionFor_94 : decode cX9_cushionFor 94 = .ok (.iload 4, 2) := dk_21 4 (dk_at dksX9_cushionFor_4 0 rfl rfl)
theorem dX9_cushionFor_96 : decode cX9_cushionFor 96 = .ok (.ireturn, 1) := dk_172 (dk_at dksX9_cushionFor_4 2 rfl rfl)
abbrev cX9_rankBy : ByteArray := prog_16_method_48_code
def yX9_rankBy : MethodName := ⟨RX9, "rankBy", "(II)I"⟩
def dkwX9_rankBy_0 : List UInt8 := [42, 28, 182, 0, 196, 42, 27, 182, 0, 150, 62, 42, 182, 0, 199, 29, 172]
abbrev dktX9_rankBy_0 : List UInt8 := dkwX9_rankBy_0 ++ []
theorem dksX9_rankBy_0 : cX9_rankBy.data.toList.drop 0 = dktX9_rankBy_0 := by decide +kernel
theorem dX9_rankBy_0 : decode cX9_rankBy 0 = .ok (.aload_n 0, 1) := dk_42 (dk_at dksX9_rankBy_0 0 rfl rfl)
theorem dX9_rankBy_1 : decode cX9_rankBy 1 = .ok (.iload_n 2, 1) := dk_28 (dk_at dksX9_rankBy_0 1 rfl rfl)
theorem dX9_rankBy_2 : decode cX9_rankBy 2 = .ok (.invokevirtual 196, 3) := dk_182 0 196 (dk_at dksX9_rankBy_0 2 rfl rfl)
theorem dX9_rankBy_5 : decode cX9_rankBy 5 = .ok (.aload_n 0, 1) := dk_42 (dk_at dksX9_rankBy_0 5 rfl rfl)
theorem dX9_rankBy_6 : decode cX9_rankBy 6 = .ok (.iload_n 1, 1) := dk_27 (dk_at dksX9_rankBy_0 6 rfl rfl)
theorem dX9_rankBy_7 : decode cX9_rankBy 7 = .ok (.invokevirtual 150, 3) := dk_182 0 150 (dk_at dksX9_rankBy_0 7 rfl rfl)
theorem dX9_rankBy_10 : decode cX9_rankBy 10 = .ok (.istore_n 3, 1) := dk_62 (dk_at dksX9_rankBy_0 10 rfl rfl)
theorem dX9_rankBy_11 : decode cX9_rankBy 11 = .ok (.aload_n 0, 1) := dk_42 (dk_at dksX9_rankBy_0 11 rfl rfl)
theorem dX9_rankBy_12 : decode cX9_rankBy 12 = .ok (.invokevirtual 199, 3) := dk_182 0 199 (dk_at dksX9_rankBy_0 12 rfl rfl)
theorem dX9_rankBy_15 : decode cX9_rankBy 15 = .ok (.iload_n 3, 1) := dk_29 (dk_at dksX9_rankBy_0 15 rfl rfl)
theorem dX9_rankBy_16 : decode cX9_rankBy 16 = .ok (.ireturn, 1) := dk_172 (dk_at dksX9_rankBy_0 16 rfl rfl)
abbrev cX9_guard : ByteArray := prog_16_method_55_code
def yX9_guard : MethodName := ⟨RX9, "guard", "(IIII)I"⟩
def dkwX9_guard_6 : List UInt8 := [172]
abbrev dktX9_guard_6 : List UInt8 := dkwX9_guard_6 ++ []
def dkwX9_guard_5 : List UInt8 := [167, 255, 195, 21, 5, 155, 0, 9, 21, 4, 4, 160, 0, 8, 21, 5, 167, 0, 8, 21, 5, 184, 0, 187]
abbrev dktX9_guard_5 : List UInt8 := dkwX9_guard_5 ++ dktX9_guard_6
def dkwX9_guard_4 : List UInt8 := [42, 27, 29, 182, 0, 214, 28, 163, 0, 8, 21, 6, 167, 0, 5, 21, 5, 54, 5, 132, 6, 1]
abbrev dktX9_guard_4 : List UInt8 := dkwX9_guard_4 ++ dktX9_guard_5
def dkwX9_guard_3 : List UInt8 := [155, 0, 16, 21, 6, 184, 0, 187, 21, 5, 184, 0, 187, 162, 0, 30, 42, 180, 0, 19, 7, 21, 6, 79]
abbrev dktX9_guard_3 : List UInt8 := dkwX9_guard_3 ++ dktX9_guard_4
def dkwX9_guard_2 : List UInt8 := [18, 149, 54, 5, 3, 54, 6, 21, 6, 4, 42, 180, 0, 19, 5, 46, 120, 162, 0, 54, 21, 5]
abbrev dktX9_guard_2 : List UInt8 := dkwX9_guard_2 ++ dktX9_guard_3
def dkwX9_guard_1 : List UInt8 := [20, 0, 212, 184, 0, 57, 153, 0, 11, 21, 4, 184, 0, 217, 154, 0, 6, 18, 67, 172, 42, 182, 0, 204]
abbrev dktX9_guard_1 : List UInt8 := dkwX9_guard_1 ++ dktX9_guard_2
def dkwX9_guard_0 : List UInt8 := [42, 27, 182, 0, 178, 153, 0, 35, 28, 133, 9, 20, 0, 207, 184, 0, 57, 153, 0, 23, 29, 133, 9]
abbrev dktX9_guard_0 : List UInt8 := dkwX9_guard_0 ++ dktX9_guard_1
theorem dksX9_guard_0 : cX9_guard.data.toList.drop 0 = dktX9_guard_0 := by decide +kernel
theorem dksX9_guard_1 : cX9_guard.data.toList.drop 23 = dktX9_guard_1 := dk_seg dksX9_guard_0 23 rfl rfl
theorem dksX9_guard_2 : cX9_guard.data.toList.drop 47 = dktX9_guard_2 := dk_seg dksX9_guard_1 24 rfl rfl
theorem dksX9_guard_3 : cX9_guard.data.toList.drop 69 = dktX9_guard_3 := dk_seg dksX9_guard_2 22 rfl rfl
theorem dksX9_guard_4 : cX9_guard.data.toList.drop 93 = dktX9_guard_4 := dk_seg dksX9_guard_3 24 rfl rfl
theorem dksX9_guard_5 : cX9_guard.data.toList.drop 115 = dktX9_guard_5 := dk_seg dksX9_guard_4 22 rfl rfl
theorem dksX9_guard_6 : cX9_guard.data.toList.drop 139 = dktX9_guard_6 := dk_seg dksX9_guard_5 24 rfl rfl
theorem dX9_guard_0 : decode cX9_guard 0 = .ok (.aload_n 0, 1) := dk_42 (dk_at dksX9_guard_0 0 rfl rfl)
theorem dX9_guard_1 : decode cX9_guard 1 = .ok (.iload_n 1, 1) := dk_27 (dk_at dksX9_guard_0 1 rfl rfl)
theorem dX9_guard_2 : decode cX9_guard 2 = .ok (.invokevirtual 178, 3) := dk_182 0 178 (dk_at dksX9_guard_0 2 rfl rfl)
theorem dX9_guard_5 : decode cX9_guard 5 = .ok (.ifCond .eq 35, 3) := dk_153 0 35 (dk_at dksX9_guard_0 5 rfl rfl)
theorem dX9_guard_8 : decode cX9_guard 8 = .ok (.iload_n 2, 1) := dk_28 (dk_at dksX9_guard_0 8 rfl rfl)
theorem dX9_guard_9 : decode cX9_guard 9 = .ok (.i2l, 1) := dk_133 (dk_at dksX9_guard_0 9 rfl rfl)
theorem dX9_guard_10 : decode cX9_guard 10 = .ok (.lconst 0, 1) := dk_9 (dk_at dksX9_guard_0 10 rfl rfl)
theorem dX9_guard_11 : decode cX9_guard 11 = .ok (.ldc2_w 207, 3) := dk_20 0 207 (dk_at dksX9_guard_0 11 rfl rfl)
theorem dX9_guard_14 : decode cX9_guard 14 = .ok (.invokestatic 57, 3) := dk_184 0 57 (dk_at dksX9_guard_0 14 rfl rfl)
theorem dX9_guard_17 : decode cX9_guard 17 = .ok (.ifCond .eq 23, 3) := dk_153 0 23 (dk_at dksX9_guard_0 17 rfl rfl)
theorem dX9_guard_20 : decode cX9_guard 20 = .ok (.iload_n 3, 1) := dk_29 (dk_at dksX9_guard_0 20 rfl rfl)
theorem dX9_guard_21 : decode cX9_guard 21 = .ok (.i2l, 1) := dk_133 (dk_at dksX9_guard_0 21 rfl rfl)
theorem dX9_guard_22 : decode cX9_guard 22 = .ok (.lconst 0, 1) := dk_9 (dk_at dksX9_guard_0 22 rfl rfl)
theorem dX9_guard_23 : decode cX9_guard 23 = .ok (.ldc2_w 212, 3) := dk_20 0 212 (dk_at dksX9_guard_1 0 rfl rfl)
theorem dX9_guard_26 : decode cX9_guard 26 = .ok (.invokestatic 57, 3) := dk_184 0 57 (dk_at dksX9_guard_1 3 rfl rfl)
theorem dX9_guard_29 : decode cX9_guard 29 = .ok (.ifCond .eq 11, 3) := dk_153 0 11 (dk_at dksX9_guard_1 6 rfl rfl)
theorem dX9_guard_32 : decode cX9_guard 32 = .ok (.iload 4, 2) := dk_21 4 (dk_at dksX9_guard_1 9 rfl rfl)
theorem dX9_guard_34 : decode cX9_guard 34 = .ok (.invokestatic 217, 3) := dk_184 0 217 (dk_at dksX9_guard_1 11 rfl rfl)
theorem dX9_guard_37 : decode cX9_guard 37 = .ok (.ifCond .ne 6, 3) := dk_154 0 6 (dk_at dksX9_guard_1 14 rfl rfl)
theorem dX9_guard_40 : decode cX9_guard 40 = .ok (.ldc 67, 2) := dk_18 67 (dk_at dksX9_guard_1 17 rfl rfl)
theorem dX9_guard_42 : decode cX9_guard 42 = .ok (.ireturn, 1) := dk_172 (dk_at dksX9_guard_1 19 rfl rfl)
theorem dX9_guard_43 : decode cX9_guard 43 = .ok (.aload_n 0, 1) := dk_42 (dk_at dksX9_guard_1 20 rfl rfl)
theorem dX9_guard_44 : decode cX9_guard 44 = .ok (.invokevirtual 204, 3) := dk_182 0 204 (dk_at dksX9_guard_1 21 rfl rfl)
theorem dX9_guard_47 : decode cX9_guard 47 = .ok (.ldc 149, 2) := dk_18 149 (dk_at dksX9_guard_2 0 rfl rfl)
theorem dX9_guard_49 : decode cX9_guard 49 = .ok (.istore 5, 2) := dk_54 5 (dk_at dksX9_guard_2 2 rfl rfl)
theorem dX9_guard_51 : decode cX9_guard 51 = .ok (.iconst 0, 1) := dk_3 (dk_at dksX9_guard_2 4 rfl rfl)
theorem dX9_guard_52 : decode cX9_guard 52 = .ok (.istore 6, 2) := dk_54 6 (dk_at dksX9_guard_2 5 rfl rfl)
theorem dX9_guard_54 : decode cX9_guard 54 = .ok (.iload 6, 2) := dk_21 6 (dk_at dksX9_guard_2 7 rfl rfl)
theorem dX9_guard_56 : decode cX9_guard 56 = .ok (.iconst 1, 1) := dk_4 (dk_at dksX9_guard_2 9 rfl rfl)
theorem dX9_guard_57 : decode cX9_guard 57 = .ok (.aload_n 0, 1) := dk_42 (dk_at dksX9_guard_2 10 rfl rfl)
theorem dX9_guard_58 : decode cX9_guard 58 = .ok (.getfield 19, 3) := dk_180 0 19 (dk_at dksX9_guard_2 11 rfl rfl)
theorem dX9_guard_61 : decode cX9_guard 61 = .ok (.iconst 2, 1) := dk_5 (dk_at dksX9_guard_2 14 rfl rfl)
theorem dX9_guard_62 : decode cX9_guard 62 = .ok (.iaload, 1) := dk_46 (dk_at dksX9_guard_2 15 rfl rfl)
theorem dX9_guard_63 : decode cX9_guard 63 = .ok (.ishl, 1) := dk_120 (dk_at dksX9_guard_2 16 rfl rfl)
theorem dX9_guard_64 : decode cX9_guard 64 = .ok (.if_icmp .ge 54, 3) := dk_162 0 54 (dk_at dksX9_guard_2 17 rfl rfl)
theorem dX9_guard_67 : decode cX9_guard 67 = .ok (.iload 5, 2) := dk_21 5 (dk_at dksX9_guard_2 20 rfl rfl)
theorem dX9_guard_69 : decode cX9_guard 69 = .ok (.ifCond .lt 16, 3) := dk_155 0 16 (dk_at dksX9_guard_3 0 rfl rfl)
theorem dX9_guard_72 : decode cX9_guard 72 = .ok (.iload 6, 2) := dk_21 6 (dk_at dksX9_guard_3 3 rfl rfl)
theorem dX9_guard_74 : decode cX9_guard 74 = .ok (.invokestatic 187, 3) := dk_184 0 187 (dk_at dksX9_guard_3 5 rfl rfl)
theorem dX9_guard_77 : decode cX9_guard 77 = .ok (.iload 5, 2) := dk_21 5 (dk_at dksX9_guard_3 8 rfl rfl)
theorem dX9_guard_79 : decode cX9_guard 79 = .ok (.invokestatic 187, 3) := dk_184 0 187 (dk_at dksX9_guard_3 10 rfl rfl)
theorem dX9_guard_82 : decode cX9_guard 82 = .ok (.if_icmp .ge 30, 3) := dk_162 0 30 (dk_at dksX9_guard_3 13 rfl rfl)
theorem dX9_guard_85 : decode cX9_guard 85 = .ok (.aload_n 0, 1) := dk_42 (dk_at dksX9_guard_3 16 rfl rfl)
theorem dX9_guard_86 : decode cX9_guard 86 = .ok (.getfield 19, 3) := dk_180 0 19 (dk_at dksX9_guard_3 17 rfl rfl)
theorem dX9_guard_89 : decode cX9_guard 89 = .ok (.iconst 4, 1) := dk_7 (dk_at dksX9_guard_3 20 rfl rfl)
theorem dX9_guard_90 : decode cX9_guard 90 = .ok (.iload 6, 2) := dk_21 6 (dk_at dksX9_guard_3 21 rfl rfl)
theorem dX9_guard_92 : decode cX9_guard 92 = .ok (.iastore, 1) := dk_79 (dk_at dksX9_guard_3 23 rfl rfl)
theorem dX9_guard_93 : decode cX9_guard 93 = .ok (.aload_n 0, 1) := dk_42 (dk_at dksX9_guard_4 0 rfl rfl)
theorem dX9_guard_94 : decode cX9_guard 94 = .ok (.iload_n 1, 1) := dk_27 (dk_at dksX9_guard_4 1 rfl rfl)
theorem dX9_guard_95 : decode cX9_guard 95 = .ok (.iload_n 3, 1) := dk_29 (dk_at dksX9_guard_4 2 rfl rfl)
theorem dX9_guard_96 : decode cX9_guard 96 = .ok (.invokevirtual 214, 3) := dk_182 0 214 (dk_at dksX9_guard_4 3 rfl rfl)
theorem dX9_guard_99 : decode cX9_guard 99 = .ok (.iload_n 2, 1) := dk_28 (dk_at dksX9_guard_4 6 rfl rfl)
theorem dX9_guard_100 : decode cX9_guard 100 = .ok (.if_icmp .gt 8, 3) := dk_163 0 8 (dk_at dksX9_guard_4 7 rfl rfl)
theorem dX9_guard_103 : decode cX9_guard 103 = .ok (.iload 6, 2) := dk_21 6 (dk_at dksX9_guard_4 10 rfl rfl)
theorem dX9_guard_105 : decode cX9_guard 105 = .ok (.goto 5, 3) := dk_167 0 5 (dk_at dksX9_guard_4 12 rfl rfl)
theorem dX9_guard_108 : decode cX9_guard 108 = .ok (.iload 5, 2) := dk_21 5 (dk_at dksX9_guard_4 15 rfl rfl)
theorem dX9_guard_110 : decode cX9_guard 110 = .ok (.istore 5, 2) := dk_54 5 (dk_at dksX9_guard_4 17 rfl rfl)
theorem dX9_guard_112 : decode cX9_guard 112 = .ok (.iinc 6 1, 3) := dk_132 6 1 (dk_at dksX9_guard_4 19 rfl rfl)
theorem dX9_guard_115 : decode cX9_guard 115 = .ok (.goto (-61), 3) := dk_167 255 195 (dk_at dksX9_guard_5 0 rfl rfl)
theorem dX9_guard_118 : decode cX9_guard 118 = .ok (.iload 5, 2) := dk_21 5 (dk_at dksX9_guard_5 3 rfl rfl)
theorem dX9_guard_120 : decode cX9_guard 120 = .ok (.ifCond .lt 9, 3) := dk_155 0 9 (dk_at dksX9_guard_5 5 rfl rfl)
theorem dX9_guard_123 : decode cX9_guard 123 = .ok (.iload 4, 2) := dk_21 4 (dk_at dksX9_guard_5 8 rfl rfl)
theorem dX9_guard_125 : decode cX9_guard 125 = .ok (.iconst 1, 1) := dk_4 (dk_at dksX9_guard_5 10 rfl rfl)
theorem dX9_guard_126 : decode cX9_guard 126 = .ok (.if_icmp .ne 8, 3) := dk_160 0 8 (dk_at dksX9_guard_5 11 rfl rfl)
theorem dX9_guard_129 : decode cX9_guard 129 = .ok (.iload 5, 2) := dk_21 5 (dk_at dksX9_guard_5 14 rfl rfl)
theorem dX9_guard_131 : decode cX9_guard 131 = .ok (.goto 8, 3) := dk_167 0 8 (dk_at dksX9_guard_5 16 rfl rfl)
theorem dX9_guard_134 : decode cX9_guard 134 = .ok (.iload 5, 2) := dk_21 5 (dk_at dksX9_guard_5 19 rfl rfl)
theorem dX9_guard_136 : decode cX9_guard 136 = .ok (.invokestatic 187, 3) := dk_184 0 187 (dk_at dksX9_guard_5 21 rfl rfl)
theorem dX9_guard_139 : decode cX9_guard 139 = .ok (.ireturn, 1) := dk_172 (dk_at dksX9_guard_6 0 rfl rfl)
abbrev cX9_isWhat : ByteArray := prog_16_method_47_code
def yX9_isWhat : MethodName := ⟨RX9, "isWhat", "(I)Z"⟩
def dkwX9_isWhat_0 : List UInt8 := [26, 133, 9, 10, 184, 0, 57, 172]
abbrev dktX9_isWhat_0 : List UInt8 := dkwX9_isWhat_0 ++ []
theorem dksX9_isWhat_0 : cX9_isWhat.data.toList.drop 0 = dktX9_isWhat_0 := by decide +kernel
theorem dX9_isWhat_0 : decode cX9_isWhat 0 = .ok (.iload_n 0, 1) := dk_26 (dk_at dksX9_isWhat_0 0 rfl rfl)
theorem dX9_isWhat_1 : decode cX9_isWhat 1 = .ok (.i2l, 1) := dk_133 (dk_at dksX9_isWhat_0 1 rfl rfl)
theorem dX9_isWhat_2 : decode cX9_isWhat 2 = .ok (.lconst 0, 1) := dk_9 (dk_at dksX9_isWhat_0 2 rfl rfl)
theorem dX9_isWhat_3 : decode cX9_isWhat 3 = .ok (.lconst 1, 1) := dk_10 (dk_at dksX9_isWhat_0 3 rfl rfl)
theorem dX9_isWhat_4 : decode cX9_isWhat 4 = .ok (.invokestatic 57, 3) := dk_184 0 57 (dk_at dksX9_isWhat_0 4 rfl rfl)
theorem dX9_isWhat_7 : decode cX9_isWhat 7 = .ok (.ireturn, 1) := dk_172 (dk_at dksX9_isWhat_0 7 rfl rfl)
abbrev cX9_bestWatch : ByteArray := prog_16_method_56_code
def yX9_bestWatch : MethodName := ⟨RX9, "bestWatch", "(II)I"⟩
def dkwX9_bestWatch_5 : List UInt8 := [154, 0, 7, 29, 167, 0, 5, 21, 4, 172]
abbrev dktX9_bestWatch_5 : List UInt8 := dkwX9_bestWatch_5 ++ []
def dkwX9_bestWatch_4 : List UInt8 := [62, 21, 6, 21, 4, 164, 0, 8, 21, 6, 167, 0, 5, 21, 4, 54, 4, 132, 5, 1, 167, 255, 185, 28]
abbrev dktX9_bestWatch_4 : List UInt8 := dkwX9_bestWatch_4 ++ dktX9_bestWatch_5
def dkwX9_bestWatch_3 : List UInt8 := [16, 11, 182, 0, 209, 54, 6, 42, 182, 0, 199, 21, 6, 21, 4, 164, 0, 8, 21, 5, 167, 0, 4, 29]
abbrev dktX9_bestWatch_3 : List UInt8 := dkwX9_bestWatch_3 ++ dktX9_bestWatch_4
def dkwX9_bestWatch_2 : List UInt8 := [180, 0, 19, 5, 46, 162, 0, 66, 42, 180, 0, 19, 7, 4, 21, 5, 120, 79, 42, 27, 182, 0, 196, 42]
abbrev dktX9_bestWatch_2 : List UInt8 := dkwX9_bestWatch_2 ++ dktX9_bestWatch_3
def dkwX9_bestWatch_1 : List UInt8 := [184, 0, 217, 154, 0, 6, 18, 67, 172, 42, 182, 0, 204, 3, 62, 2, 54, 4, 3, 54, 5, 21, 5, 42]
abbrev dktX9_bestWatch_1 : List UInt8 := dkwX9_bestWatch_1 ++ dktX9_bestWatch_2
def dkwX9_bestWatch_0 : List UInt8 := [42, 180, 0, 135, 154, 0, 6, 18, 169, 172, 27, 133, 10, 20, 0, 212, 184, 0, 57, 153, 0, 10, 28]
abbrev dktX9_bestWatch_0 : List UInt8 := dkwX9_bestWatch_0 ++ dktX9_bestWatch_1
theorem dksX9_bestWatch_0 : cX9_bestWatch.data.toList.drop 0 = dktX9_bestWatch_0 := by decide +kernel
theorem dksX9_bestWatch_1 : cX9_bestWatch.data.toList.drop 23 = dktX9_bestWatch_1 := dk_seg dksX9_bestWatch_0 23 rfl rfl
theorem dksX9_bestWatch_2 : cX9_bestWatch.data.toList.drop 47 = dktX9_bestWatch_2 := dk_seg dksX9_bestWatch_1 24 rfl rfl
theorem dksX9_bestWatch_3 : cX9_bestWatch.data.toList.drop 71 = dktX9_bestWatch_3 := dk_seg dksX9_bestWatch_2 24 rfl rfl
theorem dksX9_bestWatch_4 : cX9_bestWatch.data.toList.drop 95 = dktX9_bestWatch_4 := dk_seg dksX9_bestWatch_3 24 rfl rfl
theorem dksX9_bestWatch_5 : cX9_bestWatch.data.toList.drop 119 = dktX9_bestWatch_5 := dk_seg dksX9_bestWatch_4 24 rfl rfl
theorem dX9_bestWatch_0 : decode cX9_bestWatch 0 = .ok (.aload_n 0, 1) := dk_42 (dk_at dksX9_bestWatch_0 0 rfl rfl)
theorem dX9_bestWatch_1 : decode cX9_bestWatch 1 = .ok (.getfield 135, 3) := dk_180 0 135 (dk_at dksX9_bestWatch_0 1 rfl rfl)
theorem dX9_bestWatch_4 : decode cX9_bestWatch 4 = .ok (.ifCond .ne 6, 3) := dk_154 0 6 (dk_at dksX9_bestWatch_0 4 rfl rfl)
theorem dX9_bestWatch_7 : decode cX9_bestWatch 7 = .ok (.ldc 169, 2) := dk_18 169 (dk_at dksX9_bestWatch_0 7 rfl rfl)
theorem dX9_bestWatch_9 : decode cX9_bestWatch 9 = .ok (.ireturn, 1) := dk_172 (dk_at dksX9_bestWatch_0 9 rfl rfl)
theorem dX9_bestWatch_10 : decode cX9_bestWatch 10 = .ok (.iload_n 1, 1) := dk_27 (dk_at dksX9_bestWatch_0 10 rfl rfl)
theorem dX9_bestWatch_11 : decode cX9_bestWatch 11 = .ok (.i2l, 1) := dk_133 (dk_at dksX9_bestWatch_0 11 rfl rfl)
theorem dX9_bestWatch_12 : decode cX9_bestWatch 12 = .ok (.lconst 1, 1) := dk_10 (dk_at dksX9_bestWatch_0 12 rfl rfl)
theorem dX9_bestWatch_13 : decode cX9_bestWatch 13 = .ok (.ldc2_w 212, 3) := dk_20 0 212 (dk_at dksX9_bestWatch_0 13 rfl rfl)
theorem dX9_bestWatch_16 : decode cX9_bestWatch 16 = .ok (.invokestatic 57, 3) := dk_184 0 57 (dk_at dksX9_bestWatch_0 16 rfl rfl)
theorem dX9_bestWatch_19 : decode cX9_bestWatch 19 = .ok (.ifCond .eq 10, 3) := dk_153 0 10 (dk_at dksX9_bestWatch_0 19 rfl rfl)
theorem dX9_bestWatch_22 : decode cX9_bestWatch 22 = .ok (.iload_n 2, 1) := dk_28 (dk_at dksX9_bestWatch_0 22 rfl rfl)
theorem dX9_bestWatch_23 : decode cX9_bestWatch 23 = .ok (.invokestatic 217, 3) := dk_184 0 217 (dk_at dksX9_bestWatch_1 0 rfl rfl)
theorem dX9_bestWatch_26 : decode cX9_bestWatch 26 = .ok (.ifCond .ne 6, 3) := dk_154 0 6 (dk_at dksX9_bestWatch_1 3 rfl rfl)
theorem dX9_bestWatch_29 : decode cX9_bestWatch 29 = .ok (.ldc 67, 2) := dk_18 67 (dk_at dksX9_bestWatch_1 6 rfl rfl)
theorem dX9_bestWatch_31 : decode cX9_bestWatch 31 = .ok (.ireturn, 1) := dk_172 (dk_at dksX9_bestWatch_1 8 rfl rfl)
theorem dX9_bestWatch_32 : decode cX9_bestWatch 32 = .ok (.aload_n 0, 1) := dk_42 (dk_at dksX9_bestWatch_1 9 rfl rfl)
theorem dX9_bestWatch_33 : decode cX9_bestWatch 33 = .ok (.invokevirtual 204, 3) := dk_182 0 204 (dk_at dksX9_bestWatch_1 10 rfl rfl)
theorem dX9_bestWatch_36 : decode cX9_bestWatch 36 = .ok (.iconst 0, 1) := dk_3 (dk_at dksX9_bestWatch_1 13 rfl rfl)
theorem dX9_bestWatch_37 : decode cX9_bestWatch 37 = .ok (.istore_n 3, 1) := dk_62 (dk_at dksX9_bestWatch_1 14 rfl rfl)
theorem dX9_bestWatch_38 : decode cX9_bestWatch 38 = .ok (.iconst (-1), 1) := dk_2 (dk_at dksX9_bestWatch_1 15 rfl rfl)
theorem dX9_bestWatch_39 : decode cX9_bestWatch 39 = .ok (.istore 4, 2) := dk_54 4 (dk_at dksX9_bestWatch_1 16 rfl rfl)
theorem dX9_bestWatch_41 : decode cX9_bestWatch 41 = .ok (.iconst 0, 1) := dk_3 (dk_at dksX9_bestWatch_1 18 rfl rfl)
theorem dX9_bestWatch_42 : decode cX9_bestWatch 42 = .ok (.istore 5, 2) := dk_54 5 (dk_at dksX9_bestWatch_1 19 rfl rfl)
theorem dX9_bestWatch_44 : decode cX9_bestWatch 44 = .ok (.iload 5, 2) := dk_21 5 (dk_at dksX9_bestWatch_1 21 rfl rfl)
theorem dX9_bestWatch_46 : decode cX9_bestWatch 46 = .ok (.aload_n 0, 1) := dk_42 (dk_at dksX9_bestWatch_1 23 rfl rfl)
theorem dX9_bestWatch_47 : decode cX9_bestWatch 47 = .ok (.getfield 19, 3) := dk_180 0 19 (dk_at dksX9_bestWatch_2 0 rfl rfl)
theorem dX9_bestWatch_50 : decode cX9_bestWatch 50 = .ok (.iconst 2, 1) := dk_5 (dk_at dksX9_bestWatch_2 3 rfl rfl)
theorem dX9_bestWatch_51 : decode cX9_bestWatch 51 = .ok (.iaload, 1) := dk_46 (dk_at dksX9_bestWatch_2 4 rfl rfl)
theorem dX9_bestWatch_52 : decode cX9_bestWatch 52 = .ok (.if_icmp .ge 66, 3) := dk_162 0 66 (dk_at dksX9_bestWatch_2 5 rfl rfl)
theorem dX9_bestWatch_55 : decode cX9_bestWatch 55 = .ok (.aload_n 0, 1) := dk_42 (dk_at dksX9_bestWatch_2 8 rfl rfl)
theorem dX9_bestWatch_56 : decode cX9_bestWatch 56 = .ok (.getfield 19, 3) := dk_180 0 19 (dk_at dksX9_bestWatch_2 9 rfl rfl)
theorem dX9_bestWatch_59 : decode cX9_bestWatch 59 = .ok (.iconst 4, 1) := dk_7 (dk_at dksX9_bestWatch_2 12 rfl rfl)
theorem dX9_bestWatch_60 : decode cX9_bestWatch 60 = .ok (.iconst 1, 1) := dk_4 (dk_at dksX9_bestWatch_2 13 rfl rfl)
theorem dX9_bestWatch_61 : decode cX9_bestWatch 61 = .ok (.iload 5, 2) := dk_21 5 (dk_at dksX9_bestWatch_2 14 rfl rfl)
theorem dX9_bestWatch_63 : decode cX9_bestWatch 63 = .ok (.ishl, 1) := dk_120 (dk_at dksX9_bestWatch_2 16 rfl rfl)
theorem dX9_bestWatch_64 : decode cX9_bestWatch 64 = .ok (.iastore, 1) := dk_79 (dk_at dksX9_bestWatch_2 17 rfl rfl)
theorem dX9_bestWatch_65 : decode cX9_bestWatch 65 = .ok (.aload_n 0, 1) := dk_42 (dk_at dksX9_bestWatch_2 18 rfl rfl)
theorem dX9_bestWatch_66 : decode cX9_bestWatch 66 = .ok (.iload_n 1, 1) := dk_27 (dk_at dksX9_bestWatch_2 19 rfl rfl)
theorem dX9_bestWatch_67 : decode cX9_bestWatch 67 = .ok (.invokevirtual 196, 3) := dk_182 0 196 (dk_at dksX9_bestWatch_2 20 rfl rfl)
theorem dX9_bestWatch_70 : decode cX9_bestWatch 70 = .ok (.aload_n 0, 1) := dk_42 (dk_at dksX9_bestWatch_2 23 rfl rfl)
theorem dX9_bestWatch_71 : decode cX9_bestWatch 71 = .ok (.bipush 11, 2) := dk_16 11 (dk_at dksX9_bestWatch_3 0 rfl rfl)
theorem dX9_bestWatch_73 : decode cX9_bestWatch 73 = .ok (.invokevirtual 209, 3) := dk_182 0 209 (dk_at dksX9_bestWatch_3 2 rfl rfl)
theorem dX9_bestWatch_76 : decode cX9_bestWatch 76 = .ok (.istore 6, 2) := dk_54 6 (dk_at dksX9_bestWatch_3 5 rfl rfl)
theorem dX9_bestWatch_78 : decode cX9_bestWatch 78 = .ok (.aload_n 0, 1) := dk_42 (dk_at dksX9_bestWatch_3 7 rfl rfl)
theorem dX9_bestWatch_79 : decode cX9_bestWatch 79 = .ok (.invokevirtual 199, 3) := dk_182 0 199 (dk_at dksX9_bestWatch_3 8 rfl rfl)
theorem dX9_bestWatch_82 : decode cX9_bestWatch 82 = .ok (.iload 6, 2) := dk_21 6 (dk_at dksX9_bestWatch_3 11 rfl rfl)
theorem dX9_bestWatch_84 : decode cX9_bestWatch 84 = .ok (.iload 4, 2) := dk_21 4 (dk_at dksX9_bestWatch_3 13 rfl rfl)
theorem dX9_bestWatch_86 : decode cX9_bestWatch 86 = .ok (.if_icmp .le 8, 3) := dk_164 0 8 (dk_at dksX9_bestWatch_3 15 rfl rfl)
theorem dX9_bestWatch_89 : decode cX9_bestWatch 89 = .ok (.iload 5, 2) := dk_21 5 (dk_at dksX9_bestWatch_3 18 rfl rfl)
theorem dX9_bestWatch_91 : decode cX9_bestWatch 91 = .ok (.goto 4, 3) := dk_167 0 4 (dk_at dksX9_bestWatch_3 20 rfl rfl)
theorem dX9_bestWatch_94 : decode cX9_bestWatch 94 = .ok (.iload_n 3, 1) := dk_29 (dk_at dksX9_bestWatch_3 23 rfl rfl)
theorem dX9_bestWatch_95 : decode cX9_bestWatch 95 = .ok (.istore_n 3, 1) := dk_62 (dk_at dksX9_bestWatch_4 0 rfl rfl)
theorem dX9_bestWatch_96 : decode cX9_bestWatch 96 = .ok (.iload 6, 2) := dk_21 6 (dk_at dksX9_bestWatch_4 1 rfl rfl)
theorem dX9_bestWatch_98 : decode cX9_bestWatch 98 = .ok (.iload 4, 2) := dk_21 4 (dk_at dksX9_bestWatch_4 3 rfl rfl)
theorem dX9_bestWatch_100 : decode cX9_bestWatch 100 = .ok (.if_icmp .le 8, 3) := dk_164 0 8 (dk_at dksX9_bestWatch_4 5 rfl rfl)
theorem dX9_bestWatch_103 : decode cX9_bestWatch 103 = .ok (.iload 6, 2) := dk_21 6 (dk_at dksX9_bestWatch_4 8 rfl rfl)
theorem dX9_bestWatch_105 : decode cX9_bestWatch 105 = .ok (.goto 5, 3) := dk_167 0 5 (dk_at dksX9_bestWatch_4 10 rfl rfl)
theorem dX9_bestWatch_108 : decode cX9_bestWatch 108 = .ok (.iload 4, 2) := dk_21 4 (dk_at dksX9_bestWatch_4 13 rfl rfl)
theorem dX9_bestWatch_110 : decode cX9_bestWatch 110 = .ok (.istore 4, 2) := dk_54 4 (dk_at dksX9_bestWatch_4 15 rfl rfl)
theorem dX9_bestWatch_112 : decode cX9_bestWatch 112 = .ok (.iinc 5 1, 3) := dk_132 5 1 (dk_at dksX9_bestWatch_4 17 rfl rfl)
theorem dX9_bestWatch_115 : decode cX9_bestWatch 115 = .ok (.goto (-71), 3) := dk_167 255 185 (dk_at dksX9_bestWatch_4 20 rfl rfl)
theorem dX9_bestWatch_118 : decode cX9_bestWatch 118 = .ok (.iload_n 2, 1) := dk_28 (dk_at dksX9_bestWatch_4 23 rfl rfl)
theorem dX9_bestWatch_119 : decode cX9_bestWatch 119 = .ok (.ifCond .ne 7, 3) := dk_154 0 7 (dk_at dksX9_bestWatch_5 0 rfl rfl)
theorem dX9_bestWatch_122 : decode cX9_bestWatch 122 = .ok (.iload_n 3, 1) := dk_29 (dk_at dksX9_bestWatch_5 3 rfl rfl)
theorem dX9_bestWatch_123 : decode cX9_bestWatch 123 = .ok (.goto 5, 3) := dk_167 0 5 (dk_at dksX9_bestWatch_5 4 rfl rfl)
theorem dX9_bestWatch_126 : decode cX9_bestWatch 126 = .ok (.iload 4, 2) := dk_21 4 (dk_at dksX9_bestWatch_5 7 rfl rfl)
theorem dX9_bestWatch_128 : decode cX9_bestWatch 128 = .ok (.ireturn, 1) := dk_172 (dk_at dksX9_bestWatch_5 9 rfl rfl)
abbrev cX9_sawdust : ByteArray := prog_16_method_60_code
def yX9_sawdust : MethodName := ⟨RX9, "sawdust", "(II)I"⟩
def dkwX9_sawdust_8 : List UInt8 := [21, 9, 96, 46, 184, 0, 142, 54, 7, 132, 8, 1, 167, 255, 99, 42, 21, 5, 182, 0, 72, 172]
abbrev dktX9_sawdust_8 : List UInt8 := dkwX9_sawdust_8 ++ []
def dkwX9_sawdust_7 : List UInt8 := [156, 0, 7, 3, 167, 0, 27, 42, 180, 0, 19, 8, 21, 9, 96, 46, 21, 10, 42, 180, 0, 19, 16, 29]
abbrev dktX9_sawdust_7 : List UInt8 := dkwX9_sawdust_7 ++ dktX9_sawdust_8
def dkwX9_sawdust_6 : List UInt8 := [21, 5, 42, 180, 0, 19, 16, 11, 21, 9, 96, 46, 96, 21, 10, 100, 54, 5, 21, 9, 54, 6, 21, 10]
abbrev dktX9_sawdust_6 : List UInt8 := dkwX9_sawdust_6 ++ dktX9_sawdust_7
def dkwX9_sawdust_5 : List UInt8 := [21, 9, 184, 0, 226, 154, 0, 9, 132, 10, 255, 167, 255, 212, 21, 10, 156, 0, 8, 18, 149, 167, 0, 19]
abbrev dktX9_sawdust_5 : List UInt8 := dkwX9_sawdust_5 ++ dktX9_sawdust_6
def dkwX9_sawdust_4 : List UInt8 := [180, 0, 19, 8, 21, 9, 96, 46, 21, 10, 42, 180, 0, 19, 16, 29, 21, 9, 96, 46, 184, 0, 142]
abbrev dktX9_sawdust_4 : List UInt8 := dkwX9_sawdust_4 ++ dktX9_sawdust_5
def dkwX9_sawdust_3 : List UInt8 := [54, 9, 42, 180, 0, 19, 16, 11, 21, 9, 96, 46, 54, 10, 21, 10, 155, 0, 45, 21, 7, 21, 6, 42]
abbrev dktX9_sawdust_3 : List UInt8 := dkwX9_sawdust_3 ++ dktX9_sawdust_4
def dkwX9_sawdust_2 : List UInt8 := [180, 0, 19, 5, 46, 162, 0, 152, 21, 5, 155, 0, 147, 42, 180, 0, 16, 21, 4, 21, 8, 96, 46]
abbrev dktX9_sawdust_2 : List UInt8 := dkwX9_sawdust_2 ++ dktX9_sawdust_3
def dkwX9_sawdust_1 : List UInt8 := [42, 180, 0, 16, 21, 4, 46, 54, 6, 42, 21, 6, 182, 0, 146, 54, 7, 4, 54, 8, 21, 8, 42]
abbrev dktX9_sawdust_1 : List UInt8 := dkwX9_sawdust_1 ++ dktX9_sawdust_2
def dkwX9_sawdust_0 : List UInt8 := [42, 27, 28, 182, 0, 223, 62, 29, 156, 0, 5, 29, 172, 16, 40, 27, 104, 28, 96, 54, 4, 3, 54, 5]
abbrev dktX9_sawdust_0 : List UInt8 := dkwX9_sawdust_0 ++ dktX9_sawdust_1
theorem dksX9_sawdust_0 : cX9_sawdust.data.toList.drop 0 = dktX9_sawdust_0 := by decide +kernel
theorem dksX9_sawdust_1 : cX9_sawdust.data.toList.drop 24 = dktX9_sawdust_1 := dk_seg dksX9_sawdust_0 24 rfl rfl
theorem dksX9_sawdust_2 : cX9_sawdust.data.toList.drop 47 = dktX9_sawdust_2 := dk_seg dksX9_sawdust_1 23 rfl rfl
theorem dksX9_sawdust_3 : cX9_sawdust.data.toList.drop 70 = dktX9_sawdust_3 := dk_seg dksX9_sawdust_2 23 rfl rfl
theorem dksX9_sawdust_4 : cX9_sawdust.data.toList.drop 94 = dktX9_sawdust_4 := dk_seg dksX9_sawdust_3 24 rfl rfl
theorem dksX9_sawdust_5 : cX9_sawdust.data.toList.drop 117 = dktX9_sawdust_5 := dk_seg dksX9_sawdust_4 23 rfl rfl
theorem dksX9_sawdust_6 : cX9_sawdust.data.toList.drop 141 = dktX9_sawdust_6 := dk_seg dksX9_sawdust_5 24 rfl rfl
theorem dksX9_sawdust_7 : cX9_sawdust.data.toList.drop 165 = dktX9_sawdust_7 := dk_seg dksX9_sawdust_6 24 rfl rfl
theorem dksX9_sawdust_8 : cX9_sawdust.data.toList.drop 189 = dktX9_sawdust_8 := dk_seg dksX9_sawdust_7 24 rfl rfl
theorem dX9_sawdust_0 : decode cX9_sawdust 0 = .ok (.aload_n 0, 1) := dk_42 (dk_at dksX9_sawdust_0 0 rfl rfl)
theorem dX9_sawdust_1 : decode cX9_sawdust 1 = .ok (.iload_n 1, 1) := dk_27 (dk_at dksX9_sawdust_0 1 rfl rfl)
theorem dX9_sawdust_2 : decode cX9_sawdust 2 = .ok (.iload_n 2, 1) := dk_28 (dk_at dksX9_sawdust_0 2 rfl rfl)
theorem dX9_sawdust_3 : decode cX9_sawdust 3 = .ok (.invokevirtual 223, 3) := dk_182 0 223 (dk_at dksX9_sawdust_0 3 rfl rfl)
theorem dX9_sawdust_6 : decode cX9_sawdust 6 = .ok (.istore_n 3, 1) := dk_62 (dk_at dksX9_sawdust_0 6 rfl rfl)
theorem dX9_sawdust_7 : decode cX9_sawdust 7 = .ok (.iload_n 3, 1) := dk_29 (dk_at dksX9_sawdust_0 7 rfl rfl)
theorem dX9_sawdust_8 : decode cX9_sawdust 8 = .ok (.ifCond .ge 5, 3) := dk_156 0 5 (dk_at dksX9_sawdust_0 8 rfl rfl)
theorem dX9_sawdust_11 : decode cX9_sawdust 11 = .ok (.iload_n 3, 1) := dk_29 (dk_at dksX9_sawdust_0 11 rfl rfl)
theorem dX9_sawdust_12 : decode cX9_sawdust 12 = .ok (.ireturn, 1) := dk_172 (dk_at dksX9_sawdust_0 12 rfl rfl)
theorem dX9_sawdust_13 : decode cX9_sawdust 13 = .ok (.bipush 40, 2) := dk_16 40 (dk_at dksX9_sawdust_0 13 rfl rfl)
theorem dX9_sawdust_15 : decode cX9_sawdust 15 = .ok (.iload_n 1, 1) := dk_27 (dk_at dksX9_sawdust_0 15 rfl rfl)
theorem dX9_sawdust_16 : decode cX9_sawdust 16 = .ok (.imul, 1) := dk_104 (dk_at dksX9_sawdust_0 16 rfl rfl)
theorem dX9_sawdust_17 : decode cX9_sawdust 17 = .ok (.iload_n 2, 1) := dk_28 (dk_at dksX9_sawdust_0 17 rfl rfl)
theorem dX9_sawdust_18 : decode cX9_sawdust 18 = .ok (.iadd, 1) := dk_96 (dk_at dksX9_sawdust_0 18 rfl rfl)
theorem dX9_sawdust_19 : decode cX9_sawdust 19 = .ok (.istore 4, 2) := dk_54 4 (dk_at dksX9_sawdust_0 19 rfl rfl)
theorem dX9_sawdust_21 : decode cX9_sawdust 21 = .ok (.iconst 0, 1) := dk_3 (dk_at dksX9_sawdust_0 21 rfl rfl)
theorem dX9_sawdust_22 : decode cX9_sawdust 22 = .ok (.istore 5, 2) := dk_54 5 (dk_at dksX9_sawdust_0 22 rfl rfl)
theorem dX9_sawdust_24 : decode cX9_sawdust 24 = .ok (.aload_n 0, 1) := dk_42 (dk_at dksX9_sawdust_1 0 rfl rfl)
theorem dX9_sawdust_25 : decode cX9_sawdust 25 = .ok (.getfield 16, 3) := dk_180 0 16 (dk_at dksX9_sawdust_1 1 rfl rfl)
theorem dX9_sawdust_28 : decode cX9_sawdust 28 = .ok (.iload 4, 2) := dk_21 4 (dk_at dksX9_sawdust_1 4 rfl rfl)
theorem dX9_sawdust_30 : decode cX9_sawdust 30 = .ok (.iaload, 1) := dk_46 (dk_at dksX9_sawdust_1 6 rfl rfl)
theorem dX9_sawdust_31 : decode cX9_sawdust 31 = .ok (.istore 6, 2) := dk_54 6 (dk_at dksX9_sawdust_1 7 rfl rfl)
theorem dX9_sawdust_33 : decode cX9_sawdust 33 = .ok (.aload_n 0, 1) := dk_42 (dk_at dksX9_sawdust_1 9 rfl rfl)
theorem dX9_sawdust_34 : decode cX9_sawdust 34 = .ok (.iload 6, 2) := dk_21 6 (dk_at dksX9_sawdust_1 10 rfl rfl)
theorem dX9_sawdust_36 : decode cX9_sawdust 36 = .ok (.invokevirtual 146, 3) := dk_182 0 146 (dk_at dksX9_sawdust_1 12 rfl rfl)
theorem dX9_sawdust_39 : decode cX9_sawdust 39 = .ok (.istore 7, 2) := dk_54 7 (dk_at dksX9_sawdust_1 15 rfl rfl)
theorem dX9_sawdust_41 : decode cX9_sawdust 41 = .ok (.iconst 1, 1) := dk_4 (dk_at dksX9_sawdust_1 17 rfl rfl)
theorem dX9_sawdust_42 : decode cX9_sawdust 42 = .ok (.istore 8, 2) := dk_54 8 (dk_at dksX9_sawdust_1 18 rfl rfl)
theorem dX9_sawdust_44 : decode cX9_sawdust 44 = .ok (.iload 8, 2) := dk_21 8 (dk_at dksX9_sawdust_1 20 rfl rfl)
theorem dX9_sawdust_46 : decode cX9_sawdust 46 = .ok (.aload_n 0, 1) := dk_42 (dk_at dksX9_sawdust_1 22 rfl rfl)
theorem dX9_sawdust_47 : decode cX9_sawdust 47 = .ok (.getfield 19, 3) := dk_180 0 19 (dk_at dksX9_sawdust_2 0 rfl rfl)
theorem dX9_sawdust_50 : decode cX9_sawdust 50 = .ok (.iconst 2, 1) := dk_5 (dk_at dksX9_sawdust_2 3 rfl rfl)
theorem dX9_sawdust_51 : decode cX9_sawdust 51 = .ok (.iaload, 1) := dk_46 (dk_at dksX9_sawdust_2 4 rfl rfl)
theorem dX9_sawdust_52 : decode cX9_sawdust 52 = .ok (.if_icmp .ge 152, 3) := dk_162 0 152 (dk_at dksX9_sawdust_2 5 rfl rfl)
theorem dX9_sawdust_55 : decode cX9_sawdust 55 = .ok (.iload 5, 2) := dk_21 5 (dk_at dksX9_sawdust_2 8 rfl rfl)
theorem dX9_sawdust_57 : decode cX9_sawdust 57 = .ok (.ifCond .lt 147, 3) := dk_155 0 147 (dk_at dksX9_sawdust_2 10 rfl rfl)
theorem dX9_sawdust_60 : decode cX9_sawdust 60 = .ok (.aload_n 0, 1) := dk_42 (dk_at dksX9_sawdust_2 13 rfl rfl)
theorem dX9_sawdust_61 : decode cX9_sawdust 61 = .ok (.getfield 16, 3) := dk_180 0 16 (dk_at dksX9_sawdust_2 14 rfl rfl)
theorem dX9_sawdust_64 : decode cX9_sawdust 64 = .ok (.iload 4, 2) := dk_21 4 (dk_at dksX9_sawdust_2 17 rfl rfl)
theorem dX9_sawdust_66 : decode cX9_sawdust 66 = .ok (.iload 8, 2) := dk_21 8 (dk_at dksX9_sawdust_2 19 rfl rfl)
theorem dX9_sawdust_68 : decode cX9_sawdust 68 = .ok (.iadd, 1) := dk_96 (dk_at dksX9_sawdust_2 21 rfl rfl)
theorem dX9_sawdust_69 : decode cX9_sawdust 69 = .ok (.iaload, 1) := dk_46 (dk_at dksX9_sawdust_2 22 rfl rfl)
theorem dX9_sawdust_70 : decode cX9_sawdust 70 = .ok (.istore 9, 2) := dk_54 9 (dk_at dksX9_sawdust_3 0 rfl rfl)
theorem dX9_sawdust_72 : decode cX9_sawdust 72 = .ok (.aload_n 0, 1) := dk_42 (dk_at dksX9_sawdust_3 2 rfl rfl)
theorem dX9_sawdust_73 : decode cX9_sawdust 73 = .ok (.getfield 19, 3) := dk_180 0 19 (dk_at dksX9_sawdust_3 3 rfl rfl)
theorem dX9_sawdust_76 : decode cX9_sawdust 76 = .ok (.bipush 11, 2) := dk_16 11 (dk_at dksX9_sawdust_3 6 rfl rfl)
theorem dX9_sawdust_78 : decode cX9_sawdust 78 = .ok (.iload 9, 2) := dk_21 9 (dk_at dksX9_sawdust_3 8 rfl rfl)
theorem dX9_sawdust_80 : decode cX9_sawdust 80 = .ok (.iadd, 1) := dk_96 (dk_at dksX9_sawdust_3 10 rfl rfl)
theorem dX9_sawdust_81 : decode cX9_sawdust 81 = .ok (.iaload, 1) := dk_46 (dk_at dksX9_sawdust_3 11 rfl rfl)
theorem dX9_sawdust_82 : decode cX9_sawdust 82 = .ok (.istore 10, 2) := dk_54 10 (dk_at dksX9_sawdust_3 12 rfl rfl)
theorem dX9_sawdust_84 : decode cX9_sawdust 84 = .ok (.iload 10, 2) := dk_21 10 (dk_at dksX9_sawdust_3 14 rfl rfl)
theorem dX9_sawdust_86 : decode cX9_sawdust 86 = .ok (.ifCond .lt 45, 3) := dk_155 0 45 (dk_at dksX9_sawdust_3 16 rfl rfl)
theorem dX9_sawdust_89 : decode cX9_sawdust 89 = .ok (.iload 7, 2) := dk_21 7 (dk_at dksX9_sawdust_3 19 rfl rfl)
theorem dX9_sawdust_91 : decode cX9_sawdust 91 = .ok (.iload 6, 2) := dk_21 6 (dk_at dksX9_sawdust_3 21 rfl rfl)
theorem dX9_sawdust_93 : decode cX9_sawdust 93 = .ok (.aload_n 0, 1) := dk_42 (dk_at dksX9_sawdust_3 23 rfl rfl)
theorem dX9_sawdust_94 : decode cX9_sawdust 94 = .ok (.getfield 19, 3) := dk_180 0 19 (dk_at dksX9_sawdust_4 0 rfl rfl)
theorem dX9_sawdust_97 : decode cX9_sawdust 97 = .ok (.iconst 5, 1) := dk_8 (dk_at dksX9_sawdust_4 3 rfl rfl)
theorem dX9_sawdust_98 : decode cX9_sawdust 98 = .ok (.iload 9, 2) := dk_21 9 (dk_at dksX9_sawdust_4 4 rfl rfl)
theorem dX9_sawdust_100 : decode cX9_sawdust 100 = .ok (.iadd, 1) := dk_96 (dk_at dksX9_sawdust_4 6 rfl rfl)
theorem dX9_sawdust_101 : decode cX9_sawdust 101 = .ok (.iaload, 1) := dk_46 (dk_at dksX9_sawdust_4 7 rfl rfl)
theorem dX9_sawdust_102 : decode cX9_sawdust 102 = .ok (.iload 10, 2) := dk_21 10 (dk_at dksX9_sawdust_4 8 rfl rfl)
theorem dX9_sawdust_104 : decode cX9_sawdust 104 = .ok (.aload_n 0, 1) := dk_42 (dk_at dksX9_sawdust_4 10 rfl rfl)
theorem dX9_sawdust_105 : decode cX9_sawdust 105 = .ok (.getfield 19, 3) := dk_180 0 19 (dk_at dksX9_sawdust_4 11 rfl rfl)
theorem dX9_sawdust_108 : decode cX9_sawdust 108 = .ok (.bipush 29, 2) := dk_16 29 (dk_at dksX9_sawdust_4 14 rfl rfl)
theorem dX9_sawdust_110 : decode cX9_sawdust 110 = .ok (.iload 9, 2) := dk_21 9 (dk_at dksX9_sawdust_4 16 rfl rfl)
theorem dX9_sawdust_112 : decode cX9_sawdust 112 = .ok (.iadd, 1) := dk_96 (dk_at dksX9_sawdust_4 18 rfl rfl)
theorem dX9_sawdust_113 : decode cX9_sawdust 113 = .ok (.iaload, 1) := dk_46 (dk_at dksX9_sawdust_4 19 rfl rfl)
theorem dX9_sawdust_114 : decode cX9_sawdust 114 = .ok (.invokestatic 142, 3) := dk_184 0 142 (dk_at dksX9_sawdust_4 20 rfl rfl)
theorem dX9_sawdust_117 : decode cX9_sawdust 117 = .ok (.iload 9, 2) := dk_21 9 (dk_at dksX9_sawdust_5 0 rfl rfl)
theorem dX9_sawdust_119 : decode cX9_sawdust 119 = .ok (.invokestatic 226, 3) := dk_184 0 226 (dk_at dksX9_sawdust_5 2 rfl rfl)
theorem dX9_sawdust_122 : decode cX9_sawdust 122 = .ok (.ifCond .ne 9, 3) := dk_154 0 9 (dk_at dksX9_sawdust_5 5 rfl rfl)
theorem dX9_sawdust_125 : decode cX9_sawdust 125 = .ok (.iinc 10 (-1), 3) := dk_132 10 255 (dk_at dksX9_sawdust_5 8 rfl rfl)
theorem dX9_sawdust_128 : decode cX9_sawdust 128 = .ok (.goto (-44), 3) := dk_167 255 212 (dk_at dksX9_sawdust_5 11 rfl rfl)
theorem dX9_sawdust_131 : decode cX9_sawdust 131 = .ok (.iload 10, 2) := dk_21 10 (dk_at dksX9_sawdust_5 14 rfl rfl)
theorem dX9_sawdust_133 : decode cX9_sawdust 133 = .ok (.ifCond .ge 8, 3) := dk_156 0 8 (dk_at dksX9_sawdust_5 16 rfl rfl)
theorem dX9_sawdust_136 : decode cX9_sawdust 136 = .ok (.ldc 149, 2) := dk_18 149 (dk_at dksX9_sawdust_5 19 rfl rfl)
theorem dX9_sawdust_138 : decode cX9_sawdust 138 = .ok (.goto 19, 3) := dk_167 0 19 (dk_at dksX9_sawdust_5 21 rfl rfl)
theorem dX9_sawdust_141 : decode cX9_sawdust 141 = .ok (.iload 5, 2) := dk_21 5 (dk_at dksX9_sawdust_6 0 rfl rfl)
theorem dX9_sawdust_143 : decode cX9_sawdust 143 = .ok (.aload_n 0, 1) := dk_42 (dk_at dksX9_sawdust_6 2 rfl rfl)
theorem dX9_sawdust_144 : decode cX9_sawdust 144 = .ok (.getfield 19, 3) := dk_180 0 19 (dk_at dksX9_sawdust_6 3 rfl rfl)
theorem dX9_sawdust_147 : decode cX9_sawdust 147 = .ok (.bipush 11, 2) := dk_16 11 (dk_at dksX9_sawdust_6 6 rfl rfl)
theorem dX9_sawdust_149 : decode cX9_sawdust 149 = .ok (.iload 9, 2) := dk_21 9 (dk_at dksX9_sawdust_6 8 rfl rfl)
theorem dX9_sawdust_151 : decode cX9_sawdust 151 = .ok (.iadd, 1) := dk_96 (dk_at dksX9_sawdust_6 10 rfl rfl)
theorem dX9_sawdust_152 : decode cX9_sawdust 152 = .ok (.iaload, 1) := dk_46 (dk_at dksX9_sawdust_6 11 rfl rfl)
theorem dX9_sawdust_153 : decode cX9_sawdust 153 = .ok (.iadd, 1) := dk_96 (dk_at dksX9_sawdust_6 12 rfl rfl)
theorem dX9_sawdust_154 : decode cX9_sawdust 154 = .ok (.iload 10, 2) := dk_21 10 (dk_at dksX9_sawdust_6 13 rfl rfl)
theorem dX9_sawdust_156 : decode cX9_sawdust 156 = .ok (.isub, 1) := dk_100 (dk_at dksX9_sawdust_6 15 rfl rfl)
theorem dX9_sawdust_157 : decode cX9_sawdust 157 = .ok (.istore 5, 2) := dk_54 5 (dk_at dksX9_sawdust_6 16 rfl rfl)
theorem dX9_sawdust_159 : decode cX9_sawdust 159 = .ok (.iload 9, 2) := dk_21 9 (dk_at dksX9_sawdust_6 18 rfl rfl)
theorem dX9_sawdust_161 : decode cX9_sawdust 161 = .ok (.istore 6, 2) := dk_54 6 (dk_at dksX9_sawdust_6 20 rfl rfl)
theorem dX9_sawdust_163 : decode cX9_sawdust 163 = .ok (.iload 10, 2) := dk_21 10 (dk_at dksX9_sawdust_6 22 rfl rfl)
theorem dX9_sawdust_165 : decode cX9_sawdust 165 = .ok (.ifCond .ge 7, 3) := dk_156 0 7 (dk_at dksX9_sawdust_7 0 rfl rfl)
theorem dX9_sawdust_168 : decode cX9_sawdust 168 = .ok (.iconst 0, 1) := dk_3 (dk_at dksX9_sawdust_7 3 rfl rfl)
theorem dX9_sawdust_169 : decode cX9_sawdust 169 = .ok (.goto 27, 3) := dk_167 0 27 (dk_at dksX9_sawdust_7 4 rfl rfl)
theorem dX9_sawdust_172 : decode cX9_sawdust 172 = .ok (.aload_n 0, 1) := dk_42 (dk_at dksX9_sawdust_7 7 rfl rfl)
theorem dX9_sawdust_173 : decode cX9_sawdust 173 = .ok (.getfield 19, 3) := dk_180 0 19 (dk_at dksX9_sawdust_7 8 rfl rfl)
theorem dX9_sawdust_176 : decode cX9_sawdust 176 = .ok (.iconst 5, 1) := dk_8 (dk_at dksX9_sawdust_7 11 rfl rfl)
theorem dX9_sawdust_177 : decode cX9_sawdust 177 = .ok (.iload 9, 2) := dk_21 9 (dk_at dksX9_sawdust_7 12 rfl rfl)
theorem dX9_sawdust_179 : decode cX9_sawdust 179 = .ok (.iadd, 1) := dk_96 (dk_at dksX9_sawdust_7 14 rfl rfl)
theorem dX9_sawdust_180 : decode cX9_sawdust 180 = .ok (.iaload, 1) := dk_46 (dk_at dksX9_sawdust_7 15 rfl rfl)
theorem dX9_sawdust_181 : decode cX9_sawdust 181 = .ok (.iload 10, 2) := dk_21 10 (dk_at dksX9_sawdust_7 16 rfl rfl)
theorem dX9_sawdust_183 : decode cX9_sawdust 183 = .ok (.aload_n 0, 1) := dk_42 (dk_at dksX9_sawdust_7 18 rfl rfl)
theorem dX9_sawdust_184 : decode cX9_sawdust 184 = .ok (.getfield 19, 3) := dk_180 0 19 (dk_at dksX9_sawdust_7 19 rfl rfl)
theorem dX9_sawdust_187 : decode cX9_sawdust 187 = .ok (.bipush 29, 2) := dk_16 29 (dk_at dksX9_sawdust_7 22 rfl rfl)
theorem dX9_sawdust_189 : decode cX9_sawdust 189 = .ok (.iload 9, 2) := dk_21 9 (dk_at dksX9_sawdust_8 0 rfl rfl)
theorem dX9_sawdust_191 : decode cX9_sawdust 191 = .ok (.iadd, 1) := dk_96 (dk_at dksX9_sawdust_8 2 rfl rfl)
theorem dX9_sawdust_192 : decode cX9_sawdust 192 = .ok (.iaload, 1) := dk_46 (dk_at dksX9_sawdust_8 3 rfl rfl)
theorem dX9_sawdust_193 : decode cX9_sawdust 193 = .ok (.invokestatic 142, 3) := dk_184 0 142 (dk_at dksX9_sawdust_8 4 rfl rfl)
theorem dX9_sawdust_196 : decode cX9_sawdust 196 = .ok (.istore 7, 2) := dk_54 7 (dk_at dksX9_sawdust_8 7 rfl rfl)
theorem dX9_sawdust_198 : decode cX9_sawdust 198 = .ok (.iinc 8 1, 3) := dk_132 8 1 (dk_at dksX9_sawdust_8 9 rfl rfl)
theorem dX9_sawdust_201 : decode cX9_sawdust 201 = .ok (.goto (-157), 3) := dk_167 255 99 (dk_at dksX9_sawdust_8 12 rfl rfl)
theorem dX9_sawdust_204 : decode cX9_sawdust 204 = .ok (.aload_n 0, 1) := dk_42 (dk_at dksX9_sawdust_8 15 rfl rfl)
theorem dX9_sawdust_205 : decode cX9_sawdust 205 = .ok (.iload 5, 2) := dk_21 5 (dk_at dksX9_sawdust_8 16 rfl rfl)
theorem dX9_sawdust_207 : decode cX9_sawdust 207 = .ok (.invokevirtual 72, 3) := dk_182 0 72 (dk_at dksX9_sawdust_8 18 rfl rfl)
theorem dX9_sawdust_210 : decode cX9_sawdust 210 = .ok (.ireturn, 1) := dk_172 (dk_at dksX9_sawdust_8 21 rfl rfl)
abbrev cX9_lacksOrder : ByteArray := prog_16_method_58_code
def yX9_lacksOrder : MethodName := ⟨RX9, "lacksOrder", "(II)I"⟩
def dkwX9_lacksOrder_5 : List UInt8 := [132, 5, 1, 167, 255, 176, 29, 172]
abbrev dktX9_lacksOrder_5 : List UInt8 := dkwX9_lacksOrder_5 ++ []
def dkwX9_lacksOrder_4 : List UInt8 := [6, 182, 0, 68, 62, 21, 4, 29, 154, 0, 10, 4, 21, 6, 120, 167, 0, 4, 3, 128, 54, 4]
abbrev dktX9_lacksOrder_4 : List UInt8 := dkwX9_lacksOrder_4 ++ dktX9_lacksOrder_5
def dkwX9_lacksOrder_3 : List UInt8 := [42, 21, 6, 182, 0, 178, 153, 0, 17, 21, 4, 21, 6, 184, 0, 162, 154, 0, 7, 3, 167, 0, 8, 42]
abbrev dktX9_lacksOrder_3 : List UInt8 := dkwX9_lacksOrder_3 ++ dktX9_lacksOrder_4
def dkwX9_lacksOrder_2 : List UInt8 := [46, 162, 0, 75, 29, 154, 0, 71, 42, 180, 0, 16, 16, 40, 27, 104, 28, 96, 21, 5, 96, 46, 54, 6]
abbrev dktX9_lacksOrder_2 : List UInt8 := dkwX9_lacksOrder_2 ++ dktX9_lacksOrder_3
def dkwX9_lacksOrder_1 : List UInt8 := [5, 46, 182, 0, 220, 167, 0, 5, 18, 67, 62, 3, 54, 4, 3, 54, 5, 21, 5, 42, 180, 0, 19, 5]
abbrev dktX9_lacksOrder_1 : List UInt8 := dkwX9_lacksOrder_1 ++ dktX9_lacksOrder_2
def dkwX9_lacksOrder_0 : List UInt8 := [42, 180, 0, 135, 154, 0, 6, 18, 169, 172, 27, 184, 0, 61, 153, 0, 18, 42, 27, 28, 42, 180, 0, 19]
abbrev dktX9_lacksOrder_0 : List UInt8 := dkwX9_lacksOrder_0 ++ dktX9_lacksOrder_1
theorem dksX9_lacksOrder_0 : cX9_lacksOrder.data.toList.drop 0 = dktX9_lacksOrder_0 := by decide +kernel
theorem dksX9_lacksOrder_1 : cX9_lacksOrder.data.toList.drop 24 = dktX9_lacksOrder_1 := dk_seg dksX9_lacksOrder_0 24 rfl rfl
theorem dksX9_lacksOrder_2 : cX9_lacksOrder.data.toList.drop 48 = dktX9_lacksOrder_2 := dk_seg dksX9_lacksOrder_1 24 rfl rfl
theorem dksX9_lacksOrder_3 : cX9_lacksOrder.data.toList.drop 72 = dktX9_lacksOrder_3 := dk_seg dksX9_lacksOrder_2 24 rfl rfl
theorem dksX9_lacksOrder_4 : cX9_lacksOrder.data.toList.drop 96 = dktX9_lacksOrder_4 := dk_seg dksX9_lacksOrder_3 24 rfl rfl
theorem dksX9_lacksOrder_5 : cX9_lacksOrder.data.toList.drop 118 = dktX9_lacksOrder_5 := dk_seg dksX9_lacksOrder_4 22 rfl rfl
theorem dX9_lacksOrder_0 : decode cX9_lacksOrder 0 = .ok (.aload_n 0, 1) := dk_42 (dk_at dksX9_lacksOrder_0 0 rfl rfl)
theorem dX9_lacksOrder_1 : decode cX9_lacksOrder 1 = .ok (.getfield 135, 3) := dk_180 0 135 (dk_at dksX9_lacksOrder_0 1 rfl rfl)
theorem dX9_lacksOrder_4 : decode cX9_lacksOrder 4 = .ok (.ifCond .ne 6, 3) := dk_154 0 6 (dk_at dksX9_lacksOrder_0 4 rfl rfl)
theorem dX9_lacksOrder_7 : decode cX9_lacksOrder 7 = .ok (.ldc 169, 2) := dk_18 169 (dk_at dksX9_lacksOrder_0 7 rfl rfl)
theorem dX9_lacksOrder_9 : decode cX9_lacksOrder 9 = .ok (.ireturn, 1) := dk_172 (dk_at dksX9_lacksOrder_0 9 rfl rfl)
theorem dX9_lacksOrder_10 : decode cX9_lacksOrder 10 = .ok (.iload_n 1, 1) := dk_27 (dk_at dksX9_lacksOrder_0 10 rfl rfl)
theorem dX9_lacksOrder_11 : decode cX9_lacksOrder 11 = .ok (.invokestatic 61, 3) := dk_184 0 61 (dk_at dksX9_lacksOrder_0 11 rfl rfl)
theorem dX9_lacksOrder_14 : decode cX9_lacksOrder 14 = .ok (.ifCond .eq 18, 3) := dk_153 0 18 (dk_at dksX9_lacksOrder_0 14 rfl rfl)
theorem dX9_lacksOrder_17 : decode cX9_lacksOrder 17 = .ok (.aload_n 0, 1) := dk_42 (dk_at dksX9_lacksOrder_0 17 rfl rfl)
theorem dX9_lacksOrder_18 : decode cX9_lacksOrder 18 = .ok (.iload_n 1, 1) := dk_27 (dk_at dksX9_lacksOrder_0 18 rfl rfl)
theorem dX9_lacksOrder_19 : decode cX9_lacksOrder 19 = .ok (.iload_n 2, 1) := dk_28 (dk_at dksX9_lacksOrder_0 19 rfl rfl)
theorem dX9_lacksOrder_20 : decode cX9_lacksOrder 20 = .ok (.aload_n 0, 1) := dk_42 (dk_at dksX9_lacksOrder_0 20 rfl rfl)
theorem dX9_lacksOrder_21 : decode cX9_lacksOrder 21 = .ok (.getfield 19, 3) := dk_180 0 19 (dk_at dksX9_lacksOrder_0 21 rfl rfl)
theorem dX9_lacksOrder_24 : decode cX9_lacksOrder 24 = .ok (.iconst 2, 1) := dk_5 (dk_at dksX9_lacksOrder_1 0 rfl rfl)
theorem dX9_lacksOrder_25 : decode cX9_lacksOrder 25 = .ok (.iaload, 1) := dk_46 (dk_at dksX9_lacksOrder_1 1 rfl rfl)
theorem dX9_lacksOrder_26 : decode cX9_lacksOrder 26 = .ok (.invokevirtual 220, 3) := dk_182 0 220 (dk_at dksX9_lacksOrder_1 2 rfl rfl)
theorem dX9_lacksOrder_29 : decode cX9_lacksOrder 29 = .ok (.goto 5, 3) := dk_167 0 5 (dk_at dksX9_lacksOrder_1 5 rfl rfl)
theorem dX9_lacksOrder_32 : decode cX9_lacksOrder 32 = .ok (.ldc 67, 2) := dk_18 67 (dk_at dksX9_lacksOrder_1 8 rfl rfl)
theorem dX9_lacksOrder_34 : decode cX9_lacksOrder 34 = .ok (.istore_n 3, 1) := dk_62 (dk_at dksX9_lacksOrder_1 10 rfl rfl)
theorem dX9_lacksOrder_35 : decode cX9_lacksOrder 35 = .ok (.iconst 0, 1) := dk_3 (dk_at dksX9_lacksOrder_1 11 rfl rfl)
theorem dX9_lacksOrder_36 : decode cX9_lacksOrder 36 = .ok (.istore 4, 2) := dk_54 4 (dk_at dksX9_lacksOrder_1 12 rfl rfl)
theorem dX9_lacksOrder_38 : decode cX9_lacksOrder 38 = .ok (.iconst 0, 1) := dk_3 (dk_at dksX9_lacksOrder_1 14 rfl rfl)
theorem dX9_lacksOrder_39 : decode cX9_lacksOrder 39 = .ok (.istore 5, 2) := dk_54 5 (dk_at dksX9_lacksOrder_1 15 rfl rfl)
theorem dX9_lacksOrder_41 : decode cX9_lacksOrder 41 = .ok (.iload 5, 2) := dk_21 5 (dk_at dksX9_lacksOrder_1 17 rfl rfl)
theorem dX9_lacksOrder_43 : decode cX9_lacksOrder 43 = .ok (.aload_n 0, 1) := dk_42 (dk_at dksX9_lacksOrder_1 19 rfl rfl)
theorem dX9_lacksOrder_44 : decode cX9_lacksOrder 44 = .ok (.getfield 19, 3) := dk_180 0 19 (dk_at dksX9_lacksOrder_1 20 rfl rfl)
theorem dX9_lacksOrder_47 : decode cX9_lacksOrder 47 = .ok (.iconst 2, 1) := dk_5 (dk_at dksX9_lacksOrder_1 23 rfl rfl)
theorem dX9_lacksOrder_48 : decode cX9_lacksOrder 48 = .ok (.iaload, 1) := dk_46 (dk_at dksX9_lacksOrder_2 0 rfl rfl)
theorem dX9_lacksOrder_49 : decode cX9_lacksOrder 49 = .ok (.if_icmp .ge 75, 3) := dk_162 0 75 (dk_at dksX9_lacksOrder_2 1 rfl rfl)
theorem dX9_lacksOrder_52 : decode cX9_lacksOrder 52 = .ok (.iload_n 3, 1) := dk_29 (dk_at dksX9_lacksOrder_2 4 rfl rfl)
theorem dX9_lacksOrder_53 : decode cX9_lacksOrder 53 = .ok (.ifCond .ne 71, 3) := dk_154 0 71 (dk_at dksX9_lacksOrder_2 5 rfl rfl)
theorem dX9_lacksOrder_56 : decode cX9_lacksOrder 56 = .ok (.aload_n 0, 1) := dk_42 (dk_at dksX9_lacksOrder_2 8 rfl rfl)
theorem dX9_lacksOrder_57 : decode cX9_lacksOrder 57 = .ok (.getfield 16, 3) := dk_180 0 16 (dk_at dksX9_lacksOrder_2 9 rfl rfl)
theorem dX9_lacksOrder_60 : decode cX9_lacksOrder 60 = .ok (.bipush 40, 2) := dk_16 40 (dk_at dksX9_lacksOrder_2 12 rfl rfl)
theorem dX9_lacksOrder_62 : decode cX9_lacksOrder 62 = .ok (.iload_n 1, 1) := dk_27 (dk_at dksX9_lacksOrder_2 14 rfl rfl)
theorem dX9_lacksOrder_63 : decode cX9_lacksOrder 63 = .ok (.imul, 1) := dk_104 (dk_at dksX9_lacksOrder_2 15 rfl rfl)
theorem dX9_lacksOrder_64 : decode cX9_lacksOrder 64 = .ok (.iload_n 2, 1) := dk_28 (dk_at dksX9_lacksOrder_2 16 rfl rfl)
theorem dX9_lacksOrder_65 : decode cX9_lacksOrder 65 = .ok (.iadd, 1) := dk_96 (dk_at dksX9_lacksOrder_2 17 rfl rfl)
theorem dX9_lacksOrder_66 : decode cX9_lacksOrder 66 = .ok (.iload 5, 2) := dk_21 5 (dk_at dksX9_lacksOrder_2 18 rfl rfl)
theorem dX9_lacksOrder_68 : decode cX9_lacksOrder 68 = .ok (.iadd, 1) := dk_96 (dk_at dksX9_lacksOrder_2 20 rfl rfl)
theorem dX9_lacksOrder_69 : decode cX9_lacksOrder 69 = .ok (.iaload, 1) := dk_46 (dk_at dksX9_lacksOrder_2 21 rfl rfl)
theorem dX9_lacksOrder_70 : decode cX9_lacksOrder 70 = .ok (.istore 6, 2) := dk_54 6 (dk_at dksX9_lacksOrder_2 22 rfl rfl)
theorem dX9_lacksOrder_72 : decode cX9_lacksOrder 72 = .ok (.aload_n 0, 1) := dk_42 (dk_at dksX9_lacksOrder_3 0 rfl rfl)
theorem dX9_lacksOrder_73 : decode cX9_lacksOrder 73 = .ok (.iload 6, 2) := dk_21 6 (dk_at dksX9_lacksOrder_3 1 rfl rfl)
theorem dX9_lacksOrder_75 : decode cX9_lacksOrder 75 = .ok (.invokevirtual 178, 3) := dk_182 0 178 (dk_at dksX9_lacksOrder_3 3 rfl rfl)
theorem dX9_lacksOrder_78 : decode cX9_lacksOrder 78 = .ok (.ifCond .eq 17, 3) := dk_153 0 17 (dk_at dksX9_lacksOrder_3 6 rfl rfl)
theorem dX9_lacksOrder_81 : decode cX9_lacksOrder 81 = .ok (.iload 4, 2) := dk_21 4 (dk_at dksX9_lacksOrder_3 9 rfl rfl)
theorem dX9_lacksOrder_83 : decode cX9_lacksOrder 83 = .ok (.iload 6, 2) := dk_21 6 (dk_at dksX9_lacksOrder_3 11 rfl rfl)
theorem dX9_lacksOrder_85 : decode cX9_lacksOrder 85 = .ok (.invokestatic 162, 3) := dk_184 0 162 (dk_at dksX9_lacksOrder_3 13 rfl rfl)
theorem dX9_lacksOrder_88 : decode cX9_lacksOrder 88 = .ok (.ifCond .ne 7, 3) := dk_154 0 7 (dk_at dksX9_lacksOrder_3 16 rfl rfl)
theorem dX9_lacksOrder_91 : decode cX9_lacksOrder 91 = .ok (.iconst 0, 1) := dk_3 (dk_at dksX9_lacksOrder_3 19 rfl rfl)
theorem dX9_lacksOrder_92 : decode cX9_lacksOrder 92 = .ok (.goto 8, 3) := dk_167 0 8 (dk_at dksX9_lacksOrder_3 20 rfl rfl)
theorem dX9_lacksOrder_95 : decode cX9_lacksOrder 95 = .ok (.aload_n 0, 1) := dk_42 (dk_at dksX9_lacksOrder_3 23 rfl rfl)
theorem dX9_lacksOrder_96 : decode cX9_lacksOrder 96 = .ok (.iconst 3, 1) := dk_6 (dk_at dksX9_lacksOrder_4 0 rfl rfl)
theorem dX9_lacksOrder_97 : decode cX9_lacksOrder 97 = .ok (.invokevirtual 68, 3) := dk_182 0 68 (dk_at dksX9_lacksOrder_4 1 rfl rfl)
theorem dX9_lacksOrder_100 : decode cX9_lacksOrder 100 = .ok (.istore_n 3, 1) := dk_62 (dk_at dksX9_lacksOrder_4 4 rfl rfl)
theorem dX9_lacksOrder_101 : decode cX9_lacksOrder 101 = .ok (.iload 4, 2) := dk_21 4 (dk_at dksX9_lacksOrder_4 5 rfl rfl)
theorem dX9_lacksOrder_103 : decode cX9_lacksOrder 103 = .ok (.iload_n 3, 1) := dk_29 (dk_at dksX9_lacksOrder_4 7 rfl rfl)
theorem dX9_lacksOrder_104 : decode cX9_lacksOrder 104 = .ok (.ifCond .ne 10, 3) := dk_154 0 10 (dk_at dksX9_lacksOrder_4 8 rfl rfl)
theorem dX9_lacksOrder_107 : decode cX9_lacksOrder 107 = .ok (.iconst 1, 1) := dk_4 (dk_at dksX9_lacksOrder_4 11 rfl rfl)
theorem dX9_lacksOrder_108 : decode cX9_lacksOrder 108 = .ok (.iload 6, 2) := dk_21 6 (dk_at dksX9_lacksOrder_4 12 rfl rfl)
theorem dX9_lacksOrder_110 : decode cX9_lacksOrder 110 = .ok (.ishl, 1) := dk_120 (dk_at dksX9_lacksOrder_4 14 rfl rfl)
theorem dX9_lacksOrder_111 : decode cX9_lacksOrder 111 = .ok (.goto 4, 3) := dk_167 0 4 (dk_at dksX9_lacksOrder_4 15 rfl rfl)
theorem dX9_lacksOrder_114 : decode cX9_lacksOrder 114 = .ok (.iconst 0, 1) := dk_3 (dk_at dksX9_lacksOrder_4 18 rfl rfl)
theorem dX9_lacksOrder_115 : decode cX9_lacksOrder 115 = .ok (.ior, 1) := dk_128 (dk_at dksX9_lacksOrder_4 19 rfl rfl)
theorem dX9_lacksOrder_116 : decode cX9_lacksOrder 116 = .ok (.istore 4, 2) := dk_54 4 (dk_at dksX9_lacksOrder_4 20 rfl rfl)
theorem dX9_lacksOrder_118 : decode cX9_lacksOrder 118 = .ok (.iinc 5 1, 3) := dk_132 5 1 (dk_at dksX9_lacksOrder_5 0 rfl rfl)
theorem dX9_lacksOrder_121 : decode cX9_lacksOrder 121 = .ok (.goto (-80), 3) := dk_167 255 176 (dk_at dksX9_lacksOrder_5 3 rfl rfl)
theorem dX9_lacksOrder_124 : decode cX9_lacksOrder 124 = .ok (.iload_n 3, 1) := dk_29 (dk_at dksX9_lacksOrder_5 6 rfl rfl)
theorem dX9_lacksOrder_125 : decode cX9_lacksOrder 125 = .ok (.ireturn, 1) := dk_172 (dk_at dksX9_lacksOrder_5 7 rfl rfl)
abbrev cX9_lacks : ByteArray := prog_16_method_57_code
def yX9_lacks : MethodName := ⟨RX9, "lacks", "(III)I"⟩
def dkwX9_lacks_1 : List UInt8 := [29, 100, 133, 184, 0, 57, 153, 0, 7, 3, 167, 0, 8, 42, 5, 182, 0, 68, 172]
abbrev dktX9_lacks_1 : List UInt8 := dkwX9_lacks_1 ++ []
def dkwX9_lacks_0 : List UInt8 := [42, 180, 0, 13, 27, 46, 156, 0, 9, 42, 4, 182, 0, 68, 172, 28, 133, 9, 42, 180, 0, 13, 27, 46]
abbrev dktX9_lacks_0 : List UInt8 := dkwX9_lacks_0 ++ dktX9_lacks_1
theorem dksX9_lacks_0 : cX9_lacks.data.toList.drop 0 = dktX9_lacks_0 := by decide +kernel
theorem dksX9_lacks_1 : cX9_lacks.data.toList.drop 24 = dktX9_lacks_1 := dk_seg dksX9_lacks_0 24 rfl rfl
theorem dX9_lacks_0 : decode cX9_lacks 0 = .ok (.aload_n 0, 1) := dk_42 (dk_at dksX9_lacks_0 0 rfl rfl)
theorem dX9_lacks_1 : decode cX9_lacks 1 = .ok (.getfield 13, 3) := dk_180 0 13 (dk_at dksX9_lacks_0 1 rfl rfl)
theorem dX9_lacks_4 : decode cX9_lacks 4 = .ok (.iload_n 1, 1) := dk_27 (dk_at dksX9_lacks_0 4 rfl rfl)
theorem dX9_lacks_5 : decode cX9_lacks 5 = .ok (.iaload, 1) := dk_46 (dk_at dksX9_lacks_0 5 rfl rfl)
theorem dX9_lacks_6 : decode cX9_lacks 6 = .ok (.ifCond .ge 9, 3) := dk_156 0 9 (dk_at dksX9_lacks_0 6 rfl rfl)
theorem dX9_lacks_9 : decode cX9_lacks 9 = .ok (.aload_n 0, 1) := dk_42 (dk_at dksX9_lacks_0 9 rfl rfl)
theorem dX9_lacks_10 : decode cX9_lacks 10 = .ok (.iconst 1, 1) := dk_4 (dk_at dksX9_lacks_0 10 rfl rfl)
theorem dX9_lacks_11 : decode cX9_lacks 11 = .ok (.invokevirtual 68, 3) := dk_182 0 68 (dk_at dksX9_lacks_0 11 rfl rfl)
theorem dX9_lacks_14 : decode cX9_lacks 14 = .ok (.ireturn, 1) := dk_172 (dk_at dksX9_lacks_0 14 rfl rfl)
theorem dX9_lacks_15 : decode cX9_lacks 15 = .ok (.iload_n 2, 1) := dk_28 (dk_at dksX9_lacks_0 15 rfl rfl)
theorem dX9_lacks_16 : decode cX9_lacks 16 = .ok (.i2l, 1) := dk_133 (dk_at dksX9_lacks_0 16 rfl rfl)
theorem dX9_lacks_17 : decode cX9_lacks 17 = .ok (.lconst 0, 1) := dk_9 (dk_at dksX9_lacks_0 17 rfl rfl)
theorem dX9_lacks_18 : decode cX9_lacks 18 = .ok (.aload_n 0, 1) := dk_42 (dk_at dksX9_lacks_0 18 rfl rfl)
theorem dX9_lacks_19 : decode cX9_lacks 19 = .ok (.getfield 13, 3) := dk_180 0 13 (dk_at dksX9_lacks_0 19 rfl rfl)
theorem dX9_lacks_22 : decode cX9_lacks 22 = .ok (.iload_n 1, 1) := dk_27 (dk_at dksX9_lacks_0 22 rfl rfl)
theorem dX9_lacks_23 : decode cX9_lacks 23 = .ok (.iaload, 1) := dk_46 (dk_at dksX9_lacks_0 23 rfl rfl)
theorem dX9_lacks_24 : decode cX9_lacks 24 = .ok (.iload_n 3, 1) := dk_29 (dk_at dksX9_lacks_1 0 rfl rfl)
theorem dX9_lacks_25 : decode cX9_lacks 25 = .ok (.isub, 1) := dk_100 (dk_at dksX9_lacks_1 1 rfl rfl)
theorem dX9_lacks_26 : decode cX9_lacks 26 = .ok (.i2l, 1) := dk_133 (dk_at dksX9_lacks_1 2 rfl rfl)
theorem dX9_lacks_27 : decode cX9_lacks 27 = .ok (.invokestatic 57, 3) := dk_184 0 57 (dk_at dksX9_lacks_1 3 rfl rfl)
theorem dX9_lacks_30 : decode cX9_lacks 30 = .ok (.ifCond .eq 7, 3) := dk_153 0 7 (dk_at dksX9_lacks_1 6 rfl rfl)
theorem dX9_lacks_33 : decode cX9_lacks 33 = .ok (.iconst 0, 1) := dk_3 (dk_at dksX9_lacks_1 9 rfl rfl)
theorem dX9_lacks_34 : decode cX9_lacks 34 = .ok (.goto 8, 3) := dk_167 0 8 (dk_at dksX9_lacks_1 10 rfl rfl)
theorem dX9_lacks_37 : decode cX9_lacks 37 = .ok (.aload_n 0, 1) := dk_42 (dk_at dksX9_lacks_1 13 rfl rfl)
theorem dX9_lacks_38 : decode cX9_lacks 38 = .ok (.iconst 2, 1) := dk_5 (dk_at dksX9_lacks_1 14 rfl rfl)
theorem dX9_lacks_39 : decode cX9_lacks 39 = .ok (.invokevirtual 68, 3) := dk_182 0 68 (dk_at dksX9_lacks_1 15 rfl rfl)
theorem dX9_lacks_42 : decode cX9_lacks 42 = .ok (.ireturn, 1) := dk_172 (dk_at dksX9_lacks_1 18 rfl rfl)
abbrev cX9_isAbove : ByteArray := prog_16_method_59_code
def yX9_isAbove : MethodName := ⟨RX9, "isAbove", "(IIII)Z"⟩
def dkwX9_isAbove_0 : List UInt8 := [26, 28, 163, 0, 13, 26, 28, 160, 0, 12, 27, 29, 162, 0, 7, 4, 167, 0, 4, 3, 172]
abbrev dktX9_isAbove_0 : List UInt8 := dkwX9_isAbove_0 ++ []
theorem dksX9_isAbove_0 : cX9_isAbove.data.toList.drop 0 = dktX9_isAbove_0 := by decide +kernel
theorem dX9_isAbove_0 : decode cX9_isAbove 0 = .ok (.iload_n 0, 1) := dk_26 (dk_at dksX9_isAbove_0 0 rfl rfl)
theorem dX9_isAbove_1 : decode cX9_isAbove 1 = .ok (.iload_n 2, 1) := dk_28 (dk_at dksX9_isAbove_0 1 rfl rfl)
theorem dX9_isAbove_2 : decode cX9_isAbove 2 = .ok (.if_icmp .gt 13, 3) := dk_163 0 13 (dk_at dksX9_isAbove_0 2 rfl rfl)
theorem dX9_isAbove_5 : decode cX9_isAbove 5 = .ok (.iload_n 0, 1) := dk_26 (dk_at dksX9_isAbove_0 5 rfl rfl)
theorem dX9_isAbove_6 : decode cX9_isAbove 6 = .ok (.iload_n 2, 1) := dk_28 (dk_at dksX9_isAbove_0 6 rfl rfl)
theorem dX9_isAbove_7 : decode cX9_isAbove 7 = .ok (.if_icmp .ne 12, 3) := dk_160 0 12 (dk_at dksX9_isAbove_0 7 rfl rfl)
theorem dX9_isAbove_10 : decode cX9_isAbove 10 = .ok (.iload_n 1, 1) := dk_27 (dk_at dksX9_isAbove_0 10 rfl rfl)
theorem dX9_isAbove_11 : decode cX9_isAbove 11 = .ok (.iload_n 3, 1) := dk_29 (dk_at dksX9_isAbove_0 11 rfl rfl)
theorem dX9_isAbove_12 : decode cX9_isAbove 12 = .ok (.if_icmp .ge 7, 3) := dk_162 0 7 (dk_at dksX9_isAbove_0 12 rfl rfl)
theorem dX9_isAbove_15 : decode cX9_isAbove 15 = .ok (.iconst 1, 1) := dk_4 (dk_at dksX9_isAbove_0 15 rfl rfl)
theorem dX9_isAbove_16 : decode cX9_isAbove 16 = .ok (.goto 4, 3) := dk_167 0 4 (dk_at dksX9_isAbove_0 16 rfl rfl)
theorem dX9_isAbove_19 : decode cX9_isAbove 19 = .ok (.iconst 0, 1) := dk_3 (dk_at dksX9_isAbove_0 19 rfl rfl)
theorem dX9_isAbove_20 : decode cX9_isAbove 20 = .ok (.ireturn, 1) := dk_172 (dk_at dksX9_isAbove_0 20 rfl rfl)
abbrev cX9_pile : ByteArray := prog_16_method_61_code
def yX9_pile : MethodName := ⟨RX9, "pile", "(II)I"⟩
def dkwX9_pile_9 : List UInt8 := [21, 5, 182, 0, 72, 172]
abbrev dktX9_pile_9 : List UInt8 := dkwX9_pile_9 ++ []
def dkwX9_pile_8 : List UInt8 := [180, 0, 19, 16, 11, 21, 9, 96, 46, 21, 10, 184, 0, 142, 54, 7, 132, 8, 255, 167, 255, 110, 42]
abbrev dktX9_pile_8 : List UInt8 := dkwX9_pile_8 ++ dktX9_pile_9
def dkwX9_pile_7 : List UInt8 := [16, 29, 21, 9, 96, 46, 100, 54, 5, 21, 9, 54, 6, 42, 180, 0, 19, 8, 21, 9, 96, 46, 42]
abbrev dktX9_pile_7 : List UInt8 := dkwX9_pile_7 ++ dktX9_pile_8
def dkwX9_pile_6 : List UInt8 := [167, 255, 210, 21, 10, 16, 20, 164, 0, 8, 18, 149, 167, 0, 19, 21, 5, 21, 10, 96, 42, 180, 0, 19]
abbrev dktX9_pile_6 : List UInt8 := dkwX9_pile_6 ++ dktX9_pile_7
def dkwX9_pile_5 : List UInt8 := [96, 46, 21, 10, 184, 0, 142, 21, 9, 21, 7, 21, 6, 184, 0, 226, 154, 0, 9, 132, 10, 1]
abbrev dktX9_pile_5 : List UInt8 := dkwX9_pile_5 ++ dktX9_pile_6
def dkwX9_pile_4 : List UInt8 := [21, 10, 16, 20, 163, 0, 45, 42, 180, 0, 19, 8, 21, 9, 96, 46, 42, 180, 0, 19, 16, 11, 21, 9]
abbrev dktX9_pile_4 : List UInt8 := dkwX9_pile_4 ++ dktX9_pile_5
def dkwX9_pile_3 : List UInt8 := [180, 0, 16, 21, 4, 21, 8, 96, 46, 54, 9, 42, 180, 0, 19, 16, 29, 21, 9, 96, 46, 54, 10]
abbrev dktX9_pile_3 : List UInt8 := dkwX9_pile_3 ++ dktX9_pile_4
def dkwX9_pile_2 : List UInt8 := [54, 7, 42, 180, 0, 19, 5, 46, 5, 100, 54, 8, 21, 8, 155, 0, 147, 21, 5, 155, 0, 142, 42]
abbrev dktX9_pile_2 : List UInt8 := dkwX9_pile_2 ++ dktX9_pile_3
def dkwX9_pile_1 : List UInt8 := [42, 180, 0, 16, 21, 4, 42, 180, 0, 19, 5, 46, 96, 4, 100, 46, 54, 6, 42, 21, 6, 182, 0, 146]
abbrev dktX9_pile_1 : List UInt8 := dkwX9_pile_1 ++ dktX9_pile_2
def dkwX9_pile_0 : List UInt8 := [42, 27, 28, 182, 0, 223, 62, 29, 156, 0, 5, 29, 172, 16, 40, 27, 104, 28, 96, 54, 4, 3, 54, 5]
abbrev dktX9_pile_0 : List UInt8 := dkwX9_pile_0 ++ dktX9_pile_1
theorem dksX9_pile_0 : cX9_pile.data.toList.drop 0 = dktX9_pile_0 := by decide +kernel
theorem dksX9_pile_1 : cX9_pile.data.toList.drop 24 = dktX9_pile_1 := dk_seg dksX9_pile_0 24 rfl rfl
theorem dksX9_pile_2 : cX9_pile.data.toList.drop 48 = dktX9_pile_2 := dk_seg dksX9_pile_1 24 rfl rfl
theorem dksX9_pile_3 : cX9_pile.data.toList.drop 71 = dktX9_pile_3 := dk_seg dksX9_pile_2 23 rfl rfl
theorem dksX9_pile_4 : cX9_pile.data.toList.drop 94 = dktX9_pile_4 := dk_seg dksX9_pile_3 23 rfl rfl
theorem dksX9_pile_5 : cX9_pile.data.toList.drop 118 = dktX9_pile_5 := dk_seg dksX9_pile_4 24 rfl rfl
theorem dksX9_pile_6 : cX9_pile.data.toList.drop 140 = dktX9_pile_6 := dk_seg dksX9_pile_5 22 rfl rfl
theorem dksX9_pile_7 : cX9_pile.data.toList.drop 164 = dktX9_pile_7 := dk_seg dksX9_pile_6 24 rfl rfl
theorem dksX9_pile_8 : cX9_pile.data.toList.drop 187 = dktX9_pile_8 := dk_seg dksX9_pile_7 23 rfl rfl
theorem dksX9_pile_9 : cX9_pile.data.toList.drop 210 = dktX9_pile_9 := dk_seg dksX9_pile_8 23 rfl rfl
theorem dX9_pile_0 : decode cX9_pile 0 = .ok (.aload_n 0, 1) := dk_42 (dk_at dksX9_pile_0 0 rfl rfl)
theorem dX9_pile_1 : decode cX9_pile 1 = .ok (.iload_n 1, 1) := dk_27 (dk_at dksX9_pile_0 1 rfl rfl)
theorem dX9_pile_2 : decode cX9_pile 2 = .ok (.iload_n 2, 1) := dk_28 (dk_at dksX9_pile_0 2 rfl rfl)
theorem dX9_pile_3 : decode cX9_pile 3 = .ok (.invokevirtual 223, 3) := dk_182 0 223 (dk_at dksX9_pile_0 3 rfl rfl)
theorem dX9_pile_6 : decode cX9_pile 6 = .ok (.istore_n 3, 1) := dk_62 (dk_at dksX9_pile_0 6 rfl rfl)
theorem dX9_pile_7 : decode cX9_pile 7 = .ok (.iload_n 3, 1) := dk_29 (dk_at dksX9_pile_0 7 rfl rfl)
theorem dX9_pile_8 : decode cX9_pile 8 = .ok (.ifCond .ge 5, 3) := dk_156 0 5 (dk_at dksX9_pile_0 8 rfl rfl)
theorem dX9_pile_11 : decode cX9_pile 11 = .ok (.iload_n 3, 1) := dk_29 (dk_at dksX9_pile_0 11 rfl rfl)
theorem dX9_pile_12 : decode cX9_pile 12 = .ok (.ireturn, 1) := dk_172 (dk_at dksX9_pile_0 12 rfl rfl)
theorem dX9_pile_13 : decode cX9_pile 13 = .ok (.bipush 40, 2) := dk_16 40 (dk_at dksX9_pile_0 13 rfl rfl)
theorem dX9_pile_15 : decode cX9_pile 15 = .ok (.iload_n 1, 1) := dk_27 (dk_at dksX9_pile_0 15 rfl rfl)
theorem dX9_pile_16 : decode cX9_pile 16 = .ok (.imul, 1) := dk_104 (dk_at dksX9_pile_0 16 rfl rfl)
theorem dX9_pile_17 : decode cX9_pile 17 = .ok (.iload_n 2, 1) := dk_28 (dk_at dksX9_pile_0 17 rfl rfl)
theorem dX9_pile_18 : decode cX9_pile 18 = .ok (.iadd, 1) := dk_96 (dk_at dksX9_pile_0 18 rfl rfl)
theorem dX9_pile_19 : decode cX9_pile 19 = .ok (.istore 4, 2) := dk_54 4 (dk_at dksX9_pile_0 19 rfl rfl)
theorem dX9_pile_21 : decode cX9_pile 21 = .ok (.iconst 0, 1) := dk_3 (dk_at dksX9_pile_0 21 rfl rfl)
theorem dX9_pile_22 : decode cX9_pile 22 = .ok (.istore 5, 2) := dk_54 5 (dk_at dksX9_pile_0 22 rfl rfl)
theorem dX9_pile_24 : decode cX9_pile 24 = .ok (.aload_n 0, 1) := dk_42 (dk_at dksX9_pile_1 0 rfl rfl)
theorem dX9_pile_25 : decode cX9_pile 25 = .ok (.getfield 16, 3) := dk_180 0 16 (dk_at dksX9_pile_1 1 rfl rfl)
theorem dX9_pile_28 : decode cX9_pile 28 = .ok (.iload 4, 2) := dk_21 4 (dk_at dksX9_pile_1 4 rfl rfl)
theorem dX9_pile_30 : decode cX9_pile 30 = .ok (.aload_n 0, 1) := dk_42 (dk_at dksX9_pile_1 6 rfl rfl)
theorem dX9_pile_31 : decode cX9_pile 31 = .ok (.getfield 19, 3) := dk_180 0 19 (dk_at dksX9_pile_1 7 rfl rfl)
theorem dX9_pile_34 : decode cX9_pile 34 = .ok (.iconst 2, 1) := dk_5 (dk_at dksX9_pile_1 10 rfl rfl)
theorem dX9_pile_35 : decode cX9_pile 35 = .ok (.iaload, 1) := dk_46 (dk_at dksX9_pile_1 11 rfl rfl)
theorem dX9_pile_36 : decode cX9_pile 36 = .ok (.iadd, 1) := dk_96 (dk_at dksX9_pile_1 12 rfl rfl)
theorem dX9_pile_37 : decode cX9_pile 37 = .ok (.iconst 1, 1) := dk_4 (dk_at dksX9_pile_1 13 rfl rfl)
theorem dX9_pile_38 : decode cX9_pile 38 = .ok (.isub, 1) := dk_100 (dk_at dksX9_pile_1 14 rfl rfl)
theorem dX9_pile_39 : decode cX9_pile 39 = .ok (.iaload, 1) := dk_46 (dk_at dksX9_pile_1 15 rfl rfl)
theorem dX9_pile_40 : decode cX9_pile 40 = .ok (.istore 6, 2) := dk_54 6 (dk_at dksX9_pile_1 16 rfl rfl)
theorem dX9_pile_42 : decode cX9_pile 42 = .ok (.aload_n 0, 1) := dk_42 (dk_at dksX9_pile_1 18 rfl rfl)
theorem dX9_pile_43 : decode cX9_pile 43 = .ok (.iload 6, 2) := dk_21 6 (dk_at dksX9_pile_1 19 rfl rfl)
theorem dX9_pile_45 : decode cX9_pile 45 = .ok (.invokevirtual 146, 3) := dk_182 0 146 (dk_at dksX9_pile_1 21 rfl rfl)
theorem dX9_pile_48 : decode cX9_pile 48 = .ok (.istore 7, 2) := dk_54 7 (dk_at dksX9_pile_2 0 rfl rfl)
theorem dX9_pile_50 : decode cX9_pile 50 = .ok (.aload_n 0, 1) := dk_42 (dk_at dksX9_pile_2 2 rfl rfl)
theorem dX9_pile_51 : decode cX9_pile 51 = .ok (.getfield 19, 3) := dk_180 0 19 (dk_at dksX9_pile_2 3 rfl rfl)
theorem dX9_pile_54 : decode cX9_pile 54 = .ok (.iconst 2, 1) := dk_5 (dk_at dksX9_pile_2 6 rfl rfl)
theorem dX9_pile_55 : decode cX9_pile 55 = .ok (.iaload, 1) := dk_46 (dk_at dksX9_pile_2 7 rfl rfl)
theorem dX9_pile_56 : decode cX9_pile 56 = .ok (.iconst 2, 1) := dk_5 (dk_at dksX9_pile_2 8 rfl rfl)
theorem dX9_pile_57 : decode cX9_pile 57 = .ok (.isub, 1) := dk_100 (dk_at dksX9_pile_2 9 rfl rfl)
theorem dX9_pile_58 : decode cX9_pile 58 = .ok (.istore 8, 2) := dk_54 8 (dk_at dksX9_pile_2 10 rfl rfl)
theorem dX9_pile_60 : decode cX9_pile 60 = .ok (.iload 8, 2) := dk_21 8 (dk_at dksX9_pile_2 12 rfl rfl)
theorem dX9_pile_62 : decode cX9_pile 62 = .ok (.ifCond .lt 147, 3) := dk_155 0 147 (dk_at dksX9_pile_2 14 rfl rfl)
theorem dX9_pile_65 : decode cX9_pile 65 = .ok (.iload 5, 2) := dk_21 5 (dk_at dksX9_pile_2 17 rfl rfl)
theorem dX9_pile_67 : decode cX9_pile 67 = .ok (.ifCond .lt 142, 3) := dk_155 0 142 (dk_at dksX9_pile_2 19 rfl rfl)
theorem dX9_pile_70 : decode cX9_pile 70 = .ok (.aload_n 0, 1) := dk_42 (dk_at dksX9_pile_2 22 rfl rfl)
theorem dX9_pile_71 : decode cX9_pile 71 = .ok (.getfield 16, 3) := dk_180 0 16 (dk_at dksX9_pile_3 0 rfl rfl)
theorem dX9_pile_74 : decode cX9_pile 74 = .ok (.iload 4, 2) := dk_21 4 (dk_at dksX9_pile_3 3 rfl rfl)
theorem dX9_pile_76 : decode cX9_pile 76 = .ok (.iload 8, 2) := dk_21 8 (dk_at dksX9_pile_3 5 rfl rfl)
theorem dX9_pile_78 : decode cX9_pile 78 = .ok (.iadd, 1) := dk_96 (dk_at dksX9_pile_3 7 rfl rfl)
theorem dX9_pile_79 : decode cX9_pile 79 = .ok (.iaload, 1) := dk_46 (dk_at dksX9_pile_3 8 rfl rfl)
theorem dX9_pile_80 : decode cX9_pile 80 = .ok (.istore 9, 2) := dk_54 9 (dk_at dksX9_pile_3 9 rfl rfl)
theorem dX9_pile_82 : decode cX9_pile 82 = .ok (.aload_n 0, 1) := dk_42 (dk_at dksX9_pile_3 11 rfl rfl)
theorem dX9_pile_83 : decode cX9_pile 83 = .ok (.getfield 19, 3) := dk_180 0 19 (dk_at dksX9_pile_3 12 rfl rfl)
theorem dX9_pile_86 : decode cX9_pile 86 = .ok (.bipush 29, 2) := dk_16 29 (dk_at dksX9_pile_3 15 rfl rfl)
theorem dX9_pile_88 : decode cX9_pile 88 = .ok (.iload 9, 2) := dk_21 9 (dk_at dksX9_pile_3 17 rfl rfl)
theorem dX9_pile_90 : decode cX9_pile 90 = .ok (.iadd, 1) := dk_96 (dk_at dksX9_pile_3 19 rfl rfl)
theorem dX9_pile_91 : decode cX9_pile 91 = .ok (.iaload, 1) := dk_46 (dk_at dksX9_pile_3 20 rfl rfl)
theorem dX9_pile_92 : decode cX9_pile 92 = .ok (.istore 10, 2) := dk_54 10 (dk_at dksX9_pile_3 21 rfl rfl)
theorem dX9_pile_94 : decode cX9_pile 94 = .ok (.iload 10, 2) := dk_21 10 (dk_at dksX9_pile_4 0 rfl rfl)
theorem dX9_pile_96 : decode cX9_pile 96 = .ok (.bipush 20, 2) := dk_16 20 (dk_at dksX9_pile_4 2 rfl rfl)
theorem dX9_pile_98 : decode cX9_pile 98 = .ok (.if_icmp .gt 45, 3) := dk_163 0 45 (dk_at dksX9_pile_4 4 rfl rfl)
theorem dX9_pile_101 : decode cX9_pile 101 = .ok (.aload_n 0, 1) := dk_42 (dk_at dksX9_pile_4 7 rfl rfl)
theorem dX9_pile_102 : decode cX9_pile 102 = .ok (.getfield 19, 3) := dk_180 0 19 (dk_at dksX9_pile_4 8 rfl rfl)
theorem dX9_pile_105 : decode cX9_pile 105 = .ok (.iconst 5, 1) := dk_8 (dk_at dksX9_pile_4 11 rfl rfl)
theorem dX9_pile_106 : decode cX9_pile 106 = .ok (.iload 9, 2) := dk_21 9 (dk_at dksX9_pile_4 12 rfl rfl)
theorem dX9_pile_108 : decode cX9_pile 108 = .ok (.iadd, 1) := dk_96 (dk_at dksX9_pile_4 14 rfl rfl)
theorem dX9_pile_109 : decode cX9_pile 109 = .ok (.iaload, 1) := dk_46 (dk_at dksX9_pile_4 15 rfl rfl)
theorem dX9_pile_110 : decode cX9_pile 110 = .ok (.aload_n 0, 1) := dk_42 (dk_at dksX9_pile_4 16 rfl rfl)
theorem dX9_pile_111 : decode cX9_pile 111 = .ok (.getfield 19, 3) := dk_180 0 19 (dk_at dksX9_pile_4 17 rfl rfl)
theorem dX9_pile_114 : decode cX9_pile 114 = .ok (.bipush 11, 2) := dk_16 11 (dk_at dksX9_pile_4 20 rfl rfl)
theorem dX9_pile_116 : decode cX9_pile 116 = .ok (.iload 9, 2) := dk_21 9 (dk_at dksX9_pile_4 22 rfl rfl)
theorem dX9_pile_118 : decode cX9_pile 118 = .ok (.iadd, 1) := dk_96 (dk_at dksX9_pile_5 0 rfl rfl)
theorem dX9_pile_119 : decode cX9_pile 119 = .ok (.iaload, 1) := dk_46 (dk_at dksX9_pile_5 1 rfl rfl)
theorem dX9_pile_120 : decode cX9_pile 120 = .ok (.iload 10, 2) := dk_21 10 (dk_at dksX9_pile_5 2 rfl rfl)
theorem dX9_pile_122 : decode cX9_pile 122 = .ok (.invokestatic 142, 3) := dk_184 0 142 (dk_at dksX9_pile_5 4 rfl rfl)
theorem dX9_pile_125 : decode cX9_pile 125 = .ok (.iload 9, 2) := dk_21 9 (dk_at dksX9_pile_5 7 rfl rfl)
theorem dX9_pile_127 : decode cX9_pile 127 = .ok (.iload 7, 2) := dk_21 7 (dk_at dksX9_pile_5 9 rfl rfl)
theorem dX9_pile_129 : decode cX9_pile 129 = .ok (.iload 6, 2) := dk_21 6 (dk_at dksX9_pile_5 11 rfl rfl)
theorem dX9_pile_131 : decode cX9_pile 131 = .ok (.invokestatic 226, 3) := dk_184 0 226 (dk_at dksX9_pile_5 13 rfl rfl)
theorem dX9_pile_134 : decode cX9_pile 134 = .ok (.ifCond .ne 9, 3) := dk_154 0 9 (dk_at dksX9_pile_5 16 rfl rfl)
theorem dX9_pile_137 : decode cX9_pile 137 = .ok (.iinc 10 1, 3) := dk_132 10 1 (dk_at dksX9_pile_5 19 rfl rfl)
theorem dX9_pile_140 : decode cX9_pile 140 = .ok (.goto (-46), 3) := dk_167 255 210 (dk_at dksX9_pile_6 0 rfl rfl)
theorem dX9_pile_143 : decode cX9_pile 143 = .ok (.iload 10, 2) := dk_21 10 (dk_at dksX9_pile_6 3 rfl rfl)
theorem dX9_pile_145 : decode cX9_pile 145 = .ok (.bipush 20, 2) := dk_16 20 (dk_at dksX9_pile_6 5 rfl rfl)
theorem dX9_pile_147 : decode cX9_pile 147 = .ok (.if_icmp .le 8, 3) := dk_164 0 8 (dk_at dksX9_pile_6 7 rfl rfl)
theorem dX9_pile_150 : decode cX9_pile 150 = .ok (.ldc 149, 2) := dk_18 149 (dk_at dksX9_pile_6 10 rfl rfl)
theorem dX9_pile_152 : decode cX9_pile 152 = .ok (.goto 19, 3) := dk_167 0 19 (dk_at dksX9_pile_6 12 rfl rfl)
theorem dX9_pile_155 : decode cX9_pile 155 = .ok (.iload 5, 2) := dk_21 5 (dk_at dksX9_pile_6 15 rfl rfl)
theorem dX9_pile_157 : decode cX9_pile 157 = .ok (.iload 10, 2) := dk_21 10 (dk_at dksX9_pile_6 17 rfl rfl)
theorem dX9_pile_159 : decode cX9_pile 159 = .ok (.iadd, 1) := dk_96 (dk_at dksX9_pile_6 19 rfl rfl)
theorem dX9_pile_160 : decode cX9_pile 160 = .ok (.aload_n 0, 1) := dk_42 (dk_at dksX9_pile_6 20 rfl rfl)
theorem dX9_pile_161 : decode cX9_pile 161 = .ok (.getfield 19, 3) := dk_180 0 19 (dk_at dksX9_pile_6 21 rfl rfl)
theorem dX9_pile_164 : decode cX9_pile 164 = .ok (.bipush 29, 2) := dk_16 29 (dk_at dksX9_pile_7 0 rfl rfl)
theorem dX9_pile_166 : decode cX9_pile 166 = .ok (.iload 9, 2) := dk_21 9 (dk_at dksX9_pile_7 2 rfl rfl)
theorem dX9_pile_168 : decode cX9_pile 168 = .ok (.iadd, 1) := dk_96 (dk_at dksX9_pile_7 4 rfl rfl)
theorem dX9_pile_169 : decode cX9_pile 169 = .ok (.iaload, 1) := dk_46 (dk_at dksX9_pile_7 5 rfl rfl)
theorem dX9_pile_170 : decode cX9_pile 170 = .ok (.isub, 1) := dk_100 (dk_at dksX9_pile_7 6 rfl rfl)
theorem dX9_pile_171 : decode cX9_pile 171 = .ok (.istore 5, 2) := dk_54 5 (dk_at dksX9_pile_7 7 rfl rfl)
theorem dX9_pile_173 : decode cX9_pile 173 = .ok (.iload 9, 2) := dk_21 9 (dk_at dksX9_pile_7 9 rfl rfl)
theorem dX9_pile_175 : decode cX9_pile 175 = .ok (.istore 6, 2) := dk_54 6 (dk_at dksX9_pile_7 11 rfl rfl)
theorem dX9_pile_177 : decode cX9_pile 177 = .ok (.aload_n 0, 1) := dk_42 (dk_at dksX9_pile_7 13 rfl rfl)
theorem dX9_pile_178 : decode cX9_pile 178 = .ok (.getfield 19, 3) := dk_180 0 19 (dk_at dksX9_pile_7 14 rfl rfl)
theorem dX9_pile_181 : decode cX9_pile 181 = .ok (.iconst 5, 1) := dk_8 (dk_at dksX9_pile_7 17 rfl rfl)
theorem dX9_pile_182 : decode cX9_pile 182 = .ok (.iload 9, 2) := dk_21 9 (dk_at dksX9_pile_7 18 rfl rfl)
theorem dX9_pile_184 : decode cX9_pile 184 = .ok (.iadd, 1) := dk_96 (dk_at dksX9_pile_7 20 rfl rfl)
theorem dX9_pile_185 : decode cX9_pile 185 = .ok (.iaload, 1) := dk_46 (dk_at dksX9_pile_7 21 rfl rfl)
theorem dX9_pile_186 : decode cX9_pile 186 = .ok (.aload_n 0, 1) := dk_42 (dk_at dksX9_pile_7 22 rfl rfl)
theorem dX9_pile_187 : decode cX9_pile 187 = .ok (.getfield 19, 3) := dk_180 0 19 (dk_at dksX9_pile_8 0 rfl rfl)
theorem dX9_pile_190 : decode cX9_pile 190 = .ok (.bipush 11, 2) := dk_16 11 (dk_at dksX9_pile_8 3 rfl rfl)
theorem dX9_pile_192 : decode cX9_pile 192 = .ok (.iload 9, 2) := dk_21 9 (dk_at dksX9_pile_8 5 rfl rfl)
theorem dX9_pile_194 : decode cX9_pile 194 = .ok (.iadd, 1) := dk_96 (dk_at dksX9_pile_8 7 rfl rfl)
theorem dX9_pile_195 : decode cX9_pile 195 = .ok (.iaload, 1) := dk_46 (dk_at dksX9_pile_8 8 rfl rfl)
theorem dX9_pile_196 : decode cX9_pile 196 = .ok (.iload 10, 2) := dk_21 10 (dk_at dksX9_pile_8 9 rfl rfl)
theorem dX9_pile_198 : decode cX9_pile 198 = .ok (.invokestatic 142, 3) := dk_184 0 142 (dk_at dksX9_pile_8 11 rfl rfl)
theorem dX9_pile_201 : decode cX9_pile 201 = .ok (.istore 7, 2) := dk_54 7 (dk_at dksX9_pile_8 14 rfl rfl)
theorem dX9_pile_203 : decode cX9_pile 203 = .ok (.iinc 8 (-1), 3) := dk_132 8 255 (dk_at dksX9_pile_8 16 rfl rfl)
theorem dX9_pile_206 : decode cX9_pile 206 = .ok (.goto (-146), 3) := dk_167 255 110 (dk_at dksX9_pile_8 19 rfl rfl)
theorem dX9_pile_209 : decode cX9_pile 209 = .ok (.aload_n 0, 1) := dk_42 (dk_at dksX9_pile_8 22 rfl rfl)
theorem dX9_pile_210 : decode cX9_pile 210 = .ok (.iload 5, 2) := dk_21 5 (dk_at dksX9_pile_9 0 rfl rfl)
theorem dX9_pile_212 : decode cX9_pile 212 = .ok (.invokevirtual 72, 3) := dk_182 0 72 (dk_at dksX9_pile_9 2 rfl rfl)
theorem dX9_pile_215 : decode cX9_pile 215 = .ok (.ireturn, 1) := dk_172 (dk_at dksX9_pile_9 5 rfl rfl)
abbrev cX9_climb : ByteArray := prog_16_method_62_code
def yX9_climb : MethodName := ⟨RX9, "climb", "(I)I"⟩
def dkwX9_climb_3 : List UInt8 := [167, 255, 201, 28, 172]
abbrev dktX9_climb_3 : List UInt8 := dkwX9_climb_3 ++ []
def dkwX9_climb_2 : List UInt8 := [96, 54, 4, 29, 27, 159, 0, 14, 21, 4, 28, 164, 0, 8, 21, 4, 167, 0, 4, 28, 61, 132, 3, 1]
abbrev dktX9_climb_2 : List UInt8 := dkwX9_climb_2 ++ dktX9_climb_3
def dkwX9_climb_1 : List UInt8 := [162, 0, 51, 42, 29, 182, 0, 146, 42, 27, 182, 0, 146, 100, 29, 27, 162, 0, 7, 4, 167, 0, 4, 3]
abbrev dktX9_climb_1 : List UInt8 := dkwX9_climb_1 ++ dktX9_climb_2
def dkwX9_climb_0 : List UInt8 := [42, 27, 182, 0, 178, 154, 0, 6, 18, 67, 172, 3, 61, 3, 62, 29, 42, 180, 0, 19, 5, 46]
abbrev dktX9_climb_0 : List UInt8 := dkwX9_climb_0 ++ dktX9_climb_1
theorem dksX9_climb_0 : cX9_climb.data.toList.drop 0 = dktX9_climb_0 := by decide +kernel
theorem dksX9_climb_1 : cX9_climb.data.toList.drop 22 = dktX9_climb_1 := dk_seg dksX9_climb_0 22 rfl rfl
theorem dksX9_climb_2 : cX9_climb.data.toList.drop 46 = dktX9_climb_2 := dk_seg dksX9_climb_1 24 rfl rfl
theorem dksX9_climb_3 : cX9_climb.data.toList.drop 70 = dktX9_climb_3 := dk_seg dksX9_climb_2 24 rfl rfl
theorem dX9_climb_0 : decode cX9_climb 0 = .ok (.aload_n 0, 1) := dk_42 (dk_at dksX9_climb_0 0 rfl rfl)
theorem dX9_climb_1 : decode cX9_climb 1 = .ok (.iload_n 1, 1) := dk_27 (dk_at dksX9_climb_0 1 rfl rfl)
theorem dX9_climb_2 : decode cX9_climb 2 = .ok (.invokevirtual 178, 3) := dk_182 0 178 (dk_at dksX9_climb_0 2 rfl rfl)
theorem dX9_climb_5 : decode cX9_climb 5 = .ok (.ifCond .ne 6, 3) := dk_154 0 6 (dk_at dksX9_climb_0 5 rfl rfl)
theorem dX9_climb_8 : decode cX9_climb 8 = .ok (.ldc 67, 2) := dk_18 67 (dk_at dksX9_climb_0 8 rfl rfl)
theorem dX9_climb_10 : decode cX9_climb 10 = .ok (.ireturn, 1) := dk_172 (dk_at dksX9_climb_0 10 rfl rfl)
theorem dX9_climb_11 : decode cX9_climb 11 = .ok (.iconst 0, 1) := dk_3 (dk_at dksX9_climb_0 11 rfl rfl)
theorem dX9_climb_12 : decode cX9_climb 12 = .ok (.istore_n 2, 1) := dk_61 (dk_at dksX9_climb_0 12 rfl rfl)
theorem dX9_climb_13 : decode cX9_climb 13 = .ok (.iconst 0, 1) := dk_3 (dk_at dksX9_climb_0 13 rfl rfl)
theorem dX9_climb_14 : decode cX9_climb 14 = .ok (.istore_n 3, 1) := dk_62 (dk_at dksX9_climb_0 14 rfl rfl)
theorem dX9_climb_15 : decode cX9_climb 15 = .ok (.iload_n 3, 1) := dk_29 (dk_at dksX9_climb_0 15 rfl rfl)
theorem dX9_climb_16 : decode cX9_climb 16 = .ok (.aload_n 0, 1) := dk_42 (dk_at dksX9_climb_0 16 rfl rfl)
theorem dX9_climb_17 : decode cX9_climb 17 = .ok (.getfield 19, 3) := dk_180 0 19 (dk_at dksX9_climb_0 17 rfl rfl)
theorem dX9_climb_20 : decode cX9_climb 20 = .ok (.iconst 2, 1) := dk_5 (dk_at dksX9_climb_0 20 rfl rfl)
theorem dX9_climb_21 : decode cX9_climb 21 = .ok (.iaload, 1) := dk_46 (dk_at dksX9_climb_0 21 rfl rfl)
theorem dX9_climb_22 : decode cX9_climb 22 = .ok (.if_icmp .ge 51, 3) := dk_162 0 51 (dk_at dksX9_climb_1 0 rfl rfl)
theorem dX9_climb_25 : decode cX9_climb 25 = .ok (.aload_n 0, 1) := dk_42 (dk_at dksX9_climb_1 3 rfl rfl)
theorem dX9_climb_26 : decode cX9_climb 26 = .ok (.iload_n 3, 1) := dk_29 (dk_at dksX9_climb_1 4 rfl rfl)
theorem dX9_climb_27 : decode cX9_climb 27 = .ok (.invokevirtual 146, 3) := dk_182 0 146 (dk_at dksX9_climb_1 5 rfl rfl)
theorem dX9_climb_30 : decode cX9_climb 30 = .ok (.aload_n 0, 1) := dk_42 (dk_at dksX9_climb_1 8 rfl rfl)
theorem dX9_climb_31 : decode cX9_climb 31 = .ok (.iload_n 1, 1) := dk_27 (dk_at dksX9_climb_1 9 rfl rfl)
theorem dX9_climb_32 : decode cX9_climb 32 = .ok (.invokevirtual 146, 3) := dk_182 0 146 (dk_at dksX9_climb_1 10 rfl rfl)
theorem dX9_climb_35 : decode cX9_climb 35 = .ok (.isub, 1) := dk_100 (dk_at dksX9_climb_1 13 rfl rfl)
theorem dX9_climb_36 : decode cX9_climb 36 = .ok (.iload_n 3, 1) := dk_29 (dk_at dksX9_climb_1 14 rfl rfl)
theorem dX9_climb_37 : decode cX9_climb 37 = .ok (.iload_n 1, 1) := dk_27 (dk_at dksX9_climb_1 15 rfl rfl)
theorem dX9_climb_38 : decode cX9_climb 38 = .ok (.if_icmp .ge 7, 3) := dk_162 0 7 (dk_at dksX9_climb_1 16 rfl rfl)
theorem dX9_climb_41 : decode cX9_climb 41 = .ok (.iconst 1, 1) := dk_4 (dk_at dksX9_climb_1 19 rfl rfl)
theorem dX9_climb_42 : decode cX9_climb 42 = .ok (.goto 4, 3) := dk_167 0 4 (dk_at dksX9_climb_1 20 rfl rfl)
theorem dX9_climb_45 : decode cX9_climb 45 = .ok (.iconst 0, 1) := dk_3 (dk_at dksX9_climb_1 23 rfl rfl)
theorem dX9_climb_46 : decode cX9_climb 46 = .ok (.iadd, 1) := dk_96 (dk_at dksX9_climb_2 0 rfl rfl)
theorem dX9_climb_47 : decode cX9_climb 47 = .ok (.istore 4, 2) := dk_54 4 (dk_at dksX9_climb_2 1 rfl rfl)
theorem dX9_climb_49 : decode cX9_climb 49 = .ok (.iload_n 3, 1) := dk_29 (dk_at dksX9_climb_2 3 rfl rfl)
theorem dX9_climb_50 : decode cX9_climb 50 = .ok (.iload_n 1, 1) := dk_27 (dk_at dksX9_climb_2 4 rfl rfl)
theorem dX9_climb_51 : decode cX9_climb 51 = .ok (.if_icmp .eq 14, 3) := dk_159 0 14 (dk_at dksX9_climb_2 5 rfl rfl)
theorem dX9_climb_54 : decode cX9_climb 54 = .ok (.iload 4, 2) := dk_21 4 (dk_at dksX9_climb_2 8 rfl rfl)
theorem dX9_climb_56 : decode cX9_climb 56 = .ok (.iload_n 2, 1) := dk_28 (dk_at dksX9_climb_2 10 rfl rfl)
theorem dX9_climb_57 : decode cX9_climb 57 = .ok (.if_icmp .le 8, 3) := dk_164 0 8 (dk_at dksX9_climb_2 11 rfl rfl)
theorem dX9_climb_60 : decode cX9_climb 60 = .ok (.iload 4, 2) := dk_21 4 (dk_at dksX9_climb_2 14 rfl rfl)
theorem dX9_climb_62 : decode cX9_climb 62 = .ok (.goto 4, 3) := dk_167 0 4 (dk_at dksX9_climb_2 16 rfl rfl)
theorem dX9_climb_65 : decode cX9_climb 65 = .ok (.iload_n 2, 1) := dk_28 (dk_at dksX9_climb_2 19 rfl rfl)
theorem dX9_climb_66 : decode cX9_climb 66 = .ok (.istore_n 2, 1) := dk_61 (dk_at dksX9_climb_2 20 rfl rfl)
theorem dX9_climb_67 : decode cX9_climb 67 = .ok (.iinc 3 1, 3) := dk_132 3 1 (dk_at dksX9_climb_2 21 rfl rfl)
theorem dX9_climb_70 : decode cX9_climb 70 = .ok (.goto (-55), 3) := dk_167 255 201 (dk_at dksX9_climb_3 0 rfl rfl)
theorem dX9_climb_73 : decode cX9_climb 73 = .ok (.iload_n 2, 1) := dk_28 (dk_at dksX9_climb_3 3 rfl rfl)
theorem dX9_climb_74 : decode cX9_climb 74 = .ok (.ireturn, 1) := dk_172 (dk_at dksX9_climb_3 4 rfl rfl)
abbrev cX9_coalition : ByteArray := prog_16_method_63_code
def yX9_coalition : MethodName := ⟨RX9, "coalition", "(I)I"⟩
def dkwX9_coalition_7 : List UInt8 := [167, 0, 7, 29, 184, 0, 187, 172]
abbrev dktX9_coalition_7 : List UInt8 := dkwX9_coalition_7 ++ []
def dkwX9_coalition_6 : List UInt8 := [21, 4, 167, 0, 4, 29, 62, 132, 4, 1, 167, 255, 161, 29, 155, 0, 8, 27, 4, 160, 0, 7, 29]
abbrev dktX9_coalition_6 : List UInt8 := dkwX9_coalition_6 ++ dktX9_coalition_7
def dkwX9_coalition_5 : List UInt8 := [21, 5, 104, 28, 164, 0, 24, 29, 155, 0, 15, 21, 4, 184, 0, 187, 29, 184, 0, 187, 162, 0, 8]
abbrev dktX9_coalition_5 : List UInt8 := dkwX9_coalition_5 ++ dktX9_coalition_6
def dkwX9_coalition_4 : List UInt8 := [153, 0, 12, 42, 21, 6, 182, 0, 146, 167, 0, 4, 3, 96, 54, 5, 132, 6, 1, 167, 255, 217, 5]
abbrev dktX9_coalition_4 : List UInt8 := dkwX9_coalition_4 ++ dktX9_coalition_5
def dkwX9_coalition_3 : List UInt8 := [54, 6, 21, 6, 42, 180, 0, 19, 5, 46, 162, 0, 34, 21, 5, 21, 4, 21, 6, 184, 0, 162]
abbrev dktX9_coalition_3 : List UInt8 := dkwX9_coalition_3 ++ dktX9_coalition_4
def dkwX9_coalition_2 : List UInt8 := [18, 149, 62, 3, 54, 4, 21, 4, 4, 42, 180, 0, 19, 5, 46, 120, 162, 0, 88, 3, 54, 5, 3]
abbrev dktX9_coalition_2 : List UInt8 := dkwX9_coalition_2 ++ dktX9_coalition_3
def dkwX9_coalition_1 : List UInt8 := [29, 42, 180, 0, 19, 5, 46, 162, 0, 17, 28, 42, 29, 182, 0, 146, 96, 61, 132, 3, 1, 167, 255, 235]
abbrev dktX9_coalition_1 : List UInt8 := dkwX9_coalition_1 ++ dktX9_coalition_2
def dkwX9_coalition_0 : List UInt8 := [42, 180, 0, 135, 154, 0, 6, 18, 169, 172, 27, 184, 0, 217, 154, 0, 6, 18, 67, 172, 3, 61, 3, 62]
abbrev dktX9_coalition_0 : List UInt8 := dkwX9_coalition_0 ++ dktX9_coalition_1
theorem dksX9_coalition_0 : cX9_coalition.data.toList.drop 0 = dktX9_coalition_0 := by decide +kernel
theorem dksX9_coalition_1 : cX9_coalition.data.toList.drop 24 = dktX9_coalition_1 := dk_seg dksX9_coalition_0 24 rfl rfl
theorem dksX9_coalition_2 : cX9_coalition.data.toList.drop 48 = dktX9_coalition_2 := dk_seg dksX9_coalition_1 24 rfl rfl
theorem dksX9_coalition_3 : cX9_coalition.data.toList.drop 71 = dktX9_coalition_3 := dk_seg dksX9_coalition_2 23 rfl rfl
theorem dksX9_coalition_4 : cX9_coalition.data.toList.drop 93 = dktX9_coalition_4 := dk_seg dksX9_coalition_3 22 rfl rfl
theorem dksX9_coalition_5 : cX9_coalition.data.toList.drop 116 = dktX9_coalition_5 := dk_seg dksX9_coalition_4 23 rfl rfl
theorem dksX9_coalition_6 : cX9_coalition.data.toList.drop 139 = dktX9_coalition_6 := dk_seg dksX9_coalition_5 23 rfl rfl
theorem dksX9_coalition_7 : cX9_coalition.data.toList.drop 162 = dktX9_coalition_7 := dk_seg dksX9_coalition_6 23 rfl rfl
theorem dX9_coalition_0 : decode cX9_coalition 0 = .ok (.aload_n 0, 1) := dk_42 (dk_at dksX9_coalition_0 0 rfl rfl)
theorem dX9_coalition_1 : decode cX9_coalition 1 = .ok (.getfield 135, 3) := dk_180 0 135 (dk_at dksX9_coalition_0 1 rfl rfl)
theorem dX9_coalition_4 : decode cX9_coalition 4 = .ok (.ifCond .ne 6, 3) := dk_154 0 6 (dk_at dksX9_coalition_0 4 rfl rfl)
theorem dX9_coalition_7 : decode cX9_coalition 7 = .ok (.ldc 169, 2) := dk_18 169 (dk_at dksX9_coalition_0 7 rfl rfl)
theorem dX9_coalition_9 : decode cX9_coalition 9 = .ok (.ireturn, 1) := dk_172 (dk_at dksX9_coalition_0 9 rfl rfl)
theorem dX9_coalition_10 : decode cX9_coalition 10 = .ok (.iload_n 1, 1) := dk_27 (dk_at dksX9_coalition_0 10 rfl rfl)
theorem dX9_coalition_11 : decode cX9_coalition 11 = .ok (.invokestatic 217, 3) := dk_184 0 217 (dk_at dksX9_coalition_0 11 rfl rfl)
theorem dX9_coalition_14 : decode cX9_coalition 14 = .ok (.ifCond .ne 6, 3) := dk_154 0 6 (dk_at dksX9_coalition_0 14 rfl rfl)
theorem dX9_coalition_17 : decode cX9_coalition 17 = .ok (.ldc 67, 2) := dk_18 67 (dk_at dksX9_coalition_0 17 rfl rfl)
theorem dX9_coalition_19 : decode cX9_coalition 19 = .ok (.ireturn, 1) := dk_172 (dk_at dksX9_coalition_0 19 rfl rfl)
theorem dX9_coalition_20 : decode cX9_coalition 20 = .ok (.iconst 0, 1) := dk_3 (dk_at dksX9_coalition_0 20 rfl rfl)
theorem dX9_coalition_21 : decode cX9_coalition 21 = .ok (.istore_n 2, 1) := dk_61 (dk_at dksX9_coalition_0 21 rfl rfl)
theorem dX9_coalition_22 : decode cX9_coalition 22 = .ok (.iconst 0, 1) := dk_3 (dk_at dksX9_coalition_0 22 rfl rfl)
theorem dX9_coalition_23 : decode cX9_coalition 23 = .ok (.istore_n 3, 1) := dk_62 (dk_at dksX9_coalition_0 23 rfl rfl)
theorem dX9_coalition_24 : decode cX9_coalition 24 = .ok (.iload_n 3, 1) := dk_29 (dk_at dksX9_coalition_1 0 rfl rfl)
theorem dX9_coalition_25 : decode cX9_coalition 25 = .ok (.aload_n 0, 1) := dk_42 (dk_at dksX9_coalition_1 1 rfl rfl)
theorem dX9_coalition_26 : decode cX9_coalition 26 = .ok (.getfield 19, 3) := dk_180 0 19 (dk_at dksX9_coalition_1 2 rfl rfl)
theorem dX9_coalition_29 : decode cX9_coalition 29 = .ok (.iconst 2, 1) := dk_5 (dk_at dksX9_coalition_1 5 rfl rfl)
theorem dX9_coalition_30 : decode cX9_coalition 30 = .ok (.iaload, 1) := dk_46 (dk_at dksX9_coalition_1 6 rfl rfl)
theorem dX9_coalition_31 : decode cX9_coalition 31 = .ok (.if_icmp .ge 17, 3) := dk_162 0 17 (dk_at dksX9_coalition_1 7 rfl rfl)
theorem dX9_coalition_34 : decode cX9_coalition 34 = .ok (.iload_n 2, 1) := dk_28 (dk_at dksX9_coalition_1 10 rfl rfl)
theorem dX9_coalition_35 : decode cX9_coalition 35 = .ok (.aload_n 0, 1) := dk_42 (dk_at dksX9_coalition_1 11 rfl rfl)
theorem dX9_coalition_36 : decode cX9_coalition 36 = .ok (.iload_n 3, 1) := dk_29 (dk_at dksX9_coalition_1 12 rfl rfl)
theorem dX9_coalition_37 : decode cX9_coalition 37 = .ok (.invokevirtual 146, 3) := dk_182 0 146 (dk_at dksX9_coalition_1 13 rfl rfl)
theorem dX9_coalition_40 : decode cX9_coalition 40 = .ok (.iadd, 1) := dk_96 (dk_at dksX9_coalition_1 16 rfl rfl)
theorem dX9_coalition_41 : decode cX9_coalition 41 = .ok (.istore_n 2, 1) := dk_61 (dk_at dksX9_coalition_1 17 rfl rfl)
theorem dX9_coalition_42 : decode cX9_coalition 42 = .ok (.iinc 3 1, 3) := dk_132 3 1 (dk_at dksX9_coalition_1 18 rfl rfl)
theorem dX9_coalition_45 : decode cX9_coalition 45 = .ok (.goto (-21), 3) := dk_167 255 235 (dk_at dksX9_coalition_1 21 rfl rfl)
theorem dX9_coalition_48 : decode cX9_coalition 48 = .ok (.ldc 149, 2) := dk_18 149 (dk_at dksX9_coalition_2 0 rfl rfl)
theorem dX9_coalition_50 : decode cX9_coalition 50 = .ok (.istore_n 3, 1) := dk_62 (dk_at dksX9_coalition_2 2 rfl rfl)
theorem dX9_coalition_51 : decode cX9_coalition 51 = .ok (.iconst 0, 1) := dk_3 (dk_at dksX9_coalition_2 3 rfl rfl)
theorem dX9_coalition_52 : decode cX9_coalition 52 = .ok (.istore 4, 2) := dk_54 4 (dk_at dksX9_coalition_2 4 rfl rfl)
theorem dX9_coalition_54 : decode cX9_coalition 54 = .ok (.iload 4, 2) := dk_21 4 (dk_at dksX9_coalition_2 6 rfl rfl)
theorem dX9_coalition_56 : decode cX9_coalition 56 = .ok (.iconst 1, 1) := dk_4 (dk_at dksX9_coalition_2 8 rfl rfl)
theorem dX9_coalition_57 : decode cX9_coalition 57 = .ok (.aload_n 0, 1) := dk_42 (dk_at dksX9_coalition_2 9 rfl rfl)
theorem dX9_coalition_58 : decode cX9_coalition 58 = .ok (.getfield 19, 3) := dk_180 0 19 (dk_at dksX9_coalition_2 10 rfl rfl)
theorem dX9_coalition_61 : decode cX9_coalition 61 = .ok (.iconst 2, 1) := dk_5 (dk_at dksX9_coalition_2 13 rfl rfl)
theorem dX9_coalition_62 : decode cX9_coalition 62 = .ok (.iaload, 1) := dk_46 (dk_at dksX9_coalition_2 14 rfl rfl)
theorem dX9_coalition_63 : decode cX9_coalition 63 = .ok (.ishl, 1) := dk_120 (dk_at dksX9_coalition_2 15 rfl rfl)
theorem dX9_coalition_64 : decode cX9_coalition 64 = .ok (.if_icmp .ge 88, 3) := dk_162 0 88 (dk_at dksX9_coalition_2 16 rfl rfl)
theorem dX9_coalition_67 : decode cX9_coalition 67 = .ok (.iconst 0, 1) := dk_3 (dk_at dksX9_coalition_2 19 rfl rfl)
theorem dX9_coalition_68 : decode cX9_coalition 68 = .ok (.istore 5, 2) := dk_54 5 (dk_at dksX9_coalition_2 20 rfl rfl)
theorem dX9_coalition_70 : decode cX9_coalition 70 = .ok (.iconst 0, 1) := dk_3 (dk_at dksX9_coalition_2 22 rfl rfl)
theorem dX9_coalition_71 : decode cX9_coalition 71 = .ok (.istore 6, 2) := dk_54 6 (dk_at dksX9_coalition_3 0 rfl rfl)
theorem dX9_coalition_73 : decode cX9_coalition 73 = .ok (.iload 6, 2) := dk_21 6 (dk_at dksX9_coalition_3 2 rfl rfl)
theorem dX9_coalition_75 : decode cX9_coalition 75 = .ok (.aload_n 0, 1) := dk_42 (dk_at dksX9_coalition_3 4 rfl rfl)
theorem dX9_coalition_76 : decode cX9_coalition 76 = .ok (.getfield 19, 3) := dk_180 0 19 (dk_at dksX9_coalition_3 5 rfl rfl)
theorem dX9_coalition_79 : decode cX9_coalition 79 = .ok (.iconst 2, 1) := dk_5 (dk_at dksX9_coalition_3 8 rfl rfl)
theorem dX9_coalition_80 : decode cX9_coalition 80 = .ok (.iaload, 1) := dk_46 (dk_at dksX9_coalition_3 9 rfl rfl)
theorem dX9_coalition_81 : decode cX9_coalition 81 = .ok (.if_icmp .ge 34, 3) := dk_162 0 34 (dk_at dksX9_coalition_3 10 rfl rfl)
theorem dX9_coalition_84 : decode cX9_coalition 84 = .ok (.iload 5, 2) := dk_21 5 (dk_at dksX9_coalition_3 13 rfl rfl)
theorem dX9_coalition_86 : decode cX9_coalition 86 = .ok (.iload 4, 2) := dk_21 4 (dk_at dksX9_coalition_3 15 rfl rfl)
theorem dX9_coalition_88 : decode cX9_coalition 88 = .ok (.iload 6, 2) := dk_21 6 (dk_at dksX9_coalition_3 17 rfl rfl)
theorem dX9_coalition_90 : decode cX9_coalition 90 = .ok (.invokestatic 162, 3) := dk_184 0 162 (dk_at dksX9_coalition_3 19 rfl rfl)
theorem dX9_coalition_93 : decode cX9_coalition 93 = .ok (.ifCond .eq 12, 3) := dk_153 0 12 (dk_at dksX9_coalition_4 0 rfl rfl)
theorem dX9_coalition_96 : decode cX9_coalition 96 = .ok (.aload_n 0, 1) := dk_42 (dk_at dksX9_coalition_4 3 rfl rfl)
theorem dX9_coalition_97 : decode cX9_coalition 97 = .ok (.iload 6, 2) := dk_21 6 (dk_at dksX9_coalition_4 4 rfl rfl)
theorem dX9_coalition_99 : decode cX9_coalition 99 = .ok (.invokevirtual 146, 3) := dk_182 0 146 (dk_at dksX9_coalition_4 6 rfl rfl)
theorem dX9_coalition_102 : decode cX9_coalition 102 = .ok (.goto 4, 3) := dk_167 0 4 (dk_at dksX9_coalition_4 9 rfl rfl)
theorem dX9_coalition_105 : decode cX9_coalition 105 = .ok (.iconst 0, 1) := dk_3 (dk_at dksX9_coalition_4 12 rfl rfl)
theorem dX9_coalition_106 : decode cX9_coalition 106 = .ok (.iadd, 1) := dk_96 (dk_at dksX9_coalition_4 13 rfl rfl)
theorem dX9_coalition_107 : decode cX9_coalition 107 = .ok (.istore 5, 2) := dk_54 5 (dk_at dksX9_coalition_4 14 rfl rfl)
theorem dX9_coalition_109 : decode cX9_coalition 109 = .ok (.iinc 6 1, 3) := dk_132 6 1 (dk_at dksX9_coalition_4 16 rfl rfl)
theorem dX9_coalition_112 : decode cX9_coalition 112 = .ok (.goto (-39), 3) := dk_167 255 217 (dk_at dksX9_coalition_4 19 rfl rfl)
theorem dX9_coalition_115 : decode cX9_coalition 115 = .ok (.iconst 2, 1) := dk_5 (dk_at dksX9_coalition_4 22 rfl rfl)
theorem dX9_coalition_116 : decode cX9_coalition 116 = .ok (.iload 5, 2) := dk_21 5 (dk_at dksX9_coalition_5 0 rfl rfl)
theorem dX9_coalition_118 : decode cX9_coalition 118 = .ok (.imul, 1) := dk_104 (dk_at dksX9_coalition_5 2 rfl rfl)
theorem dX9_coalition_119 : decode cX9_coalition 119 = .ok (.iload_n 2, 1) := dk_28 (dk_at dksX9_coalition_5 3 rfl rfl)
theorem dX9_coalition_120 : decode cX9_coalition 120 = .ok (.if_icmp .le 24, 3) := dk_164 0 24 (dk_at dksX9_coalition_5 4 rfl rfl)
theorem dX9_coalition_123 : decode cX9_coalition 123 = .ok (.iload_n 3, 1) := dk_29 (dk_at dksX9_coalition_5 7 rfl rfl)
theorem dX9_coalition_124 : decode cX9_coalition 124 = .ok (.ifCond .lt 15, 3) := dk_155 0 15 (dk_at dksX9_coalition_5 8 rfl rfl)
theorem dX9_coalition_127 : decode cX9_coalition 127 = .ok (.iload 4, 2) := dk_21 4 (dk_at dksX9_coalition_5 11 rfl rfl)
theorem dX9_coalition_129 : decode cX9_coalition 129 = .ok (.invokestatic 187, 3) := dk_184 0 187 (dk_at dksX9_coalition_5 13 rfl rfl)
theorem dX9_coalition_132 : decode cX9_coalition 132 = .ok (.iload_n 3, 1) := dk_29 (dk_at dksX9_coalition_5 16 rfl rfl)
theorem dX9_coalition_133 : decode cX9_coalition 133 = .ok (.invokestatic 187, 3) := dk_184 0 187 (dk_at dksX9_coalition_5 17 rfl rfl)
theorem dX9_coalition_136 : decode cX9_coalition 136 = .ok (.if_icmp .ge 8, 3) := dk_162 0 8 (dk_at dksX9_coalition_5 20 rfl rfl)
theorem dX9_coalition_139 : decode cX9_coalition 139 = .ok (.iload 4, 2) := dk_21 4 (dk_at dksX9_coalition_6 0 rfl rfl)
theorem dX9_coalition_141 : decode cX9_coalition 141 = .ok (.goto 4, 3) := dk_167 0 4 (dk_at dksX9_coalition_6 2 rfl rfl)
theorem dX9_coalition_144 : decode cX9_coalition 144 = .ok (.iload_n 3, 1) := dk_29 (dk_at dksX9_coalition_6 5 rfl rfl)
theorem dX9_coalition_145 : decode cX9_coalition 145 = .ok (.istore_n 3, 1) := dk_62 (dk_at dksX9_coalition_6 6 rfl rfl)
theorem dX9_coalition_146 : decode cX9_coalition 146 = .ok (.iinc 4 1, 3) := dk_132 4 1 (dk_at dksX9_coalition_6 7 rfl rfl)
theorem dX9_coalition_149 : decode cX9_coalition 149 = .ok (.goto (-95), 3) := dk_167 255 161 (dk_at dksX9_coalition_6 10 rfl rfl)
theorem dX9_coalition_152 : decode cX9_coalition 152 = .ok (.iload_n 3, 1) := dk_29 (dk_at dksX9_coalition_6 13 rfl rfl)
theorem dX9_coalition_153 : decode cX9_coalition 153 = .ok (.ifCond .lt 8, 3) := dk_155 0 8 (dk_at dksX9_coalition_6 14 rfl rfl)
theorem dX9_coalition_156 : decode cX9_coalition 156 = .ok (.iload_n 1, 1) := dk_27 (dk_at dksX9_coalition_6 17 rfl rfl)
theorem dX9_coalition_157 : decode cX9_coalition 157 = .ok (.iconst 1, 1) := dk_4 (dk_at dksX9_coalition_6 18 rfl rfl)
theorem dX9_coalition_158 : decode cX9_coalition 158 = .ok (.if_icmp .ne 7, 3) := dk_160 0 7 (dk_at dksX9_coalition_6 19 rfl rfl)
theorem dX9_coalition_161 : decode cX9_coalition 161 = .ok (.iload_n 3, 1) := dk_29 (dk_at dksX9_coalition_6 22 rfl rfl)
theorem dX9_coalition_162 : decode cX9_coalition 162 = .ok (.goto 7, 3) := dk_167 0 7 (dk_at dksX9_coalition_7 0 rfl rfl)
theorem dX9_coalition_165 : decode cX9_coalition 165 = .ok (.iload_n 3, 1) := dk_29 (dk_at dksX9_coalition_7 3 rfl rfl)
theorem dX9_coalition_166 : decode cX9_coalition 166 = .ok (.invokestatic 187, 3) := dk_184 0 187 (dk_at dksX9_coalition_7 4 rfl rfl)
theorem dX9_coalition_169 : decode cX9_coalition 169 = .ok (.ireturn, 1) := dk_172 (dk_at dksX9_coalition_7 7 rfl rfl)
abbrev cX9_sawnBy : ByteArray := prog_16_method_64_code
def yX9_sawnBy : MethodName := ⟨RX9, "sawnBy", "(I)I"⟩
def dkwX9_sawnBy_2 : List UInt8 := [132, 3, 1, 167, 255, 224, 28, 172]
abbrev dktX9_sawnBy_2 : List UInt8 := dkwX9_sawnBy_2 ++ []
def dkwX9_sawnBy_1 : List UInt8 := [162, 0, 28, 28, 42, 29, 182, 0, 159, 27, 160, 0, 9, 4, 29, 120, 167, 0, 4, 3, 128, 61]
abbrev dktX9_sawnBy_1 : List UInt8 := dkwX9_sawnBy_1 ++ dktX9_sawnBy_2
def dkwX9_sawnBy_0 : List UInt8 := [42, 27, 182, 0, 178, 154, 0, 6, 18, 67, 172, 3, 61, 3, 62, 29, 42, 180, 0, 19, 5, 46]
abbrev dktX9_sawnBy_0 : List UInt8 := dkwX9_sawnBy_0 ++ dktX9_sawnBy_1
theorem dksX9_sawnBy_0 : cX9_sawnBy.data.toList.drop 0 = dktX9_sawnBy_0 := by decide +kernel
theorem dksX9_sawnBy_1 : cX9_sawnBy.data.toList.drop 22 = dktX9_sawnBy_1 := dk_seg dksX9_sawnBy_0 22 rfl rfl
theorem dksX9_sawnBy_2 : cX9_sawnBy.data.toList.drop 44 = dktX9_sawnBy_2 := dk_seg dksX9_sawnBy_1 22 rfl rfl
theorem dX9_sawnBy_0 : decode cX9_sawnBy 0 = .ok (.aload_n 0, 1) := dk_42 (dk_at dksX9_sawnBy_0 0 rfl rfl)
theorem dX9_sawnBy_1 : decode cX9_sawnBy 1 = .ok (.iload_n 1, 1) := dk_27 (dk_at dksX9_sawnBy_0 1 rfl rfl)
theorem dX9_sawnBy_2 : decode cX9_sawnBy 2 = .ok (.invokevirtual 178, 3) := dk_182 0 178 (dk_at dksX9_sawnBy_0 2 rfl rfl)
theorem dX9_sawnBy_5 : decode cX9_sawnBy 5 = .ok (.ifCond .ne 6, 3) := dk_154 0 6 (dk_at dksX9_sawnBy_0 5 rfl rfl)
theorem dX9_sawnBy_8 : decode cX9_sawnBy 8 = .ok (.ldc 67, 2) := dk_18 67 (dk_at dksX9_sawnBy_0 8 rfl rfl)
theorem dX9_sawnBy_10 : decode cX9_sawnBy 10 = .ok (.ireturn, 1) := dk_172 (dk_at dksX9_sawnBy_0 10 rfl rfl)
theorem dX9_sawnBy_11 : decode cX9_sawnBy 11 = .ok (.iconst 0, 1) := dk_3 (dk_at dksX9_sawnBy_0 11 rfl rfl)
theorem dX9_sawnBy_12 : decode cX9_sawnBy 12 = .ok (.istore_n 2, 1) := dk_61 (dk_at dksX9_sawnBy_0 12 rfl rfl)
theorem dX9_sawnBy_13 : decode cX9_sawnBy 13 = .ok (.iconst 0, 1) := dk_3 (dk_at dksX9_sawnBy_0 13 rfl rfl)
theorem dX9_sawnBy_14 : decode cX9_sawnBy 14 = .ok (.istore_n 3, 1) := dk_62 (dk_at dksX9_sawnBy_0 14 rfl rfl)
theorem dX9_sawnBy_15 : decode cX9_sawnBy 15 = .ok (.iload_n 3, 1) := dk_29 (dk_at dksX9_sawnBy_0 15 rfl rfl)
theorem dX9_sawnBy_16 : decode cX9_sawnBy 16 = .ok (.aload_n 0, 1) := dk_42 (dk_at dksX9_sawnBy_0 16 rfl rfl)
theorem dX9_sawnBy_17 : decode cX9_sawnBy 17 = .ok (.getfield 19, 3) := dk_180 0 19 (dk_at dksX9_sawnBy_0 17 rfl rfl)
theorem dX9_sawnBy_20 : decode cX9_sawnBy 20 = .ok (.iconst 2, 1) := dk_5 (dk_at dksX9_sawnBy_0 20 rfl rfl)
theorem dX9_sawnBy_21 : decode cX9_sawnBy 21 = .ok (.iaload, 1) := dk_46 (dk_at dksX9_sawnBy_0 21 rfl rfl)
theorem dX9_sawnBy_22 : decode cX9_sawnBy 22 = .ok (.if_icmp .ge 28, 3) := dk_162 0 28 (dk_at dksX9_sawnBy_1 0 rfl rfl)
theorem dX9_sawnBy_25 : decode cX9_sawnBy 25 = .ok (.iload_n 2, 1) := dk_28 (dk_at dksX9_sawnBy_1 3 rfl rfl)
theorem dX9_sawnBy_26 : decode cX9_sawnBy 26 = .ok (.aload_n 0, 1) := dk_42 (dk_at dksX9_sawnBy_1 4 rfl rfl)
theorem dX9_sawnBy_27 : decode cX9_sawnBy 27 = .ok (.iload_n 3, 1) := dk_29 (dk_at dksX9_sawnBy_1 5 rfl rfl)
theorem dX9_sawnBy_28 : decode cX9_sawnBy 28 = .ok (.invokevirtual 159, 3) := dk_182 0 159 (dk_at dksX9_sawnBy_1 6 rfl rfl)
theorem dX9_sawnBy_31 : decode cX9_sawnBy 31 = .ok (.iload_n 1, 1) := dk_27 (dk_at dksX9_sawnBy_1 9 rfl rfl)
theorem dX9_sawnBy_32 : decode cX9_sawnBy 32 = .ok (.if_icmp .ne 9, 3) := dk_160 0 9 (dk_at dksX9_sawnBy_1 10 rfl rfl)
theorem dX9_sawnBy_35 : decode cX9_sawnBy 35 = .ok (.iconst 1, 1) := dk_4 (dk_at dksX9_sawnBy_1 13 rfl rfl)
theorem dX9_sawnBy_36 : decode cX9_sawnBy 36 = .ok (.iload_n 3, 1) := dk_29 (dk_at dksX9_sawnBy_1 14 rfl rfl)
theorem dX9_sawnBy_37 : decode cX9_sawnBy 37 = .ok (.ishl, 1) := dk_120 (dk_at dksX9_sawnBy_1 15 rfl rfl)
theorem dX9_sawnBy_38 : decode cX9_sawnBy 38 = .ok (.goto 4, 3) := dk_167 0 4 (dk_at dksX9_sawnBy_1 16 rfl rfl)
theorem dX9_sawnBy_41 : decode cX9_sawnBy 41 = .ok (.iconst 0, 1) := dk_3 (dk_at dksX9_sawnBy_1 19 rfl rfl)
theorem dX9_sawnBy_42 : decode cX9_sawnBy 42 = .ok (.ior, 1) := dk_128 (dk_at dksX9_sawnBy_1 20 rfl rfl)
theorem dX9_sawnBy_43 : decode cX9_sawnBy 43 = .ok (.istore_n 2, 1) := dk_61 (dk_at dksX9_sawnBy_1 21 rfl rfl)
theorem dX9_sawnBy_44 : decode cX9_sawnBy 44 = .ok (.iinc 3 1, 3) := dk_132 3 1 (dk_at dksX9_sawnBy_2 0 rfl rfl)
theorem dX9_sawnBy_47 : decode cX9_sawnBy 47 = .ok (.goto (-32), 3) := dk_167 255 224 (dk_at dksX9_sawnBy_2 3 rfl rfl)
theorem dX9_sawnBy_50 : decode cX9_sawnBy 50 = .ok (.iload_n 2, 1) := dk_28 (dk_at dksX9_sawnBy_2 6 rfl rfl)
theorem dX9_sawnBy_51 : decode cX9_sawnBy 51 = .ok (.ireturn, 1) := dk_172 (dk_at dksX9_sawnBy_2 7 rfl rfl)
abbrev cX9_round : ByteArray := prog_16_method_65_code
def yX9_round : MethodName := ⟨RX9, "round", "()I"⟩
def dkwX9_round_2 : List UInt8 := [167, 0, 4, 3, 128, 60, 132, 2, 1, 167, 255, 214, 27, 172]
abbrev dktX9_round_2 : List UInt8 := dkwX9_round_2 ++ []
def dkwX9_round_1 : List UInt8 := [42, 28, 182, 0, 159, 62, 27, 29, 155, 0, 18, 42, 29, 182, 0, 159, 28, 160, 0, 9, 4, 28, 120]
abbrev dktX9_round_1 : List UInt8 := dkwX9_round_1 ++ dktX9_round_2
def dkwX9_round_0 : List UInt8 := [42, 180, 0, 135, 154, 0, 6, 18, 169, 172, 3, 60, 3, 61, 28, 42, 180, 0, 19, 5, 46, 162, 0, 38]
abbrev dktX9_round_0 : List UInt8 := dkwX9_round_0 ++ dktX9_round_1
theorem dksX9_round_0 : cX9_round.data.toList.drop 0 = dktX9_round_0 := by decide +kernel
theorem dksX9_round_1 : cX9_round.data.toList.drop 24 = dktX9_round_1 := dk_seg dksX9_round_0 24 rfl rfl
theorem dksX9_round_2 : cX9_round.data.toList.drop 47 = dktX9_round_2 := dk_seg dksX9_round_1 23 rfl rfl
theorem dX9_round_0 : decode cX9_round 0 = .ok (.aload_n 0, 1) := dk_42 (dk_at dksX9_round_0 0 rfl rfl)
theorem dX9_round_1 : decode cX9_round 1 = .ok (.getfield 135, 3) := dk_180 0 135 (dk_at dksX9_round_0 1 rfl rfl)
theorem dX9_round_4 : decode cX9_round 4 = .ok (.ifCond .ne 6, 3) := dk_154 0 6 (dk_at dksX9_round_0 4 rfl rfl)
theorem dX9_round_7 : decode cX9_round 7 = .ok (.ldc 169, 2) := dk_18 169 (dk_at dksX9_round_0 7 rfl rfl)
theorem dX9_round_9 : decode cX9_round 9 = .ok (.ireturn, 1) := dk_172 (dk_at dksX9_round_0 9 rfl rfl)
theorem dX9_round_10 : decode cX9_round 10 = .ok (.iconst 0, 1) := dk_3 (dk_at dksX9_round_0 10 rfl rfl)
theorem dX9_round_11 : decode cX9_round 11 = .ok (.istore_n 1, 1) := dk_60 (dk_at dksX9_round_0 11 rfl rfl)
theorem dX9_round_12 : decode cX9_round 12 = .ok (.iconst 0, 1) := dk_3 (dk_at dksX9_round_0 12 rfl rfl)
theorem dX9_round_13 : decode cX9_round 13 = .ok (.istore_n 2, 1) := dk_61 (dk_at dksX9_round_0 13 rfl rfl)
theorem dX9_round_14 : decode cX9_round 14 = .ok (.iload_n 2, 1) := dk_28 (dk_at dksX9_round_0 14 rfl rfl)
theorem dX9_round_15 : decode cX9_round 15 = .ok (.aload_n 0, 1) := dk_42 (dk_at dksX9_round_0 15 rfl rfl)
theorem dX9_round_16 : decode cX9_round 16 = .ok (.getfield 19, 3) := dk_180 0 19 (dk_at dksX9_round_0 16 rfl rfl)
theorem dX9_round_19 : decode cX9_round 19 = .ok (.iconst 2, 1) := dk_5 (dk_at dksX9_round_0 19 rfl rfl)
theorem dX9_round_20 : decode cX9_round 20 = .ok (.iaload, 1) := dk_46 (dk_at dksX9_round_0 20 rfl rfl)
theorem dX9_round_21 : decode cX9_round 21 = .ok (.if_icmp .ge 38, 3) := dk_162 0 38 (dk_at dksX9_round_0 21 rfl rfl)
theorem dX9_round_24 : decode cX9_round 24 = .ok (.aload_n 0, 1) := dk_42 (dk_at dksX9_round_1 0 rfl rfl)
theorem dX9_round_25 : decode cX9_round 25 = .ok (.iload_n 2, 1) := dk_28 (dk_at dksX9_round_1 1 rfl rfl)
theorem dX9_round_26 : decode cX9_round 26 = .ok (.invokevirtual 159, 3) := dk_182 0 159 (dk_at dksX9_round_1 2 rfl rfl)
theorem dX9_round_29 : decode cX9_round 29 = .ok (.istore_n 3, 1) := dk_62 (dk_at dksX9_round_1 5 rfl rfl)
theorem dX9_round_30 : decode cX9_round 30 = .ok (.iload_n 1, 1) := dk_27 (dk_at dksX9_round_1 6 rfl rfl)
theorem dX9_round_31 : decode cX9_round 31 = .ok (.iload_n 3, 1) := dk_29 (dk_at dksX9_round_1 7 rfl rfl)
theorem dX9_round_32 : decode cX9_round 32 = .ok (.ifCond .lt 18, 3) := dk_155 0 18 (dk_at dksX9_round_1 8 rfl rfl)
theorem dX9_round_35 : decode cX9_round 35 = .ok (.aload_n 0, 1) := dk_42 (dk_at dksX9_round_1 11 rfl rfl)
theorem dX9_round_36 : decode cX9_round 36 = .ok (.iload_n 3, 1) := dk_29 (dk_at dksX9_round_1 12 rfl rfl)
theorem dX9_round_37 : decode cX9_round 37 = .ok (.invokevirtual 159, 3) := dk_182 0 159 (dk_at dksX9_round_1 13 rfl rfl)
theorem dX9_round_40 : decode cX9_round 40 = .ok (.iload_n 2, 1) := dk_28 (dk_at dksX9_round_1 16 rfl rfl)
theorem dX9_round_41 : decode cX9_round 41 = .ok (.if_icmp .ne 9, 3) := dk_160 0 9 (dk_at dksX9_round_1 17 rfl rfl)
theorem dX9_round_44 : decode cX9_round 44 = .ok (.iconst 1, 1) := dk_4 (dk_at dksX9_round_1 20 rfl rfl)
theorem dX9_round_45 : decode cX9_round 45 = .ok (.iload_n 2, 1) := dk_28 (dk_at dksX9_round_1 21 rfl rfl)
theorem dX9_round_46 : decode cX9_round 46 = .ok (.ishl, 1) := dk_120 (dk_at dksX9_round_1 22 rfl rfl)
theorem dX9_round_47 : decode cX9_round 47 = .ok (.goto 4, 3) := dk_167 0 4 (dk_at dksX9_round_2 0 rfl rfl)
theorem dX9_round_50 : decode cX9_round 50 = .ok (.iconst 0, 1) := dk_3 (dk_at dksX9_round_2 3 rfl rfl)
theorem dX9_round_51 : decode cX9_round 51 = .ok (.ior, 1) := dk_128 (dk_at dksX9_round_2 4 rfl rfl)
theorem dX9_round_52 : decode cX9_round 52 = .ok (.istore_n 1, 1) := dk_60 (dk_at dksX9_round_2 5 rfl rfl)
theorem dX9_round_53 : decode cX9_round 53 = .ok (.iinc 2 1, 3) := dk_132 2 1 (dk_at dksX9_round_2 6 rfl rfl)
theorem dX9_round_56 : decode cX9_round 56 = .ok (.goto (-42), 3) := dk_167 255 214 (dk_at dksX9_round_2 9 rfl rfl)
theorem dX9_round_59 : decode cX9_round 59 = .ok (.iload_n 1, 1) := dk_27 (dk_at dksX9_round_2 12 rfl rfl)
theorem dX9_round_60 : decode cX9_round 60 = .ok (.ireturn, 1) := dk_172 (dk_at dksX9_round_2 13 rfl rfl)
abbrev cX9_enemy : ByteArray := prog_16_method_66_code
def yX9_enemy : MethodName := ⟨RX9, "enemy", "(III)I"⟩
def dkwX9_enemy_5 : List UInt8 := [167, 255, 183, 29, 154, 0, 8, 21, 4, 167, 0, 5, 21, 5, 172]
abbrev dktX9_enemy_5 : List UInt8 := dkwX9_enemy_5 ++ []
def dkwX9_enemy_4 : List UInt8 := [21, 4, 54, 4, 21, 7, 21, 5, 164, 0, 8, 21, 7, 167, 0, 5, 21, 5, 54, 5, 132, 6, 1]
abbrev dktX9_enemy_4 : List UInt8 := dkwX9_enemy_4 ++ dktX9_enemy_5
def dkwX9_enemy_3 : List UInt8 := [42, 27, 182, 0, 146, 54, 7, 42, 182, 0, 199, 21, 7, 21, 5, 164, 0, 8, 21, 6, 167, 0, 5]
abbrev dktX9_enemy_3 : List UInt8 := dkwX9_enemy_3 ++ dktX9_enemy_4
def dkwX9_enemy_2 : List UInt8 := [180, 0, 19, 5, 46, 162, 0, 68, 42, 180, 0, 19, 16, 17, 21, 6, 96, 3, 79, 42, 28, 182, 0, 196]
abbrev dktX9_enemy_2 : List UInt8 := dkwX9_enemy_2 ++ dktX9_enemy_3
def dkwX9_enemy_1 : List UInt8 := [154, 0, 6, 18, 67, 172, 42, 182, 0, 204, 3, 54, 4, 2, 54, 5, 3, 54, 6, 21, 6, 42]
abbrev dktX9_enemy_1 : List UInt8 := dkwX9_enemy_1 ++ dktX9_enemy_2
def dkwX9_enemy_0 : List UInt8 := [42, 27, 182, 0, 178, 153, 0, 22, 28, 133, 10, 20, 0, 212, 184, 0, 57, 153, 0, 10, 29, 184, 0, 217]
abbrev dktX9_enemy_0 : List UInt8 := dkwX9_enemy_0 ++ dktX9_enemy_1
theorem dksX9_enemy_0 : cX9_enemy.data.toList.drop 0 = dktX9_enemy_0 := by decide +kernel
theorem dksX9_enemy_1 : cX9_enemy.data.toList.drop 24 = dktX9_enemy_1 := dk_seg dksX9_enemy_0 24 rfl rfl
theorem dksX9_enemy_2 : cX9_enemy.data.toList.drop 46 = dktX9_enemy_2 := dk_seg dksX9_enemy_1 22 rfl rfl
theorem dksX9_enemy_3 : cX9_enemy.data.toList.drop 70 = dktX9_enemy_3 := dk_seg dksX9_enemy_2 24 rfl rfl
theorem dksX9_enemy_4 : cX9_enemy.data.toList.drop 93 = dktX9_enemy_4 := dk_seg dksX9_enemy_3 23 rfl rfl
theorem dksX9_enemy_5 : cX9_enemy.data.toList.drop 116 = dktX9_enemy_5 := dk_seg dksX9_enemy_4 23 rfl rfl
theorem dX9_enemy_0 : decode cX9_enemy 0 = .ok (.aload_n 0, 1) := dk_42 (dk_at dksX9_enemy_0 0 rfl rfl)
theorem dX9_enemy_1 : decode cX9_enemy 1 = .ok (.iload_n 1, 1) := dk_27 (dk_at dksX9_enemy_0 1 rfl rfl)
theorem dX9_enemy_2 : decode cX9_enemy 2 = .ok (.invokevirtual 178, 3) := dk_182 0 178 (dk_at dksX9_enemy_0 2 rfl rfl)
theorem dX9_enemy_5 : decode cX9_enemy 5 = .ok (.ifCond .eq 22, 3) := dk_153 0 22 (dk_at dksX9_enemy_0 5 rfl rfl)
theorem dX9_enemy_8 : decode cX9_enemy 8 = .ok (.iload_n 2, 1) := dk_28 (dk_at dksX9_enemy_0 8 rfl rfl)
theorem dX9_enemy_9 : decode cX9_enemy 9 = .ok (.i2l, 1) := dk_133 (dk_at dksX9_enemy_0 9 rfl rfl)
theorem dX9_enemy_10 : decode cX9_enemy 10 = .ok (.lconst 1, 1) := dk_10 (dk_at dksX9_enemy_0 10 rfl rfl)
theorem dX9_enemy_11 : decode cX9_enemy 11 = .ok (.ldc2_w 212, 3) := dk_20 0 212 (dk_at dksX9_enemy_0 11 rfl rfl)
theorem dX9_enemy_14 : decode cX9_enemy 14 = .ok (.invokestatic 57, 3) := dk_184 0 57 (dk_at dksX9_enemy_0 14 rfl rfl)
theorem dX9_enemy_17 : decode cX9_enemy 17 = .ok (.ifCond .eq 10, 3) := dk_153 0 10 (dk_at dksX9_enemy_0 17 rfl rfl)
theorem dX9_enemy_20 : decode cX9_enemy 20 = .ok (.iload_n 3, 1) := dk_29 (dk_at dksX9_enemy_0 20 rfl rfl)
theorem dX9_enemy_21 : decode cX9_enemy 21 = .ok (.invokestatic 217, 3) := dk_184 0 217 (dk_at dksX9_enemy_0 21 rfl rfl)
theorem dX9_enemy_24 : decode cX9_enemy 24 = .ok (.ifCond .ne 6, 3) := dk_154 0 6 (dk_at dksX9_enemy_1 0 rfl rfl)
theorem dX9_enemy_27 : decode cX9_enemy 27 = .ok (.ldc 67, 2) := dk_18 67 (dk_at dksX9_enemy_1 3 rfl rfl)
theorem dX9_enemy_29 : decode cX9_enemy 29 = .ok (.ireturn, 1) := dk_172 (dk_at dksX9_enemy_1 5 rfl rfl)
theorem dX9_enemy_30 : decode cX9_enemy 30 = .ok (.aload_n 0, 1) := dk_42 (dk_at dksX9_enemy_1 6 rfl rfl)
theorem dX9_enemy_31 : decode cX9_enemy 31 = .ok (.invokevirtual 204, 3) := dk_182 0 204 (dk_at dksX9_enemy_1 7 rfl rfl)
theorem dX9_enemy_34 : decode cX9_enemy 34 = .ok (.iconst 0, 1) := dk_3 (dk_at dksX9_enemy_1 10 rfl rfl)
theorem dX9_enemy_35 : decode cX9_enemy 35 = .ok (.istore 4, 2) := dk_54 4 (dk_at dksX9_enemy_1 11 rfl rfl)
theorem dX9_enemy_37 : decode cX9_enemy 37 = .ok (.iconst (-1), 1) := dk_2 (dk_at dksX9_enemy_1 13 rfl rfl)
theorem dX9_enemy_38 : decode cX9_enemy 38 = .ok (.istore 5, 2) := dk_54 5 (dk_at dksX9_enemy_1 14 rfl rfl)
theorem dX9_enemy_40 : decode cX9_enemy 40 = .ok (.iconst 0, 1) := dk_3 (dk_at dksX9_enemy_1 16 rfl rfl)
theorem dX9_enemy_41 : decode cX9_enemy 41 = .ok (.istore 6, 2) := dk_54 6 (dk_at dksX9_enemy_1 17 rfl rfl)
theorem dX9_enemy_43 : decode cX9_enemy 43 = .ok (.iload 6, 2) := dk_21 6 (dk_at dksX9_enemy_1 19 rfl rfl)
theorem dX9_enemy_45 : decode cX9_enemy 45 = .ok (.aload_n 0, 1) := dk_42 (dk_at dksX9_enemy_1 21 rfl rfl)
theorem dX9_enemy_46 : decode cX9_enemy 46 = .ok (.getfield 19, 3) := dk_180 0 19 (dk_at dksX9_enemy_2 0 rfl rfl)
theorem dX9_enemy_49 : decode cX9_enemy 49 = .ok (.iconst 2, 1) := dk_5 (dk_at dksX9_enemy_2 3 rfl rfl)
theorem dX9_enemy_50 : decode cX9_enemy 50 = .ok (.iaload, 1) := dk_46 (dk_at dksX9_enemy_2 4 rfl rfl)
theorem dX9_enemy_51 : decode cX9_enemy 51 = .ok (.if_icmp .ge 68, 3) := dk_162 0 68 (dk_at dksX9_enemy_2 5 rfl rfl)
theorem dX9_enemy_54 : decode cX9_enemy 54 = .ok (.aload_n 0, 1) := dk_42 (dk_at dksX9_enemy_2 8 rfl rfl)
theorem dX9_enemy_55 : decode cX9_enemy 55 = .ok (.getfield 19, 3) := dk_180 0 19 (dk_at dksX9_enemy_2 9 rfl rfl)
theorem dX9_enemy_58 : decode cX9_enemy 58 = .ok (.bipush 17, 2) := dk_16 17 (dk_at dksX9_enemy_2 12 rfl rfl)
theorem dX9_enemy_60 : decode cX9_enemy 60 = .ok (.iload 6, 2) := dk_21 6 (dk_at dksX9_enemy_2 14 rfl rfl)
theorem dX9_enemy_62 : decode cX9_enemy 62 = .ok (.iadd, 1) := dk_96 (dk_at dksX9_enemy_2 16 rfl rfl)
theorem dX9_enemy_63 : decode cX9_enemy 63 = .ok (.iconst 0, 1) := dk_3 (dk_at dksX9_enemy_2 17 rfl rfl)
theorem dX9_enemy_64 : decode cX9_enemy 64 = .ok (.iastore, 1) := dk_79 (dk_at dksX9_enemy_2 18 rfl rfl)
theorem dX9_enemy_65 : decode cX9_enemy 65 = .ok (.aload_n 0, 1) := dk_42 (dk_at dksX9_enemy_2 19 rfl rfl)
theorem dX9_enemy_66 : decode cX9_enemy 66 = .ok (.iload_n 2, 1) := dk_28 (dk_at dksX9_enemy_2 20 rfl rfl)
theorem dX9_enemy_67 : decode cX9_enemy 67 = .ok (.invokevirtual 196, 3) := dk_182 0 196 (dk_at dksX9_enemy_2 21 rfl rfl)
theorem dX9_enemy_70 : decode cX9_enemy 70 = .ok (.aload_n 0, 1) := dk_42 (dk_at dksX9_enemy_3 0 rfl rfl)
theorem dX9_enemy_71 : decode cX9_enemy 71 = .ok (.iload_n 1, 1) := dk_27 (dk_at dksX9_enemy_3 1 rfl rfl)
theorem dX9_enemy_72 : decode cX9_enemy 72 = .ok (.invokevirtual 146, 3) := dk_182 0 146 (dk_at dksX9_enemy_3 2 rfl rfl)
theorem dX9_enemy_75 : decode cX9_enemy 75 = .ok (.istore 7, 2) := dk_54 7 (dk_at dksX9_enemy_3 5 rfl rfl)
theorem dX9_enemy_77 : decode cX9_enemy 77 = .ok (.aload_n 0, 1) := dk_42 (dk_at dksX9_enemy_3 7 rfl rfl)
theorem dX9_enemy_78 : decode cX9_enemy 78 = .ok (.invokevirtual 199, 3) := dk_182 0 199 (dk_at dksX9_enemy_3 8 rfl rfl)
theorem dX9_enemy_81 : decode cX9_enemy 81 = .ok (.iload 7, 2) := dk_21 7 (dk_at dksX9_enemy_3 11 rfl rfl)
theorem dX9_enemy_83 : decode cX9_enemy 83 = .ok (.iload 5, 2) := dk_21 5 (dk_at dksX9_enemy_3 13 rfl rfl)
theorem dX9_enemy_85 : decode cX9_enemy 85 = .ok (.if_icmp .le 8, 3) := dk_164 0 8 (dk_at dksX9_enemy_3 15 rfl rfl)
theorem dX9_enemy_88 : decode cX9_enemy 88 = .ok (.iload 6, 2) := dk_21 6 (dk_at dksX9_enemy_3 18 rfl rfl)
theorem dX9_enemy_90 : decode cX9_enemy 90 = .ok (.goto 5, 3) := dk_167 0 5 (dk_at dksX9_enemy_3 20 rfl rfl)
theorem dX9_enemy_93 : decode cX9_enemy 93 = .ok (.iload 4, 2) := dk_21 4 (dk_at dksX9_enemy_4 0 rfl rfl)
theorem dX9_enemy_95 : decode cX9_enemy 95 = .ok (.istore 4, 2) := dk_54 4 (dk_at dksX9_enemy_4 2 rfl rfl)
theorem dX9_enemy_97 : decode cX9_enemy 97 = .ok (.iload 7, 2) := dk_21 7 (dk_at dksX9_enemy_4 4 rfl rfl)
theorem dX9_enemy_99 : decode cX9_enemy 99 = .ok (.iload 5, 2) := dk_21 5 (dk_at dksX9_enemy_4 6 rfl rfl)
theorem dX9_enemy_101 : decode cX9_enemy 101 = .ok (.if_icmp .le 8, 3) := dk_164 0 8 (dk_at dksX9_enemy_4 8 rfl rfl)
theorem dX9_enemy_104 : decode cX9_enemy 104 = .ok (.iload 7, 2) := dk_21 7 (dk_at dksX9_enemy_4 11 rfl rfl)
theorem dX9_enemy_106 : decode cX9_enemy 106 = .ok (.goto 5, 3) := dk_167 0 5 (dk_at dksX9_enemy_4 13 rfl rfl)
theorem dX9_enemy_109 : decode cX9_enemy 109 = .ok (.iload 5, 2) := dk_21 5 (dk_at dksX9_enemy_4 16 rfl rfl)
theorem dX9_enemy_111 : decode cX9_enemy 111 = .ok (.istore 5, 2) := dk_54 5 (dk_at dksX9_enemy_4 18 rfl rfl)
theorem dX9_enemy_113 : decode cX9_enemy 113 = .ok (.iinc 6 1, 3) := dk_132 6 1 (dk_at dksX9_enemy_4 20 rfl rfl)
theorem dX9_enemy_116 : decode cX9_enemy 116 = .ok (.goto (-73), 3) := dk_167 255 183 (dk_at dksX9_enemy_5 0 rfl rfl)
theorem dX9_enemy_119 : decode cX9_enemy 119 = .ok (.iload_n 3, 1) := dk_29 (dk_at dksX9_enemy_5 3 rfl rfl)
theorem dX9_enemy_120 : decode cX9_enemy 120 = .ok (.ifCond .ne 8, 3) := dk_154 0 8 (dk_at dksX9_enemy_5 4 rfl rfl)
theorem dX9_enemy_123 : decode cX9_enemy 123 = .ok (.iload 4, 2) := dk_21 4 (dk_at dksX9_enemy_5 7 rfl rfl)
theorem dX9_enemy_125 : decode cX9_enemy 125 = .ok (.goto 5, 3) := dk_167 0 5 (dk_at dksX9_enemy_5 9 rfl rfl)
theorem dX9_enemy_128 : decode cX9_enemy 128 = .ok (.iload 5, 2) := dk_21 5 (dk_at dksX9_enemy_5 12 rfl rfl)
theorem dX9_enemy_130 : decode cX9_enemy 130 = .ok (.ireturn, 1) := dk_172 (dk_at dksX9_enemy_5 14 rfl rfl)
abbrev cX9_who : ByteArray := prog_16_method_68_code
def yX9_who : MethodName := ⟨RX9, "who", "(IIIIII)I"⟩
def dkwX9_who_8 : List UInt8 := [132, 10, 1, 167, 255, 189, 42, 21, 9, 182, 0, 72, 172]
abbrev dktX9_who_8 : List UInt8 := dkwX9_who_8 ++ []
def dkwX9_who_7 : List UInt8 := [104, 21, 5, 96, 21, 6, 182, 0, 231, 153, 0, 10, 4, 21, 10, 120, 167, 0, 4, 3, 128, 54, 9]
abbrev dktX9_who_7 : List UInt8 := dkwX9_who_7 ++ dktX9_who_8
def dkwX9_who_6 : List UInt8 := [167, 0, 4, 6, 163, 0, 49, 42, 180, 0, 19, 21, 8, 21, 10, 79, 21, 9, 42, 29, 16, 40, 21, 4]
abbrev dktX9_who_6 : List UInt8 := dkwX9_who_6 ++ dktX9_who_7
def dkwX9_who_5 : List UInt8 := [167, 0, 4, 3, 54, 10, 21, 10, 28, 154, 0, 7, 8, 167, 0, 14, 28, 4, 160, 0, 8, 16, 9]
abbrev dktX9_who_5 : List UInt8 := dkwX9_who_5 ++ dktX9_who_6
def dkwX9_who_4 : List UInt8 := [160, 0, 10, 16, 17, 27, 96, 167, 0, 7, 16, 23, 27, 96, 54, 8, 3, 54, 9, 28, 154, 0, 7, 4]
abbrev dktX9_who_4 : List UInt8 := dkwX9_who_4 ++ dktX9_who_5
def dkwX9_who_3 : List UInt8 := [156, 0, 6, 21, 7, 172, 42, 182, 0, 204, 28, 154, 0, 9, 8, 27, 96, 167, 0, 19, 28, 4]
abbrev dktX9_who_3 : List UInt8 := dkwX9_who_3 ++ dktX9_who_4
def dkwX9_who_2 : List UInt8 := [154, 0, 8, 18, 67, 167, 0, 13, 42, 21, 4, 21, 5, 21, 6, 182, 0, 220, 54, 7, 21, 7]
abbrev dktX9_who_2 : List UInt8 := dkwX9_who_2 ++ dktX9_who_3
def dkwX9_who_1 : List UInt8 := [182, 0, 178, 153, 0, 24, 21, 4, 184, 0, 61, 153, 0, 16, 21, 6, 133, 10, 20, 0, 229, 184, 0, 57]
abbrev dktX9_who_1 : List UInt8 := dkwX9_who_1 ++ dktX9_who_2
def dkwX9_who_0 : List UInt8 := [42, 27, 182, 0, 178, 153, 0, 44, 28, 133, 9, 20, 0, 65, 184, 0, 57, 153, 0, 32, 42, 29]
abbrev dktX9_who_0 : List UInt8 := dkwX9_who_0 ++ dktX9_who_1
theorem dksX9_who_0 : cX9_who.data.toList.drop 0 = dktX9_who_0 := by decide +kernel
theorem dksX9_who_1 : cX9_who.data.toList.drop 22 = dktX9_who_1 := dk_seg dksX9_who_0 22 rfl rfl
theorem dksX9_who_2 : cX9_who.data.toList.drop 46 = dktX9_who_2 := dk_seg dksX9_who_1 24 rfl rfl
theorem dksX9_who_3 : cX9_who.data.toList.drop 68 = dktX9_who_3 := dk_seg dksX9_who_2 22 rfl rfl
theorem dksX9_who_4 : cX9_who.data.toList.drop 90 = dktX9_who_4 := dk_seg dksX9_who_3 22 rfl rfl
theorem dksX9_who_5 : cX9_who.data.toList.drop 114 = dktX9_who_5 := dk_seg dksX9_who_4 24 rfl rfl
theorem dksX9_who_6 : cX9_who.data.toList.drop 137 = dktX9_who_6 := dk_seg dksX9_who_5 23 rfl rfl
theorem dksX9_who_7 : cX9_who.data.toList.drop 161 = dktX9_who_7 := dk_seg dksX9_who_6 24 rfl rfl
theorem dksX9_who_8 : cX9_who.data.toList.drop 184 = dktX9_who_8 := dk_seg dksX9_who_7 23 rfl rfl
theorem dX9_who_0 : decode cX9_who 0 = .ok (.aload_n 0, 1) := dk_42 (dk_at dksX9_who_0 0 rfl rfl)
theorem dX9_who_1 : decode cX9_who 1 = .ok (.iload_n 1, 1) := dk_27 (dk_at dksX9_who_0 1 rfl rfl)
theorem dX9_who_2 : decode cX9_who 2 = .ok (.invokevirtual 178, 3) := dk_182 0 178 (dk_at dksX9_who_0 2 rfl rfl)
theorem dX9_who_5 : decode cX9_who 5 = .ok (.ifCond .eq 44, 3) := dk_153 0 44 (dk_at dksX9_who_0 5 rfl rfl)
theorem dX9_who_8 : decode cX9_who 8 = .ok (.iload_n 2, 1) := dk_28 (dk_at dksX9_who_0 8 rfl rfl)
theorem dX9_who_9 : decode cX9_who 9 = .ok (.i2l, 1) := dk_133 (dk_at dksX9_who_0 9 rfl rfl)
theorem dX9_who_10 : decode cX9_who 10 = .ok (.lconst 0, 1) := dk_9 (dk_at dksX9_who_0 10 rfl rfl)
theorem dX9_who_11 : decode cX9_who 11 = .ok (.ldc2_w 65, 3) := dk_20 0 65 (dk_at dksX9_who_0 11 rfl rfl)
theorem dX9_who_14 : decode cX9_who 14 = .ok (.invokestatic 57, 3) := dk_184 0 57 (dk_at dksX9_who_0 14 rfl rfl)
theorem dX9_who_17 : decode cX9_who 17 = .ok (.ifCond .eq 32, 3) := dk_153 0 32 (dk_at dksX9_who_0 17 rfl rfl)
theorem dX9_who_20 : decode cX9_who 20 = .ok (.aload_n 0, 1) := dk_42 (dk_at dksX9_who_0 20 rfl rfl)
theorem dX9_who_21 : decode cX9_who 21 = .ok (.iload_n 3, 1) := dk_29 (dk_at dksX9_who_0 21 rfl rfl)
theorem dX9_who_22 : decode cX9_who 22 = .ok (.invokevirtual 178, 3) := dk_182 0 178 (dk_at dksX9_who_1 0 rfl rfl)
theorem dX9_who_25 : decode cX9_who 25 = .ok (.ifCond .eq 24, 3) := dk_153 0 24 (dk_at dksX9_who_1 3 rfl rfl)
theorem dX9_who_28 : decode cX9_who 28 = .ok (.iload 4, 2) := dk_21 4 (dk_at dksX9_who_1 6 rfl rfl)
theorem dX9_who_30 : decode cX9_who 30 = .ok (.invokestatic 61, 3) := dk_184 0 61 (dk_at dksX9_who_1 8 rfl rfl)
theorem dX9_who_33 : decode cX9_who 33 = .ok (.ifCond .eq 16, 3) := dk_153 0 16 (dk_at dksX9_who_1 11 rfl rfl)
theorem dX9_who_36 : decode cX9_who 36 = .ok (.iload 6, 2) := dk_21 6 (dk_at dksX9_who_1 14 rfl rfl)
theorem dX9_who_38 : decode cX9_who 38 = .ok (.i2l, 1) := dk_133 (dk_at dksX9_who_1 16 rfl rfl)
theorem dX9_who_39 : decode cX9_who 39 = .ok (.lconst 1, 1) := dk_10 (dk_at dksX9_who_1 17 rfl rfl)
theorem dX9_who_40 : decode cX9_who 40 = .ok (.ldc2_w 229, 3) := dk_20 0 229 (dk_at dksX9_who_1 18 rfl rfl)
theorem dX9_who_43 : decode cX9_who 43 = .ok (.invokestatic 57, 3) := dk_184 0 57 (dk_at dksX9_who_1 21 rfl rfl)
theorem dX9_who_46 : decode cX9_who 46 = .ok (.ifCond .ne 8, 3) := dk_154 0 8 (dk_at dksX9_who_2 0 rfl rfl)
theorem dX9_who_49 : decode cX9_who 49 = .ok (.ldc 67, 2) := dk_18 67 (dk_at dksX9_who_2 3 rfl rfl)
theorem dX9_who_51 : decode cX9_who 51 = .ok (.goto 13, 3) := dk_167 0 13 (dk_at dksX9_who_2 5 rfl rfl)
theorem dX9_who_54 : decode cX9_who 54 = .ok (.aload_n 0, 1) := dk_42 (dk_at dksX9_who_2 8 rfl rfl)
theorem dX9_who_55 : decode cX9_who 55 = .ok (.iload 4, 2) := dk_21 4 (dk_at dksX9_who_2 9 rfl rfl)
theorem dX9_who_57 : decode cX9_who 57 = .ok (.iload 5, 2) := dk_21 5 (dk_at dksX9_who_2 11 rfl rfl)
theorem dX9_who_59 : decode cX9_who 59 = .ok (.iload 6, 2) := dk_21 6 (dk_at dksX9_who_2 13 rfl rfl)
theorem dX9_who_61 : decode cX9_who 61 = .ok (.invokevirtual 220, 3) := dk_182 0 220 (dk_at dksX9_who_2 15 rfl rfl)
theorem dX9_who_64 : decode cX9_who 64 = .ok (.istore 7, 2) := dk_54 7 (dk_at dksX9_who_2 18 rfl rfl)
theorem dX9_who_66 : decode cX9_who 66 = .ok (.iload 7, 2) := dk_21 7 (dk_at dksX9_who_2 20 rfl rfl)
theorem dX9_who_68 : decode cX9_who 68 = .ok (.ifCond .ge 6, 3) := dk_156 0 6 (dk_at dksX9_who_3 0 rfl rfl)
theorem dX9_who_71 : decode cX9_who 71 = .ok (.iload 7, 2) := dk_21 7 (dk_at dksX9_who_3 3 rfl rfl)
theorem dX9_who_73 : decode cX9_who 73 = .ok (.ireturn, 1) := dk_172 (dk_at dksX9_who_3 5 rfl rfl)
theorem dX9_who_74 : decode cX9_who 74 = .ok (.aload_n 0, 1) := dk_42 (dk_at dksX9_who_3 6 rfl rfl)
theorem dX9_who_75 : decode cX9_who 75 = .ok (.invokevirtual 204, 3) := dk_182 0 204 (dk_at dksX9_who_3 7 rfl rfl)
theorem dX9_who_78 : decode cX9_who 78 = .ok (.iload_n 2, 1) := dk_28 (dk_at dksX9_who_3 10 rfl rfl)
theorem dX9_who_79 : decode cX9_who 79 = .ok (.ifCond .ne 9, 3) := dk_154 0 9 (dk_at dksX9_who_3 11 rfl rfl)
theorem dX9_who_82 : decode cX9_who 82 = .ok (.iconst 5, 1) := dk_8 (dk_at dksX9_who_3 14 rfl rfl)
theorem dX9_who_83 : decode cX9_who 83 = .ok (.iload_n 1, 1) := dk_27 (dk_at dksX9_who_3 15 rfl rfl)
theorem dX9_who_84 : decode cX9_who 84 = .ok (.iadd, 1) := dk_96 (dk_at dksX9_who_3 16 rfl rfl)
theorem dX9_who_85 : decode cX9_who 85 = .ok (.goto 19, 3) := dk_167 0 19 (dk_at dksX9_who_3 17 rfl rfl)
theorem dX9_who_88 : decode cX9_who 88 = .ok (.iload_n 2, 1) := dk_28 (dk_at dksX9_who_3 20 rfl rfl)
theorem dX9_who_89 : decode cX9_who 89 = .ok (.iconst 1, 1) := dk_4 (dk_at dksX9_who_3 21 rfl rfl)
theorem dX9_who_90 : decode cX9_who 90 = .ok (.if_icmp .ne 10, 3) := dk_160 0 10 (dk_at dksX9_who_4 0 rfl rfl)
theorem dX9_who_93 : decode cX9_who 93 = .ok (.bipush 17, 2) := dk_16 17 (dk_at dksX9_who_4 3 rfl rfl)
theorem dX9_who_95 : decode cX9_who 95 = .ok (.iload_n 1, 1) := dk_27 (dk_at dksX9_who_4 5 rfl rfl)
theorem dX9_who_96 : decode cX9_who 96 = .ok (.iadd, 1) := dk_96 (dk_at dksX9_who_4 6 rfl rfl)
theorem dX9_who_97 : decode cX9_who 97 = .ok (.goto 7, 3) := dk_167 0 7 (dk_at dksX9_who_4 7 rfl rfl)
theorem dX9_who_100 : decode cX9_who 100 = .ok (.bipush 23, 2) := dk_16 23 (dk_at dksX9_who_4 10 rfl rfl)
theorem dX9_who_102 : decode cX9_who 102 = .ok (.iload_n 1, 1) := dk_27 (dk_at dksX9_who_4 12 rfl rfl)
theorem dX9_who_103 : decode cX9_who 103 = .ok (.iadd, 1) := dk_96 (dk_at dksX9_who_4 13 rfl rfl)
theorem dX9_who_104 : decode cX9_who 104 = .ok (.istore 8, 2) := dk_54 8 (dk_at dksX9_who_4 14 rfl rfl)
theorem dX9_who_106 : decode cX9_who 106 = .ok (.iconst 0, 1) := dk_3 (dk_at dksX9_who_4 16 rfl rfl)
theorem dX9_who_107 : decode cX9_who 107 = .ok (.istore 9, 2) := dk_54 9 (dk_at dksX9_who_4 17 rfl rfl)
theorem dX9_who_109 : decode cX9_who 109 = .ok (.iload_n 2, 1) := dk_28 (dk_at dksX9_who_4 19 rfl rfl)
theorem dX9_who_110 : decode cX9_who 110 = .ok (.ifCond .ne 7, 3) := dk_154 0 7 (dk_at dksX9_who_4 20 rfl rfl)
theorem dX9_who_113 : decode cX9_who 113 = .ok (.iconst 1, 1) := dk_4 (dk_at dksX9_who_4 23 rfl rfl)
theorem dX9_who_114 : decode cX9_who 114 = .ok (.goto 4, 3) := dk_167 0 4 (dk_at dksX9_who_5 0 rfl rfl)
theorem dX9_who_117 : decode cX9_who 117 = .ok (.iconst 0, 1) := dk_3 (dk_at dksX9_who_5 3 rfl rfl)
theorem dX9_who_118 : decode cX9_who 118 = .ok (.istore 10, 2) := dk_54 10 (dk_at dksX9_who_5 4 rfl rfl)
theorem dX9_who_120 : decode cX9_who 120 = .ok (.iload 10, 2) := dk_21 10 (dk_at dksX9_who_5 6 rfl rfl)
theorem dX9_who_122 : decode cX9_who 122 = .ok (.iload_n 2, 1) := dk_28 (dk_at dksX9_who_5 8 rfl rfl)
theorem dX9_who_123 : decode cX9_who 123 = .ok (.ifCond .ne 7, 3) := dk_154 0 7 (dk_at dksX9_who_5 9 rfl rfl)
theorem dX9_who_126 : decode cX9_who 126 = .ok (.iconst 5, 1) := dk_8 (dk_at dksX9_who_5 12 rfl rfl)
theorem dX9_who_127 : decode cX9_who 127 = .ok (.goto 14, 3) := dk_167 0 14 (dk_at dksX9_who_5 13 rfl rfl)
theorem dX9_who_130 : decode cX9_who 130 = .ok (.iload_n 2, 1) := dk_28 (dk_at dksX9_who_5 16 rfl rfl)
theorem dX9_who_131 : decode cX9_who 131 = .ok (.iconst 1, 1) := dk_4 (dk_at dksX9_who_5 17 rfl rfl)
theorem dX9_who_132 : decode cX9_who 132 = .ok (.if_icmp .ne 8, 3) := dk_160 0 8 (dk_at dksX9_who_5 18 rfl rfl)
theorem dX9_who_135 : decode cX9_who 135 = .ok (.bipush 9, 2) := dk_16 9 (dk_at dksX9_who_5 21 rfl rfl)
theorem dX9_who_137 : decode cX9_who 137 = .ok (.goto 4, 3) := dk_167 0 4 (dk_at dksX9_who_6 0 rfl rfl)
theorem dX9_who_140 : decode cX9_who 140 = .ok (.iconst 3, 1) := dk_6 (dk_at dksX9_who_6 3 rfl rfl)
theorem dX9_who_141 : decode cX9_who 141 = .ok (.if_icmp .gt 49, 3) := dk_163 0 49 (dk_at dksX9_who_6 4 rfl rfl)
theorem dX9_who_144 : decode cX9_who 144 = .ok (.aload_n 0, 1) := dk_42 (dk_at dksX9_who_6 7 rfl rfl)
theorem dX9_who_145 : decode cX9_who 145 = .ok (.getfield 19, 3) := dk_180 0 19 (dk_at dksX9_who_6 8 rfl rfl)
theorem dX9_who_148 : decode cX9_who 148 = .ok (.iload 8, 2) := dk_21 8 (dk_at dksX9_who_6 11 rfl rfl)
theorem dX9_who_150 : decode cX9_who 150 = .ok (.iload 10, 2) := dk_21 10 (dk_at dksX9_who_6 13 rfl rfl)
theorem dX9_who_152 : decode cX9_who 152 = .ok (.iastore, 1) := dk_79 (dk_at dksX9_who_6 15 rfl rfl)
theorem dX9_who_153 : decode cX9_who 153 = .ok (.iload 9, 2) := dk_21 9 (dk_at dksX9_who_6 16 rfl rfl)
theorem dX9_who_155 : decode cX9_who 155 = .ok (.aload_n 0, 1) := dk_42 (dk_at dksX9_who_6 18 rfl rfl)
theorem dX9_who_156 : decode cX9_who 156 = .ok (.iload_n 3, 1) := dk_29 (dk_at dksX9_who_6 19 rfl rfl)
theorem dX9_who_157 : decode cX9_who 157 = .ok (.bipush 40, 2) := dk_16 40 (dk_at dksX9_who_6 20 rfl rfl)
theorem dX9_who_159 : decode cX9_who 159 = .ok (.iload 4, 2) := dk_21 4 (dk_at dksX9_who_6 22 rfl rfl)
theorem dX9_who_161 : decode cX9_who 161 = .ok (.imul, 1) := dk_104 (dk_at dksX9_who_7 0 rfl rfl)
theorem dX9_who_162 : decode cX9_who 162 = .ok (.iload 5, 2) := dk_21 5 (dk_at dksX9_who_7 1 rfl rfl)
theorem dX9_who_164 : decode cX9_who 164 = .ok (.iadd, 1) := dk_96 (dk_at dksX9_who_7 3 rfl rfl)
theorem dX9_who_165 : decode cX9_who 165 = .ok (.iload 6, 2) := dk_21 6 (dk_at dksX9_who_7 4 rfl rfl)
theorem dX9_who_167 : decode cX9_who 167 = .ok (.invokevirtual 231, 3) := dk_182 0 231 (dk_at dksX9_who_7 6 rfl rfl)
theorem dX9_who_170 : decode cX9_who 170 = .ok (.ifCond .eq 10, 3) := dk_153 0 10 (dk_at dksX9_who_7 9 rfl rfl)
theorem dX9_who_173 : decode cX9_who 173 = .ok (.iconst 1, 1) := dk_4 (dk_at dksX9_who_7 12 rfl rfl)
theorem dX9_who_174 : decode cX9_who 174 = .ok (.iload 10, 2) := dk_21 10 (dk_at dksX9_who_7 13 rfl rfl)
theorem dX9_who_176 : decode cX9_who 176 = .ok (.ishl, 1) := dk_120 (dk_at dksX9_who_7 15 rfl rfl)
theorem dX9_who_177 : decode cX9_who 177 = .ok (.goto 4, 3) := dk_167 0 4 (dk_at dksX9_who_7 16 rfl rfl)
theorem dX9_who_180 : decode cX9_who 180 = .ok (.iconst 0, 1) := dk_3 (dk_at dksX9_who_7 19 rfl rfl)
theorem dX9_who_181 : decode cX9_who 181 = .ok (.ior, 1) := dk_128 (dk_at dksX9_who_7 20 rfl rfl)
theorem dX9_who_182 : decode cX9_who 182 = .ok (.istore 9, 2) := dk_54 9 (dk_at dksX9_who_7 21 rfl rfl)
theorem dX9_who_184 : decode cX9_who 184 = .ok (.iinc 10 1, 3) := dk_132 10 1 (dk_at dksX9_who_8 0 rfl rfl)
theorem dX9_who_187 : decode cX9_who 187 = .ok (.goto (-67), 3) := dk_167 255 189 (dk_at dksX9_who_8 3 rfl rfl)
theorem dX9_who_190 : decode cX9_who 190 = .ok (.aload_n 0, 1) := dk_42 (dk_at dksX9_who_8 6 rfl rfl)
theorem dX9_who_191 : decode cX9_who 191 = .ok (.iload 9, 2) := dk_21 9 (dk_at dksX9_who_8 7 rfl rfl)
theorem dX9_who_193 : decode cX9_who 193 = .ok (.invokevirtual 72, 3) := dk_182 0 72 (dk_at dksX9_who_8 9 rfl rfl)
theorem dX9_who_196 : decode cX9_who 196 = .ok (.ireturn, 1) := dk_172 (dk_at dksX9_who_8 12 rfl rfl)
abbrev cX9_isSo : ByteArray := prog_16_method_67_code
def yX9_isSo : MethodName := ⟨RX9, "isSo", "(III)Z"⟩
def dkwX9_isSo_2 : List UInt8 := [132, 5, 1, 167, 255, 214, 42, 182, 0, 199, 21, 4, 172]
abbrev dktX9_isSo_2 : List UInt8 := dkwX9_isSo_2 ++ []
def dkwX9_isSo_1 : List UInt8 := [180, 0, 16, 28, 21, 5, 96, 46, 42, 27, 182, 0, 146, 160, 0, 7, 4, 167, 0, 4, 3, 54, 4]
abbrev dktX9_isSo_1 : List UInt8 := dkwX9_isSo_1 ++ dktX9_isSo_2
def dkwX9_isSo_0 : List UInt8 := [4, 54, 4, 3, 54, 5, 21, 5, 29, 162, 0, 42, 42, 182, 0, 175, 21, 4, 153, 0, 24, 42]
abbrev dktX9_isSo_0 : List UInt8 := dkwX9_isSo_0 ++ dktX9_isSo_1
theorem dksX9_isSo_0 : cX9_isSo.data.toList.drop 0 = dktX9_isSo_0 := by decide +kernel
theorem dksX9_isSo_1 : cX9_isSo.data.toList.drop 22 = dktX9_isSo_1 := dk_seg dksX9_isSo_0 22 rfl rfl
theorem dksX9_isSo_2 : cX9_isSo.data.toList.drop 45 = dktX9_isSo_2 := dk_seg dksX9_isSo_1 23 rfl rfl
theorem dX9_isSo_0 : decode cX9_isSo 0 = .ok (.iconst 1, 1) := dk_4 (dk_at dksX9_isSo_0 0 rfl rfl)
theorem dX9_isSo_1 : decode cX9_isSo 1 = .ok (.istore 4, 2) := dk_54 4 (dk_at dksX9_isSo_0 1 rfl rfl)
theorem dX9_isSo_3 : decode cX9_isSo 3 = .ok (.iconst 0, 1) := dk_3 (dk_at dksX9_isSo_0 3 rfl rfl)
theorem dX9_isSo_4 : decode cX9_isSo 4 = .ok (.istore 5, 2) := dk_54 5 (dk_at dksX9_isSo_0 4 rfl rfl)
theorem dX9_isSo_6 : decode cX9_isSo 6 = .ok (.iload 5, 2) := dk_21 5 (dk_at dksX9_isSo_0 6 rfl rfl)
theorem dX9_isSo_8 : decode cX9_isSo 8 = .ok (.iload_n 3, 1) := dk_29 (dk_at dksX9_isSo_0 8 rfl rfl)
theorem dX9_isSo_9 : decode cX9_isSo 9 = .ok (.if_icmp .ge 42, 3) := dk_162 0 42 (dk_at dksX9_isSo_0 9 rfl rfl)
theorem dX9_isSo_12 : decode cX9_isSo 12 = .ok (.aload_n 0, 1) := dk_42 (dk_at dksX9_isSo_0 12 rfl rfl)
theorem dX9_isSo_13 : decode cX9_isSo 13 = .ok (.invokevirtual 175, 3) := dk_182 0 175 (dk_at dksX9_isSo_0 13 rfl rfl)
theorem dX9_isSo_16 : decode cX9_isSo 16 = .ok (.iload 4, 2) := dk_21 4 (dk_at dksX9_isSo_0 16 rfl rfl)
theorem dX9_isSo_18 : decode cX9_isSo 18 = .ok (.ifCond .eq 24, 3) := dk_153 0 24 (dk_at dksX9_isSo_0 18 rfl rfl)
theorem dX9_isSo_21 : decode cX9_isSo 21 = .ok (.aload_n 0, 1) := dk_42 (dk_at dksX9_isSo_0 21 rfl rfl)
theorem dX9_isSo_22 : decode cX9_isSo 22 = .ok (.getfield 16, 3) := dk_180 0 16 (dk_at dksX9_isSo_1 0 rfl rfl)
theorem dX9_isSo_25 : decode cX9_isSo 25 = .ok (.iload_n 2, 1) := dk_28 (dk_at dksX9_isSo_1 3 rfl rfl)
theorem dX9_isSo_26 : decode cX9_isSo 26 = .ok (.iload 5, 2) := dk_21 5 (dk_at dksX9_isSo_1 4 rfl rfl)
theorem dX9_isSo_28 : decode cX9_isSo 28 = .ok (.iadd, 1) := dk_96 (dk_at dksX9_isSo_1 6 rfl rfl)
theorem dX9_isSo_29 : decode cX9_isSo 29 = .ok (.iaload, 1) := dk_46 (dk_at dksX9_isSo_1 7 rfl rfl)
theorem dX9_isSo_30 : decode cX9_isSo 30 = .ok (.aload_n 0, 1) := dk_42 (dk_at dksX9_isSo_1 8 rfl rfl)
theorem dX9_isSo_31 : decode cX9_isSo 31 = .ok (.iload_n 1, 1) := dk_27 (dk_at dksX9_isSo_1 9 rfl rfl)
theorem dX9_isSo_32 : decode cX9_isSo 32 = .ok (.invokevirtual 146, 3) := dk_182 0 146 (dk_at dksX9_isSo_1 10 rfl rfl)
theorem dX9_isSo_35 : decode cX9_isSo 35 = .ok (.if_icmp .ne 7, 3) := dk_160 0 7 (dk_at dksX9_isSo_1 13 rfl rfl)
theorem dX9_isSo_38 : decode cX9_isSo 38 = .ok (.iconst 1, 1) := dk_4 (dk_at dksX9_isSo_1 16 rfl rfl)
theorem dX9_isSo_39 : decode cX9_isSo 39 = .ok (.goto 4, 3) := dk_167 0 4 (dk_at dksX9_isSo_1 17 rfl rfl)
theorem dX9_isSo_42 : decode cX9_isSo 42 = .ok (.iconst 0, 1) := dk_3 (dk_at dksX9_isSo_1 20 rfl rfl)
theorem dX9_isSo_43 : decode cX9_isSo 43 = .ok (.istore 4, 2) := dk_54 4 (dk_at dksX9_isSo_1 21 rfl rfl)
theorem dX9_isSo_45 : decode cX9_isSo 45 = .ok (.iinc 5 1, 3) := dk_132 5 1 (dk_at dksX9_isSo_2 0 rfl rfl)
theorem dX9_isSo_48 : decode cX9_isSo 48 = .ok (.goto (-42), 3) := dk_167 255 214 (dk_at dksX9_isSo_2 3 rfl rfl)
theorem dX9_isSo_51 : decode cX9_isSo 51 = .ok (.aload_n 0, 1) := dk_42 (dk_at dksX9_isSo_2 6 rfl rfl)
theorem dX9_isSo_52 : decode cX9_isSo 52 = .ok (.invokevirtual 199, 3) := dk_182 0 199 (dk_at dksX9_isSo_2 7 rfl rfl)
theorem dX9_isSo_55 : decode cX9_isSo 55 = .ok (.iload 4, 2) := dk_21 4 (dk_at dksX9_isSo_2 10 rfl rfl)
theorem dX9_isSo_57 : decode cX9_isSo 57 = .ok (.ireturn, 1) := dk_172 (dk_at dksX9_isSo_2 12 rfl rfl)
abbrev cX9_guarded : ByteArray := prog_16_method_69_code
def yX9_guarded : MethodName := ⟨RX9, "guarded", "(IIII)I"⟩
def dkwX9_guarded_6 : List UInt8 := [4, 21, 7, 120, 167, 0, 4, 3, 128, 54, 6, 132, 7, 1, 167, 255, 186, 42, 21, 6, 182, 0, 72, 172]
abbrev dktX9_guarded_6 : List UInt8 := dkwX9_guarded_6 ++ []
def dkwX9_guarded_5 : List UInt8 := [4, 21, 7, 120, 128, 79, 21, 6, 42, 27, 16, 40, 28, 104, 29, 96, 21, 4, 182, 0, 231, 153, 0, 10]
abbrev dktX9_guarded_5 : List UInt8 := dkwX9_guarded_5 ++ dktX9_guarded_6
def dkwX9_guarded_4 : List UInt8 := [162, 0, 65, 42, 180, 0, 19, 7, 46, 21, 7, 184, 0, 162, 154, 0, 45, 42, 180, 0, 19, 7, 92, 46]
abbrev dktX9_guarded_4 : List UInt8 := dkwX9_guarded_4 ++ dktX9_guarded_5
def dkwX9_guarded_3 : List UInt8 := [153, 0, 8, 16, 64, 167, 0, 4, 3, 54, 6, 3, 54, 7, 21, 7, 42, 180, 0, 19, 5, 46]
abbrev dktX9_guarded_3 : List UInt8 := dkwX9_guarded_3 ++ dktX9_guarded_4
def dkwX9_guarded_2 : List UInt8 := [156, 0, 6, 21, 5, 172, 42, 182, 0, 204, 42, 27, 16, 40, 28, 104, 29, 96, 21, 4, 182, 0, 231]
abbrev dktX9_guarded_2 : List UInt8 := dkwX9_guarded_2 ++ dktX9_guarded_3
def dkwX9_guarded_1 : List UInt8 := [184, 0, 57, 154, 0, 8, 18, 67, 167, 0, 11, 42, 28, 29, 21, 4, 182, 0, 220, 54, 5, 21, 5]
abbrev dktX9_guarded_1 : List UInt8 := dkwX9_guarded_1 ++ dktX9_guarded_2
def dkwX9_guarded_0 : List UInt8 := [42, 27, 182, 0, 178, 153, 0, 23, 28, 184, 0, 61, 153, 0, 16, 21, 4, 133, 10, 20, 0, 229]
abbrev dktX9_guarded_0 : List UInt8 := dkwX9_guarded_0 ++ dktX9_guarded_1
theorem dksX9_guarded_0 : cX9_guarded.data.toList.drop 0 = dktX9_guarded_0 := by decide +kernel
theorem dksX9_guarded_1 : cX9_guarded.data.toList.drop 22 = dktX9_guarded_1 := dk_seg dksX9_guarded_0 22 rfl rfl
theorem dksX9_guarded_2 : cX9_guarded.data.toList.drop 45 = dktX9_guarded_2 := dk_seg dksX9_guarded_1 23 rfl rfl
theorem dksX9_guarded_3 : cX9_guarded.data.toList.drop 68 = dktX9_guarded_3 := dk_seg dksX9_guarded_2 23 rfl rfl
theorem dksX9_guarded_4 : cX9_guarded.data.toList.drop 90 = dktX9_guarded_4 := dk_seg dksX9_guarded_3 22 rfl rfl
theorem dksX9_guarded_5 : cX9_guarded.data.toList.drop 114 = dktX9_guarded_5 := dk_seg dksX9_guarded_4 24 rfl rfl
theorem dksX9_guarded_6 : cX9_guarded.data.toList.drop 138 = dktX9_guarded_6 := dk_seg dksX9_guarded_5 24 rfl rfl
theorem dX9_guarded_0 : decode cX9_guarded 0 = .ok (.aload_n 0, 1) := dk_42 (dk_at dksX9_guarded_0 0 rfl rfl)
theorem dX9_guarded_1 : decode cX9_guarded 1 = .ok (.iload_n 1, 1) := dk_27 (dk_at dksX9_guarded_0 1 rfl rfl)
theorem dX9_guarded_2 : decode cX9_guarded 2 = .ok (.invokevirtual 178, 3) := dk_182 0 178 (dk_at dksX9_guarded_0 2 rfl rfl)
theorem dX9_guarded_5 : decode cX9_guarded 5 = .ok (.ifCond .eq 23, 3) := dk_153 0 23 (dk_at dksX9_guarded_0 5 rfl rfl)
theorem dX9_guarded_8 : decode cX9_guarded 8 = .ok (.iload_n 2, 1) := dk_28 (dk_at dksX9_guarded_0 8 rfl rfl)
theorem dX9_guarded_9 : decode cX9_guarded 9 = .ok (.invokestatic 61, 3) := dk_184 0 61 (dk_at dksX9_guarded_0 9 rfl rfl)
theorem dX9_guarded_12 : decode cX9_guarded 12 = .ok (.ifCond .eq 16, 3) := dk_153 0 16 (dk_at dksX9_guarded_0 12 rfl rfl)
theorem dX9_guarded_15 : decode cX9_guarded 15 = .ok (.iload 4, 2) := dk_21 4 (dk_at dksX9_guarded_0 15 rfl rfl)
theorem dX9_guarded_17 : decode cX9_guarded 17 = .ok (.i2l, 1) := dk_133 (dk_at dksX9_guarded_0 17 rfl rfl)
theorem dX9_guarded_18 : decode cX9_guarded 18 = .ok (.lconst 1, 1) := dk_10 (dk_at dksX9_guarded_0 18 rfl rfl)
theorem dX9_guarded_19 : decode cX9_guarded 19 = .ok (.ldc2_w 229, 3) := dk_20 0 229 (dk_at dksX9_guarded_0 19 rfl rfl)
theorem dX9_guarded_22 : decode cX9_guarded 22 = .ok (.invokestatic 57, 3) := dk_184 0 57 (dk_at dksX9_guarded_1 0 rfl rfl)
theorem dX9_guarded_25 : decode cX9_guarded 25 = .ok (.ifCond .ne 8, 3) := dk_154 0 8 (dk_at dksX9_guarded_1 3 rfl rfl)
theorem dX9_guarded_28 : decode cX9_guarded 28 = .ok (.ldc 67, 2) := dk_18 67 (dk_at dksX9_guarded_1 6 rfl rfl)
theorem dX9_guarded_30 : decode cX9_guarded 30 = .ok (.goto 11, 3) := dk_167 0 11 (dk_at dksX9_guarded_1 8 rfl rfl)
theorem dX9_guarded_33 : decode cX9_guarded 33 = .ok (.aload_n 0, 1) := dk_42 (dk_at dksX9_guarded_1 11 rfl rfl)
theorem dX9_guarded_34 : decode cX9_guarded 34 = .ok (.iload_n 2, 1) := dk_28 (dk_at dksX9_guarded_1 12 rfl rfl)
theorem dX9_guarded_35 : decode cX9_guarded 35 = .ok (.iload_n 3, 1) := dk_29 (dk_at dksX9_guarded_1 13 rfl rfl)
theorem dX9_guarded_36 : decode cX9_guarded 36 = .ok (.iload 4, 2) := dk_21 4 (dk_at dksX9_guarded_1 14 rfl rfl)
theorem dX9_guarded_38 : decode cX9_guarded 38 = .ok (.invokevirtual 220, 3) := dk_182 0 220 (dk_at dksX9_guarded_1 16 rfl rfl)
theorem dX9_guarded_41 : decode cX9_guarded 41 = .ok (.istore 5, 2) := dk_54 5 (dk_at dksX9_guarded_1 19 rfl rfl)
theorem dX9_guarded_43 : decode cX9_guarded 43 = .ok (.iload 5, 2) := dk_21 5 (dk_at dksX9_guarded_1 21 rfl rfl)
theorem dX9_guarded_45 : decode cX9_guarded 45 = .ok (.ifCond .ge 6, 3) := dk_156 0 6 (dk_at dksX9_guarded_2 0 rfl rfl)
theorem dX9_guarded_48 : decode cX9_guarded 48 = .ok (.iload 5, 2) := dk_21 5 (dk_at dksX9_guarded_2 3 rfl rfl)
theorem dX9_guarded_50 : decode cX9_guarded 50 = .ok (.ireturn, 1) := dk_172 (dk_at dksX9_guarded_2 5 rfl rfl)
theorem dX9_guarded_51 : decode cX9_guarded 51 = .ok (.aload_n 0, 1) := dk_42 (dk_at dksX9_guarded_2 6 rfl rfl)
theorem dX9_guarded_52 : decode cX9_guarded 52 = .ok (.invokevirtual 204, 3) := dk_182 0 204 (dk_at dksX9_guarded_2 7 rfl rfl)
theorem dX9_guarded_55 : decode cX9_guarded 55 = .ok (.aload_n 0, 1) := dk_42 (dk_at dksX9_guarded_2 10 rfl rfl)
theorem dX9_guarded_56 : decode cX9_guarded 56 = .ok (.iload_n 1, 1) := dk_27 (dk_at dksX9_guarded_2 11 rfl rfl)
theorem dX9_guarded_57 : decode cX9_guarded 57 = .ok (.bipush 40, 2) := dk_16 40 (dk_at dksX9_guarded_2 12 rfl rfl)
theorem dX9_guarded_59 : decode cX9_guarded 59 = .ok (.iload_n 2, 1) := dk_28 (dk_at dksX9_guarded_2 14 rfl rfl)
theorem dX9_guarded_60 : decode cX9_guarded 60 = .ok (.imul, 1) := dk_104 (dk_at dksX9_guarded_2 15 rfl rfl)
theorem dX9_guarded_61 : decode cX9_guarded 61 = .ok (.iload_n 3, 1) := dk_29 (dk_at dksX9_guarded_2 16 rfl rfl)
theorem dX9_guarded_62 : decode cX9_guarded 62 = .ok (.iadd, 1) := dk_96 (dk_at dksX9_guarded_2 17 rfl rfl)
theorem dX9_guarded_63 : decode cX9_guarded 63 = .ok (.iload 4, 2) := dk_21 4 (dk_at dksX9_guarded_2 18 rfl rfl)
theorem dX9_guarded_65 : decode cX9_guarded 65 = .ok (.invokevirtual 231, 3) := dk_182 0 231 (dk_at dksX9_guarded_2 20 rfl rfl)
theorem dX9_guarded_68 : decode cX9_guarded 68 = .ok (.ifCond .eq 8, 3) := dk_153 0 8 (dk_at dksX9_guarded_3 0 rfl rfl)
theorem dX9_guarded_71 : decode cX9_guarded 71 = .ok (.bipush 64, 2) := dk_16 64 (dk_at dksX9_guarded_3 3 rfl rfl)
theorem dX9_guarded_73 : decode cX9_guarded 73 = .ok (.goto 4, 3) := dk_167 0 4 (dk_at dksX9_guarded_3 5 rfl rfl)
theorem dX9_guarded_76 : decode cX9_guarded 76 = .ok (.iconst 0, 1) := dk_3 (dk_at dksX9_guarded_3 8 rfl rfl)
theorem dX9_guarded_77 : decode cX9_guarded 77 = .ok (.istore 6, 2) := dk_54 6 (dk_at dksX9_guarded_3 9 rfl rfl)
theorem dX9_guarded_79 : decode cX9_guarded 79 = .ok (.iconst 0, 1) := dk_3 (dk_at dksX9_guarded_3 11 rfl rfl)
theorem dX9_guarded_80 : decode cX9_guarded 80 = .ok (.istore 7, 2) := dk_54 7 (dk_at dksX9_guarded_3 12 rfl rfl)
theorem dX9_guarded_82 : decode cX9_guarded 82 = .ok (.iload 7, 2) := dk_21 7 (dk_at dksX9_guarded_3 14 rfl rfl)
theorem dX9_guarded_84 : decode cX9_guarded 84 = .ok (.aload_n 0, 1) := dk_42 (dk_at dksX9_guarded_3 16 rfl rfl)
theorem dX9_guarded_85 : decode cX9_guarded 85 = .ok (.getfield 19, 3) := dk_180 0 19 (dk_at dksX9_guarded_3 17 rfl rfl)
theorem dX9_guarded_88 : decode cX9_guarded 88 = .ok (.iconst 2, 1) := dk_5 (dk_at dksX9_guarded_3 20 rfl rfl)
theorem dX9_guarded_89 : decode cX9_guarded 89 = .ok (.iaload, 1) := dk_46 (dk_at dksX9_guarded_3 21 rfl rfl)
theorem dX9_guarded_90 : decode cX9_guarded 90 = .ok (.if_icmp .ge 65, 3) := dk_162 0 65 (dk_at dksX9_guarded_4 0 rfl rfl)
theorem dX9_guarded_93 : decode cX9_guarded 93 = .ok (.aload_n 0, 1) := dk_42 (dk_at dksX9_guarded_4 3 rfl rfl)
theorem dX9_guarded_94 : decode cX9_guarded 94 = .ok (.getfield 19, 3) := dk_180 0 19 (dk_at dksX9_guarded_4 4 rfl rfl)
theorem dX9_guarded_97 : decode cX9_guarded 97 = .ok (.iconst 4, 1) := dk_7 (dk_at dksX9_guarded_4 7 rfl rfl)
theorem dX9_guarded_98 : decode cX9_guarded 98 = .ok (.iaload, 1) := dk_46 (dk_at dksX9_guarded_4 8 rfl rfl)
theorem dX9_guarded_99 : decode cX9_guarded 99 = .ok (.iload 7, 2) := dk_21 7 (dk_at dksX9_guarded_4 9 rfl rfl)
theorem dX9_guarded_101 : decode cX9_guarded 101 = .ok (.invokestatic 162, 3) := dk_184 0 162 (dk_at dksX9_guarded_4 11 rfl rfl)
theorem dX9_guarded_104 : decode cX9_guarded 104 = .ok (.ifCond .ne 45, 3) := dk_154 0 45 (dk_at dksX9_guarded_4 14 rfl rfl)
theorem dX9_guarded_107 : decode cX9_guarded 107 = .ok (.aload_n 0, 1) := dk_42 (dk_at dksX9_guarded_4 17 rfl rfl)
theorem dX9_guarded_108 : decode cX9_guarded 108 = .ok (.getfield 19, 3) := dk_180 0 19 (dk_at dksX9_guarded_4 18 rfl rfl)
theorem dX9_guarded_111 : decode cX9_guarded 111 = .ok (.iconst 4, 1) := dk_7 (dk_at dksX9_guarded_4 21 rfl rfl)
theorem dX9_guarded_112 : decode cX9_guarded 112 = .ok (.dup2, 1) := dk_92 (dk_at dksX9_guarded_4 22 rfl rfl)
theorem dX9_guarded_113 : decode cX9_guarded 113 = .ok (.iaload, 1) := dk_46 (dk_at dksX9_guarded_4 23 rfl rfl)
theorem dX9_guarded_114 : decode cX9_guarded 114 = .ok (.iconst 1, 1) := dk_4 (dk_at dksX9_guarded_5 0 rfl rfl)
theorem dX9_guarded_115 : decode cX9_guarded 115 = .ok (.iload 7, 2) := dk_21 7 (dk_at dksX9_guarded_5 1 rfl rfl)
theorem dX9_guarded_117 : decode cX9_guarded 117 = .ok (.ishl, 1) := dk_120 (dk_at dksX9_guarded_5 3 rfl rfl)
theorem dX9_guarded_118 : decode cX9_guarded 118 = .ok (.ior, 1) := dk_128 (dk_at dksX9_guarded_5 4 rfl rfl)
theorem dX9_guarded_119 : decode cX9_guarded 119 = .ok (.iastore, 1) := dk_79 (dk_at dksX9_guarded_5 5 rfl rfl)
theorem dX9_guarded_120 : decode cX9_guarded 120 = .ok (.iload 6, 2) := dk_21 6 (dk_at dksX9_guarded_5 6 rfl rfl)
theorem dX9_guarded_122 : decode cX9_guarded 122 = .ok (.aload_n 0, 1) := dk_42 (dk_at dksX9_guarded_5 8 rfl rfl)
theorem dX9_guarded_123 : decode cX9_guarded 123 = .ok (.iload_n 1, 1) := dk_27 (dk_at dksX9_guarded_5 9 rfl rfl)
theorem dX9_guarded_124 : decode cX9_guarded 124 = .ok (.bipush 40, 2) := dk_16 40 (dk_at dksX9_guarded_5 10 rfl rfl)
theorem dX9_guarded_126 : decode cX9_guarded 126 = .ok (.iload_n 2, 1) := dk_28 (dk_at dksX9_guarded_5 12 rfl rfl)
theorem dX9_guarded_127 : decode cX9_guarded 127 = .ok (.imul, 1) := dk_104 (dk_at dksX9_guarded_5 13 rfl rfl)
theorem dX9_guarded_128 : decode cX9_guarded 128 = .ok (.iload_n 3, 1) := dk_29 (dk_at dksX9_guarded_5 14 rfl rfl)
theorem dX9_guarded_129 : decode cX9_guarded 129 = .ok (.iadd, 1) := dk_96 (dk_at dksX9_guarded_5 15 rfl rfl)
theorem dX9_guarded_130 : decode cX9_guarded 130 = .ok (.iload 4, 2) := dk_21 4 (dk_at dksX9_guarded_5 16 rfl rfl)
theorem dX9_guarded_132 : decode cX9_guarded 132 = .ok (.invokevirtual 231, 3) := dk_182 0 231 (dk_at dksX9_guarded_5 18 rfl rfl)
theorem dX9_guarded_135 : decode cX9_guarded 135 = .ok (.ifCond .eq 10, 3) := dk_153 0 10 (dk_at dksX9_guarded_5 21 rfl rfl)
theorem dX9_guarded_138 : decode cX9_guarded 138 = .ok (.iconst 1, 1) := dk_4 (dk_at dksX9_guarded_6 0 rfl rfl)
theorem dX9_guarded_139 : decode cX9_guarded 139 = .ok (.iload 7, 2) := dk_21 7 (dk_at dksX9_guarded_6 1 rfl rfl)
theorem dX9_guarded_141 : decode cX9_guarded 141 = .ok (.ishl, 1) := dk_120 (dk_at dksX9_guarded_6 3 rfl rfl)
theorem dX9_guarded_142 : decode cX9_guarded 142 = .ok (.goto 4, 3) := dk_167 0 4 (dk_at dksX9_guarded_6 4 rfl rfl)
theorem dX9_guarded_145 : decode cX9_guarded 145 = .ok (.iconst 0, 1) := dk_3 (dk_at dksX9_guarded_6 7 rfl rfl)
theorem dX9_guarded_146 : decode cX9_guarded 146 = .ok (.ior, 1) := dk_128 (dk_at dksX9_guarded_6 8 rfl rfl)
theorem dX9_guarded_147 : decode cX9_guarded 147 = .ok (.istore 6, 2) := dk_54 6 (dk_at dksX9_guarded_6 9 rfl rfl)
theorem dX9_guarded_149 : decode cX9_guarded 149 = .ok (.iinc 7 1, 3) := dk_132 7 1 (dk_at dksX9_guarded_6 11 rfl rfl)
theorem dX9_guarded_152 : decode cX9_guarded 152 = .ok (.goto (-70), 3) := dk_167 255 186 (dk_at dksX9_guarded_6 14 rfl rfl)
theorem dX9_guarded_155 : decode cX9_guarded 155 = .ok (.aload_n 0, 1) := dk_42 (dk_at dksX9_guarded_6 17 rfl rfl)
theorem dX9_guarded_156 : decode cX9_guarded 156 = .ok (.iload 6, 2) := dk_21 6 (dk_at dksX9_guarded_6 18 rfl rfl)
theorem dX9_guarded_158 : decode cX9_guarded 158 = .ok (.invokevirtual 72, 3) := dk_182 0 72 (dk_at dksX9_guarded_6 20 rfl rfl)
theorem dX9_guarded_161 : decode cX9_guarded 161 = .ok (.ireturn, 1) := dk_172 (dk_at dksX9_guarded_6 23 rfl rfl)
abbrev cX9_doze : ByteArray := prog_16_method_70_code
def yX9_doze : MethodName := ⟨RX9, "doze", "(IIIII)J"⟩
def dkwX9_doze_12 : List UInt8 := [22, 7, 22, 11, 109, 167, 0, 8, 22, 9, 22, 11, 109, 173]
abbrev dktX9_doze_12 : List UInt8 := dkwX9_doze_12 ++ []
def dkwX9_doze_11 : List UInt8 := [22, 11, 22, 13, 113, 55, 15, 22, 13, 55, 11, 22, 15, 55, 13, 167, 255, 234, 21, 5, 154, 0, 11]
abbrev dktX9_doze_11 : List UInt8 := dkwX9_doze_11 ++ dktX9_doze_12
def dkwX9_doze_10 : List UInt8 := [55, 7, 132, 11, 1, 167, 255, 138, 22, 7, 55, 11, 22, 9, 55, 13, 22, 13, 9, 148, 153, 0, 21]
abbrev dktX9_doze_10 : List UInt8 := dkwX9_doze_10 ++ dktX9_doze_11
def dkwX9_doze_9 : List UInt8 := [2, 130, 126, 79, 22, 7, 42, 27, 29, 182, 0, 214, 28, 163, 0, 8, 22, 12, 167, 0, 4, 9, 97]
abbrev dktX9_doze_9 : List UInt8 := dkwX9_doze_9 ++ dktX9_doze_10
def dkwX9_doze_8 : List UInt8 := [16, 10, 21, 4, 100, 133, 105, 55, 12, 132, 14, 1, 167, 255, 201, 42, 180, 0, 19, 7, 21, 6, 21, 11]
abbrev dktX9_doze_8 : List UInt8 := dkwX9_doze_8 ++ dktX9_doze_9
def dkwX9_doze_7 : List UInt8 := [154, 0, 7, 10, 167, 0, 25, 21, 11, 21, 14, 184, 0, 162, 153, 0, 9, 21, 4, 133, 167, 0, 9]
abbrev dktX9_doze_7 : List UInt8 := dkwX9_doze_7 ++ dktX9_doze_8
def dkwX9_doze_6 : List UInt8 := [54, 14, 21, 14, 42, 180, 0, 19, 5, 46, 162, 0, 50, 22, 12, 21, 6, 21, 14, 184, 0, 162]
abbrev dktX9_doze_6 : List UInt8 := dkwX9_doze_6 ++ dktX9_doze_7
def dkwX9_doze_5 : List UInt8 := [3, 54, 11, 21, 11, 21, 6, 163, 0, 117, 21, 11, 21, 6, 2, 130, 126, 154, 0, 101, 10, 55, 12, 3]
abbrev dktX9_doze_5 : List UInt8 := dkwX9_doze_5 ++ dktX9_doze_6
def dkwX9_doze_4 : List UInt8 := [21, 11, 184, 0, 162, 153, 0, 9, 20, 0, 235, 167, 0, 4, 10, 105, 55, 9, 132, 11, 1, 167, 255, 220]
abbrev dktX9_doze_4 : List UInt8 := dkwX9_doze_4 ++ dktX9_doze_5
def dkwX9_doze_3 : List UInt8 := [55, 7, 10, 55, 9, 3, 54, 11, 21, 11, 42, 180, 0, 19, 5, 46, 162, 0, 31, 22, 9, 21, 6]
abbrev dktX9_doze_3 : List UInt8 := dkwX9_doze_3 ++ dktX9_doze_4
def dkwX9_doze_2 : List UInt8 := [184, 0, 217, 154, 0, 7, 20, 0, 237, 173, 42, 182, 0, 204, 42, 180, 0, 19, 7, 46, 54, 6, 9]
abbrev dktX9_doze_2 : List UInt8 := dkwX9_doze_2 ++ dktX9_doze_3
def dkwX9_doze_1 : List UInt8 := [20, 0, 212, 184, 0, 57, 153, 0, 24, 21, 4, 133, 9, 20, 0, 235, 184, 0, 57, 153, 0, 11, 21, 5]
abbrev dktX9_doze_1 : List UInt8 := dkwX9_doze_1 ++ dktX9_doze_2
def dkwX9_doze_0 : List UInt8 := [42, 27, 182, 0, 178, 153, 0, 48, 28, 133, 9, 20, 0, 207, 184, 0, 57, 153, 0, 36, 29, 133, 9]
abbrev dktX9_doze_0 : List UInt8 := dkwX9_doze_0 ++ dktX9_doze_1
theorem dksX9_doze_0 : cX9_doze.data.toList.drop 0 = dktX9_doze_0 := by decide +kernel
theorem dksX9_doze_1 : cX9_doze.data.toList.drop 23 = dktX9_doze_1 := dk_seg dksX9_doze_0 23 rfl rfl
theorem dksX9_doze_2 : cX9_doze.data.toList.drop 47 = dktX9_doze_2 := dk_seg dksX9_doze_1 24 rfl rfl
theorem dksX9_doze_3 : cX9_doze.data.toList.drop 70 = dktX9_doze_3 := dk_seg dksX9_doze_2 23 rfl rfl
theorem dksX9_doze_4 : cX9_doze.data.toList.drop 93 = dktX9_doze_4 := dk_seg dksX9_doze_3 23 rfl rfl
theorem dksX9_doze_5 : cX9_doze.data.toList.drop 117 = dktX9_doze_5 := dk_seg dksX9_doze_4 24 rfl rfl
theorem dksX9_doze_6 : cX9_doze.data.toList.drop 141 = dktX9_doze_6 := dk_seg dksX9_doze_5 24 rfl rfl
theorem dksX9_doze_7 : cX9_doze.data.toList.drop 163 = dktX9_doze_7 := dk_seg dksX9_doze_6 22 rfl rfl
theorem dksX9_doze_8 : cX9_doze.data.toList.drop 186 = dktX9_doze_8 := dk_seg dksX9_doze_7 23 rfl rfl
theorem dksX9_doze_9 : cX9_doze.data.toList.drop 210 = dktX9_doze_9 := dk_seg dksX9_doze_8 24 rfl rfl
theorem dksX9_doze_10 : cX9_doze.data.toList.drop 233 = dktX9_doze_10 := dk_seg dksX9_doze_9 23 rfl rfl
theorem dksX9_doze_11 : cX9_doze.data.toList.drop 256 = dktX9_doze_11 := dk_seg dksX9_doze_10 23 rfl rfl
theorem dksX9_doze_12 : cX9_doze.data.toList.drop 279 = dktX9_doze_12 := dk_seg dksX9_doze_11 23 rfl rfl
theorem dX9_doze_0 : decode cX9_doze 0 = .ok (.aload_n 0, 1) := dk_42 (dk_at dksX9_doze_0 0 rfl rfl)
theorem dX9_doze_1 : decode cX9_doze 1 = .ok (.iload_n 1, 1) := dk_27 (dk_at dksX9_doze_0 1 rfl rfl)
theorem dX9_doze_2 : decode cX9_doze 2 = .ok (.invokevirtual 178, 3) := dk_182 0 178 (dk_at dksX9_doze_0 2 rfl rfl)
theorem dX9_doze_5 : decode cX9_doze 5 = .ok (.ifCond .eq 48, 3) := dk_153 0 48 (dk_at dksX9_doze_0 5 rfl rfl)
theorem dX9_doze_8 : decode cX9_doze 8 = .ok (.iload_n 2, 1) := dk_28 (dk_at dksX9_doze_0 8 rfl rfl)
theorem dX9_doze_9 : decode cX9_doze 9 = .ok (.i2l, 1) := dk_133 (dk_at dksX9_doze_0 9 rfl rfl)
theorem dX9_doze_10 : decode cX9_doze 10 = .ok (.lconst 0, 1) := dk_9 (dk_at dksX9_doze_0 10 rfl rfl)
theorem dX9_doze_11 : decode cX9_doze 11 = .ok (.ldc2_w 207, 3) := dk_20 0 207 (dk_at dksX9_doze_0 11 rfl rfl)
theorem dX9_doze_14 : decode cX9_doze 14 = .ok (.invokestatic 57, 3) := dk_184 0 57 (dk_at dksX9_doze_0 14 rfl rfl)
theorem dX9_doze_17 : decode cX9_doze 17 = .ok (.ifCond .eq 36, 3) := dk_153 0 36 (dk_at dksX9_doze_0 17 rfl rfl)
theorem dX9_doze_20 : decode cX9_doze 20 = .ok (.iload_n 3, 1) := dk_29 (dk_at dksX9_doze_0 20 rfl rfl)
theorem dX9_doze_21 : decode cX9_doze 21 = .ok (.i2l, 1) := dk_133 (dk_at dksX9_doze_0 21 rfl rfl)
theorem dX9_doze_22 : decode cX9_doze 22 = .ok (.lconst 0, 1) := dk_9 (dk_at dksX9_doze_0 22 rfl rfl)
theorem dX9_doze_23 : decode cX9_doze 23 = .ok (.ldc2_w 212, 3) := dk_20 0 212 (dk_at dksX9_doze_1 0 rfl rfl)
theorem dX9_doze_26 : decode cX9_doze 26 = .ok (.invokestatic 57, 3) := dk_184 0 57 (dk_at dksX9_doze_1 3 rfl rfl)
theorem dX9_doze_29 : decode cX9_doze 29 = .ok (.ifCond .eq 24, 3) := dk_153 0 24 (dk_at dksX9_doze_1 6 rfl rfl)
theorem dX9_doze_32 : decode cX9_doze 32 = .ok (.iload 4, 2) := dk_21 4 (dk_at dksX9_doze_1 9 rfl rfl)
theorem dX9_doze_34 : decode cX9_doze 34 = .ok (.i2l, 1) := dk_133 (dk_at dksX9_doze_1 11 rfl rfl)
theorem dX9_doze_35 : decode cX9_doze 35 = .ok (.lconst 0, 1) := dk_9 (dk_at dksX9_doze_1 12 rfl rfl)
theorem dX9_doze_36 : decode cX9_doze 36 = .ok (.ldc2_w 235, 3) := dk_20 0 235 (dk_at dksX9_doze_1 13 rfl rfl)
theorem dX9_doze_39 : decode cX9_doze 39 = .ok (.invokestatic 57, 3) := dk_184 0 57 (dk_at dksX9_doze_1 16 rfl rfl)
theorem dX9_doze_42 : decode cX9_doze 42 = .ok (.ifCond .eq 11, 3) := dk_153 0 11 (dk_at dksX9_doze_1 19 rfl rfl)
theorem dX9_doze_45 : decode cX9_doze 45 = .ok (.iload 5, 2) := dk_21 5 (dk_at dksX9_doze_1 22 rfl rfl)
theorem dX9_doze_47 : decode cX9_doze 47 = .ok (.invokestatic 217, 3) := dk_184 0 217 (dk_at dksX9_doze_2 0 rfl rfl)
theorem dX9_doze_50 : decode cX9_doze 50 = .ok (.ifCond .ne 7, 3) := dk_154 0 7 (dk_at dksX9_doze_2 3 rfl rfl)
theorem dX9_doze_53 : decode cX9_doze 53 = .ok (.ldc2_w 237, 3) := dk_20 0 237 (dk_at dksX9_doze_2 6 rfl rfl)
theorem dX9_doze_56 : decode cX9_doze 56 = .ok (.lreturn, 1) := dk_173 (dk_at dksX9_doze_2 9 rfl rfl)
theorem dX9_doze_57 : decode cX9_doze 57 = .ok (.aload_n 0, 1) := dk_42 (dk_at dksX9_doze_2 10 rfl rfl)
theorem dX9_doze_58 : decode cX9_doze 58 = .ok (.invokevirtual 204, 3) := dk_182 0 204 (dk_at dksX9_doze_2 11 rfl rfl)
theorem dX9_doze_61 : decode cX9_doze 61 = .ok (.aload_n 0, 1) := dk_42 (dk_at dksX9_doze_2 14 rfl rfl)
theorem dX9_doze_62 : decode cX9_doze 62 = .ok (.getfield 19, 3) := dk_180 0 19 (dk_at dksX9_doze_2 15 rfl rfl)
theorem dX9_doze_65 : decode cX9_doze 65 = .ok (.iconst 4, 1) := dk_7 (dk_at dksX9_doze_2 18 rfl rfl)
theorem dX9_doze_66 : decode cX9_doze 66 = .ok (.iaload, 1) := dk_46 (dk_at dksX9_doze_2 19 rfl rfl)
theorem dX9_doze_67 : decode cX9_doze 67 = .ok (.istore 6, 2) := dk_54 6 (dk_at dksX9_doze_2 20 rfl rfl)
theorem dX9_doze_69 : decode cX9_doze 69 = .ok (.lconst 0, 1) := dk_9 (dk_at dksX9_doze_2 22 rfl rfl)
theorem dX9_doze_70 : decode cX9_doze 70 = .ok (.lstore 7, 2) := dk_55 7 (dk_at dksX9_doze_3 0 rfl rfl)
theorem dX9_doze_72 : decode cX9_doze 72 = .ok (.lconst 1, 1) := dk_10 (dk_at dksX9_doze_3 2 rfl rfl)
theorem dX9_doze_73 : decode cX9_doze 73 = .ok (.lstore 9, 2) := dk_55 9 (dk_at dksX9_doze_3 3 rfl rfl)
theorem dX9_doze_75 : decode cX9_doze 75 = .ok (.iconst 0, 1) := dk_3 (dk_at dksX9_doze_3 5 rfl rfl)
theorem dX9_doze_76 : decode cX9_doze 76 = .ok (.istore 11, 2) := dk_54 11 (dk_at dksX9_doze_3 6 rfl rfl)
theorem dX9_doze_78 : decode cX9_doze 78 = .ok (.iload 11, 2) := dk_21 11 (dk_at dksX9_doze_3 8 rfl rfl)
theorem dX9_doze_80 : decode cX9_doze 80 = .ok (.aload_n 0, 1) := dk_42 (dk_at dksX9_doze_3 10 rfl rfl)
theorem dX9_doze_81 : decode cX9_doze 81 = .ok (.getfield 19, 3) := dk_180 0 19 (dk_at dksX9_doze_3 11 rfl rfl)
theorem dX9_doze_84 : decode cX9_doze 84 = .ok (.iconst 2, 1) := dk_5 (dk_at dksX9_doze_3 14 rfl rfl)
theorem dX9_doze_85 : decode cX9_doze 85 = .ok (.iaload, 1) := dk_46 (dk_at dksX9_doze_3 15 rfl rfl)
theorem dX9_doze_86 : decode cX9_doze 86 = .ok (.if_icmp .ge 31, 3) := dk_162 0 31 (dk_at dksX9_doze_3 16 rfl rfl)
theorem dX9_doze_89 : decode cX9_doze 89 = .ok (.lload 9, 2) := dk_22 9 (dk_at dksX9_doze_3 19 rfl rfl)
theorem dX9_doze_91 : decode cX9_doze 91 = .ok (.iload 6, 2) := dk_21 6 (dk_at dksX9_doze_3 21 rfl rfl)
theorem dX9_doze_93 : decode cX9_doze 93 = .ok (.iload 11, 2) := dk_21 11 (dk_at dksX9_doze_4 0 rfl rfl)
theorem dX9_doze_95 : decode cX9_doze 95 = .ok (.invokestatic 162, 3) := dk_184 0 162 (dk_at dksX9_doze_4 2 rfl rfl)
theorem dX9_doze_98 : decode cX9_doze 98 = .ok (.ifCond .eq 9, 3) := dk_153 0 9 (dk_at dksX9_doze_4 5 rfl rfl)
theorem dX9_doze_101 : decode cX9_doze 101 = .ok (.ldc2_w 235, 3) := dk_20 0 235 (dk_at dksX9_doze_4 8 rfl rfl)
theorem dX9_doze_104 : decode cX9_doze 104 = .ok (.goto 4, 3) := dk_167 0 4 (dk_at dksX9_doze_4 11 rfl rfl)
theorem dX9_doze_107 : decode cX9_doze 107 = .ok (.lconst 1, 1) := dk_10 (dk_at dksX9_doze_4 14 rfl rfl)
theorem dX9_doze_108 : decode cX9_doze 108 = .ok (.lmul, 1) := dk_105 (dk_at dksX9_doze_4 15 rfl rfl)
theorem dX9_doze_109 : decode cX9_doze 109 = .ok (.lstore 9, 2) := dk_55 9 (dk_at dksX9_doze_4 16 rfl rfl)
theorem dX9_doze_111 : decode cX9_doze 111 = .ok (.iinc 11 1, 3) := dk_132 11 1 (dk_at dksX9_doze_4 18 rfl rfl)
theorem dX9_doze_114 : decode cX9_doze 114 = .ok (.goto (-36), 3) := dk_167 255 220 (dk_at dksX9_doze_4 21 rfl rfl)
theorem dX9_doze_117 : decode cX9_doze 117 = .ok (.iconst 0, 1) := dk_3 (dk_at dksX9_doze_5 0 rfl rfl)
theorem dX9_doze_118 : decode cX9_doze 118 = .ok (.istore 11, 2) := dk_54 11 (dk_at dksX9_doze_5 1 rfl rfl)
theorem dX9_doze_120 : decode cX9_doze 120 = .ok (.iload 11, 2) := dk_21 11 (dk_at dksX9_doze_5 3 rfl rfl)
theorem dX9_doze_122 : decode cX9_doze 122 = .ok (.iload 6, 2) := dk_21 6 (dk_at dksX9_doze_5 5 rfl rfl)
theorem dX9_doze_124 : decode cX9_doze 124 = .ok (.if_icmp .gt 117, 3) := dk_163 0 117 (dk_at dksX9_doze_5 7 rfl rfl)
theorem dX9_doze_127 : decode cX9_doze 127 = .ok (.iload 11, 2) := dk_21 11 (dk_at dksX9_doze_5 10 rfl rfl)
theorem dX9_doze_129 : decode cX9_doze 129 = .ok (.iload 6, 2) := dk_21 6 (dk_at dksX9_doze_5 12 rfl rfl)
theorem dX9_doze_131 : decode cX9_doze 131 = .ok (.iconst (-1), 1) := dk_2 (dk_at dksX9_doze_5 14 rfl rfl)
theorem dX9_doze_132 : decode cX9_doze 132 = .ok (.ixor, 1) := dk_130 (dk_at dksX9_doze_5 15 rfl rfl)
theorem dX9_doze_133 : decode cX9_doze 133 = .ok (.iand, 1) := dk_126 (dk_at dksX9_doze_5 16 rfl rfl)
theorem dX9_doze_134 : decode cX9_doze 134 = .ok (.ifCond .ne 101, 3) := dk_154 0 101 (dk_at dksX9_doze_5 17 rfl rfl)
theorem dX9_doze_137 : decode cX9_doze 137 = .ok (.lconst 1, 1) := dk_10 (dk_at dksX9_doze_5 20 rfl rfl)
theorem dX9_doze_138 : decode cX9_doze 138 = .ok (.lstore 12, 2) := dk_55 12 (dk_at dksX9_doze_5 21 rfl rfl)
theorem dX9_doze_140 : decode cX9_doze 140 = .ok (.iconst 0, 1) := dk_3 (dk_at dksX9_doze_5 23 rfl rfl)
theorem dX9_doze_141 : decode cX9_doze 141 = .ok (.istore 14, 2) := dk_54 14 (dk_at dksX9_doze_6 0 rfl rfl)
theorem dX9_doze_143 : decode cX9_doze 143 = .ok (.iload 14, 2) := dk_21 14 (dk_at dksX9_doze_6 2 rfl rfl)
theorem dX9_doze_145 : decode cX9_doze 145 = .ok (.aload_n 0, 1) := dk_42 (dk_at dksX9_doze_6 4 rfl rfl)
theorem dX9_doze_146 : decode cX9_doze 146 = .ok (.getfield 19, 3) := dk_180 0 19 (dk_at dksX9_doze_6 5 rfl rfl)
theorem dX9_doze_149 : decode cX9_doze 149 = .ok (.iconst 2, 1) := dk_5 (dk_at dksX9_doze_6 8 rfl rfl)
theorem dX9_doze_150 : decode cX9_doze 150 = .ok (.iaload, 1) := dk_46 (dk_at dksX9_doze_6 9 rfl rfl)
theorem dX9_doze_151 : decode cX9_doze 151 = .ok (.if_icmp .ge 50, 3) := dk_162 0 50 (dk_at dksX9_doze_6 10 rfl rfl)
theorem dX9_doze_154 : decode cX9_doze 154 = .ok (.lload 12, 2) := dk_22 12 (dk_at dksX9_doze_6 13 rfl rfl)
theorem dX9_doze_156 : decode cX9_doze 156 = .ok (.iload 6, 2) := dk_21 6 (dk_at dksX9_doze_6 15 rfl rfl)
theorem dX9_doze_158 : decode cX9_doze 158 = .ok (.iload 14, 2) := dk_21 14 (dk_at dksX9_doze_6 17 rfl rfl)
theorem dX9_doze_160 : decode cX9_doze 160 = .ok (.invokestatic 162, 3) := dk_184 0 162 (dk_at dksX9_doze_6 19 rfl rfl)
theorem dX9_doze_163 : decode cX9_doze 163 = .ok (.ifCond .ne 7, 3) := dk_154 0 7 (dk_at dksX9_doze_7 0 rfl rfl)
theorem dX9_doze_166 : decode cX9_doze 166 = .ok (.lconst 1, 1) := dk_10 (dk_at dksX9_doze_7 3 rfl rfl)
theorem dX9_doze_167 : decode cX9_doze 167 = .ok (.goto 25, 3) := dk_167 0 25 (dk_at dksX9_doze_7 4 rfl rfl)
theorem dX9_doze_170 : decode cX9_doze 170 = .ok (.iload 11, 2) := dk_21 11 (dk_at dksX9_doze_7 7 rfl rfl)
theorem dX9_doze_172 : decode cX9_doze 172 = .ok (.iload 14, 2) := dk_21 14 (dk_at dksX9_doze_7 9 rfl rfl)
theorem dX9_doze_174 : decode cX9_doze 174 = .ok (.invokestatic 162, 3) := dk_184 0 162 (dk_at dksX9_doze_7 11 rfl rfl)
theorem dX9_doze_177 : decode cX9_doze 177 = .ok (.ifCond .eq 9, 3) := dk_153 0 9 (dk_at dksX9_doze_7 14 rfl rfl)
theorem dX9_doze_180 : decode cX9_doze 180 = .ok (.iload 4, 2) := dk_21 4 (dk_at dksX9_doze_7 17 rfl rfl)
theorem dX9_doze_182 : decode cX9_doze 182 = .ok (.i2l, 1) := dk_133 (dk_at dksX9_doze_7 19 rfl rfl)
theorem dX9_doze_183 : decode cX9_doze 183 = .ok (.goto 9, 3) := dk_167 0 9 (dk_at dksX9_doze_7 20 rfl rfl)
theorem dX9_doze_186 : decode cX9_doze 186 = .ok (.bipush 10, 2) := dk_16 10 (dk_at dksX9_doze_8 0 rfl rfl)
theorem dX9_doze_188 : decode cX9_doze 188 = .ok (.iload 4, 2) := dk_21 4 (dk_at dksX9_doze_8 2 rfl rfl)
theorem dX9_doze_190 : decode cX9_doze 190 = .ok (.isub, 1) := dk_100 (dk_at dksX9_doze_8 4 rfl rfl)
theorem dX9_doze_191 : decode cX9_doze 191 = .ok (.i2l, 1) := dk_133 (dk_at dksX9_doze_8 5 rfl rfl)
theorem dX9_doze_192 : decode cX9_doze 192 = .ok (.lmul, 1) := dk_105 (dk_at dksX9_doze_8 6 rfl rfl)
theorem dX9_doze_193 : decode cX9_doze 193 = .ok (.lstore 12, 2) := dk_55 12 (dk_at dksX9_doze_8 7 rfl rfl)
theorem dX9_doze_195 : decode cX9_doze 195 = .ok (.iinc 14 1, 3) := dk_132 14 1 (dk_at dksX9_doze_8 9 rfl rfl)
theorem dX9_doze_198 : decode cX9_doze 198 = .ok (.goto (-55), 3) := dk_167 255 201 (dk_at dksX9_doze_8 12 rfl rfl)
theorem dX9_doze_201 : decode cX9_doze 201 = .ok (.aload_n 0, 1) := dk_42 (dk_at dksX9_doze_8 15 rfl rfl)
theorem dX9_doze_202 : decode cX9_doze 202 = .ok (.getfield 19, 3) := dk_180 0 19 (dk_at dksX9_doze_8 16 rfl rfl)
theorem dX9_doze_205 : decode cX9_doze 205 = .ok (.iconst 4, 1) := dk_7 (dk_at dksX9_doze_8 19 rfl rfl)
theorem dX9_doze_206 : decode cX9_doze 206 = .ok (.iload 6, 2) := dk_21 6 (dk_at dksX9_doze_8 20 rfl rfl)
theorem dX9_doze_208 : decode cX9_doze 208 = .ok (.iload 11, 2) := dk_21 11 (dk_at dksX9_doze_8 22 rfl rfl)
theorem dX9_doze_210 : decode cX9_doze 210 = .ok (.iconst (-1), 1) := dk_2 (dk_at dksX9_doze_9 0 rfl rfl)
theorem dX9_doze_211 : decode cX9_doze 211 = .ok (.ixor, 1) := dk_130 (dk_at dksX9_doze_9 1 rfl rfl)
theorem dX9_doze_212 : decode cX9_doze 212 = .ok (.iand, 1) := dk_126 (dk_at dksX9_doze_9 2 rfl rfl)
theorem dX9_doze_213 : decode cX9_doze 213 = .ok (.iastore, 1) := dk_79 (dk_at dksX9_doze_9 3 rfl rfl)
theorem dX9_doze_214 : decode cX9_doze 214 = .ok (.lload 7, 2) := dk_22 7 (dk_at dksX9_doze_9 4 rfl rfl)
theorem dX9_doze_216 : decode cX9_doze 216 = .ok (.aload_n 0, 1) := dk_42 (dk_at dksX9_doze_9 6 rfl rfl)
theorem dX9_doze_217 : decode cX9_doze 217 = .ok (.iload_n 1, 1) := dk_27 (dk_at dksX9_doze_9 7 rfl rfl)
theorem dX9_doze_218 : decode cX9_doze 218 = .ok (.iload_n 3, 1) := dk_29 (dk_at dksX9_doze_9 8 rfl rfl)
theorem dX9_doze_219 : decode cX9_doze 219 = .ok (.invokevirtual 214, 3) := dk_182 0 214 (dk_at dksX9_doze_9 9 rfl rfl)
theorem dX9_doze_222 : decode cX9_doze 222 = .ok (.iload_n 2, 1) := dk_28 (dk_at dksX9_doze_9 12 rfl rfl)
theorem dX9_doze_223 : decode cX9_doze 223 = .ok (.if_icmp .gt 8, 3) := dk_163 0 8 (dk_at dksX9_doze_9 13 rfl rfl)
theorem dX9_doze_226 : decode cX9_doze 226 = .ok (.lload 12, 2) := dk_22 12 (dk_at dksX9_doze_9 16 rfl rfl)
theorem dX9_doze_228 : decode cX9_doze 228 = .ok (.goto 4, 3) := dk_167 0 4 (dk_at dksX9_doze_9 18 rfl rfl)
theorem dX9_doze_231 : decode cX9_doze 231 = .ok (.lconst 0, 1) := dk_9 (dk_at dksX9_doze_9 21 rfl rfl)
theorem dX9_doze_232 : decode cX9_doze 232 = .ok (.ladd, 1) := dk_97 (dk_at dksX9_doze_9 22 rfl rfl)
theorem dX9_doze_233 : decode cX9_doze 233 = .ok (.lstore 7, 2) := dk_55 7 (dk_at dksX9_doze_10 0 rfl rfl)
theorem dX9_doze_235 : decode cX9_doze 235 = .ok (.iinc 11 1, 3) := dk_132 11 1 (dk_at dksX9_doze_10 2 rfl rfl)
theorem dX9_doze_238 : decode cX9_doze 238 = .ok (.goto (-118), 3) := dk_167 255 138 (dk_at dksX9_doze_10 5 rfl rfl)
theorem dX9_doze_241 : decode cX9_doze 241 = .ok (.lload 7, 2) := dk_22 7 (dk_at dksX9_doze_10 8 rfl rfl)
theorem dX9_doze_243 : decode cX9_doze 243 = .ok (.lstore 11, 2) := dk_55 11 (dk_at dksX9_doze_10 10 rfl rfl)
theorem dX9_doze_245 : decode cX9_doze 245 = .ok (.lload 9, 2) := dk_22 9 (dk_at dksX9_doze_10 12 rfl rfl)
theorem dX9_doze_247 : decode cX9_doze 247 = .ok (.lstore 13, 2) := dk_55 13 (dk_at dksX9_doze_10 14 rfl rfl)
theorem dX9_doze_249 : decode cX9_doze 249 = .ok (.lload 13, 2) := dk_22 13 (dk_at dksX9_doze_10 16 rfl rfl)
theorem dX9_doze_251 : decode cX9_doze 251 = .ok (.lconst 0, 1) := dk_9 (dk_at dksX9_doze_10 18 rfl rfl)
theorem dX9_doze_252 : decode cX9_doze 252 = .ok (.lcmp, 1) := dk_148 (dk_at dksX9_doze_10 19 rfl rfl)
theorem dX9_doze_253 : decode cX9_doze 253 = .ok (.ifCond .eq 21, 3) := dk_153 0 21 (dk_at dksX9_doze_10 20 rfl rfl)
theorem dX9_doze_256 : decode cX9_doze 256 = .ok (.lload 11, 2) := dk_22 11 (dk_at dksX9_doze_11 0 rfl rfl)
theorem dX9_doze_258 : decode cX9_doze 258 = .ok (.lload 13, 2) := dk_22 13 (dk_at dksX9_doze_11 2 rfl rfl)
theorem dX9_doze_260 : decode cX9_doze 260 = .ok (.lrem, 1) := dk_113 (dk_at dksX9_doze_11 4 rfl rfl)
theorem dX9_doze_261 : decode cX9_doze 261 = .ok (.lstore 15, 2) := dk_55 15 (dk_at dksX9_doze_11 5 rfl rfl)
theorem dX9_doze_263 : decode cX9_doze 263 = .ok (.lload 13, 2) := dk_22 13 (dk_at dksX9_doze_11 7 rfl rfl)
theorem dX9_doze_265 : decode cX9_doze 265 = .ok (.lstore 11, 2) := dk_55 11 (dk_at dksX9_doze_11 9 rfl rfl)
theorem dX9_doze_267 : decode cX9_doze 267 = .ok (.lload 15, 2) := dk_22 15 (dk_at dksX9_doze_11 11 rfl rfl)
theorem dX9_doze_269 : decode cX9_doze 269 = .ok (.lstore 13, 2) := dk_55 13 (dk_at dksX9_doze_11 13 rfl rfl)
theorem dX9_doze_271 : decode cX9_doze 271 = .ok (.goto (-22), 3) := dk_167 255 234 (dk_at dksX9_doze_11 15 rfl rfl)
theorem dX9_doze_274 : decode cX9_doze 274 = .ok (.iload 5, 2) := dk_21 5 (dk_at dksX9_doze_11 18 rfl rfl)
theorem dX9_doze_276 : decode cX9_doze 276 = .ok (.ifCond .ne 11, 3) := dk_154 0 11 (dk_at dksX9_doze_11 20 rfl rfl)
theorem dX9_doze_279 : decode cX9_doze 279 = .ok (.lload 7, 2) := dk_22 7 (dk_at dksX9_doze_12 0 rfl rfl)
theorem dX9_doze_281 : decode cX9_doze 281 = .ok (.lload 11, 2) := dk_22 11 (dk_at dksX9_doze_12 2 rfl rfl)
theorem dX9_doze_283 : decode cX9_doze 283 = .ok (.ldiv, 1) := dk_109 (dk_at dksX9_doze_12 4 rfl rfl)
theorem dX9_doze_284 : decode cX9_doze 284 = .ok (.goto 8, 3) := dk_167 0 8 (dk_at dksX9_doze_12 5 rfl rfl)
theorem dX9_doze_287 : decode cX9_doze 287 = .ok (.lload 9, 2) := dk_22 9 (dk_at dksX9_doze_12 8 rfl rfl)
theorem dX9_doze_289 : decode cX9_doze 289 = .ok (.lload 11, 2) := dk_22 11 (dk_at dksX9_doze_12 10 rfl rfl)
theorem dX9_doze_291 : decode cX9_doze 291 = .ok (.ldiv, 1) := dk_109 (dk_at dksX9_doze_12 12 rfl rfl)
theorem dX9_doze_292 : decode cX9_doze 292 = .ok (.lreturn, 1) := dk_173 (dk_at dksX9_doze_12 13 rfl rfl)
abbrev cX9_drawn : ByteArray := prog_16_method_71_code
def yX9_drawn : MethodName := ⟨RX9, "drawn", "(III)I"⟩
def dkwX9_drawn_6 : List UInt8 := [54, 6, 42, 182, 0, 199, 21, 6, 172]
abbrev dktX9_drawn_6 : List UInt8 := dkwX9_drawn_6 ++ []
def dkwX9_drawn_5 : List UInt8 := [132, 6, 1, 167, 255, 191, 29, 154, 0, 11, 42, 3, 182, 0, 153, 167, 0, 9, 42, 16, 11, 182, 0, 209]
abbrev dktX9_drawn_5 : List UInt8 := dkwX9_drawn_5 ++ dktX9_drawn_6
def dkwX9_drawn_4 : List UInt8 := [79, 22, 4, 20, 0, 207, 113, 9, 148, 154, 0, 9, 42, 21, 7, 182, 0, 183, 42, 182, 0, 175]
abbrev dktX9_drawn_4 : List UInt8 := dkwX9_drawn_4 ++ dktX9_drawn_5
def dkwX9_drawn_3 : List UInt8 := [55, 4, 22, 4, 42, 180, 0, 19, 5, 46, 133, 113, 136, 54, 7, 42, 180, 0, 19, 7, 4, 21, 7, 120]
abbrev dktX9_drawn_3 : List UInt8 := dkwX9_drawn_3 ++ dktX9_drawn_4
def dkwX9_drawn_2 : List UInt8 := [28, 133, 55, 4, 3, 54, 6, 21, 6, 27, 162, 0, 65, 22, 4, 20, 0, 241, 105, 20, 0, 243, 113]
abbrev dktX9_drawn_2 : List UInt8 := dkwX9_drawn_2 ++ dktX9_drawn_3
def dkwX9_drawn_1 : List UInt8 := [10, 20, 0, 239, 184, 0, 57, 153, 0, 10, 29, 184, 0, 217, 154, 0, 6, 18, 67, 172, 42, 182, 0, 204]
abbrev dktX9_drawn_1 : List UInt8 := dkwX9_drawn_1 ++ dktX9_drawn_2
def dkwX9_drawn_0 : List UInt8 := [42, 180, 0, 135, 154, 0, 6, 18, 169, 172, 27, 133, 9, 20, 0, 202, 184, 0, 57, 153, 0, 22, 28, 133]
abbrev dktX9_drawn_0 : List UInt8 := dkwX9_drawn_0 ++ dktX9_drawn_1
theorem dksX9_drawn_0 : cX9_drawn.data.toList.drop 0 = dktX9_drawn_0 := by decide +kernel
theorem dksX9_drawn_1 : cX9_drawn.data.toList.drop 24 = dktX9_drawn_1 := dk_seg dksX9_drawn_0 24 rfl rfl
theorem dksX9_drawn_2 : cX9_drawn.data.toList.drop 48 = dktX9_drawn_2 := dk_seg dksX9_drawn_1 24 rfl rfl
theorem dksX9_drawn_3 : cX9_drawn.data.toList.drop 71 = dktX9_drawn_3 := dk_seg dksX9_drawn_2 23 rfl rfl
theorem dksX9_drawn_4 : cX9_drawn.data.toList.drop 95 = dktX9_drawn_4 := dk_seg dksX9_drawn_3 24 rfl rfl
theorem dksX9_drawn_5 : cX9_drawn.data.toList.drop 117 = dktX9_drawn_5 := dk_seg dksX9_drawn_4 22 rfl rfl
theorem dksX9_drawn_6 : cX9_drawn.data.toList.drop 141 = dktX9_drawn_6 := dk_seg dksX9_drawn_5 24 rfl rfl
theorem dX9_drawn_0 : decode cX9_drawn 0 = .ok (.aload_n 0, 1) := dk_42 (dk_at dksX9_drawn_0 0 rfl rfl)
theorem dX9_drawn_1 : decode cX9_drawn 1 = .ok (.getfield 135, 3) := dk_180 0 135 (dk_at dksX9_drawn_0 1 rfl rfl)
theorem dX9_drawn_4 : decode cX9_drawn 4 = .ok (.ifCond .ne 6, 3) := dk_154 0 6 (dk_at dksX9_drawn_0 4 rfl rfl)
theorem dX9_drawn_7 : decode cX9_drawn 7 = .ok (.ldc 169, 2) := dk_18 169 (dk_at dksX9_drawn_0 7 rfl rfl)
theorem dX9_drawn_9 : decode cX9_drawn 9 = .ok (.ireturn, 1) := dk_172 (dk_at dksX9_drawn_0 9 rfl rfl)
theorem dX9_drawn_10 : decode cX9_drawn 10 = .ok (.iload_n 1, 1) := dk_27 (dk_at dksX9_drawn_0 10 rfl rfl)
theorem dX9_drawn_11 : decode cX9_drawn 11 = .ok (.i2l, 1) := dk_133 (dk_at dksX9_drawn_0 11 rfl rfl)
theorem dX9_drawn_12 : decode cX9_drawn 12 = .ok (.lconst 0, 1) := dk_9 (dk_at dksX9_drawn_0 12 rfl rfl)
theorem dX9_drawn_13 : decode cX9_drawn 13 = .ok (.ldc2_w 202, 3) := dk_20 0 202 (dk_at dksX9_drawn_0 13 rfl rfl)
theorem dX9_drawn_16 : decode cX9_drawn 16 = .ok (.invokestatic 57, 3) := dk_184 0 57 (dk_at dksX9_drawn_0 16 rfl rfl)
theorem dX9_drawn_19 : decode cX9_drawn 19 = .ok (.ifCond .eq 22, 3) := dk_153 0 22 (dk_at dksX9_drawn_0 19 rfl rfl)
theorem dX9_drawn_22 : decode cX9_drawn 22 = .ok (.iload_n 2, 1) := dk_28 (dk_at dksX9_drawn_0 22 rfl rfl)
theorem dX9_drawn_23 : decode cX9_drawn 23 = .ok (.i2l, 1) := dk_133 (dk_at dksX9_drawn_0 23 rfl rfl)
theorem dX9_drawn_24 : decode cX9_drawn 24 = .ok (.lconst 1, 1) := dk_10 (dk_at dksX9_drawn_1 0 rfl rfl)
theorem dX9_drawn_25 : decode cX9_drawn 25 = .ok (.ldc2_w 239, 3) := dk_20 0 239 (dk_at dksX9_drawn_1 1 rfl rfl)
theorem dX9_drawn_28 : decode cX9_drawn 28 = .ok (.invokestatic 57, 3) := dk_184 0 57 (dk_at dksX9_drawn_1 4 rfl rfl)
theorem dX9_drawn_31 : decode cX9_drawn 31 = .ok (.ifCond .eq 10, 3) := dk_153 0 10 (dk_at dksX9_drawn_1 7 rfl rfl)
theorem dX9_drawn_34 : decode cX9_drawn 34 = .ok (.iload_n 3, 1) := dk_29 (dk_at dksX9_drawn_1 10 rfl rfl)
theorem dX9_drawn_35 : decode cX9_drawn 35 = .ok (.invokestatic 217, 3) := dk_184 0 217 (dk_at dksX9_drawn_1 11 rfl rfl)
theorem dX9_drawn_38 : decode cX9_drawn 38 = .ok (.ifCond .ne 6, 3) := dk_154 0 6 (dk_at dksX9_drawn_1 14 rfl rfl)
theorem dX9_drawn_41 : decode cX9_drawn 41 = .ok (.ldc 67, 2) := dk_18 67 (dk_at dksX9_drawn_1 17 rfl rfl)
theorem dX9_drawn_43 : decode cX9_drawn 43 = .ok (.ireturn, 1) := dk_172 (dk_at dksX9_drawn_1 19 rfl rfl)
theorem dX9_drawn_44 : decode cX9_drawn 44 = .ok (.aload_n 0, 1) := dk_42 (dk_at dksX9_drawn_1 20 rfl rfl)
theorem dX9_drawn_45 : decode cX9_drawn 45 = .ok (.invokevirtual 204, 3) := dk_182 0 204 (dk_at dksX9_drawn_1 21 rfl rfl)
theorem dX9_drawn_48 : decode cX9_drawn 48 = .ok (.iload_n 2, 1) := dk_28 (dk_at dksX9_drawn_2 0 rfl rfl)
theorem dX9_drawn_49 : decode cX9_drawn 49 = .ok (.i2l, 1) := dk_133 (dk_at dksX9_drawn_2 1 rfl rfl)
theorem dX9_drawn_50 : decode cX9_drawn 50 = .ok (.lstore 4, 2) := dk_55 4 (dk_at dksX9_drawn_2 2 rfl rfl)
theorem dX9_drawn_52 : decode cX9_drawn 52 = .ok (.iconst 0, 1) := dk_3 (dk_at dksX9_drawn_2 4 rfl rfl)
theorem dX9_drawn_53 : decode cX9_drawn 53 = .ok (.istore 6, 2) := dk_54 6 (dk_at dksX9_drawn_2 5 rfl rfl)
theorem dX9_drawn_55 : decode cX9_drawn 55 = .ok (.iload 6, 2) := dk_21 6 (dk_at dksX9_drawn_2 7 rfl rfl)
theorem dX9_drawn_57 : decode cX9_drawn 57 = .ok (.iload_n 1, 1) := dk_27 (dk_at dksX9_drawn_2 9 rfl rfl)
theorem dX9_drawn_58 : decode cX9_drawn 58 = .ok (.if_icmp .ge 65, 3) := dk_162 0 65 (dk_at dksX9_drawn_2 10 rfl rfl)
theorem dX9_drawn_61 : decode cX9_drawn 61 = .ok (.lload 4, 2) := dk_22 4 (dk_at dksX9_drawn_2 13 rfl rfl)
theorem dX9_drawn_63 : decode cX9_drawn 63 = .ok (.ldc2_w 241, 3) := dk_20 0 241 (dk_at dksX9_drawn_2 15 rfl rfl)
theorem dX9_drawn_66 : decode cX9_drawn 66 = .ok (.lmul, 1) := dk_105 (dk_at dksX9_drawn_2 18 rfl rfl)
theorem dX9_drawn_67 : decode cX9_drawn 67 = .ok (.ldc2_w 243, 3) := dk_20 0 243 (dk_at dksX9_drawn_2 19 rfl rfl)
theorem dX9_drawn_70 : decode cX9_drawn 70 = .ok (.lrem, 1) := dk_113 (dk_at dksX9_drawn_2 22 rfl rfl)
theorem dX9_drawn_71 : decode cX9_drawn 71 = .ok (.lstore 4, 2) := dk_55 4 (dk_at dksX9_drawn_3 0 rfl rfl)
theorem dX9_drawn_73 : decode cX9_drawn 73 = .ok (.lload 4, 2) := dk_22 4 (dk_at dksX9_drawn_3 2 rfl rfl)
theorem dX9_drawn_75 : decode cX9_drawn 75 = .ok (.aload_n 0, 1) := dk_42 (dk_at dksX9_drawn_3 4 rfl rfl)
theorem dX9_drawn_76 : decode cX9_drawn 76 = .ok (.getfield 19, 3) := dk_180 0 19 (dk_at dksX9_drawn_3 5 rfl rfl)
theorem dX9_drawn_79 : decode cX9_drawn 79 = .ok (.iconst 2, 1) := dk_5 (dk_at dksX9_drawn_3 8 rfl rfl)
theorem dX9_drawn_80 : decode cX9_drawn 80 = .ok (.iaload, 1) := dk_46 (dk_at dksX9_drawn_3 9 rfl rfl)
theorem dX9_drawn_81 : decode cX9_drawn 81 = .ok (.i2l, 1) := dk_133 (dk_at dksX9_drawn_3 10 rfl rfl)
theorem dX9_drawn_82 : decode cX9_drawn 82 = .ok (.lrem, 1) := dk_113 (dk_at dksX9_drawn_3 11 rfl rfl)
theorem dX9_drawn_83 : decode cX9_drawn 83 = .ok (.l2i, 1) := dk_136 (dk_at dksX9_drawn_3 12 rfl rfl)
theorem dX9_drawn_84 : decode cX9_drawn 84 = .ok (.istore 7, 2) := dk_54 7 (dk_at dksX9_drawn_3 13 rfl rfl)
theorem dX9_drawn_86 : decode cX9_drawn 86 = .ok (.aload_n 0, 1) := dk_42 (dk_at dksX9_drawn_3 15 rfl rfl)
theorem dX9_drawn_87 : decode cX9_drawn 87 = .ok (.getfield 19, 3) := dk_180 0 19 (dk_at dksX9_drawn_3 16 rfl rfl)
theorem dX9_drawn_90 : decode cX9_drawn 90 = .ok (.iconst 4, 1) := dk_7 (dk_at dksX9_drawn_3 19 rfl rfl)
theorem dX9_drawn_91 : decode cX9_drawn 91 = .ok (.iconst 1, 1) := dk_4 (dk_at dksX9_drawn_3 20 rfl rfl)
theorem dX9_drawn_92 : decode cX9_drawn 92 = .ok (.iload 7, 2) := dk_21 7 (dk_at dksX9_drawn_3 21 rfl rfl)
theorem dX9_drawn_94 : decode cX9_drawn 94 = .ok (.ishl, 1) := dk_120 (dk_at dksX9_drawn_3 23 rfl rfl)
theorem dX9_drawn_95 : decode cX9_drawn 95 = .ok (.iastore, 1) := dk_79 (dk_at dksX9_drawn_4 0 rfl rfl)
theorem dX9_drawn_96 : decode cX9_drawn 96 = .ok (.lload 4, 2) := dk_22 4 (dk_at dksX9_drawn_4 1 rfl rfl)
theorem dX9_drawn_98 : decode cX9_drawn 98 = .ok (.ldc2_w 207, 3) := dk_20 0 207 (dk_at dksX9_drawn_4 3 rfl rfl)
theorem dX9_drawn_101 : decode cX9_drawn 101 = .ok (.lrem, 1) := dk_113 (dk_at dksX9_drawn_4 6 rfl rfl)
theorem dX9_drawn_102 : decode cX9_drawn 102 = .ok (.lconst 0, 1) := dk_9 (dk_at dksX9_drawn_4 7 rfl rfl)
theorem dX9_drawn_103 : decode cX9_drawn 103 = .ok (.lcmp, 1) := dk_148 (dk_at dksX9_drawn_4 8 rfl rfl)
theorem dX9_drawn_104 : decode cX9_drawn 104 = .ok (.ifCond .ne 9, 3) := dk_154 0 9 (dk_at dksX9_drawn_4 9 rfl rfl)
theorem dX9_drawn_107 : decode cX9_drawn 107 = .ok (.aload_n 0, 1) := dk_42 (dk_at dksX9_drawn_4 12 rfl rfl)
theorem dX9_drawn_108 : decode cX9_drawn 108 = .ok (.iload 7, 2) := dk_21 7 (dk_at dksX9_drawn_4 13 rfl rfl)
theorem dX9_drawn_110 : decode cX9_drawn 110 = .ok (.invokevirtual 183, 3) := dk_182 0 183 (dk_at dksX9_drawn_4 15 rfl rfl)
theorem dX9_drawn_113 : decode cX9_drawn 113 = .ok (.aload_n 0, 1) := dk_42 (dk_at dksX9_drawn_4 18 rfl rfl)
theorem dX9_drawn_114 : decode cX9_drawn 114 = .ok (.invokevirtual 175, 3) := dk_182 0 175 (dk_at dksX9_drawn_4 19 rfl rfl)
theorem dX9_drawn_117 : decode cX9_drawn 117 = .ok (.iinc 6 1, 3) := dk_132 6 1 (dk_at dksX9_drawn_5 0 rfl rfl)
theorem dX9_drawn_120 : decode cX9_drawn 120 = .ok (.goto (-65), 3) := dk_167 255 191 (dk_at dksX9_drawn_5 3 rfl rfl)
theorem dX9_drawn_123 : decode cX9_drawn 123 = .ok (.iload_n 3, 1) := dk_29 (dk_at dksX9_drawn_5 6 rfl rfl)
theorem dX9_drawn_124 : decode cX9_drawn 124 = .ok (.ifCond .ne 11, 3) := dk_154 0 11 (dk_at dksX9_drawn_5 7 rfl rfl)
theorem dX9_drawn_127 : decode cX9_drawn 127 = .ok (.aload_n 0, 1) := dk_42 (dk_at dksX9_drawn_5 10 rfl rfl)
theorem dX9_drawn_128 : decode cX9_drawn 128 = .ok (.iconst 0, 1) := dk_3 (dk_at dksX9_drawn_5 11 rfl rfl)
theorem dX9_drawn_129 : decode cX9_drawn 129 = .ok (.invokevirtual 153, 3) := dk_182 0 153 (dk_at dksX9_drawn_5 12 rfl rfl)
theorem dX9_drawn_132 : decode cX9_drawn 132 = .ok (.goto 9, 3) := dk_167 0 9 (dk_at dksX9_drawn_5 15 rfl rfl)
theorem dX9_drawn_135 : decode cX9_drawn 135 = .ok (.aload_n 0, 1) := dk_42 (dk_at dksX9_drawn_5 18 rfl rfl)
theorem dX9_drawn_136 : decode cX9_drawn 136 = .ok (.bipush 11, 2) := dk_16 11 (dk_at dksX9_drawn_5 19 rfl rfl)
theorem dX9_drawn_138 : decode cX9_drawn 138 = .ok (.invokevirtual 209, 3) := dk_182 0 209 (dk_at dksX9_drawn_5 21 rfl rfl)
theorem dX9_drawn_141 : decode cX9_drawn 141 = .ok (.istore 6, 2) := dk_54 6 (dk_at dksX9_drawn_6 0 rfl rfl)
theorem dX9_drawn_143 : decode cX9_drawn 143 = .ok (.aload_n 0, 1) := dk_42 (dk_at dksX9_drawn_6 2 rfl rfl)
theorem dX9_drawn_144 : decode cX9_drawn 144 = .ok (.invokevirtual 199, 3) := dk_182 0 199 (dk_at dksX9_drawn_6 3 rfl rfl)
theorem dX9_drawn_147 : decode cX9_drawn 147 = .ok (.iload 6, 2) := dk_21 6 (dk_at dksX9_drawn_6 6 rfl rfl)
theorem dX9_drawn_149 : decode cX9_drawn 149 = .ok (.ireturn, 1) := dk_172 (dk_at dksX9_drawn_6 8 rfl rfl)
abbrev cX9_image : ByteArray := prog_16_method_72_code
def yX9_image : MethodName := ⟨RX9, "image", "(I)I"⟩
def dkwX9_image_2 : List UInt8 := [132, 2, 1, 167, 255, 230, 42, 180, 0, 40, 27, 4, 84, 4, 172]
abbrev dktX9_image_2 : List UInt8 := dkwX9_image_2 ++ []
def dkwX9_image_1 : List UInt8 := [61, 28, 16, 41, 162, 0, 26, 42, 180, 0, 44, 16, 41, 27, 104, 28, 96, 42, 180, 0, 19, 28, 46, 79]
abbrev dktX9_image_1 : List UInt8 := dkwX9_image_1 ++ dktX9_image_2
def dkwX9_image_0 : List UInt8 := [27, 133, 9, 10, 184, 0, 57, 154, 0, 6, 18, 67, 172, 42, 180, 0, 135, 154, 0, 6, 18, 169, 172, 3]
abbrev dktX9_image_0 : List UInt8 := dkwX9_image_0 ++ dktX9_image_1
theorem dksX9_image_0 : cX9_image.data.toList.drop 0 = dktX9_image_0 := by decide +kernel
theorem dksX9_image_1 : cX9_image.data.toList.drop 24 = dktX9_image_1 := dk_seg dksX9_image_0 24 rfl rfl
theorem dksX9_image_2 : cX9_image.data.toList.drop 48 = dktX9_image_2 := dk_seg dksX9_image_1 24 rfl rfl
theorem dX9_image_0 : decode cX9_image 0 = .ok (.iload_n 1, 1) := dk_27 (dk_at dksX9_image_0 0 rfl rfl)
theorem dX9_image_1 : decode cX9_image 1 = .ok (.i2l, 1) := dk_133 (dk_at dksX9_image_0 1 rfl rfl)
theorem dX9_image_2 : decode cX9_image 2 = .ok (.lconst 0, 1) := dk_9 (dk_at dksX9_image_0 2 rfl rfl)
theorem dX9_image_3 : decode cX9_image 3 = .ok (.lconst 1, 1) := dk_10 (dk_at dksX9_image_0 3 rfl rfl)
theorem dX9_image_4 : decode cX9_image 4 = .ok (.invokestatic 57, 3) := dk_184 0 57 (dk_at dksX9_image_0 4 rfl rfl)
theorem dX9_image_7 : decode cX9_image 7 = .ok (.ifCond .ne 6, 3) := dk_154 0 6 (dk_at dksX9_image_0 7 rfl rfl)
theorem dX9_image_10 : decode cX9_image 10 = .ok (.ldc 67, 2) := dk_18 67 (dk_at dksX9_image_0 10 rfl rfl)
theorem dX9_image_12 : decode cX9_image 12 = .ok (.ireturn, 1) := dk_172 (dk_at dksX9_image_0 12 rfl rfl)
theorem dX9_image_13 : decode cX9_image 13 = .ok (.aload_n 0, 1) := dk_42 (dk_at dksX9_image_0 13 rfl rfl)
theorem dX9_image_14 : decode cX9_image 14 = .ok (.getfield 135, 3) := dk_180 0 135 (dk_at dksX9_image_0 14 rfl rfl)
theorem dX9_image_17 : decode cX9_image 17 = .ok (.ifCond .ne 6, 3) := dk_154 0 6 (dk_at dksX9_image_0 17 rfl rfl)
theorem dX9_image_20 : decode cX9_image 20 = .ok (.ldc 169, 2) := dk_18 169 (dk_at dksX9_image_0 20 rfl rfl)
theorem dX9_image_22 : decode cX9_image 22 = .ok (.ireturn, 1) := dk_172 (dk_at dksX9_image_0 22 rfl rfl)
theorem dX9_image_23 : decode cX9_image 23 = .ok (.iconst 0, 1) := dk_3 (dk_at dksX9_image_0 23 rfl rfl)
theorem dX9_image_24 : decode cX9_image 24 = .ok (.istore_n 2, 1) := dk_61 (dk_at dksX9_image_1 0 rfl rfl)
theorem dX9_image_25 : decode cX9_image 25 = .ok (.iload_n 2, 1) := dk_28 (dk_at dksX9_image_1 1 rfl rfl)
theorem dX9_image_26 : decode cX9_image 26 = .ok (.bipush 41, 2) := dk_16 41 (dk_at dksX9_image_1 2 rfl rfl)
theorem dX9_image_28 : decode cX9_image 28 = .ok (.if_icmp .ge 26, 3) := dk_162 0 26 (dk_at dksX9_image_1 4 rfl rfl)
theorem dX9_image_31 : decode cX9_image 31 = .ok (.aload_n 0, 1) := dk_42 (dk_at dksX9_image_1 7 rfl rfl)
theorem dX9_image_32 : decode cX9_image 32 = .ok (.getfield 44, 3) := dk_180 0 44 (dk_at dksX9_image_1 8 rfl rfl)
theorem dX9_image_35 : decode cX9_image 35 = .ok (.bipush 41, 2) := dk_16 41 (dk_at dksX9_image_1 11 rfl rfl)
theorem dX9_image_37 : decode cX9_image 37 = .ok (.iload_n 1, 1) := dk_27 (dk_at dksX9_image_1 13 rfl rfl)
theorem dX9_image_38 : decode cX9_image 38 = .ok (.imul, 1) := dk_104 (dk_at dksX9_image_1 14 rfl rfl)
theorem dX9_image_39 : decode cX9_image 39 = .ok (.iload_n 2, 1) := dk_28 (dk_at dksX9_image_1 15 rfl rfl)
theorem dX9_image_40 : decode cX9_image 40 = .ok (.iadd, 1) := dk_96 (dk_at dksX9_image_1 16 rfl rfl)
theorem dX9_image_41 : decode cX9_image 41 = .ok (.aload_n 0, 1) := dk_42 (dk_at dksX9_image_1 17 rfl rfl)
theorem dX9_image_42 : decode cX9_image 42 = .ok (.getfield 19, 3) := dk_180 0 19 (dk_at dksX9_image_1 18 rfl rfl)
theorem dX9_image_45 : decode cX9_image 45 = .ok (.iload_n 2, 1) := dk_28 (dk_at dksX9_image_1 21 rfl rfl)
theorem dX9_image_46 : decode cX9_image 46 = .ok (.iaload, 1) := dk_46 (dk_at dksX9_image_1 22 rfl rfl)
theorem dX9_image_47 : decode cX9_image 47 = .ok (.iastore, 1) := dk_79 (dk_at dksX9_image_1 23 rfl rfl)
theorem dX9_image_48 : decode cX9_image 48 = .ok (.iinc 2 1, 3) := dk_132 2 1 (dk_at dksX9_image_2 0 rfl rfl)
theorem dX9_image_51 : decode cX9_image 51 = .ok (.goto (-26), 3) := dk_167 255 230 (dk_at dksX9_image_2 3 rfl rfl)
theorem dX9_image_54 : decode cX9_image 54 = .ok (.aload_n 0, 1) := dk_42 (dk_at dksX9_image_2 6 rfl rfl)
theorem dX9_image_55 : decode cX9_image 55 = .ok (.getfield 40, 3) := dk_180 0 40 (dk_at dksX9_image_2 7 rfl rfl)
theorem dX9_image_58 : decode cX9_image 58 = .ok (.iload_n 1, 1) := dk_27 (dk_at dksX9_image_2 10 rfl rfl)
theorem dX9_image_59 : decode cX9_image 59 = .ok (.iconst 1, 1) := dk_4 (dk_at dksX9_image_2 11 rfl rfl)
theorem dX9_image_60 : decode cX9_image 60 = .ok (.bastore, 1) := dk_84 (dk_at dksX9_image_2 12 rfl rfl)
theorem dX9_image_61 : decode cX9_image 61 = .ok (.iconst 1, 1) := dk_4 (dk_at dksX9_image_2 13 rfl rfl)
theorem dX9_image_62 : decode cX9_image 62 = .ok (.ireturn, 1) := dk_172 (dk_at dksX9_image_2 14 rfl rfl)
abbrev cX9_restore : ByteArray := prog_16_method_73_code
def yX9_restore : MethodName := ⟨RX9, "restore", "(I)I"⟩
def dkwX9_restore_2 : List UInt8 := [46, 79, 132, 2, 1, 167, 255, 230, 42, 3, 181, 0, 139, 4, 172]
abbrev dktX9_restore_2 : List UInt8 := dkwX9_restore_2 ++ []
def dkwX9_restore_1 : List UInt8 := [172, 3, 61, 28, 16, 41, 162, 0, 26, 42, 180, 0, 19, 28, 42, 180, 0, 44, 16, 41, 27, 104, 28, 96]
abbrev dktX9_restore_1 : List UInt8 := dkwX9_restore_1 ++ dktX9_restore_2
def dkwX9_restore_0 : List UInt8 := [27, 133, 9, 10, 184, 0, 57, 154, 0, 6, 18, 67, 172, 42, 180, 0, 40, 27, 51, 154, 0, 6, 18, 169]
abbrev dktX9_restore_0 : List UInt8 := dkwX9_restore_0 ++ dktX9_restore_1
theorem dksX9_restore_0 : cX9_restore.data.toList.drop 0 = dktX9_restore_0 := by decide +kernel
theorem dksX9_restore_1 : cX9_restore.data.toList.drop 24 = dktX9_restore_1 := dk_seg dksX9_restore_0 24 rfl rfl
theorem dksX9_restore_2 : cX9_restore.data.toList.drop 48 = dktX9_restore_2 := dk_seg dksX9_restore_1 24 rfl rfl
theorem dX9_restore_0 : decode cX9_restore 0 = .ok (.iload_n 1, 1) := dk_27 (dk_at dksX9_restore_0 0 rfl rfl)
theorem dX9_restore_1 : decode cX9_restore 1 = .ok (.i2l, 1) := dk_133 (dk_at dksX9_restore_0 1 rfl rfl)
theorem dX9_restore_2 : decode cX9_restore 2 = .ok (.lconst 0, 1) := dk_9 (dk_at dksX9_restore_0 2 rfl rfl)
theorem dX9_restore_3 : decode cX9_restore 3 = .ok (.lconst 1, 1) := dk_10 (dk_at dksX9_restore_0 3 rfl rfl)
theorem dX9_restore_4 : decode cX9_restore 4 = .ok (.invokestatic 57, 3) := dk_184 0 57 (dk_at dksX9_restore_0 4 rfl rfl)
theorem dX9_restore_7 : decode cX9_restore 7 = .ok (.ifCond .ne 6, 3) := dk_154 0 6 (dk_at dksX9_restore_0 7 rfl rfl)
theorem dX9_restore_10 : decode cX9_restore 10 = .ok (.ldc 67, 2) := dk_18 67 (dk_at dksX9_restore_0 10 rfl rfl)
theorem dX9_restore_12 : decode cX9_restore 12 = .ok (.ireturn, 1) := dk_172 (dk_at dksX9_restore_0 12 rfl rfl)
theorem dX9_restore_13 : decode cX9_restore 13 = .ok (.aload_n 0, 1) := dk_42 (dk_at dksX9_restore_0 13 rfl rfl)
theorem dX9_restore_14 : decode cX9_restore 14 = .ok (.getfield 40, 3) := dk_180 0 40 (dk_at dksX9_restore_0 14 rfl rfl)
theorem dX9_restore_17 : decode cX9_restore 17 = .ok (.iload_n 1, 1) := dk_27 (dk_at dksX9_restore_0 17 rfl rfl)
theorem dX9_restore_18 : decode cX9_restore 18 = .ok (.baload, 1) := dk_51 (dk_at dksX9_restore_0 18 rfl rfl)
theorem dX9_restore_19 : decode cX9_restore 19 = .ok (.ifCond .ne 6, 3) := dk_154 0 6 (dk_at dksX9_restore_0 19 rfl rfl)
theorem dX9_restore_22 : decode cX9_restore 22 = .ok (.ldc 169, 2) := dk_18 169 (dk_at dksX9_restore_0 22 rfl rfl)
theorem dX9_restore_24 : decode cX9_restore 24 = .ok (.ireturn, 1) := dk_172 (dk_at dksX9_restore_1 0 rfl rfl)
theorem dX9_restore_25 : decode cX9_restore 25 = .ok (.iconst 0, 1) := dk_3 (dk_at dksX9_restore_1 1 rfl rfl)
theorem dX9_restore_26 : decode cX9_restore 26 = .ok (.istore_n 2, 1) := dk_61 (dk_at dksX9_restore_1 2 rfl rfl)
theorem dX9_restore_27 : decode cX9_restore 27 = .ok (.iload_n 2, 1) := dk_28 (dk_at dksX9_restore_1 3 rfl rfl)
theorem dX9_restore_28 : decode cX9_restore 28 = .ok (.bipush 41, 2) := dk_16 41 (dk_at dksX9_restore_1 4 rfl rfl)
theorem dX9_restore_30 : decode cX9_restore 30 = .ok (.if_icmp .ge 26, 3) := dk_162 0 26 (dk_at dksX9_restore_1 6 rfl rfl)
theorem dX9_restore_33 : decode cX9_restore 33 = .ok (.aload_n 0, 1) := dk_42 (dk_at dksX9_restore_1 9 rfl rfl)
theorem dX9_restore_34 : decode cX9_restore 34 = .ok (.getfield 19, 3) := dk_180 0 19 (dk_at dksX9_restore_1 10 rfl rfl)
theorem dX9_restore_37 : decode cX9_restore 37 = .ok (.iload_n 2, 1) := dk_28 (dk_at dksX9_restore_1 13 rfl rfl)
theorem dX9_restore_38 : decode cX9_restore 38 = .ok (.aload_n 0, 1) := dk_42 (dk_at dksX9_restore_1 14 rfl rfl)
theorem dX9_restore_39 : decode cX9_restore 39 = .ok (.getfield 44, 3) := dk_180 0 44 (dk_at dksX9_restore_1 15 rfl rfl)
theorem dX9_restore_42 : decode cX9_restore 42 = .ok (.bipush 41, 2) := dk_16 41 (dk_at dksX9_restore_1 18 rfl rfl)
theorem dX9_restore_44 : decode cX9_restore 44 = .ok (.iload_n 1, 1) := dk_27 (dk_at dksX9_restore_1 20 rfl rfl)
theorem dX9_restore_45 : decode cX9_restore 45 = .ok (.imul, 1) := dk_104 (dk_at dksX9_restore_1 21 rfl rfl)
theorem dX9_restore_46 : decode cX9_restore 46 = .ok (.iload_n 2, 1) := dk_28 (dk_at dksX9_restore_1 22 rfl rfl)
theorem dX9_restore_47 : decode cX9_restore 47 = .ok (.iadd, 1) := dk_96 (dk_at dksX9_restore_1 23 rfl rfl)
theorem dX9_restore_48 : decode cX9_restore 48 = .ok (.iaload, 1) := dk_46 (dk_at dksX9_restore_2 0 rfl rfl)
theorem dX9_restore_49 : decode cX9_restore 49 = .ok (.iastore, 1) := dk_79 (dk_at dksX9_restore_2 1 rfl rfl)
theorem dX9_restore_50 : decode cX9_restore 50 = .ok (.iinc 2 1, 3) := dk_132 2 1 (dk_at dksX9_restore_2 2 rfl rfl)
theorem dX9_restore_53 : decode cX9_restore 53 = .ok (.goto (-26), 3) := dk_167 255 230 (dk_at dksX9_restore_2 5 rfl rfl)
theorem dX9_restore_56 : decode cX9_restore 56 = .ok (.aload_n 0, 1) := dk_42 (dk_at dksX9_restore_2 8 rfl rfl)
theorem dX9_restore_57 : decode cX9_restore 57 = .ok (.iconst 0, 1) := dk_3 (dk_at dksX9_restore_2 9 rfl rfl)
theorem dX9_restore_58 : decode cX9_restore 58 = .ok (.putfield 139, 3) := dk_181 0 139 (dk_at dksX9_restore_2 10 rfl rfl)
theorem dX9_restore_61 : decode cX9_restore 61 = .ok (.iconst 1, 1) := dk_4 (dk_at dksX9_restore_2 13 rfl rfl)
theorem dX9_restore_62 : decode cX9_restore 62 = .ok (.ireturn, 1) := dk_172 (dk_at dksX9_restore_2 14 rfl rfl)
abbrev cX9_kind : ByteArray := prog_16_method_74_code
def yX9_kind : MethodName := ⟨RX9, "kind", "(I)I"⟩
def dkwX9_kind_0 : List UInt8 := [42, 27, 182, 0, 178, 153, 0, 14, 42, 180, 0, 19, 8, 27, 96, 46, 167, 0, 5, 18, 67, 172]
abbrev dktX9_kind_0 : List UInt8 := dkwX9_kind_0 ++ []
theorem dksX9_kind_0 : cX9_kind.data.toList.drop 0 = dktX9_kind_0 := by decide +kernel
theorem dX9_kind_0 : decode cX9_kind 0 = .ok (.aload_n 0, 1) := dk_42 (dk_at dksX9_kind_0 0 rfl rfl)
theorem dX9_kind_1 : decode cX9_kind 1 = .ok (.iload_n 1, 1) := dk_27 (dk_at dksX9_kind_0 1 rfl rfl)
theorem dX9_kind_2 : decode cX9_kind 2 = .ok (.invokevirtual 178, 3) := dk_182 0 178 (dk_at dksX9_kind_0 2 rfl rfl)
theorem dX9_kind_5 : decode cX9_kind 5 = .ok (.ifCond .eq 14, 3) := dk_153 0 14 (dk_at dksX9_kind_0 5 rfl rfl)
theorem dX9_kind_8 : decode cX9_kind 8 = .ok (.aload_n 0, 1) := dk_42 (dk_at dksX9_kind_0 8 rfl rfl)
theorem dX9_kind_9 : decode cX9_kind 9 = .ok (.getfield 19, 3) := dk_180 0 19 (dk_at dksX9_kind_0 9 rfl rfl)
theorem dX9_kind_12 : decode cX9_kind 12 = .ok (.iconst 5, 1) := dk_8 (dk_at dksX9_kind_0 12 rfl rfl)
theorem dX9_kind_13 : decode cX9_kind 13 = .ok (.iload_n 1, 1) := dk_27 (dk_at dksX9_kind_0 13 rfl rfl)
theorem dX9_kind_14 : decode cX9_kind 14 = .ok (.iadd, 1) := dk_96 (dk_at dksX9_kind_0 14 rfl rfl)
theorem dX9_kind_15 : decode cX9_kind 15 = .ok (.iaload, 1) := dk_46 (dk_at dksX9_kind_0 15 rfl rfl)
theorem dX9_kind_16 : decode cX9_kind 16 = .ok (.goto 5, 3) := dk_167 0 5 (dk_at dksX9_kind_0 16 rfl rfl)
theorem dX9_kind_19 : decode cX9_kind 19 = .ok (.ldc 67, 2) := dk_18 67 (dk_at dksX9_kind_0 19 rfl rfl)
theorem dX9_kind_21 : decode cX9_kind 21 = .ok (.ireturn, 1) := dk_172 (dk_at dksX9_kind_0 21 rfl rfl)
abbrev cX9_as : ByteArray := prog_16_method_76_code
def yX9_as : MethodName := ⟨RX9, "as", "(II)I"⟩
def dkwX9_as_2 : List UInt8 := [182, 0, 68, 172]
abbrev dktX9_as_2 : List UInt8 := dkwX9_as_2 ++ []
def dkwX9_as_1 : List UInt8 := [180, 0, 19, 8, 27, 96, 46, 28, 184, 0, 245, 153, 0, 11, 42, 27, 182, 0, 72, 167, 0, 8, 42, 6]
abbrev dktX9_as_1 : List UInt8 := dkwX9_as_1 ++ dktX9_as_2
def dkwX9_as_0 : List UInt8 := [42, 27, 182, 0, 178, 153, 0, 15, 28, 133, 9, 20, 0, 207, 184, 0, 57, 154, 0, 6, 18, 67, 172, 42]
abbrev dktX9_as_0 : List UInt8 := dkwX9_as_0 ++ dktX9_as_1
theorem dksX9_as_0 : cX9_as.data.toList.drop 0 = dktX9_as_0 := by decide +kernel
theorem dksX9_as_1 : cX9_as.data.toList.drop 24 = dktX9_as_1 := dk_seg dksX9_as_0 24 rfl rfl
theorem dksX9_as_2 : cX9_as.data.toList.drop 48 = dktX9_as_2 := dk_seg dksX9_as_1 24 rfl rfl
theorem dX9_as_0 : decode cX9_as 0 = .ok (.aload_n 0, 1) := dk_42 (dk_at dksX9_as_0 0 rfl rfl)
theorem dX9_as_1 : decode cX9_as 1 = .ok (.iload_n 1, 1) := dk_27 (dk_at dksX9_as_0 1 rfl rfl)
theorem dX9_as_2 : decode cX9_as 2 = .ok (.invokevirtual 178, 3) := dk_182 0 178 (dk_at dksX9_as_0 2 rfl rfl)
theorem dX9_as_5 : decode cX9_as 5 = .ok (.ifCond .eq 15, 3) := dk_153 0 15 (dk_at dksX9_as_0 5 rfl rfl)
theorem dX9_as_8 : decode cX9_as 8 = .ok (.iload_n 2, 1) := dk_28 (dk_at dksX9_as_0 8 rfl rfl)
theorem dX9_as_9 : decode cX9_as 9 = .ok (.i2l, 1) := dk_133 (dk_at dksX9_as_0 9 rfl rfl)
theorem dX9_as_10 : decode cX9_as 10 = .ok (.lconst 0, 1) := dk_9 (dk_at dksX9_as_0 10 rfl rfl)
theorem dX9_as_11 : decode cX9_as 11 = .ok (.ldc2_w 207, 3) := dk_20 0 207 (dk_at dksX9_as_0 11 rfl rfl)
theorem dX9_as_14 : decode cX9_as 14 = .ok (.invokestatic 57, 3) := dk_184 0 57 (dk_at dksX9_as_0 14 rfl rfl)
theorem dX9_as_17 : decode cX9_as 17 = .ok (.ifCond .ne 6, 3) := dk_154 0 6 (dk_at dksX9_as_0 17 rfl rfl)
theorem dX9_as_20 : decode cX9_as 20 = .ok (.ldc 67, 2) := dk_18 67 (dk_at dksX9_as_0 20 rfl rfl)
theorem dX9_as_22 : decode cX9_as 22 = .ok (.ireturn, 1) := dk_172 (dk_at dksX9_as_0 22 rfl rfl)
theorem dX9_as_23 : decode cX9_as 23 = .ok (.aload_n 0, 1) := dk_42 (dk_at dksX9_as_0 23 rfl rfl)
theorem dX9_as_24 : decode cX9_as 24 = .ok (.getfield 19, 3) := dk_180 0 19 (dk_at dksX9_as_1 0 rfl rfl)
theorem dX9_as_27 : decode cX9_as 27 = .ok (.iconst 5, 1) := dk_8 (dk_at dksX9_as_1 3 rfl rfl)
theorem dX9_as_28 : decode cX9_as 28 = .ok (.iload_n 1, 1) := dk_27 (dk_at dksX9_as_1 4 rfl rfl)
theorem dX9_as_29 : decode cX9_as 29 = .ok (.iadd, 1) := dk_96 (dk_at dksX9_as_1 5 rfl rfl)
theorem dX9_as_30 : decode cX9_as 30 = .ok (.iaload, 1) := dk_46 (dk_at dksX9_as_1 6 rfl rfl)
theorem dX9_as_31 : decode cX9_as 31 = .ok (.iload_n 2, 1) := dk_28 (dk_at dksX9_as_1 7 rfl rfl)
theorem dX9_as_32 : decode cX9_as 32 = .ok (.invokestatic 245, 3) := dk_184 0 245 (dk_at dksX9_as_1 8 rfl rfl)
theorem dX9_as_35 : decode cX9_as 35 = .ok (.ifCond .eq 11, 3) := dk_153 0 11 (dk_at dksX9_as_1 11 rfl rfl)
theorem dX9_as_38 : decode cX9_as 38 = .ok (.aload_n 0, 1) := dk_42 (dk_at dksX9_as_1 14 rfl rfl)
theorem dX9_as_39 : decode cX9_as 39 = .ok (.iload_n 1, 1) := dk_27 (dk_at dksX9_as_1 15 rfl rfl)
theorem dX9_as_40 : decode cX9_as 40 = .ok (.invokevirtual 72, 3) := dk_182 0 72 (dk_at dksX9_as_1 16 rfl rfl)
theorem dX9_as_43 : decode cX9_as 43 = .ok (.goto 8, 3) := dk_167 0 8 (dk_at dksX9_as_1 19 rfl rfl)
theorem dX9_as_46 : decode cX9_as 46 = .ok (.aload_n 0, 1) := dk_42 (dk_at dksX9_as_1 22 rfl rfl)
theorem dX9_as_47 : decode cX9_as 47 = .ok (.iconst 3, 1) := dk_6 (dk_at dksX9_as_1 23 rfl rfl)
theorem dX9_as_48 : decode cX9_as 48 = .ok (.invokevirtual 68, 3) := dk_182 0 68 (dk_at dksX9_as_2 0 rfl rfl)
theorem dX9_as_51 : decode cX9_as 51 = .ok (.ireturn, 1) := dk_172 (dk_at dksX9_as_2 3 rfl rfl)
abbrev cX9_isKind : ByteArray := prog_16_method_75_code
def yX9_isKind : MethodName := ⟨RX9, "isKind", "(II)Z"⟩
def dkwX9_isKind_1 : List UInt8 := [26, 8, 160, 0, 7, 4, 167, 0, 4, 3, 172]
abbrev dktX9_isKind_1 : List UInt8 := dkwX9_isKind_1 ++ []
def dkwX9_isKind_0 : List UInt8 := [27, 153, 0, 28, 26, 27, 159, 0, 23, 27, 4, 160, 0, 8, 26, 7, 161, 0, 13, 27, 7, 160, 0, 12]
abbrev dktX9_isKind_0 : List UInt8 := dkwX9_isKind_0 ++ dktX9_isKind_1
theorem dksX9_isKind_0 : cX9_isKind.data.toList.drop 0 = dktX9_isKind_0 := by decide +kernel
theorem dksX9_isKind_1 : cX9_isKind.data.toList.drop 24 = dktX9_isKind_1 := dk_seg dksX9_isKind_0 24 rfl rfl
theorem dX9_isKind_0 : decode cX9_isKind 0 = .ok (.iload_n 1, 1) := dk_27 (dk_at dksX9_isKind_0 0 rfl rfl)
theorem dX9_isKind_1 : decode cX9_isKind 1 = .ok (.ifCond .eq 28, 3) := dk_153 0 28 (dk_at dksX9_isKind_0 1 rfl rfl)
theorem dX9_isKind_4 : decode cX9_isKind 4 = .ok (.iload_n 0, 1) := dk_26 (dk_at dksX9_isKind_0 4 rfl rfl)
theorem dX9_isKind_5 : decode cX9_isKind 5 = .ok (.iload_n 1, 1) := dk_27 (dk_at dksX9_isKind_0 5 rfl rfl)
theorem dX9_isKind_6 : decode cX9_isKind 6 = .ok (.if_icmp .eq 23, 3) := dk_159 0 23 (dk_at dksX9_isKind_0 6 rfl rfl)
theorem dX9_isKind_9 : decode cX9_isKind 9 = .ok (.iload_n 1, 1) := dk_27 (dk_at dksX9_isKind_0 9 rfl rfl)
theorem dX9_isKind_10 : decode cX9_isKind 10 = .ok (.iconst 1, 1) := dk_4 (dk_at dksX9_isKind_0 10 rfl rfl)
theorem dX9_isKind_11 : decode cX9_isKind 11 = .ok (.if_icmp .ne 8, 3) := dk_160 0 8 (dk_at dksX9_isKind_0 11 rfl rfl)
theorem dX9_isKind_14 : decode cX9_isKind 14 = .ok (.iload_n 0, 1) := dk_26 (dk_at dksX9_isKind_0 14 rfl rfl)
theorem dX9_isKind_15 : decode cX9_isKind 15 = .ok (.iconst 4, 1) := dk_7 (dk_at dksX9_isKind_0 15 rfl rfl)
theorem dX9_isKind_16 : decode cX9_isKind 16 = .ok (.if_icmp .lt 13, 3) := dk_161 0 13 (dk_at dksX9_isKind_0 16 rfl rfl)
theorem dX9_isKind_19 : decode cX9_isKind 19 = .ok (.iload_n 1, 1) := dk_27 (dk_at dksX9_isKind_0 19 rfl rfl)
theorem dX9_isKind_20 : decode cX9_isKind 20 = .ok (.iconst 4, 1) := dk_7 (dk_at dksX9_isKind_0 20 rfl rfl)
theorem dX9_isKind_21 : decode cX9_isKind 21 = .ok (.if_icmp .ne 12, 3) := dk_160 0 12 (dk_at dksX9_isKind_0 21 rfl rfl)
theorem dX9_isKind_24 : decode cX9_isKind 24 = .ok (.iload_n 0, 1) := dk_26 (dk_at dksX9_isKind_1 0 rfl rfl)
theorem dX9_isKind_25 : decode cX9_isKind 25 = .ok (.iconst 5, 1) := dk_8 (dk_at dksX9_isKind_1 1 rfl rfl)
theorem dX9_isKind_26 : decode cX9_isKind 26 = .ok (.if_icmp .ne 7, 3) := dk_160 0 7 (dk_at dksX9_isKind_1 2 rfl rfl)
theorem dX9_isKind_29 : decode cX9_isKind 29 = .ok (.iconst 1, 1) := dk_4 (dk_at dksX9_isKind_1 5 rfl rfl)
theorem dX9_isKind_30 : decode cX9_isKind 30 = .ok (.goto 4, 3) := dk_167 0 4 (dk_at dksX9_isKind_1 6 rfl rfl)
theorem dX9_isKind_33 : decode cX9_isKind 33 = .ok (.iconst 0, 1) := dk_3 (dk_at dksX9_isKind_1 9 rfl rfl)
theorem dX9_isKind_34 : decode cX9_isKind 34 = .ok (.ireturn, 1) := dk_172 (dk_at dksX9_isKind_1 10 rfl rfl)
abbrev cX9_ask : ByteArray := prog_16_method_85_code
def yX9_ask : MethodName := ⟨RX9, "ask", "(II)I"⟩
def dkwX9_ask_1 : List UInt8 := [181, 0, 248, 28, 154, 0, 11, 42, 27, 182, 1, 16, 167, 0, 8, 42, 27, 182, 1, 10, 172]
abbrev dktX9_ask_1 : List UInt8 := dkwX9_ask_1 ++ []
def dkwX9_ask_0 : List UInt8 := [42, 27, 182, 0, 178, 153, 0, 13, 28, 133, 9, 10, 184, 0, 57, 154, 0, 6, 18, 67, 172, 42, 3]
abbrev dktX9_ask_0 : List UInt8 := dkwX9_ask_0 ++ dktX9_ask_1
theorem dksX9_ask_0 : cX9_ask.data.toList.drop 0 = dktX9_ask_0 := by decide +kernel
theorem dksX9_ask_1 : cX9_ask.data.toList.drop 23 = dktX9_ask_1 := dk_seg dksX9_ask_0 23 rfl rfl
theorem dX9_ask_0 : decode cX9_ask 0 = .ok (.aload_n 0, 1) := dk_42 (dk_at dksX9_ask_0 0 rfl rfl)
theorem dX9_ask_1 : decode cX9_ask 1 = .ok (.iload_n 1, 1) := dk_27 (dk_at dksX9_ask_0 1 rfl rfl)
theorem dX9_ask_2 : decode cX9_ask 2 = .ok (.invokevirtual 178, 3) := dk_182 0 178 (dk_at dksX9_ask_0 2 rfl rfl)
theorem dX9_ask_5 : decode cX9_ask 5 = .ok (.ifCond .eq 13, 3) := dk_153 0 13 (dk_at dksX9_ask_0 5 rfl rfl)
theorem dX9_ask_8 : decode cX9_ask 8 = .ok (.iload_n 2, 1) := dk_28 (dk_at dksX9_ask_0 8 rfl rfl)
theorem dX9_ask_9 : decode cX9_ask 9 = .ok (.i2l, 1) := dk_133 (dk_at dksX9_ask_0 9 rfl rfl)
theorem dX9_ask_10 : decode cX9_ask 10 = .ok (.lconst 0, 1) := dk_9 (dk_at dksX9_ask_0 10 rfl rfl)
theorem dX9_ask_11 : decode cX9_ask 11 = .ok (.lconst 1, 1) := dk_10 (dk_at dksX9_ask_0 11 rfl rfl)
theorem dX9_ask_12 : decode cX9_ask 12 = .ok (.invokestatic 57, 3) := dk_184 0 57 (dk_at dksX9_ask_0 12 rfl rfl)
theorem dX9_ask_15 : decode cX9_ask 15 = .ok (.ifCond .ne 6, 3) := dk_154 0 6 (dk_at dksX9_ask_0 15 rfl rfl)
theorem dX9_ask_18 : decode cX9_ask 18 = .ok (.ldc 67, 2) := dk_18 67 (dk_at dksX9_ask_0 18 rfl rfl)
theorem dX9_ask_20 : decode cX9_ask 20 = .ok (.ireturn, 1) := dk_172 (dk_at dksX9_ask_0 20 rfl rfl)
theorem dX9_ask_21 : decode cX9_ask 21 = .ok (.aload_n 0, 1) := dk_42 (dk_at dksX9_ask_0 21 rfl rfl)
theorem dX9_ask_22 : decode cX9_ask 22 = .ok (.iconst 0, 1) := dk_3 (dk_at dksX9_ask_0 22 rfl rfl)
theorem dX9_ask_23 : decode cX9_ask 23 = .ok (.putfield 248, 3) := dk_181 0 248 (dk_at dksX9_ask_1 0 rfl rfl)
theorem dX9_ask_26 : decode cX9_ask 26 = .ok (.iload_n 2, 1) := dk_28 (dk_at dksX9_ask_1 3 rfl rfl)
theorem dX9_ask_27 : decode cX9_ask 27 = .ok (.ifCond .ne 11, 3) := dk_154 0 11 (dk_at dksX9_ask_1 4 rfl rfl)
theorem dX9_ask_30 : decode cX9_ask 30 = .ok (.aload_n 0, 1) := dk_42 (dk_at dksX9_ask_1 7 rfl rfl)
theorem dX9_ask_31 : decode cX9_ask 31 = .ok (.iload_n 1, 1) := dk_27 (dk_at dksX9_ask_1 8 rfl rfl)
theorem dX9_ask_32 : decode cX9_ask 32 = .ok (.invokevirtual 272, 3) := dk_182 1 16 (dk_at dksX9_ask_1 9 rfl rfl)
theorem dX9_ask_35 : decode cX9_ask 35 = .ok (.goto 8, 3) := dk_167 0 8 (dk_at dksX9_ask_1 12 rfl rfl)
theorem dX9_ask_38 : decode cX9_ask 38 = .ok (.aload_n 0, 1) := dk_42 (dk_at dksX9_ask_1 15 rfl rfl)
theorem dX9_ask_39 : decode cX9_ask 39 = .ok (.iload_n 1, 1) := dk_27 (dk_at dksX9_ask_1 16 rfl rfl)
theorem dX9_ask_40 : decode cX9_ask 40 = .ok (.invokevirtual 266, 3) := dk_182 1 10 (dk_at dksX9_ask_1 17 rfl rfl)
theorem dX9_ask_43 : decode cX9_ask 43 = .ok (.ireturn, 1) := dk_172 (dk_at dksX9_ask_1 20 rfl rfl)
abbrev cX9_sizeOf : ByteArray := prog_16_method_84_code
def yX9_sizeOf : MethodName := ⟨RX9, "sizeOf", "(I)I"⟩
def dkwX9_sizeOf_1 : List UInt8 := [182, 1, 13, 116, 172, 28, 7, 161, 0, 11, 42, 27, 182, 1, 7, 167, 0, 8, 42, 27, 182, 1, 13, 172]
abbrev dktX9_sizeOf_1 : List UInt8 := dkwX9_sizeOf_1 ++ []
def dkwX9_sizeOf_0 : List UInt8 := [42, 180, 0, 19, 8, 27, 96, 46, 61, 28, 5, 160, 0, 16, 42, 16, 12, 182, 0, 251, 42, 27]
abbrev dktX9_sizeOf_0 : List UInt8 := dkwX9_sizeOf_0 ++ dktX9_sizeOf_1
theorem dksX9_sizeOf_0 : cX9_sizeOf.data.toList.drop 0 = dktX9_sizeOf_0 := by decide +kernel
theorem dksX9_sizeOf_1 : cX9_sizeOf.data.toList.drop 22 = dktX9_sizeOf_1 := dk_seg dksX9_sizeOf_0 22 rfl rfl
theorem dX9_sizeOf_0 : decode cX9_sizeOf 0 = .ok (.aload_n 0, 1) := dk_42 (dk_at dksX9_sizeOf_0 0 rfl rfl)
theorem dX9_sizeOf_1 : decode cX9_sizeOf 1 = .ok (.getfield 19, 3) := dk_180 0 19 (dk_at dksX9_sizeOf_0 1 rfl rfl)
theorem dX9_sizeOf_4 : decode cX9_sizeOf 4 = .ok (.iconst 5, 1) := dk_8 (dk_at dksX9_sizeOf_0 4 rfl rfl)
theorem dX9_sizeOf_5 : decode cX9_sizeOf 5 = .ok (.iload_n 1, 1) := dk_27 (dk_at dksX9_sizeOf_0 5 rfl rfl)
theorem dX9_sizeOf_6 : decode cX9_sizeOf 6 = .ok (.iadd, 1) := dk_96 (dk_at dksX9_sizeOf_0 6 rfl rfl)
theorem dX9_sizeOf_7 : decode cX9_sizeOf 7 = .ok (.iaload, 1) := dk_46 (dk_at dksX9_sizeOf_0 7 rfl rfl)
theorem dX9_sizeOf_8 : decode cX9_sizeOf 8 = .ok (.istore_n 2, 1) := dk_61 (dk_at dksX9_sizeOf_0 8 rfl rfl)
theorem dX9_sizeOf_9 : decode cX9_sizeOf 9 = .ok (.iload_n 2, 1) := dk_28 (dk_at dksX9_sizeOf_0 9 rfl rfl)
theorem dX9_sizeOf_10 : decode cX9_sizeOf 10 = .ok (.iconst 2, 1) := dk_5 (dk_at dksX9_sizeOf_0 10 rfl rfl)
theorem dX9_sizeOf_11 : decode cX9_sizeOf 11 = .ok (.if_icmp .ne 16, 3) := dk_160 0 16 (dk_at dksX9_sizeOf_0 11 rfl rfl)
theorem dX9_sizeOf_14 : decode cX9_sizeOf 14 = .ok (.aload_n 0, 1) := dk_42 (dk_at dksX9_sizeOf_0 14 rfl rfl)
theorem dX9_sizeOf_15 : decode cX9_sizeOf 15 = .ok (.bipush 12, 2) := dk_16 12 (dk_at dksX9_sizeOf_0 15 rfl rfl)
theorem dX9_sizeOf_17 : decode cX9_sizeOf 17 = .ok (.invokevirtual 251, 3) := dk_182 0 251 (dk_at dksX9_sizeOf_0 17 rfl rfl)
theorem dX9_sizeOf_20 : decode cX9_sizeOf 20 = .ok (.aload_n 0, 1) := dk_42 (dk_at dksX9_sizeOf_0 20 rfl rfl)
theorem dX9_sizeOf_21 : decode cX9_sizeOf 21 = .ok (.iload_n 1, 1) := dk_27 (dk_at dksX9_sizeOf_0 21 rfl rfl)
theorem dX9_sizeOf_22 : decode cX9_sizeOf 22 = .ok (.invokevirtual 269, 3) := dk_182 1 13 (dk_at dksX9_sizeOf_1 0 rfl rfl)
theorem dX9_sizeOf_25 : decode cX9_sizeOf 25 = .ok (.ineg, 1) := dk_116 (dk_at dksX9_sizeOf_1 3 rfl rfl)
theorem dX9_sizeOf_26 : decode cX9_sizeOf 26 = .ok (.ireturn, 1) := dk_172 (dk_at dksX9_sizeOf_1 4 rfl rfl)
theorem dX9_sizeOf_27 : decode cX9_sizeOf 27 = .ok (.iload_n 2, 1) := dk_28 (dk_at dksX9_sizeOf_1 5 rfl rfl)
theorem dX9_sizeOf_28 : decode cX9_sizeOf 28 = .ok (.iconst 4, 1) := dk_7 (dk_at dksX9_sizeOf_1 6 rfl rfl)
theorem dX9_sizeOf_29 : decode cX9_sizeOf 29 = .ok (.if_icmp .lt 11, 3) := dk_161 0 11 (dk_at dksX9_sizeOf_1 7 rfl rfl)
theorem dX9_sizeOf_32 : decode cX9_sizeOf 32 = .ok (.aload_n 0, 1) := dk_42 (dk_at dksX9_sizeOf_1 10 rfl rfl)
theorem dX9_sizeOf_33 : decode cX9_sizeOf 33 = .ok (.iload_n 1, 1) := dk_27 (dk_at dksX9_sizeOf_1 11 rfl rfl)
theorem dX9_sizeOf_34 : decode cX9_sizeOf 34 = .ok (.invokevirtual 263, 3) := dk_182 1 7 (dk_at dksX9_sizeOf_1 12 rfl rfl)
theorem dX9_sizeOf_37 : decode cX9_sizeOf 37 = .ok (.goto 8, 3) := dk_167 0 8 (dk_at dksX9_sizeOf_1 15 rfl rfl)
theorem dX9_sizeOf_40 : decode cX9_sizeOf 40 = .ok (.aload_n 0, 1) := dk_42 (dk_at dksX9_sizeOf_1 18 rfl rfl)
theorem dX9_sizeOf_41 : decode cX9_sizeOf 41 = .ok (.iload_n 1, 1) := dk_27 (dk_at dksX9_sizeOf_1 19 rfl rfl)
theorem dX9_sizeOf_42 : decode cX9_sizeOf 42 = .ok (.invokevirtual 269, 3) := dk_182 1 13 (dk_at dksX9_sizeOf_1 20 rfl rfl)
theorem dX9_sizeOf_45 : decode cX9_sizeOf 45 = .ok (.ireturn, 1) := dk_172 (dk_at dksX9_sizeOf_1 23 rfl rfl)
abbrev cX9_begin : ByteArray := prog_16_method_77_code
def yX9_begin : MethodName := ⟨RX9, "begin", "(I)V"⟩
def dkwX9_begin_1 : List UInt8 := [4, 96, 181, 0, 248, 177]
abbrev dktX9_begin_1 : List UInt8 := dkwX9_begin_1 ++ []
def dkwX9_begin_0 : List UInt8 := [42, 180, 0, 248, 16, 16, 162, 0, 23, 42, 180, 0, 47, 42, 180, 0, 248, 27, 79, 42, 89, 180, 0, 248]
abbrev dktX9_begin_0 : List UInt8 := dkwX9_begin_0 ++ dktX9_begin_1
theorem dksX9_begin_0 : cX9_begin.data.toList.drop 0 = dktX9_begin_0 := by decide +kernel
theorem dksX9_begin_1 : cX9_begin.data.toList.drop 24 = dktX9_begin_1 := dk_seg dksX9_begin_0 24 rfl rfl
theorem dX9_begin_0 : decode cX9_begin 0 = .ok (.aload_n 0, 1) := dk_42 (dk_at dksX9_begin_0 0 rfl rfl)
theorem dX9_begin_1 : decode cX9_begin 1 = .ok (.getfield 248, 3) := dk_180 0 248 (dk_at dksX9_begin_0 1 rfl rfl)
theorem dX9_begin_4 : decode cX9_begin 4 = .ok (.bipush 16, 2) := dk_16 16 (dk_at dksX9_begin_0 4 rfl rfl)
theorem dX9_begin_6 : decode cX9_begin 6 = .ok (.if_icmp .ge 23, 3) := dk_162 0 23 (dk_at dksX9_begin_0 6 rfl rfl)
theorem dX9_begin_9 : decode cX9_begin 9 = .ok (.aload_n 0, 1) := dk_42 (dk_at dksX9_begin_0 9 rfl rfl)
theorem dX9_begin_10 : decode cX9_begin 10 = .ok (.getfield 47, 3) := dk_180 0 47 (dk_at dksX9_begin_0 10 rfl rfl)
theorem dX9_begin_13 : decode cX9_begin 13 = .ok (.aload_n 0, 1) := dk_42 (dk_at dksX9_begin_0 13 rfl rfl)
theorem dX9_begin_14 : decode cX9_begin 14 = .ok (.getfield 248, 3) := dk_180 0 248 (dk_at dksX9_begin_0 14 rfl rfl)
theorem dX9_begin_17 : decode cX9_begin 17 = .ok (.iload_n 1, 1) := dk_27 (dk_at dksX9_begin_0 17 rfl rfl)
theorem dX9_begin_18 : decode cX9_begin 18 = .ok (.iastore, 1) := dk_79 (dk_at dksX9_begin_0 18 rfl rfl)
theorem dX9_begin_19 : decode cX9_begin 19 = .ok (.aload_n 0, 1) := dk_42 (dk_at dksX9_begin_0 19 rfl rfl)
theorem dX9_begin_20 : decode cX9_begin 20 = .ok (.dup, 1) := dk_89 (dk_at dksX9_begin_0 20 rfl rfl)
theorem dX9_begin_21 : decode cX9_begin 21 = .ok (.getfield 248, 3) := dk_180 0 248 (dk_at dksX9_begin_0 21 rfl rfl)
theorem dX9_begin_24 : decode cX9_begin 24 = .ok (.iconst 1, 1) := dk_4 (dk_at dksX9_begin_1 0 rfl rfl)
theorem dX9_begin_25 : decode cX9_begin 25 = .ok (.iadd, 1) := dk_96 (dk_at dksX9_begin_1 1 rfl rfl)
theorem dX9_begin_26 : decode cX9_begin 26 = .ok (.putfield 248, 3) := dk_181 0 248 (dk_at dksX9_begin_1 2 rfl rfl)
theorem dX9_begin_29 : decode cX9_begin 29 = .ok (.return_, 1) := dk_177 (dk_at dksX9_begin_1 5 rfl rfl)
abbrev cX9_plainSize : ByteArray := prog_16_method_83_code
def yX9_plainSize : MethodName := ⟨RX9, "plainSize", "(I)I"⟩
def dkwX9_plainSize_0 : List UInt8 := [42, 16, 11, 182, 0, 251, 42, 27, 16, 10, 182, 0, 254, 61, 28, 42, 27, 182, 1, 10, 96, 172]
abbrev dktX9_plainSize_0 : List UInt8 := dkwX9_plainSize_0 ++ []
theorem dksX9_plainSize_0 : cX9_plainSize.data.toList.drop 0 = dktX9_plainSize_0 := by decide +kernel
theorem dX9_plainSize_0 : decode cX9_plainSize 0 = .ok (.aload_n 0, 1) := dk_42 (dk_at dksX9_plainSize_0 0 rfl rfl)
theorem dX9_plainSize_1 : decode cX9_plainSize 1 = .ok (.bipush 11, 2) := dk_16 11 (dk_at dksX9_plainSize_0 1 rfl rfl)
theorem dX9_plainSize_3 : decode cX9_plainSize 3 = .ok (.invokevirtual 251, 3) := dk_182 0 251 (dk_at dksX9_plainSize_0 3 rfl rfl)
theorem dX9_plainSize_6 : decode cX9_plainSize 6 = .ok (.aload_n 0, 1) := dk_42 (dk_at dksX9_plainSize_0 6 rfl rfl)
theorem dX9_plainSize_7 : decode cX9_plainSize 7 = .ok (.iload_n 1, 1) := dk_27 (dk_at dksX9_plainSize_0 7 rfl rfl)
theorem dX9_plainSize_8 : decode cX9_plainSize 8 = .ok (.bipush 10, 2) := dk_16 10 (dk_at dksX9_plainSize_0 8 rfl rfl)
theorem dX9_plainSize_10 : decode cX9_plainSize 10 = .ok (.invokevirtual 254, 3) := dk_182 0 254 (dk_at dksX9_plainSize_0 10 rfl rfl)
theorem dX9_plainSize_13 : decode cX9_plainSize 13 = .ok (.istore_n 2, 1) := dk_61 (dk_at dksX9_plainSize_0 13 rfl rfl)
theorem dX9_plainSize_14 : decode cX9_plainSize 14 = .ok (.iload_n 2, 1) := dk_28 (dk_at dksX9_plainSize_0 14 rfl rfl)
theorem dX9_plainSize_15 : decode cX9_plainSize 15 = .ok (.aload_n 0, 1) := dk_42 (dk_at dksX9_plainSize_0 15 rfl rfl)
theorem dX9_plainSize_16 : decode cX9_plainSize 16 = .ok (.iload_n 1, 1) := dk_27 (dk_at dksX9_plainSize_0 16 rfl rfl)
theorem dX9_plainSize_17 : decode cX9_plainSize 17 = .ok (.invokevirtual 266, 3) := dk_182 1 10 (dk_at dksX9_plainSize_0 17 rfl rfl)
theorem dX9_plainSize_20 : decode cX9_plainSize 20 = .ok (.iadd, 1) := dk_96 (dk_at dksX9_plainSize_0 20 rfl rfl)
theorem dX9_plainSize_21 : decode cX9_plainSize 21 = .ok (.ireturn, 1) := dk_172 (dk_at dksX9_plainSize_0 21 rfl rfl)
abbrev cX9_lent : ByteArray := prog_16_method_78_code
def yX9_lent : MethodName := ⟨RX9, "lent", "(II)I"⟩
def dkwX9_lent_1 : List UInt8 := [172]
abbrev dktX9_lent_1 : List UInt8 := dkwX9_lent_1 ++ []
def dkwX9_lent_0 : List UInt8 := [42, 28, 182, 0, 251, 28, 16, 10, 160, 0, 15, 42, 180, 0, 19, 16, 11, 27, 96, 46, 167, 0, 4, 27]
abbrev dktX9_lent_0 : List UInt8 := dkwX9_lent_0 ++ dktX9_lent_1
theorem dksX9_lent_0 : cX9_lent.data.toList.drop 0 = dktX9_lent_0 := by decide +kernel
theorem dksX9_lent_1 : cX9_lent.data.toList.drop 24 = dktX9_lent_1 := dk_seg dksX9_lent_0 24 rfl rfl
theorem dX9_lent_0 : decode cX9_lent 0 = .ok (.aload_n 0, 1) := dk_42 (dk_at dksX9_lent_0 0 rfl rfl)
theorem dX9_lent_1 : decode cX9_lent 1 = .ok (.iload_n 2, 1) := dk_28 (dk_at dksX9_lent_0 1 rfl rfl)
theorem dX9_lent_2 : decode cX9_lent 2 = .ok (.invokevirtual 251, 3) := dk_182 0 251 (dk_at dksX9_lent_0 2 rfl rfl)
theorem dX9_lent_5 : decode cX9_lent 5 = .ok (.iload_n 2, 1) := dk_28 (dk_at dksX9_lent_0 5 rfl rfl)
theorem dX9_lent_6 : decode cX9_lent 6 = .ok (.bipush 10, 2) := dk_16 10 (dk_at dksX9_lent_0 6 rfl rfl)
theorem dX9_lent_8 : decode cX9_lent 8 = .ok (.if_icmp .ne 15, 3) := dk_160 0 15 (dk_at dksX9_lent_0 8 rfl rfl)
theorem dX9_lent_11 : decode cX9_lent 11 = .ok (.aload_n 0, 1) := dk_42 (dk_at dksX9_lent_0 11 rfl rfl)
theorem dX9_lent_12 : decode cX9_lent 12 = .ok (.getfield 19, 3) := dk_180 0 19 (dk_at dksX9_lent_0 12 rfl rfl)
theorem dX9_lent_15 : decode cX9_lent 15 = .ok (.bipush 11, 2) := dk_16 11 (dk_at dksX9_lent_0 15 rfl rfl)
theorem dX9_lent_17 : decode cX9_lent 17 = .ok (.iload_n 1, 1) := dk_27 (dk_at dksX9_lent_0 17 rfl rfl)
theorem dX9_lent_18 : decode cX9_lent 18 = .ok (.iadd, 1) := dk_96 (dk_at dksX9_lent_0 18 rfl rfl)
theorem dX9_lent_19 : decode cX9_lent 19 = .ok (.iaload, 1) := dk_46 (dk_at dksX9_lent_0 19 rfl rfl)
theorem dX9_lent_20 : decode cX9_lent 20 = .ok (.goto 4, 3) := dk_167 0 4 (dk_at dksX9_lent_0 20 rfl rfl)
theorem dX9_lent_23 : decode cX9_lent 23 = .ok (.iload_n 1, 1) := dk_27 (dk_at dksX9_lent_0 23 rfl rfl)
theorem dX9_lent_24 : decode cX9_lent 24 = .ok (.ireturn, 1) := dk_172 (dk_at dksX9_lent_1 0 rfl rfl)
abbrev cX9_markOf : ByteArray := prog_16_method_82_code
def yX9_markOf : MethodName := ⟨RX9, "markOf", "(I)I"⟩
def dkwX9_markOf_3 : List UInt8 := [182, 0, 254, 62, 29, 42, 27, 182, 1, 7, 100, 172]
abbrev dktX9_markOf_3 : List UInt8 := dkwX9_markOf_3 ++ []
def dkwX9_markOf_2 : List UInt8 := [100, 172, 28, 4, 160, 0, 9, 42, 27, 182, 1, 4, 172, 42, 16, 23, 182, 0, 251, 42, 27, 16, 20]
abbrev dktX9_markOf_2 : List UInt8 := dkwX9_markOf_2 ++ dktX9_markOf_3
def dkwX9_markOf_1 : List UInt8 := [182, 1, 4, 104, 172, 28, 6, 160, 0, 19, 42, 16, 22, 182, 0, 251, 42, 27, 182, 1, 4, 17, 3, 232]
abbrev dktX9_markOf_1 : List UInt8 := dkwX9_markOf_1 ++ dktX9_markOf_2
def dkwX9_markOf_0 : List UInt8 := [42, 180, 0, 19, 8, 27, 96, 46, 61, 28, 5, 160, 0, 17, 42, 16, 24, 182, 0, 251, 5, 42, 27]
abbrev dktX9_markOf_0 : List UInt8 := dkwX9_markOf_0 ++ dktX9_markOf_1
theorem dksX9_markOf_0 : cX9_markOf.data.toList.drop 0 = dktX9_markOf_0 := by decide +kernel
theorem dksX9_markOf_1 : cX9_markOf.data.toList.drop 23 = dktX9_markOf_1 := dk_seg dksX9_markOf_0 23 rfl rfl
theorem dksX9_markOf_2 : cX9_markOf.data.toList.drop 47 = dktX9_markOf_2 := dk_seg dksX9_markOf_1 24 rfl rfl
theorem dksX9_markOf_3 : cX9_markOf.data.toList.drop 70 = dktX9_markOf_3 := dk_seg dksX9_markOf_2 23 rfl rfl
theorem dX9_markOf_0 : decode cX9_markOf 0 = .ok (.aload_n 0, 1) := dk_42 (dk_at dksX9_markOf_0 0 rfl rfl)
theorem dX9_markOf_1 : decode cX9_markOf 1 = .ok (.getfield 19, 3) := dk_180 0 19 (dk_at dksX9_markOf_0 1 rfl rfl)
theorem dX9_markOf_4 : decode cX9_markOf 4 = .ok (.iconst 5, 1) := dk_8 (dk_at dksX9_markOf_0 4 rfl rfl)
theorem dX9_markOf_5 : decode cX9_markOf 5 = .ok (.iload_n 1, 1) := dk_27 (dk_at dksX9_markOf_0 5 rfl rfl)
theorem dX9_markOf_6 : decode cX9_markOf 6 = .ok (.iadd, 1) := dk_96 (dk_at dksX9_markOf_0 6 rfl rfl)
theorem dX9_markOf_7 : decode cX9_markOf 7 = .ok (.iaload, 1) := dk_46 (dk_at dksX9_markOf_0 7 rfl rfl)
theorem dX9_markOf_8 : decode cX9_markOf 8 = .ok (.istore_n 2, 1) := dk_61 (dk_at dksX9_markOf_0 8 rfl rfl)
theorem dX9_markOf_9 : decode cX9_markOf 9 = .ok (.iload_n 2, 1) := dk_28 (dk_at dksX9_markOf_0 9 rfl rfl)
theorem dX9_markOf_10 : decode cX9_markOf 10 = .ok (.iconst 2, 1) := dk_5 (dk_at dksX9_markOf_0 10 rfl rfl)
theorem dX9_markOf_11 : decode cX9_markOf 11 = .ok (.if_icmp .ne 17, 3) := dk_160 0 17 (dk_at dksX9_markOf_0 11 rfl rfl)
theorem dX9_markOf_14 : decode cX9_markOf 14 = .ok (.aload_n 0, 1) := dk_42 (dk_at dksX9_markOf_0 14 rfl rfl)
theorem dX9_markOf_15 : decode cX9_markOf 15 = .ok (.bipush 24, 2) := dk_16 24 (dk_at dksX9_markOf_0 15 rfl rfl)
theorem dX9_markOf_17 : decode cX9_markOf 17 = .ok (.invokevirtual 251, 3) := dk_182 0 251 (dk_at dksX9_markOf_0 17 rfl rfl)
theorem dX9_markOf_20 : decode cX9_markOf 20 = .ok (.iconst 2, 1) := dk_5 (dk_at dksX9_markOf_0 20 rfl rfl)
theorem dX9_markOf_21 : decode cX9_markOf 21 = .ok (.aload_n 0, 1) := dk_42 (dk_at dksX9_markOf_0 21 rfl rfl)
theorem dX9_markOf_22 : decode cX9_markOf 22 = .ok (.iload_n 1, 1) := dk_27 (dk_at dksX9_markOf_0 22 rfl rfl)
theorem dX9_markOf_23 : decode cX9_markOf 23 = .ok (.invokevirtual 260, 3) := dk_182 1 4 (dk_at dksX9_markOf_1 0 rfl rfl)
theorem dX9_markOf_26 : decode cX9_markOf 26 = .ok (.imul, 1) := dk_104 (dk_at dksX9_markOf_1 3 rfl rfl)
theorem dX9_markOf_27 : decode cX9_markOf 27 = .ok (.ireturn, 1) := dk_172 (dk_at dksX9_markOf_1 4 rfl rfl)
theorem dX9_markOf_28 : decode cX9_markOf 28 = .ok (.iload_n 2, 1) := dk_28 (dk_at dksX9_markOf_1 5 rfl rfl)
theorem dX9_markOf_29 : decode cX9_markOf 29 = .ok (.iconst 3, 1) := dk_6 (dk_at dksX9_markOf_1 6 rfl rfl)
theorem dX9_markOf_30 : decode cX9_markOf 30 = .ok (.if_icmp .ne 19, 3) := dk_160 0 19 (dk_at dksX9_markOf_1 7 rfl rfl)
theorem dX9_markOf_33 : decode cX9_markOf 33 = .ok (.aload_n 0, 1) := dk_42 (dk_at dksX9_markOf_1 10 rfl rfl)
theorem dX9_markOf_34 : decode cX9_markOf 34 = .ok (.bipush 22, 2) := dk_16 22 (dk_at dksX9_markOf_1 11 rfl rfl)
theorem dX9_markOf_36 : decode cX9_markOf 36 = .ok (.invokevirtual 251, 3) := dk_182 0 251 (dk_at dksX9_markOf_1 13 rfl rfl)
theorem dX9_markOf_39 : decode cX9_markOf 39 = .ok (.aload_n 0, 1) := dk_42 (dk_at dksX9_markOf_1 16 rfl rfl)
theorem dX9_markOf_40 : decode cX9_markOf 40 = .ok (.iload_n 1, 1) := dk_27 (dk_at dksX9_markOf_1 17 rfl rfl)
theorem dX9_markOf_41 : decode cX9_markOf 41 = .ok (.invokevirtual 260, 3) := dk_182 1 4 (dk_at dksX9_markOf_1 18 rfl rfl)
theorem dX9_markOf_44 : decode cX9_markOf 44 = .ok (.sipush 1000, 3) := dk_17 3 232 (dk_at dksX9_markOf_1 21 rfl rfl)
theorem dX9_markOf_47 : decode cX9_markOf 47 = .ok (.isub, 1) := dk_100 (dk_at dksX9_markOf_2 0 rfl rfl)
theorem dX9_markOf_48 : decode cX9_markOf 48 = .ok (.ireturn, 1) := dk_172 (dk_at dksX9_markOf_2 1 rfl rfl)
theorem dX9_markOf_49 : decode cX9_markOf 49 = .ok (.iload_n 2, 1) := dk_28 (dk_at dksX9_markOf_2 2 rfl rfl)
theorem dX9_markOf_50 : decode cX9_markOf 50 = .ok (.iconst 1, 1) := dk_4 (dk_at dksX9_markOf_2 3 rfl rfl)
theorem dX9_markOf_51 : decode cX9_markOf 51 = .ok (.if_icmp .ne 9, 3) := dk_160 0 9 (dk_at dksX9_markOf_2 4 rfl rfl)
theorem dX9_markOf_54 : decode cX9_markOf 54 = .ok (.aload_n 0, 1) := dk_42 (dk_at dksX9_markOf_2 7 rfl rfl)
theorem dX9_markOf_55 : decode cX9_markOf 55 = .ok (.iload_n 1, 1) := dk_27 (dk_at dksX9_markOf_2 8 rfl rfl)
theorem dX9_markOf_56 : decode cX9_markOf 56 = .ok (.invokevirtual 260, 3) := dk_182 1 4 (dk_at dksX9_markOf_2 9 rfl rfl)
theorem dX9_markOf_59 : decode cX9_markOf 59 = .ok (.ireturn, 1) := dk_172 (dk_at dksX9_markOf_2 12 rfl rfl)
theorem dX9_markOf_60 : decode cX9_markOf 60 = .ok (.aload_n 0, 1) := dk_42 (dk_at dksX9_markOf_2 13 rfl rfl)
theorem dX9_markOf_61 : decode cX9_markOf 61 = .ok (.bipush 23, 2) := dk_16 23 (dk_at dksX9_markOf_2 14 rfl rfl)
theorem dX9_markOf_63 : decode cX9_markOf 63 = .ok (.invokevirtual 251, 3) := dk_182 0 251 (dk_at dksX9_markOf_2 16 rfl rfl)
theorem dX9_markOf_66 : decode cX9_markOf 66 = .ok (.aload_n 0, 1) := dk_42 (dk_at dksX9_markOf_2 19 rfl rfl)
theorem dX9_markOf_67 : decode cX9_markOf 67 = .ok (.iload_n 1, 1) := dk_27 (dk_at dksX9_markOf_2 20 rfl rfl)
theorem dX9_markOf_68 : decode cX9_markOf 68 = .ok (.bipush 20, 2) := dk_16 20 (dk_at dksX9_markOf_2 21 rfl rfl)
theorem dX9_markOf_70 : decode cX9_markOf 70 = .ok (.invokevirtual 254, 3) := dk_182 0 254 (dk_at dksX9_markOf_3 0 rfl rfl)
theorem dX9_markOf_73 : decode cX9_markOf 73 = .ok (.istore_n 3, 1) := dk_62 (dk_at dksX9_markOf_3 3 rfl rfl)
theorem dX9_markOf_74 : decode cX9_markOf 74 = .ok (.iload_n 3, 1) := dk_29 (dk_at dksX9_markOf_3 4 rfl rfl)
theorem dX9_markOf_75 : decode cX9_markOf 75 = .ok (.aload_n 0, 1) := dk_42 (dk_at dksX9_markOf_3 5 rfl rfl)
theorem dX9_markOf_76 : decode cX9_markOf 76 = .ok (.iload_n 1, 1) := dk_27 (dk_at dksX9_markOf_3 6 rfl rfl)
theorem dX9_markOf_77 : decode cX9_markOf 77 = .ok (.invokevirtual 263, 3) := dk_182 1 7 (dk_at dksX9_markOf_3 7 rfl rfl)
theorem dX9_markOf_80 : decode cX9_markOf 80 = .ok (.isub, 1) := dk_100 (dk_at dksX9_markOf_3 10 rfl rfl)
theorem dX9_markOf_81 : decode cX9_markOf 81 = .ok (.ireturn, 1) := dk_172 (dk_at dksX9_markOf_3 11 rfl rfl)
abbrev cX9_plainMark : ByteArray := prog_16_method_79_code
def yX9_plainMark : MethodName := ⟨RX9, "plainMark", "(I)I"⟩
def dkwX9_plainMark_0 : List UInt8 := [42, 16, 21, 182, 0, 251, 42, 27, 16, 20, 182, 0, 254, 42, 180, 0, 19, 16, 29, 27, 96, 46, 96, 172]
abbrev dktX9_plainMark_0 : List UInt8 := dkwX9_plainMark_0 ++ []
theorem dksX9_plainMark_0 : cX9_plainMark.data.toList.drop 0 = dktX9_plainMark_0 := by decide +kernel
theorem dX9_plainMark_0 : decode cX9_plainMark 0 = .ok (.aload_n 0, 1) := dk_42 (dk_at dksX9_plainMark_0 0 rfl rfl)
theorem dX9_plainMark_1 : decode cX9_plainMark 1 = .ok (.bipush 21, 2) := dk_16 21 (dk_at dksX9_plainMark_0 1 rfl rfl)
theorem dX9_plainMark_3 : decode cX9_plainMark 3 = .ok (.invokevirtual 251, 3) := dk_182 0 251 (dk_at dksX9_plainMark_0 3 rfl rfl)
theorem dX9_plainMark_6 : decode cX9_plainMark 6 = .ok (.aload_n 0, 1) := dk_42 (dk_at dksX9_plainMark_0 6 rfl rfl)
theorem dX9_plainMark_7 : decode cX9_plainMark 7 = .ok (.iload_n 1, 1) := dk_27 (dk_at dksX9_plainMark_0 7 rfl rfl)
theorem dX9_plainMark_8 : decode cX9_plainMark 8 = .ok (.bipush 20, 2) := dk_16 20 (dk_at dksX9_plainMark_0 8 rfl rfl)
theorem dX9_plainMark_10 : decode cX9_plainMark 10 = .ok (.invokevirtual 254, 3) := dk_182 0 254 (dk_at dksX9_plainMark_0 10 rfl rfl)
theorem dX9_plainMark_13 : decode cX9_plainMark 13 = .ok (.aload_n 0, 1) := dk_42 (dk_at dksX9_plainMark_0 13 rfl rfl)
theorem dX9_plainMark_14 : decode cX9_plainMark 14 = .ok (.getfield 19, 3) := dk_180 0 19 (dk_at dksX9_plainMark_0 14 rfl rfl)
theorem dX9_plainMark_17 : decode cX9_plainMark 17 = .ok (.bipush 29, 2) := dk_16 29 (dk_at dksX9_plainMark_0 17 rfl rfl)
theorem dX9_plainMark_19 : decode cX9_plainMark 19 = .ok (.iload_n 1, 1) := dk_27 (dk_at dksX9_plainMark_0 19 rfl rfl)
theorem dX9_plainMark_20 : decode cX9_plainMark 20 = .ok (.iadd, 1) := dk_96 (dk_at dksX9_plainMark_0 20 rfl rfl)
theorem dX9_plainMark_21 : decode cX9_plainMark 21 = .ok (.iaload, 1) := dk_46 (dk_at dksX9_plainMark_0 21 rfl rfl)
theorem dX9_plainMark_22 : decode cX9_plainMark 22 = .ok (.iadd, 1) := dk_96 (dk_at dksX9_plainMark_0 22 rfl rfl)
theorem dX9_plainMark_23 : decode cX9_plainMark 23 = .ok (.ireturn, 1) := dk_172 (dk_at dksX9_plainMark_0 23 rfl rfl)
abbrev cX9_sizeOfOak : ByteArray := prog_16_method_81_code
def yX9_sizeOfOak : MethodName := ⟨RX9, "sizeOfOak", "(I)I"⟩
def dkwX9_sizeOfOak_1 : List UInt8 := [104, 172, 42, 27, 182, 1, 1, 172]
abbrev dktX9_sizeOfOak_1 : List UInt8 := dkwX9_sizeOfOak_1 ++ []
def dkwX9_sizeOfOak_0 : List UInt8 := [42, 180, 0, 19, 8, 27, 96, 46, 8, 160, 0, 17, 42, 16, 14, 182, 0, 251, 5, 42, 27, 182, 1, 1]
abbrev dktX9_sizeOfOak_0 : List UInt8 := dkwX9_sizeOfOak_0 ++ dktX9_sizeOfOak_1
theorem dksX9_sizeOfOak_0 : cX9_sizeOfOak.data.toList.drop 0 = dktX9_sizeOfOak_0 := by decide +kernel
theorem dksX9_sizeOfOak_1 : cX9_sizeOfOak.data.toList.drop 24 = dktX9_sizeOfOak_1 := dk_seg dksX9_sizeOfOak_0 24 rfl rfl
theorem dX9_sizeOfOak_0 : decode cX9_sizeOfOak 0 = .ok (.aload_n 0, 1) := dk_42 (dk_at dksX9_sizeOfOak_0 0 rfl rfl)
theorem dX9_sizeOfOak_1 : decode cX9_sizeOfOak 1 = .ok (.getfield 19, 3) := dk_180 0 19 (dk_at dksX9_sizeOfOak_0 1 rfl rfl)
theorem dX9_sizeOfOak_4 : decode cX9_sizeOfOak 4 = .ok (.iconst 5, 1) := dk_8 (dk_at dksX9_sizeOfOak_0 4 rfl rfl)
theorem dX9_sizeOfOak_5 : decode cX9_sizeOfOak 5 = .ok (.iload_n 1, 1) := dk_27 (dk_at dksX9_sizeOfOak_0 5 rfl rfl)
theorem dX9_sizeOfOak_6 : decode cX9_sizeOfOak 6 = .ok (.iadd, 1) := dk_96 (dk_at dksX9_sizeOfOak_0 6 rfl rfl)
theorem dX9_sizeOfOak_7 : decode cX9_sizeOfOak 7 = .ok (.iaload, 1) := dk_46 (dk_at dksX9_sizeOfOak_0 7 rfl rfl)
theorem dX9_sizeOfOak_8 : decode cX9_sizeOfOak 8 = .ok (.iconst 5, 1) := dk_8 (dk_at dksX9_sizeOfOak_0 8 rfl rfl)
theorem dX9_sizeOfOak_9 : decode cX9_sizeOfOak 9 = .ok (.if_icmp .ne 17, 3) := dk_160 0 17 (dk_at dksX9_sizeOfOak_0 9 rfl rfl)
theorem dX9_sizeOfOak_12 : decode cX9_sizeOfOak 12 = .ok (.aload_n 0, 1) := dk_42 (dk_at dksX9_sizeOfOak_0 12 rfl rfl)
theorem dX9_sizeOfOak_13 : decode cX9_sizeOfOak 13 = .ok (.bipush 14, 2) := dk_16 14 (dk_at dksX9_sizeOfOak_0 13 rfl rfl)
theorem dX9_sizeOfOak_15 : decode cX9_sizeOfOak 15 = .ok (.invokevirtual 251, 3) := dk_182 0 251 (dk_at dksX9_sizeOfOak_0 15 rfl rfl)
theorem dX9_sizeOfOak_18 : decode cX9_sizeOfOak 18 = .ok (.iconst 2, 1) := dk_5 (dk_at dksX9_sizeOfOak_0 18 rfl rfl)
theorem dX9_sizeOfOak_19 : decode cX9_sizeOfOak 19 = .ok (.aload_n 0, 1) := dk_42 (dk_at dksX9_sizeOfOak_0 19 rfl rfl)
theorem dX9_sizeOfOak_20 : decode cX9_sizeOfOak 20 = .ok (.iload_n 1, 1) := dk_27 (dk_at dksX9_sizeOfOak_0 20 rfl rfl)
theorem dX9_sizeOfOak_21 : decode cX9_sizeOfOak 21 = .ok (.invokevirtual 257, 3) := dk_182 1 1 (dk_at dksX9_sizeOfOak_0 21 rfl rfl)
theorem dX9_sizeOfOak_24 : decode cX9_sizeOfOak 24 = .ok (.imul, 1) := dk_104 (dk_at dksX9_sizeOfOak_1 0 rfl rfl)
theorem dX9_sizeOfOak_25 : decode cX9_sizeOfOak 25 = .ok (.ireturn, 1) := dk_172 (dk_at dksX9_sizeOfOak_1 1 rfl rfl)
theorem dX9_sizeOfOak_26 : decode cX9_sizeOfOak 26 = .ok (.aload_n 0, 1) := dk_42 (dk_at dksX9_sizeOfOak_1 2 rfl rfl)
theorem dX9_sizeOfOak_27 : decode cX9_sizeOfOak 27 = .ok (.iload_n 1, 1) := dk_27 (dk_at dksX9_sizeOfOak_1 3 rfl rfl)
theorem dX9_sizeOfOak_28 : decode cX9_sizeOfOak 28 = .ok (.invokevirtual 257, 3) := dk_182 1 1 (dk_at dksX9_sizeOfOak_1 4 rfl rfl)
theorem dX9_sizeOfOak_31 : decode cX9_sizeOfOak 31 = .ok (.ireturn, 1) := dk_172 (dk_at dksX9_sizeOfOak_1 7 rfl rfl)
abbrev cX9_oakSize : ByteArray := prog_16_method_80_code
def yX9_oakSize : MethodName := ⟨RX9, "oakSize", "(I)I"⟩
def dkwX9_oakSize_0 : List UInt8 := [42, 16, 13, 182, 0, 251, 42, 27, 16, 10, 182, 0, 254, 16, 100, 100, 172]
abbrev dktX9_oakSize_0 : List UInt8 := dkwX9_oakSize_0 ++ []
theorem dksX9_oakSize_0 : cX9_oakSize.data.toList.drop 0 = dktX9_oakSize_0 := by decide +kernel
theorem dX9_oakSize_0 : decode cX9_oakSize 0 = .ok (.aload_n 0, 1) := dk_42 (dk_at dksX9_oakSize_0 0 rfl rfl)
theorem dX9_oakSize_1 : decode cX9_oakSize 1 = .ok (.bipush 13, 2) := dk_16 13 (dk_at dksX9_oakSize_0 1 rfl rfl)
theorem dX9_oakSize_3 : decode cX9_oakSize 3 = .ok (.invokevirtual 251, 3) := dk_182 0 251 (dk_at dksX9_oakSize_0 3 rfl rfl)
theorem dX9_oakSize_6 : decode cX9_oakSize 6 = .ok (.aload_n 0, 1) := dk_42 (dk_at dksX9_oakSize_0 6 rfl rfl)
theorem dX9_oakSize_7 : decode cX9_oakSize 7 = .ok (.iload_n 1, 1) := dk_27 (dk_at dksX9_oakSize_0 7 rfl rfl)
theorem dX9_oakSize_8 : decode cX9_oakSize 8 = .ok (.bipush 10, 2) := dk_16 10 (dk_at dksX9_oakSize_0 8 rfl rfl)
theorem dX9_oakSize_10 : decode cX9_oakSize 10 = .ok (.invokevirtual 254, 3) := dk_182 0 254 (dk_at dksX9_oakSize_0 10 rfl rfl)
theorem dX9_oakSize_13 : decode cX9_oakSize 13 = .ok (.bipush 100, 2) := dk_16 100 (dk_at dksX9_oakSize_0 13 rfl rfl)
theorem dX9_oakSize_15 : decode cX9_oakSize 15 = .ok (.isub, 1) := dk_100 (dk_at dksX9_oakSize_0 15 rfl rfl)
theorem dX9_oakSize_16 : decode cX9_oakSize 16 = .ok (.ireturn, 1) := dk_172 (dk_at dksX9_oakSize_0 16 rfl rfl)
abbrev cX9_trace : ByteArray := prog_16_method_86_code
def yX9_trace : MethodName := ⟨RX9, "trace", "(I)I"⟩
def dkwX9_trace_1 : List UInt8 := [167, 0, 5, 18, 149, 172]
abbrev dktX9_trace_1 : List UInt8 := dkwX9_trace_1 ++ []
def dkwX9_trace_0 : List UInt8 := [27, 133, 9, 42, 180, 0, 248, 4, 100, 133, 184, 0, 57, 153, 0, 12, 42, 180, 0, 47, 27, 46]
abbrev dktX9_trace_0 : List UInt8 := dkwX9_trace_0 ++ dktX9_trace_1
theorem dksX9_trace_0 : cX9_trace.data.toList.drop 0 = dktX9_trace_0 := by decide +kernel
theorem dksX9_trace_1 : cX9_trace.data.toList.drop 22 = dktX9_trace_1 := dk_seg dksX9_trace_0 22 rfl rfl
theorem dX9_trace_0 : decode cX9_trace 0 = .ok (.iload_n 1, 1) := dk_27 (dk_at dksX9_trace_0 0 rfl rfl)
theorem dX9_trace_1 : decode cX9_trace 1 = .ok (.i2l, 1) := dk_133 (dk_at dksX9_trace_0 1 rfl rfl)
theorem dX9_trace_2 : decode cX9_trace 2 = .ok (.lconst 0, 1) := dk_9 (dk_at dksX9_trace_0 2 rfl rfl)
theorem dX9_trace_3 : decode cX9_trace 3 = .ok (.aload_n 0, 1) := dk_42 (dk_at dksX9_trace_0 3 rfl rfl)
theorem dX9_trace_4 : decode cX9_trace 4 = .ok (.getfield 248, 3) := dk_180 0 248 (dk_at dksX9_trace_0 4 rfl rfl)
theorem dX9_trace_7 : decode cX9_trace 7 = .ok (.iconst 1, 1) := dk_4 (dk_at dksX9_trace_0 7 rfl rfl)
theorem dX9_trace_8 : decode cX9_trace 8 = .ok (.isub, 1) := dk_100 (dk_at dksX9_trace_0 8 rfl rfl)
theorem dX9_trace_9 : decode cX9_trace 9 = .ok (.i2l, 1) := dk_133 (dk_at dksX9_trace_0 9 rfl rfl)
theorem dX9_trace_10 : decode cX9_trace 10 = .ok (.invokestatic 57, 3) := dk_184 0 57 (dk_at dksX9_trace_0 10 rfl rfl)
theorem dX9_trace_13 : decode cX9_trace 13 = .ok (.ifCond .eq 12, 3) := dk_153 0 12 (dk_at dksX9_trace_0 13 rfl rfl)
theorem dX9_trace_16 : decode cX9_trace 16 = .ok (.aload_n 0, 1) := dk_42 (dk_at dksX9_trace_0 16 rfl rfl)
theorem dX9_trace_17 : decode cX9_trace 17 = .ok (.getfield 47, 3) := dk_180 0 47 (dk_at dksX9_trace_0 17 rfl rfl)
theorem dX9_trace_20 : decode cX9_trace 20 = .ok (.iload_n 1, 1) := dk_27 (dk_at dksX9_trace_0 20 rfl rfl)
theorem dX9_trace_21 : decode cX9_trace 21 = .ok (.iaload, 1) := dk_46 (dk_at dksX9_trace_0 21 rfl rfl)
theorem dX9_trace_22 : decode cX9_trace 22 = .ok (.goto 5, 3) := dk_167 0 5 (dk_at dksX9_trace_1 0 rfl rfl)
theorem dX9_trace_25 : decode cX9_trace 25 = .ok (.ldc 149, 2) := dk_18 149 (dk_at dksX9_trace_1 3 rfl rfl)
theorem dX9_trace_27 : decode cX9_trace 27 = .ok (.ireturn, 1) := dk_172 (dk_at dksX9_trace_1 5 rfl rfl)
abbrev cX9_count : ByteArray := prog_16_method_87_code
def yX9_count : MethodName := ⟨RX9, "count", "(I)I"⟩
def dkwX9_count_5 : List UInt8 := [18, 67, 172]
abbrev dktX9_count_5 : List UInt8 := dkwX9_count_5 ++ []
def dkwX9_count_4 : List UInt8 := [16, 11, 182, 0, 209, 172, 42, 16, 35, 182, 0, 209, 172, 42, 180, 0, 139, 172, 42, 180, 0, 81, 172]
abbrev dktX9_count_4 : List UInt8 := dkwX9_count_4 ++ dktX9_count_5
def dkwX9_count_3 : List UInt8 := [28, 172, 42, 180, 0, 19, 5, 46, 172, 42, 180, 0, 19, 6, 46, 172, 42, 180, 0, 19, 7, 46, 172, 42]
abbrev dktX9_count_3 : List UInt8 := dkwX9_count_3 ++ dktX9_count_4
def dkwX9_count_2 : List UInt8 := [170, 0, 0, 0, 0, 93, 0, 0, 0, 0, 0, 0, 0, 7, 0, 0, 0, 46, 0, 0, 0, 48, 0, 0, 0, 55, 0, 0, 0, 62, 0, 0, 0, 69, 0, 0, 0, 76, 0, 0, 0, 83, 0, 0, 0, 88]
abbrev dktX9_count_2 : List UInt8 := dkwX9_count_2 ++ dktX9_count_3
def dkwX9_count_1 : List UInt8 := [3, 96, 61, 132, 3, 1, 167, 255, 230, 27]
abbrev dktX9_count_1 : List UInt8 := dkwX9_count_1 ++ dktX9_count_2
def dkwX9_count_0 : List UInt8 := [3, 61, 3, 62, 29, 16, 8, 162, 0, 26, 28, 42, 180, 0, 13, 29, 46, 155, 0, 7, 4, 167, 0, 4]
abbrev dktX9_count_0 : List UInt8 := dkwX9_count_0 ++ dktX9_count_1
theorem dksX9_count_0 : cX9_count.data.toList.drop 0 = dktX9_count_0 := by decide +kernel
theorem dksX9_count_1 : cX9_count.data.toList.drop 24 = dktX9_count_1 := dk_seg dksX9_count_0 24 rfl rfl
theorem dksX9_count_2 : cX9_count.data.toList.drop 34 = dktX9_count_2 := dk_seg dksX9_count_1 10 rfl rfl
theorem dksX9_count_3 : cX9_count.data.toList.drop 80 = dktX9_count_3 := dk_seg dksX9_count_2 46 rfl rfl
theorem dksX9_count_4 : cX9_count.data.toList.drop 104 = dktX9_count_4 := dk_seg dksX9_count_3 24 rfl rfl
theorem dksX9_count_5 : cX9_count.data.toList.drop 127 = dktX9_count_5 := dk_seg dksX9_count_4 23 rfl rfl
theorem dX9_count_0 : decode cX9_count 0 = .ok (.iconst 0, 1) := dk_3 (dk_at dksX9_count_0 0 rfl rfl)
theorem dX9_count_1 : decode cX9_count 1 = .ok (.istore_n 2, 1) := dk_61 (dk_at dksX9_count_0 1 rfl rfl)
theorem dX9_count_2 : decode cX9_count 2 = .ok (.iconst 0, 1) := dk_3 (dk_at dksX9_count_0 2 rfl rfl)
theorem dX9_count_3 : decode cX9_count 3 = .ok (.istore_n 3, 1) := dk_62 (dk_at dksX9_count_0 3 rfl rfl)
theorem dX9_count_4 : decode cX9_count 4 = .ok (.iload_n 3, 1) := dk_29 (dk_at dksX9_count_0 4 rfl rfl)
theorem dX9_count_5 : decode cX9_count 5 = .ok (.bipush 8, 2) := dk_16 8 (dk_at dksX9_count_0 5 rfl rfl)
theorem dX9_count_7 : decode cX9_count 7 = .ok (.if_icmp .ge 26, 3) := dk_162 0 26 (dk_at dksX9_count_0 7 rfl rfl)
theorem dX9_count_10 : decode cX9_count 10 = .ok (.iload_n 2, 1) := dk_28 (dk_at dksX9_count_0 10 rfl rfl)
theorem dX9_count_11 : decode cX9_count 11 = .ok (.aload_n 0, 1) := dk_42 (dk_at dksX9_count_0 11 rfl rfl)
theorem dX9_count_12 : decode cX9_count 12 = .ok (.getfield 13, 3) := dk_180 0 13 (dk_at dksX9_count_0 12 rfl rfl)
theorem dX9_count_15 : decode cX9_count 15 = .ok (.iload_n 3, 1) := dk_29 (dk_at dksX9_count_0 15 rfl rfl)
theorem dX9_count_16 : decode cX9_count 16 = .ok (.iaload, 1) := dk_46 (dk_at dksX9_count_0 16 rfl rfl)
theorem dX9_count_17 : decode cX9_count 17 = .ok (.ifCond .lt 7, 3) := dk_155 0 7 (dk_at dksX9_count_0 17 rfl rfl)
theorem dX9_count_20 : decode cX9_count 20 = .ok (.iconst 1, 1) := dk_4 (dk_at dksX9_count_0 20 rfl rfl)
theorem dX9_count_21 : decode cX9_count 21 = .ok (.goto 4, 3) := dk_167 0 4 (dk_at dksX9_count_0 21 rfl rfl)
theorem dX9_count_24 : decode cX9_count 24 = .ok (.iconst 0, 1) := dk_3 (dk_at dksX9_count_1 0 rfl rfl)
theorem dX9_count_25 : decode cX9_count 25 = .ok (.iadd, 1) := dk_96 (dk_at dksX9_count_1 1 rfl rfl)
theorem dX9_count_26 : decode cX9_count 26 = .ok (.istore_n 2, 1) := dk_61 (dk_at dksX9_count_1 2 rfl rfl)
theorem dX9_count_27 : decode cX9_count 27 = .ok (.iinc 3 1, 3) := dk_132 3 1 (dk_at dksX9_count_1 3 rfl rfl)
theorem dX9_count_30 : decode cX9_count 30 = .ok (.goto (-26), 3) := dk_167 255 230 (dk_at dksX9_count_1 6 rfl rfl)
theorem dX9_count_33 : decode cX9_count 33 = .ok (.iload_n 1, 1) := dk_27 (dk_at dksX9_count_1 9 rfl rfl)
theorem dX9_count_34 : decode cX9_count 34 = .ok (.tableswitch 93 0 7 #[46, 48, 55, 62, 69, 76, 83, 88], 46) := by decide +kernel
theorem dX9_count_80 : decode cX9_count 80 = .ok (.iload_n 2, 1) := dk_28 (dk_at dksX9_count_3 0 rfl rfl)
theorem dX9_count_81 : decode cX9_count 81 = .ok (.ireturn, 1) := dk_172 (dk_at dksX9_count_3 1 rfl rfl)
theorem dX9_count_82 : decode cX9_count 82 = .ok (.aload_n 0, 1) := dk_42 (dk_at dksX9_count_3 2 rfl rfl)
theorem dX9_count_83 : decode cX9_count 83 = .ok (.getfield 19, 3) := dk_180 0 19 (dk_at dksX9_count_3 3 rfl rfl)
theorem dX9_count_86 : decode cX9_count 86 = .ok (.iconst 2, 1) := dk_5 (dk_at dksX9_count_3 6 rfl rfl)
theorem dX9_count_87 : decode cX9_count 87 = .ok (.iaload, 1) := dk_46 (dk_at dksX9_count_3 7 rfl rfl)
theorem dX9_count_88 : decode cX9_count 88 = .ok (.ireturn, 1) := dk_172 (dk_at dksX9_count_3 8 rfl rfl)
theorem dX9_count_89 : decode cX9_count 89 = .ok (.aload_n 0, 1) := dk_42 (dk_at dksX9_count_3 9 rfl rfl)
theorem dX9_count_90 : decode cX9_count 90 = .ok (.getfield 19, 3) := dk_180 0 19 (dk_at dksX9_count_3 10 rfl rfl)
theorem dX9_count_93 : decode cX9_count 93 = .ok (.iconst 3, 1) := dk_6 (dk_at dksX9_count_3 13 rfl rfl)
theorem dX9_count_94 : decode cX9_count 94 = .ok (.iaload, 1) := dk_46 (dk_at dksX9_count_3 14 rfl rfl)
theorem dX9_count_95 : decode cX9_count 95 = .ok (.ireturn, 1) := dk_172 (dk_at dksX9_count_3 15 rfl rfl)
theorem dX9_count_96 : decode cX9_count 96 = .ok (.aload_n 0, 1) := dk_42 (dk_at dksX9_count_3 16 rfl rfl)
theorem dX9_count_97 : decode cX9_count 97 = .ok (.getfield 19, 3) := dk_180 0 19 (dk_at dksX9_count_3 17 rfl rfl)
theorem dX9_count_100 : decode cX9_count 100 = .ok (.iconst 4, 1) := dk_7 (dk_at dksX9_count_3 20 rfl rfl)
theorem dX9_count_101 : decode cX9_count 101 = .ok (.iaload, 1) := dk_46 (dk_at dksX9_count_3 21 rfl rfl)
theorem dX9_count_102 : decode cX9_count 102 = .ok (.ireturn, 1) := dk_172 (dk_at dksX9_count_3 22 rfl rfl)
theorem dX9_count_103 : decode cX9_count 103 = .ok (.aload_n 0, 1) := dk_42 (dk_at dksX9_count_3 23 rfl rfl)
theorem dX9_count_104 : decode cX9_count 104 = .ok (.bipush 11, 2) := dk_16 11 (dk_at dksX9_count_4 0 rfl rfl)
theorem dX9_count_106 : decode cX9_count 106 = .ok (.invokevirtual 209, 3) := dk_182 0 209 (dk_at dksX9_count_4 2 rfl rfl)
theorem dX9_count_109 : decode cX9_count 109 = .ok (.ireturn, 1) := dk_172 (dk_at dksX9_count_4 5 rfl rfl)
theorem dX9_count_110 : decode cX9_count 110 = .ok (.aload_n 0, 1) := dk_42 (dk_at dksX9_count_4 6 rfl rfl)
theorem dX9_count_111 : decode cX9_count 111 = .ok (.bipush 35, 2) := dk_16 35 (dk_at dksX9_count_4 7 rfl rfl)
theorem dX9_count_113 : decode cX9_count 113 = .ok (.invokevirtual 209, 3) := dk_182 0 209 (dk_at dksX9_count_4 9 rfl rfl)
theorem dX9_count_116 : decode cX9_count 116 = .ok (.ireturn, 1) := dk_172 (dk_at dksX9_count_4 12 rfl rfl)
theorem dX9_count_117 : decode cX9_count 117 = .ok (.aload_n 0, 1) := dk_42 (dk_at dksX9_count_4 13 rfl rfl)
theorem dX9_count_118 : decode cX9_count 118 = .ok (.getfield 139, 3) := dk_180 0 139 (dk_at dksX9_count_4 14 rfl rfl)
theorem dX9_count_121 : decode cX9_count 121 = .ok (.ireturn, 1) := dk_172 (dk_at dksX9_count_4 17 rfl rfl)
theorem dX9_count_122 : decode cX9_count 122 = .ok (.aload_n 0, 1) := dk_42 (dk_at dksX9_count_4 18 rfl rfl)
theorem dX9_count_123 : decode cX9_count 123 = .ok (.getfield 81, 3) := dk_180 0 81 (dk_at dksX9_count_4 19 rfl rfl)
theorem dX9_count_126 : decode cX9_count 126 = .ok (.ireturn, 1) := dk_172 (dk_at dksX9_count_4 22 rfl rfl)
theorem dX9_count_127 : decode cX9_count 127 = .ok (.ldc 67, 2) := dk_18 67 (dk_at dksX9_count_5 0 rfl rfl)
theorem dX9_count_129 : decode cX9_count 129 = .ok (.ireturn, 1) := dk_172 (dk_at dksX9_count_5 2 rfl rfl)
abbrev cX9_status : ByteArray := prog_16_method_88_code
def yX9_status : MethodName := ⟨RX9, "status", "()I"⟩
theorem dX9_status_0 : decode cX9_status 0 = .ok (.aload_n 0, 1) := by decide +kernel
theorem dX9_status_1 : decode cX9_status 1 = .ok (.getfield 50, 3) := by decide +kernel
theorem dX9_status_4 : decode cX9_status 4 = .ok (.ireturn, 1) := by decide +kernel
theorem q80 : (Jvm.Cond.initialized "ChairRanksModel") ∈ lw_all := lw_g (lw_at lw_m1 13 rfl) rfl
theorem q701 : (Jvm.Cond.selects "ChairRanksModel" ({ cls := "java/lang/Object", name := "getClass", desc := "()Ljava/lang/Class;" } : Jvm.MethodName) ({ cls := "java/lang/Object", name := "getClass", desc := "()Ljava/lang/Class;" } : Jvm.MethodName)) ∈ lw_all := lw_g (lw_at lw_m3 154 rfl) rfl
theorem q1225 : (Jvm.Cond.instantiable "ChairRanksModel" (25 : Nat)) ∈ lw_all := lw_g (lw_at lw_m5 198 rfl) rfl
theorem q1227 : (Jvm.Cond.instanceMethod ({ cls := "ChairRanksModel", name := "<init>", desc := "()V" } : Jvm.MethodName)) ∈ lw_all := lw_g (lw_at lw_m5 200 rfl) rfl
theorem q1228 : (Jvm.Cond.code ({ cls := "ChairRanksModel", name := "<init>", desc := "()V" } : Jvm.MethodName) prog_16_method_1_code (2 : Nat) (Option.none : Option Jvm.ClassFile.FieldType)) ∈ lw_all := lw_g (lw_at lw_m5 201 rfl) rfl
theorem q1229 : (Jvm.Cond.methodLink "ChairRanksModel" (1 : Nat) ({ cls := "java/lang/Object", name := "<init>", desc := "()V" } : Jvm.MethodName)) ∈ lw_all := lw_g (lw_at lw_m5 202 rfl) rfl
theorem q1230 : (Jvm.Cond.fieldLink "ChairRanksModel" (7 : Nat) "ChairRanksModel" "lanes" "[I") ∈ lw_all := lw_g (lw_at lw_m5 203 rfl) rfl
theorem q1231 : (Jvm.Cond.fieldLink "ChairRanksModel" (13 : Nat) "ChairRanksModel" "sizes" "[I") ∈ lw_all := lw_g (lw_at lw_m5 204 rfl) rfl
theorem q1232 : (Jvm.Cond.fieldLink "ChairRanksModel" (16 : Nat) "ChairRanksModel" "items" "[I") ∈ lw_all := lw_g (lw_at lw_m5 205 rfl) rfl
theorem q1233 : (Jvm.Cond.fieldLink "ChairRanksModel" (50 : Nat) "ChairRanksModel" "status" "I") ∈ lw_all := lw_g (lw_at lw_m5 206 rfl) rfl
theorem q1234 : (Jvm.Cond.fieldLink "ChairRanksModel" (135 : Nat) "ChairRanksModel" "isThere" "Z") ∈ lw_all := lw_g (lw_at lw_m5 207 rfl) rfl
theorem q1235 : (Jvm.Cond.fieldLink "ChairRanksModel" (19 : Nat) "ChairRanksModel" "st" "[I") ∈ lw_all := lw_g (lw_at lw_m5 208 rfl) rfl
theorem q1236 : (Jvm.Cond.fieldLink "ChairRanksModel" (22 : Nat) "ChairRanksModel" "moved" "[I") ∈ lw_all := lw_g (lw_at lw_m5 209 rfl) rfl
theorem q1237 : (Jvm.Cond.fieldLink "ChairRanksModel" (25 : Nat) "ChairRanksModel" "tape" "[I") ∈ lw_all := lw_g (lw_at lw_m5 210 rfl) rfl
theorem q1238 : (Jvm.Cond.fieldLink "ChairRanksModel" (81 : Nat) "ChairRanksModel" "bytes" "I") ∈ lw_all := lw_g (lw_at lw_m5 211 rfl) rfl
theorem q1239 : (Jvm.Cond.fieldLink "ChairRanksModel" (131 : Nat) "ChairRanksModel" "latest" "I") ∈ lw_all := lw_g (lw_at lw_m5 212 rfl) rfl
theorem q1240 : (Jvm.Cond.fieldLink "ChairRanksModel" (85 : Nat) "ChairRanksModel" "place" "I") ∈ lw_all := lw_g (lw_at lw_m5 213 rfl) rfl
theorem q1241 : (Jvm.Cond.fieldLink "ChairRanksModel" (91 : Nat) "ChairRanksModel" "token" "I") ∈ lw_all := lw_g (lw_at lw_m5 214 rfl) rfl
theorem q1242 : (Jvm.Cond.fieldLink "ChairRanksModel" (94 : Nat) "ChairRanksModel" "value" "I") ∈ lw_all := lw_g (lw_at lw_m5 215 rfl) rfl
theorem q1243 : (Jvm.Cond.fieldLink "ChairRanksModel" (88 : Nat) "ChairRanksModel" "begins" "I") ∈ lw_all := lw_g (lw_at lw_m5 216 rfl) rfl
theorem q1244 : (Jvm.Cond.fieldLink "ChairRanksModel" (105 : Nat) "ChairRanksModel" "wrong" "I") ∈ lw_all := lw_g (lw_at lw_m5 217 rfl) rfl
theorem q1245 : (Jvm.Cond.fieldLink "ChairRanksModel" (28 : Nat) "ChairRanksModel" "read" "[I") ∈ lw_all := lw_g (lw_at lw_m5 218 rfl) rfl
theorem q1246 : (Jvm.Cond.fieldLink "ChairRanksModel" (31 : Nat) "ChairRanksModel" "off" "[I") ∈ lw_all := lw_g (lw_at lw_m5 219 rfl) rfl
theorem q1247 : (Jvm.Cond.fieldLink "ChairRanksModel" (156 : Nat) "ChairRanksModel" "caughtNow" "I") ∈ lw_all := lw_g (lw_at lw_m5 220 rfl) rfl
theorem q1248 : (Jvm.Cond.fieldLink "ChairRanksModel" (34 : Nat) "ChairRanksModel" "acts" "[I") ∈ lw_all := lw_g (lw_at lw_m5 221 rfl) rfl
theorem q1249 : (Jvm.Cond.fieldLink "ChairRanksModel" (139 : Nat) "ChairRanksModel" "actMany" "I") ∈ lw_all := lw_g (lw_at lw_m5 222 rfl) rfl
theorem q1250 : (Jvm.Cond.fieldLink "ChairRanksModel" (37 : Nat) "ChairRanksModel" "aside" "[I") ∈ lw_all := lw_g (lw_at lw_m5 223 rfl) rfl
theorem q1251 : (Jvm.Cond.fieldLink "ChairRanksModel" (40 : Nat) "ChairRanksModel" "isKept" "[Z") ∈ lw_all := lw_g (lw_at lw_m5 224 rfl) rfl
theorem q1252 : (Jvm.Cond.fieldLink "ChairRanksModel" (44 : Nat) "ChairRanksModel" "kept" "[I") ∈ lw_all := lw_g (lw_at lw_m5 225 rfl) rfl
theorem q1253 : (Jvm.Cond.fieldLink "ChairRanksModel" (47 : Nat) "ChairRanksModel" "trace" "[I") ∈ lw_all := lw_g (lw_at lw_m5 226 rfl) rfl
theorem q1254 : (Jvm.Cond.fieldLink "ChairRanksModel" (248 : Nat) "ChairRanksModel" "traced" "I") ∈ lw_all := lw_g (lw_at lw_m5 227 rfl) rfl
theorem q1255 : (Jvm.Cond.laysFinal "ChairRanksModel" "ChairRanksModel" "lanes" "[I") ∈ lw_all := lw_g (lw_at lw_m5 228 rfl) rfl
theorem q1256 : (Jvm.Cond.soleField "ChairRanksModel" "lanes") ∈ lw_all := lw_g (lw_at lw_m5 229 rfl) rfl
theorem q1257 : (Jvm.Cond.laysFinal "ChairRanksModel" "ChairRanksModel" "sizes" "[I") ∈ lw_all := lw_g (lw_at lw_m5 230 rfl) rfl
theorem q1258 : (Jvm.Cond.soleField "ChairRanksModel" "sizes") ∈ lw_all := lw_g (lw_at lw_m5 231 rfl) rfl
theorem q1259 : (Jvm.Cond.laysFinal "ChairRanksModel" "ChairRanksModel" "items" "[I") ∈ lw_all := lw_g (lw_at lw_m5 232 rfl) rfl
theorem q1260 : (Jvm.Cond.soleField "ChairRanksModel" "items") ∈ lw_all := lw_g (lw_at lw_m5 233 rfl) rfl
theorem q1261 : (Jvm.Cond.lays "ChairRanksModel" "ChairRanksModel" "status" "I") ∈ lw_all := lw_g (lw_at lw_m5 234 rfl) rfl
theorem q1262 : (Jvm.Cond.soleField "ChairRanksModel" "status") ∈ lw_all := lw_g (lw_at lw_m5 235 rfl) rfl
theorem q1263 : (Jvm.Cond.lays "ChairRanksModel" "ChairRanksModel" "isThere" "Z") ∈ lw_all := lw_g (lw_at lw_m5 236 rfl) rfl
theorem q1264 : (Jvm.Cond.soleField "ChairRanksModel" "isThere") ∈ lw_all := lw_g (lw_at lw_m5 237 rfl) rfl
theorem q1265 : (Jvm.Cond.laysFinal "ChairRanksModel" "ChairRanksModel" "st" "[I") ∈ lw_all := lw_g (lw_at lw_m5 238 rfl) rfl
theorem q1266 : (Jvm.Cond.soleField "ChairRanksModel" "st") ∈ lw_all := lw_g (lw_at lw_m5 239 rfl) rfl
theorem q1267 : (Jvm.Cond.laysFinal "ChairRanksModel" "ChairRanksModel" "moved" "[I") ∈ lw_all := lw_g (lw_at lw_m6 0 rfl) rfl
theorem q1268 : (Jvm.Cond.soleField "ChairRanksModel" "moved") ∈ lw_all := lw_g (lw_at lw_m6 1 rfl) rfl
theorem q1269 : (Jvm.Cond.laysFinal "ChairRanksModel" "ChairRanksModel" "tape" "[I") ∈ lw_all := lw_g (lw_at lw_m6 2 rfl) rfl
theorem q1270 : (Jvm.Cond.soleField "ChairRanksModel" "tape") ∈ lw_all := lw_g (lw_at lw_m6 3 rfl) rfl
theorem q1271 : (Jvm.Cond.lays "ChairRanksModel" "ChairRanksModel" "bytes" "I") ∈ lw_all := lw_g (lw_at lw_m6 4 rfl) rfl
theorem q1272 : (Jvm.Cond.soleField "ChairRanksModel" "bytes") ∈ lw_all := lw_g (lw_at lw_m6 5 rfl) rfl
theorem q1273 : (Jvm.Cond.lays "ChairRanksModel" "ChairRanksModel" "latest" "I") ∈ lw_all := lw_g (lw_at lw_m6 6 rfl) rfl
theorem q1274 : (Jvm.Cond.soleField "ChairRanksModel" "latest") ∈ lw_all := lw_g (lw_at lw_m6 7 rfl) rfl
theorem q1275 : (Jvm.Cond.lays "ChairRanksModel" "ChairRanksModel" "place" "I") ∈ lw_all := lw_g (lw_at lw_m6 8 rfl) rfl
theorem q1276 : (Jvm.Cond.soleField "ChairRanksModel" "place") ∈ lw_all := lw_g (lw_at lw_m6 9 rfl) rfl
theorem q1277 : (Jvm.Cond.lays "ChairRanksModel" "ChairRanksModel" "token" "I") ∈ lw_all := lw_g (lw_at lw_m6 10 rfl) rfl
theorem q1278 : (Jvm.Cond.soleField "ChairRanksModel" "token") ∈ lw_all := lw_g (lw_at lw_m6 11 rfl) rfl
theorem q1279 : (Jvm.Cond.lays "ChairRanksModel" "ChairRanksModel" "value" "I") ∈ lw_all := lw_g (lw_at lw_m6 12 rfl) rfl
theorem q1280 : (Jvm.Cond.soleField "ChairRanksModel" "value") ∈ lw_all := lw_g (lw_at lw_m6 13 rfl) rfl
theorem q1281 : (Jvm.Cond.lays "ChairRanksModel" "ChairRanksModel" "begins" "I") ∈ lw_all := lw_g (lw_at lw_m6 14 rfl) rfl
theorem q1282 : (Jvm.Cond.soleField "ChairRanksModel" "begins") ∈ lw_all := lw_g (lw_at lw_m6 15 rfl) rfl
theorem q1283 : (Jvm.Cond.lays "ChairRanksModel" "ChairRanksModel" "wrong" "I") ∈ lw_all := lw_g (lw_at lw_m6 16 rfl) rfl
theorem q1284 : (Jvm.Cond.soleField "ChairRanksModel" "wrong") ∈ lw_all := lw_g (lw_at lw_m6 17 rfl) rfl
theorem q1285 : (Jvm.Cond.laysFinal "ChairRanksModel" "ChairRanksModel" "read" "[I") ∈ lw_all := lw_g (lw_at lw_m6 18 rfl) rfl
theorem q1286 : (Jvm.Cond.soleField "ChairRanksModel" "read") ∈ lw_all := lw_g (lw_at lw_m6 19 rfl) rfl
theorem q1287 : (Jvm.Cond.laysFinal "ChairRanksModel" "ChairRanksModel" "off" "[I") ∈ lw_all := lw_g (lw_at lw_m6 20 rfl) rfl
theorem q1288 : (Jvm.Cond.soleField "ChairRanksModel" "off") ∈ lw_all := lw_g (lw_at lw_m6 21 rfl) rfl
theorem q1289 : (Jvm.Cond.lays "ChairRanksModel" "ChairRanksModel" "caughtNow" "I") ∈ lw_all := lw_g (lw_at lw_m6 22 rfl) rfl
theorem q1290 : (Jvm.Cond.soleField "ChairRanksModel" "caughtNow") ∈ lw_all := lw_g (lw_at lw_m6 23 rfl) rfl
theorem q1291 : (Jvm.Cond.laysFinal "ChairRanksModel" "ChairRanksModel" "acts" "[I") ∈ lw_all := lw_g (lw_at lw_m6 24 rfl) rfl
theorem q1292 : (Jvm.Cond.soleField "ChairRanksModel" "acts") ∈ lw_all := lw_g (lw_at lw_m6 25 rfl) rfl
theorem q1293 : (Jvm.Cond.lays "ChairRanksModel" "ChairRanksModel" "actMany" "I") ∈ lw_all := lw_g (lw_at lw_m6 26 rfl) rfl
theorem q1294 : (Jvm.Cond.soleField "ChairRanksModel" "actMany") ∈ lw_all := lw_g (lw_at lw_m6 27 rfl) rfl
theorem q1295 : (Jvm.Cond.laysFinal "ChairRanksModel" "ChairRanksModel" "aside" "[I") ∈ lw_all := lw_g (lw_at lw_m6 28 rfl) rfl
theorem q1296 : (Jvm.Cond.soleField "ChairRanksModel" "aside") ∈ lw_all := lw_g (lw_at lw_m6 29 rfl) rfl
theorem q1297 : (Jvm.Cond.laysFinal "ChairRanksModel" "ChairRanksModel" "isKept" "[Z") ∈ lw_all := lw_g (lw_at lw_m6 30 rfl) rfl
theorem q1298 : (Jvm.Cond.soleField "ChairRanksModel" "isKept") ∈ lw_all := lw_g (lw_at lw_m6 31 rfl) rfl
theorem q1299 : (Jvm.Cond.laysFinal "ChairRanksModel" "ChairRanksModel" "kept" "[I") ∈ lw_all := lw_g (lw_at lw_m6 32 rfl) rfl
theorem q1300 : (Jvm.Cond.soleField "ChairRanksModel" "kept") ∈ lw_all := lw_g (lw_at lw_m6 33 rfl) rfl
theorem q1301 : (Jvm.Cond.laysFinal "ChairRanksModel" "ChairRanksModel" "trace" "[I") ∈ lw_all := lw_g (lw_at lw_m6 34 rfl) rfl
theorem q1302 : (Jvm.Cond.soleField "ChairRanksModel" "trace") ∈ lw_all := lw_g (lw_at lw_m6 35 rfl) rfl
theorem q1303 : (Jvm.Cond.lays "ChairRanksModel" "ChairRanksModel" "traced" "I") ∈ lw_all := lw_g (lw_at lw_m6 36 rfl) rfl
theorem q1304 : (Jvm.Cond.soleField "ChairRanksModel" "traced") ∈ lw_all := lw_g (lw_at lw_m6 37 rfl) rfl
theorem q1305 : (Jvm.Cond.superclass "ChairRanksModel" "java/lang/Object") ∈ lw_all := lw_g (lw_at lw_m6 38 rfl) rfl
theorem q1308 : (Jvm.Cond.instanceMethod ({ cls := "ChairRanksModel", name := "row", desc := "(III)I" } : Jvm.MethodName)) ∈ lw_all := lw_g (lw_at lw_m6 41 rfl) rfl
theorem q1309 : (Jvm.Cond.selects "ChairRanksModel" ({ cls := "ChairRanksModel", name := "row", desc := "(III)I" } : Jvm.MethodName) ({ cls := "ChairRanksModel", name := "row", desc := "(III)I" } : Jvm.MethodName)) ∈ lw_all := lw_g (lw_at lw_m6 42 rfl) rfl
theorem q1310 : (Jvm.Cond.code ({ cls := "ChairRanksModel", name := "row", desc := "(III)I" } : Jvm.MethodName) prog_16_method_8_code (5 : Nat) (Option.some Jvm.ClassFile.FieldType.int)) ∈ lw_all := lw_g (lw_at lw_m6 43 rfl) rfl
theorem q1311 : (Jvm.Cond.methodLink "ChairRanksModel" (61 : Nat) ({ cls := "ChairRanksModel", name := "isRow", desc := "(I)Z" } : Jvm.MethodName)) ∈ lw_all := lw_g (lw_at lw_m6 44 rfl) rfl
theorem q1312 : (Jvm.Cond.static ({ cls := "ChairRanksModel", name := "isRow", desc := "(I)Z" } : Jvm.MethodName)) ∈ lw_all := lw_g (lw_at lw_m6 45 rfl) rfl
theorem q1313 : (Jvm.Cond.code ({ cls := "ChairRanksModel", name := "isRow", desc := "(I)Z" } : Jvm.MethodName) prog_16_method_7_code (1 : Nat) (Option.some Jvm.ClassFile.FieldType.boolean)) ∈ lw_all := lw_g (lw_at lw_m6 46 rfl) rfl
theorem q1314 : (Jvm.Cond.constantLong "ChairRanksModel" (55 : Nat) (7 : Int64)) ∈ lw_all := lw_g (lw_at lw_m6 47 rfl) rfl
theorem q1315 : (Jvm.Cond.methodLink "ChairRanksModel" (57 : Nat) ({ cls := "ChairRanksModel", name := "in", desc := "(JJJ)Z" } : Jvm.MethodName)) ∈ lw_all := lw_g (lw_at lw_m6 48 rfl) rfl
theorem q1316 : (Jvm.Cond.static ({ cls := "ChairRanksModel", name := "in", desc := "(JJJ)Z" } : Jvm.MethodName)) ∈ lw_all := lw_g (lw_at lw_m6 49 rfl) rfl
theorem q1317 : (Jvm.Cond.code ({ cls := "ChairRanksModel", name := "in", desc := "(JJJ)Z" } : Jvm.MethodName) prog_16_method_2_code (6 : Nat) (Option.some Jvm.ClassFile.FieldType.boolean)) ∈ lw_all := lw_g (lw_at lw_m6 50 rfl) rfl
theorem q1318 : (Jvm.Cond.constantLong "ChairRanksModel" (65 : Nat) (2 : Int64)) ∈ lw_all := lw_g (lw_at lw_m6 51 rfl) rfl
theorem q1319 : (Jvm.Cond.constant "ChairRanksModel" (67 : Nat) (-1000001 : Int32)) ∈ lw_all := lw_g (lw_at lw_m6 52 rfl) rfl
theorem q1320 : (Jvm.Cond.methodLink "ChairRanksModel" (68 : Nat) ({ cls := "ChairRanksModel", name := "find", desc := "(I)I" } : Jvm.MethodName)) ∈ lw_all := lw_g (lw_at lw_m6 53 rfl) rfl
theorem q1321 : (Jvm.Cond.privateMethod ({ cls := "ChairRanksModel", name := "find", desc := "(I)I" } : Jvm.MethodName)) ∈ lw_tbl := lw_at lw_m6 54 rfl
theorem q1322 : (Jvm.Cond.instanceMethod ({ cls := "ChairRanksModel", name := "find", desc := "(I)I" } : Jvm.MethodName)) ∈ lw_all := lw_g (lw_at lw_m6 55 rfl) rfl
theorem q1323 : (Jvm.Cond.code ({ cls := "ChairRanksModel", name := "find", desc := "(I)I" } : Jvm.MethodName) prog_16_method_5_code (2 : Nat) (Option.some Jvm.ClassFile.FieldType.int)) ∈ lw_all := lw_g (lw_at lw_m6 56 rfl) rfl
theorem q1324 : (Jvm.Cond.constant "ChairRanksModel" (54 : Nat) (-1000010 : Int32)) ∈ lw_all := lw_g (lw_at lw_m6 57 rfl) rfl
theorem q1325 : (Jvm.Cond.methodLink "ChairRanksModel" (72 : Nat) ({ cls := "ChairRanksModel", name := "well", desc := "(I)I" } : Jvm.MethodName)) ∈ lw_all := lw_g (lw_at lw_m6 58 rfl) rfl
theorem q1326 : (Jvm.Cond.privateMethod ({ cls := "ChairRanksModel", name := "well", desc := "(I)I" } : Jvm.MethodName)) ∈ lw_tbl := lw_at lw_m6 59 rfl
theorem q1327 : (Jvm.Cond.instanceMethod ({ cls := "ChairRanksModel", name := "well", desc := "(I)I" } : Jvm.MethodName)) ∈ lw_all := lw_g (lw_at lw_m6 60 rfl) rfl
theorem q1328 : (Jvm.Cond.code ({ cls := "ChairRanksModel", name := "well", desc := "(I)I" } : Jvm.MethodName) prog_16_method_6_code (2 : Nat) (Option.some Jvm.ClassFile.FieldType.int)) ∈ lw_all := lw_g (lw_at lw_m6 61 rfl) rfl
theorem q1330 : (Jvm.Cond.instanceMethod ({ cls := "ChairRanksModel", name := "set", desc := "(III)I" } : Jvm.MethodName)) ∈ lw_all := lw_g (lw_at lw_m6 63 rfl) rfl
theorem q1331 : (Jvm.Cond.selects "ChairRanksModel" ({ cls := "ChairRanksModel", name := "set", desc := "(III)I" } : Jvm.MethodName) ({ cls := "ChairRanksModel", name := "set", desc := "(III)I" } : Jvm.MethodName)) ∈ lw_all := lw_g (lw_at lw_m6 64 rfl) rfl
theorem q1332 : (Jvm.Cond.code ({ cls := "ChairRanksModel", name := "set", desc := "(III)I" } : Jvm.MethodName) prog_16_method_10_code (4 : Nat) (Option.some Jvm.ClassFile.FieldType.int)) ∈ lw_all := lw_g (lw_at lw_m6 65 rfl) rfl
theorem q1333 : (Jvm.Cond.methodLink "ChairRanksModel" (75 : Nat) ({ cls := "ChairRanksModel", name := "asLane", desc := "(II)I" } : Jvm.MethodName)) ∈ lw_all := lw_g (lw_at lw_m6 66 rfl) rfl
theorem q1334 : (Jvm.Cond.static ({ cls := "ChairRanksModel", name := "asLane", desc := "(II)I" } : Jvm.MethodName)) ∈ lw_all := lw_g (lw_at lw_m6 67 rfl) rfl
theorem q1335 : (Jvm.Cond.code ({ cls := "ChairRanksModel", name := "asLane", desc := "(II)I" } : Jvm.MethodName) prog_16_method_9_code (2 : Nat) (Option.some Jvm.ClassFile.FieldType.int)) ∈ lw_all := lw_g (lw_at lw_m6 68 rfl) rfl
theorem q1337 : (Jvm.Cond.instanceMethod ({ cls := "ChairRanksModel", name := "copy", desc := "(IIIII)I" } : Jvm.MethodName)) ∈ lw_all := lw_g (lw_at lw_m6 70 rfl) rfl
theorem q1338 : (Jvm.Cond.selects "ChairRanksModel" ({ cls := "ChairRanksModel", name := "copy", desc := "(IIIII)I" } : Jvm.MethodName) ({ cls := "ChairRanksModel", name := "copy", desc := "(IIIII)I" } : Jvm.MethodName)) ∈ lw_all := lw_g (lw_at lw_m6 71 rfl) rfl
theorem q1339 : (Jvm.Cond.code ({ cls := "ChairRanksModel", name := "copy", desc := "(IIIII)I" } : Jvm.MethodName) prog_16_method_11_code (7 : Nat) (Option.some Jvm.ClassFile.FieldType.int)) ∈ lw_all := lw_g (lw_at lw_m6 72 rfl) rfl
theorem q1341 : (Jvm.Cond.instanceMethod ({ cls := "ChairRanksModel", name := "drop", desc := "(I)I" } : Jvm.MethodName)) ∈ lw_all := lw_g (lw_at lw_m6 74 rfl) rfl
theorem q1342 : (Jvm.Cond.selects "ChairRanksModel" ({ cls := "ChairRanksModel", name := "drop", desc := "(I)I" } : Jvm.MethodName) ({ cls := "ChairRanksModel", name := "drop", desc := "(I)I" } : Jvm.MethodName)) ∈ lw_all := lw_g (lw_at lw_m6 75 rfl) rfl
theorem q1343 : (Jvm.Cond.code ({ cls := "ChairRanksModel", name := "drop", desc := "(I)I" } : Jvm.MethodName) prog_16_method_12_code (3 : Nat) (Option.some Jvm.ClassFile.FieldType.int)) ∈ lw_all := lw_g (lw_at lw_m6 76 rfl) rfl
theorem q1345 : (Jvm.Cond.instanceMethod ({ cls := "ChairRanksModel", name := "feed", desc := "(I)I" } : Jvm.MethodName)) ∈ lw_all := lw_g (lw_at lw_m6 78 rfl) rfl
theorem q1346 : (Jvm.Cond.selects "ChairRanksModel" ({ cls := "ChairRanksModel", name := "feed", desc := "(I)I" } : Jvm.MethodName) ({ cls := "ChairRanksModel", name := "feed", desc := "(I)I" } : Jvm.MethodName)) ∈ lw_all := lw_g (lw_at lw_m6 79 rfl) rfl
theorem q1347 : (Jvm.Cond.code ({ cls := "ChairRanksModel", name := "feed", desc := "(I)I" } : Jvm.MethodName) prog_16_method_13_code (2 : Nat) (Option.some Jvm.ClassFile.FieldType.int)) ∈ lw_all := lw_g (lw_at lw_m6 80 rfl) rfl
theorem q1348 : (Jvm.Cond.constantLong "ChairRanksModel" (79 : Nat) (255 : Int64)) ∈ lw_all := lw_g (lw_at lw_m6 81 rfl) rfl
theorem q1349 : (Jvm.Cond.constant "ChairRanksModel" (84 : Nat) (-1000003 : Int32)) ∈ lw_all := lw_g (lw_at lw_m6 82 rfl) rfl
theorem q1351 : (Jvm.Cond.instanceMethod ({ cls := "ChairRanksModel", name := "ministry", desc := "()I" } : Jvm.MethodName)) ∈ lw_all := lw_g (lw_at lw_m6 84 rfl) rfl
theorem q1352 : (Jvm.Cond.selects "ChairRanksModel" ({ cls := "ChairRanksModel", name := "ministry", desc := "()I" } : Jvm.MethodName) ({ cls := "ChairRanksModel", name := "ministry", desc := "()I" } : Jvm.MethodName)) ∈ lw_all := lw_g (lw_at lw_m6 85 rfl) rfl
theorem q1353 : (Jvm.Cond.code ({ cls := "ChairRanksModel", name := "ministry", desc := "()I" } : Jvm.MethodName) prog_16_method_21_code (3 : Nat) (Option.some Jvm.ClassFile.FieldType.int)) ∈ lw_all := lw_g (lw_at lw_m6 86 rfl) rfl
theorem q1354 : (Jvm.Cond.methodLink "ChairRanksModel" (128 : Nat) ({ cls := "ChairRanksModel", name := "readMinistry", desc := "()Z" } : Jvm.MethodName)) ∈ lw_all := lw_g (lw_at lw_m6 87 rfl) rfl
theorem q1355 : (Jvm.Cond.privateMethod ({ cls := "ChairRanksModel", name := "readMinistry", desc := "()Z" } : Jvm.MethodName)) ∈ lw_tbl := lw_at lw_m6 88 rfl
theorem q1356 : (Jvm.Cond.instanceMethod ({ cls := "ChairRanksModel", name := "readMinistry", desc := "()Z" } : Jvm.MethodName)) ∈ lw_all := lw_g (lw_at lw_m6 89 rfl) rfl
theorem q1357 : (Jvm.Cond.code ({ cls := "ChairRanksModel", name := "readMinistry", desc := "()Z" } : Jvm.MethodName) prog_16_method_20_code (2 : Nat) (Option.some Jvm.ClassFile.FieldType.boolean)) ∈ lw_all := lw_g (lw_at lw_m6 90 rfl) rfl
theorem q1358 : (Jvm.Cond.methodLink "ChairRanksModel" (114 : Nat) ({ cls := "ChairRanksModel", name := "nextToken", desc := "()V" } : Jvm.MethodName)) ∈ lw_all := lw_g (lw_at lw_m6 91 rfl) rfl
theorem q1359 : (Jvm.Cond.privateMethod ({ cls := "ChairRanksModel", name := "nextToken", desc := "()V" } : Jvm.MethodName)) ∈ lw_tbl := lw_at lw_m6 92 rfl
theorem q1360 : (Jvm.Cond.instanceMethod ({ cls := "ChairRanksModel", name := "nextToken", desc := "()V" } : Jvm.MethodName)) ∈ lw_all := lw_g (lw_at lw_m6 93 rfl) rfl
theorem q1361 : (Jvm.Cond.code ({ cls := "ChairRanksModel", name := "nextToken", desc := "()V" } : Jvm.MethodName) prog_16_method_14_code (1 : Nat) (Option.none : Option Jvm.ClassFile.FieldType)) ∈ lw_all := lw_g (lw_at lw_m6 94 rfl) rfl
theorem q1362 : (Jvm.Cond.constantLong "ChairRanksModel" (97 : Nat) (48 : Int64)) ∈ lw_all := lw_g (lw_at lw_m6 95 rfl) rfl
theorem q1363 : (Jvm.Cond.constantLong "ChairRanksModel" (99 : Nat) (57 : Int64)) ∈ lw_all := lw_g (lw_at lw_m6 96 rfl) rfl
theorem q1364 : (Jvm.Cond.constantLong "ChairRanksModel" (101 : Nat) (97 : Int64)) ∈ lw_all := lw_g (lw_at lw_m6 97 rfl) rfl
theorem q1365 : (Jvm.Cond.constantLong "ChairRanksModel" (103 : Nat) (122 : Int64)) ∈ lw_all := lw_g (lw_at lw_m6 98 rfl) rfl
theorem q1366 : (Jvm.Cond.methodLink "ChairRanksModel" (117 : Nat) ({ cls := "ChairRanksModel", name := "takes", desc := "(I)Z" } : Jvm.MethodName)) ∈ lw_all := lw_g (lw_at lw_m6 99 rfl) rfl
theorem q1367 : (Jvm.Cond.privateMethod ({ cls := "ChairRanksModel", name := "takes", desc := "(I)Z" } : Jvm.MethodName)) ∈ lw_tbl := lw_at lw_m6 100 rfl
theorem q1368 : (Jvm.Cond.instanceMethod ({ cls := "ChairRanksModel", name := "takes", desc := "(I)Z" } : Jvm.MethodName)) ∈ lw_all := lw_g (lw_at lw_m6 101 rfl) rfl
theorem q1369 : (Jvm.Cond.code ({ cls := "ChairRanksModel", name := "takes", desc := "(I)Z" } : Jvm.MethodName) prog_16_method_17_code (2 : Nat) (Option.some Jvm.ClassFile.FieldType.boolean)) ∈ lw_all := lw_g (lw_at lw_m6 102 rfl) rfl
theorem q1370 : (Jvm.Cond.methodLink "ChairRanksModel" (108 : Nat) ({ cls := "ChairRanksModel", name := "isLetter", desc := "(I)Z" } : Jvm.MethodName)) ∈ lw_all := lw_g (lw_at lw_m6 103 rfl) rfl
theorem q1371 : (Jvm.Cond.privateMethod ({ cls := "ChairRanksModel", name := "isLetter", desc := "(I)Z" } : Jvm.MethodName)) ∈ lw_tbl := lw_at lw_m6 104 rfl
theorem q1372 : (Jvm.Cond.instanceMethod ({ cls := "ChairRanksModel", name := "isLetter", desc := "(I)Z" } : Jvm.MethodName)) ∈ lw_all := lw_g (lw_at lw_m6 105 rfl) rfl
theorem q1373 : (Jvm.Cond.code ({ cls := "ChairRanksModel", name := "isLetter", desc := "(I)Z" } : Jvm.MethodName) prog_16_method_16_code (2 : Nat) (Option.some Jvm.ClassFile.FieldType.boolean)) ∈ lw_all := lw_g (lw_at lw_m6 106 rfl) rfl
theorem q1374 : (Jvm.Cond.methodLink "ChairRanksModel" (111 : Nat) ({ cls := "ChairRanksModel", name := "faults", desc := "(I)Z" } : Jvm.MethodName)) ∈ lw_all := lw_g (lw_at lw_m6 107 rfl) rfl
theorem q1375 : (Jvm.Cond.privateMethod ({ cls := "ChairRanksModel", name := "faults", desc := "(I)Z" } : Jvm.MethodName)) ∈ lw_tbl := lw_at lw_m6 108 rfl
theorem q1376 : (Jvm.Cond.instanceMethod ({ cls := "ChairRanksModel", name := "faults", desc := "(I)Z" } : Jvm.MethodName)) ∈ lw_all := lw_g (lw_at lw_m6 109 rfl) rfl
theorem q1377 : (Jvm.Cond.code ({ cls := "ChairRanksModel", name := "faults", desc := "(I)Z" } : Jvm.MethodName) prog_16_method_15_code (2 : Nat) (Option.some Jvm.ClassFile.FieldType.boolean)) ∈ lw_all := lw_g (lw_at lw_m6 110 rfl) rfl
theorem q1378 : (Jvm.Cond.methodLink "ChairRanksModel" (120 : Nat) ({ cls := "ChairRanksModel", name := "takesNumber", desc := "(IIII)Z" } : Jvm.MethodName)) ∈ lw_all := lw_g (lw_at lw_m6 111 rfl) rfl
theorem q1379 : (Jvm.Cond.privateMethod ({ cls := "ChairRanksModel", name := "takesNumber", desc := "(IIII)Z" } : Jvm.MethodName)) ∈ lw_tbl := lw_at lw_m6 112 rfl
theorem q1380 : (Jvm.Cond.instanceMethod ({ cls := "ChairRanksModel", name := "takesNumber", desc := "(IIII)Z" } : Jvm.MethodName)) ∈ lw_all := lw_g (lw_at lw_m6 113 rfl) rfl
theorem q1381 : (Jvm.Cond.code ({ cls := "ChairRanksModel", name := "takesNumber", desc := "(IIII)Z" } : Jvm.MethodName) prog_16_method_18_code (5 : Nat) (Option.some Jvm.ClassFile.FieldType.boolean)) ∈ lw_all := lw_g (lw_at lw_m6 114 rfl) rfl
theorem q1382 : (Jvm.Cond.methodLink "ChairRanksModel" (124 : Nat) ({ cls := "ChairRanksModel", name := "readChair", desc := "()Z" } : Jvm.MethodName)) ∈ lw_all := lw_g (lw_at lw_m6 115 rfl) rfl
theorem q1383 : (Jvm.Cond.privateMethod ({ cls := "ChairRanksModel", name := "readChair", desc := "()Z" } : Jvm.MethodName)) ∈ lw_tbl := lw_at lw_m6 116 rfl
theorem q1384 : (Jvm.Cond.instanceMethod ({ cls := "ChairRanksModel", name := "readChair", desc := "()Z" } : Jvm.MethodName)) ∈ lw_all := lw_g (lw_at lw_m6 117 rfl) rfl
theorem q1385 : (Jvm.Cond.code ({ cls := "ChairRanksModel", name := "readChair", desc := "()Z" } : Jvm.MethodName) prog_16_method_19_code (3 : Nat) (Option.some Jvm.ClassFile.FieldType.boolean)) ∈ lw_all := lw_g (lw_at lw_m6 118 rfl) rfl
theorem q1386 : (Jvm.Cond.constant "ChairRanksModel" (134 : Nat) (-1000100 : Int32)) ∈ lw_all := lw_g (lw_at lw_m6 119 rfl) rfl
theorem q1388 : (Jvm.Cond.instanceMethod ({ cls := "ChairRanksModel", name := "fault", desc := "()I" } : Jvm.MethodName)) ∈ lw_all := lw_g (lw_at lw_m6 121 rfl) rfl
theorem q1389 : (Jvm.Cond.selects "ChairRanksModel" ({ cls := "ChairRanksModel", name := "fault", desc := "()I" } : Jvm.MethodName) ({ cls := "ChairRanksModel", name := "fault", desc := "()I" } : Jvm.MethodName)) ∈ lw_all := lw_g (lw_at lw_m6 122 rfl) rfl
theorem q1390 : (Jvm.Cond.code ({ cls := "ChairRanksModel", name := "fault", desc := "()I" } : Jvm.MethodName) prog_16_method_22_code (1 : Nat) (Option.some Jvm.ClassFile.FieldType.int)) ∈ lw_all := lw_g (lw_at lw_m6 123 rfl) rfl
theorem q1392 : (Jvm.Cond.instanceMethod ({ cls := "ChairRanksModel", name := "undo", desc := "()I" } : Jvm.MethodName)) ∈ lw_all := lw_g (lw_at lw_m6 125 rfl) rfl
theorem q1393 : (Jvm.Cond.selects "ChairRanksModel" ({ cls := "ChairRanksModel", name := "undo", desc := "()I" } : Jvm.MethodName) ({ cls := "ChairRanksModel", name := "undo", desc := "()I" } : Jvm.MethodName)) ∈ lw_all := lw_g (lw_at lw_m6 126 rfl) rfl
theorem q1394 : (Jvm.Cond.code ({ cls := "ChairRanksModel", name := "undo", desc := "()I" } : Jvm.MethodName) prog_16_method_33_code (2 : Nat) (Option.some Jvm.ClassFile.FieldType.int)) ∈ lw_all := lw_g (lw_at lw_m6 127 rfl) rfl
theorem q1395 : (Jvm.Cond.constant "ChairRanksModel" (169 : Nat) (-1000002 : Int32)) ∈ lw_all := lw_g (lw_at lw_m6 128 rfl) rfl
theorem q1397 : (Jvm.Cond.instanceMethod ({ cls := "ChairRanksModel", name := "nights", desc := "(I)I" } : Jvm.MethodName)) ∈ lw_all := lw_g (lw_at lw_m6 130 rfl) rfl
theorem q1398 : (Jvm.Cond.selects "ChairRanksModel" ({ cls := "ChairRanksModel", name := "nights", desc := "(I)I" } : Jvm.MethodName) ({ cls := "ChairRanksModel", name := "nights", desc := "(I)I" } : Jvm.MethodName)) ∈ lw_all := lw_g (lw_at lw_m6 131 rfl) rfl
theorem q1399 : (Jvm.Cond.code ({ cls := "ChairRanksModel", name := "nights", desc := "(I)I" } : Jvm.MethodName) prog_16_method_34_code (3 : Nat) (Option.some Jvm.ClassFile.FieldType.int)) ∈ lw_all := lw_g (lw_at lw_m6 132 rfl) rfl
theorem q1400 : (Jvm.Cond.constantLong "ChairRanksModel" (170 : Nat) (24 : Int64)) ∈ lw_all := lw_g (lw_at lw_m6 133 rfl) rfl
theorem q1401 : (Jvm.Cond.methodLink "ChairRanksModel" (172 : Nat) ({ cls := "ChairRanksModel", name := "note", desc := "()V" } : Jvm.MethodName)) ∈ lw_all := lw_g (lw_at lw_m6 134 rfl) rfl
theorem q1402 : (Jvm.Cond.privateMethod ({ cls := "ChairRanksModel", name := "note", desc := "()V" } : Jvm.MethodName)) ∈ lw_tbl := lw_at lw_m6 135 rfl
theorem q1403 : (Jvm.Cond.instanceMethod ({ cls := "ChairRanksModel", name := "note", desc := "()V" } : Jvm.MethodName)) ∈ lw_all := lw_g (lw_at lw_m6 136 rfl) rfl
theorem q1404 : (Jvm.Cond.code ({ cls := "ChairRanksModel", name := "note", desc := "()V" } : Jvm.MethodName) prog_16_method_32_code (2 : Nat) (Option.none : Option Jvm.ClassFile.FieldType)) ∈ lw_all := lw_g (lw_at lw_m6 137 rfl) rfl
theorem q1405 : (Jvm.Cond.methodLink "ChairRanksModel" (175 : Nat) ({ cls := "ChairRanksModel", name := "oneNight", desc := "()V" } : Jvm.MethodName)) ∈ lw_all := lw_g (lw_at lw_m6 138 rfl) rfl
theorem q1406 : (Jvm.Cond.privateMethod ({ cls := "ChairRanksModel", name := "oneNight", desc := "()V" } : Jvm.MethodName)) ∈ lw_tbl := lw_at lw_m6 139 rfl
theorem q1407 : (Jvm.Cond.instanceMethod ({ cls := "ChairRanksModel", name := "oneNight", desc := "()V" } : Jvm.MethodName)) ∈ lw_all := lw_g (lw_at lw_m6 140 rfl) rfl
theorem q1408 : (Jvm.Cond.code ({ cls := "ChairRanksModel", name := "oneNight", desc := "()V" } : Jvm.MethodName) prog_16_method_30_code (4 : Nat) (Option.none : Option Jvm.ClassFile.FieldType)) ∈ lw_all := lw_g (lw_at lw_m6 141 rfl) rfl
theorem q1409 : (Jvm.Cond.methodLink "ChairRanksModel" (159 : Nat) ({ cls := "ChairRanksModel", name := "targetOf", desc := "(I)I" } : Jvm.MethodName)) ∈ lw_all := lw_g (lw_at lw_m6 142 rfl) rfl
theorem q1410 : (Jvm.Cond.privateMethod ({ cls := "ChairRanksModel", name := "targetOf", desc := "(I)I" } : Jvm.MethodName)) ∈ lw_tbl := lw_at lw_m6 143 rfl
theorem q1411 : (Jvm.Cond.instanceMethod ({ cls := "ChairRanksModel", name := "targetOf", desc := "(I)I" } : Jvm.MethodName)) ∈ lw_all := lw_g (lw_at lw_m6 144 rfl) rfl
theorem q1412 : (Jvm.Cond.code ({ cls := "ChairRanksModel", name := "targetOf", desc := "(I)I" } : Jvm.MethodName) prog_16_method_28_code (3 : Nat) (Option.some Jvm.ClassFile.FieldType.int)) ∈ lw_all := lw_g (lw_at lw_m6 145 rfl) rfl
theorem q1413 : (Jvm.Cond.constant "ChairRanksModel" (149 : Nat) (-1000000 : Int32)) ∈ lw_all := lw_g (lw_at lw_m6 146 rfl) rfl
theorem q1414 : (Jvm.Cond.methodLink "ChairRanksModel" (150 : Nat) ({ cls := "ChairRanksModel", name := "rankOf", desc := "(I)I" } : Jvm.MethodName)) ∈ lw_all := lw_g (lw_at lw_m6 147 rfl) rfl
theorem q1415 : (Jvm.Cond.privateMethod ({ cls := "ChairRanksModel", name := "rankOf", desc := "(I)I" } : Jvm.MethodName)) ∈ lw_tbl := lw_at lw_m6 148 rfl
theorem q1416 : (Jvm.Cond.instanceMethod ({ cls := "ChairRanksModel", name := "rankOf", desc := "(I)I" } : Jvm.MethodName)) ∈ lw_all := lw_g (lw_at lw_m6 149 rfl) rfl
theorem q1417 : (Jvm.Cond.code ({ cls := "ChairRanksModel", name := "rankOf", desc := "(I)I" } : Jvm.MethodName) prog_16_method_26_code (4 : Nat) (Option.some Jvm.ClassFile.FieldType.int)) ∈ lw_all := lw_g (lw_at lw_m6 150 rfl) rfl
theorem q1418 : (Jvm.Cond.methodLink "ChairRanksModel" (146 : Nat) ({ cls := "ChairRanksModel", name := "highOf", desc := "(I)I" } : Jvm.MethodName)) ∈ lw_all := lw_g (lw_at lw_m6 151 rfl) rfl
theorem q1419 : (Jvm.Cond.privateMethod ({ cls := "ChairRanksModel", name := "highOf", desc := "(I)I" } : Jvm.MethodName)) ∈ lw_tbl := lw_at lw_m6 152 rfl
theorem q1420 : (Jvm.Cond.instanceMethod ({ cls := "ChairRanksModel", name := "highOf", desc := "(I)I" } : Jvm.MethodName)) ∈ lw_all := lw_g (lw_at lw_m6 153 rfl) rfl
theorem q1421 : (Jvm.Cond.code ({ cls := "ChairRanksModel", name := "highOf", desc := "(I)I" } : Jvm.MethodName) prog_16_method_25_code (2 : Nat) (Option.some Jvm.ClassFile.FieldType.int)) ∈ lw_all := lw_g (lw_at lw_m6 154 rfl) rfl
theorem q1422 : (Jvm.Cond.methodLink "ChairRanksModel" (142 : Nat) ({ cls := "ChairRanksModel", name := "highBy", desc := "(III)I" } : Jvm.MethodName)) ∈ lw_all := lw_g (lw_at lw_m6 155 rfl) rfl
theorem q1423 : (Jvm.Cond.static ({ cls := "ChairRanksModel", name := "highBy", desc := "(III)I" } : Jvm.MethodName)) ∈ lw_all := lw_g (lw_at lw_m6 156 rfl) rfl
theorem q1424 : (Jvm.Cond.code ({ cls := "ChairRanksModel", name := "highBy", desc := "(III)I" } : Jvm.MethodName) prog_16_method_24_code (3 : Nat) (Option.some Jvm.ClassFile.FieldType.int)) ∈ lw_all := lw_g (lw_at lw_m6 157 rfl) rfl
theorem q1425 : (Jvm.Cond.methodLink "ChairRanksModel" (153 : Nat) ({ cls := "ChairRanksModel", name := "atRank", desc := "(I)I" } : Jvm.MethodName)) ∈ lw_all := lw_g (lw_at lw_m6 158 rfl) rfl
theorem q1426 : (Jvm.Cond.privateMethod ({ cls := "ChairRanksModel", name := "atRank", desc := "(I)I" } : Jvm.MethodName)) ∈ lw_tbl := lw_at lw_m6 159 rfl
theorem q1427 : (Jvm.Cond.instanceMethod ({ cls := "ChairRanksModel", name := "atRank", desc := "(I)I" } : Jvm.MethodName)) ∈ lw_all := lw_g (lw_at lw_m6 160 rfl) rfl
theorem q1428 : (Jvm.Cond.code ({ cls := "ChairRanksModel", name := "atRank", desc := "(I)I" } : Jvm.MethodName) prog_16_method_27_code (4 : Nat) (Option.some Jvm.ClassFile.FieldType.int)) ∈ lw_all := lw_g (lw_at lw_m6 161 rfl) rfl
theorem q1429 : (Jvm.Cond.methodLink "ChairRanksModel" (162 : Nat) ({ cls := "ChairRanksModel", name := "has", desc := "(II)Z" } : Jvm.MethodName)) ∈ lw_all := lw_g (lw_at lw_m6 162 rfl) rfl
theorem q1430 : (Jvm.Cond.static ({ cls := "ChairRanksModel", name := "has", desc := "(II)Z" } : Jvm.MethodName)) ∈ lw_all := lw_g (lw_at lw_m6 163 rfl) rfl
theorem q1431 : (Jvm.Cond.code ({ cls := "ChairRanksModel", name := "has", desc := "(II)Z" } : Jvm.MethodName) prog_16_method_3_code (2 : Nat) (Option.some Jvm.ClassFile.FieldType.boolean)) ∈ lw_all := lw_g (lw_at lw_m6 164 rfl) rfl
theorem q1432 : (Jvm.Cond.methodLink "ChairRanksModel" (166 : Nat) ({ cls := "ChairRanksModel", name := "sawnOff", desc := "(II)I" } : Jvm.MethodName)) ∈ lw_all := lw_g (lw_at lw_m6 165 rfl) rfl
theorem q1433 : (Jvm.Cond.privateMethod ({ cls := "ChairRanksModel", name := "sawnOff", desc := "(II)I" } : Jvm.MethodName)) ∈ lw_tbl := lw_at lw_m6 166 rfl
theorem q1434 : (Jvm.Cond.instanceMethod ({ cls := "ChairRanksModel", name := "sawnOff", desc := "(II)I" } : Jvm.MethodName)) ∈ lw_all := lw_g (lw_at lw_m6 167 rfl) rfl
theorem q1435 : (Jvm.Cond.code ({ cls := "ChairRanksModel", name := "sawnOff", desc := "(II)I" } : Jvm.MethodName) prog_16_method_29_code (4 : Nat) (Option.some Jvm.ClassFile.FieldType.int)) ∈ lw_all := lw_g (lw_at lw_m6 168 rfl) rfl
theorem q1437 : (Jvm.Cond.instanceMethod ({ cls := "ChairRanksModel", name := "cushions", desc := "(II)I" } : Jvm.MethodName)) ∈ lw_all := lw_g (lw_at lw_m6 170 rfl) rfl
theorem q1438 : (Jvm.Cond.selects "ChairRanksModel" ({ cls := "ChairRanksModel", name := "cushions", desc := "(II)I" } : Jvm.MethodName) ({ cls := "ChairRanksModel", name := "cushions", desc := "(II)I" } : Jvm.MethodName)) ∈ lw_all := lw_g (lw_at lw_m6 171 rfl) rfl
theorem q1439 : (Jvm.Cond.code ({ cls := "ChairRanksModel", name := "cushions", desc := "(II)I" } : Jvm.MethodName) prog_16_method_35_code (4 : Nat) (Option.some Jvm.ClassFile.FieldType.int)) ∈ lw_all := lw_g (lw_at lw_m6 172 rfl) rfl
theorem q1440 : (Jvm.Cond.methodLink "ChairRanksModel" (178 : Nat) ({ cls := "ChairRanksModel", name := "isChair", desc := "(I)Z" } : Jvm.MethodName)) ∈ lw_all := lw_g (lw_at lw_m6 173 rfl) rfl
theorem q1441 : (Jvm.Cond.privateMethod ({ cls := "ChairRanksModel", name := "isChair", desc := "(I)Z" } : Jvm.MethodName)) ∈ lw_tbl := lw_at lw_m6 174 rfl
theorem q1442 : (Jvm.Cond.instanceMethod ({ cls := "ChairRanksModel", name := "isChair", desc := "(I)Z" } : Jvm.MethodName)) ∈ lw_all := lw_g (lw_at lw_m6 175 rfl) rfl
theorem q1443 : (Jvm.Cond.code ({ cls := "ChairRanksModel", name := "isChair", desc := "(I)Z" } : Jvm.MethodName) prog_16_method_23_code (2 : Nat) (Option.some Jvm.ClassFile.FieldType.boolean)) ∈ lw_all := lw_g (lw_at lw_m6 176 rfl) rfl
theorem q1444 : (Jvm.Cond.constantLong "ChairRanksModel" (181 : Nat) (20 : Int64)) ∈ lw_all := lw_g (lw_at lw_m6 177 rfl) rfl
theorem q1446 : (Jvm.Cond.instanceMethod ({ cls := "ChairRanksModel", name := "mend", desc := "(I)I" } : Jvm.MethodName)) ∈ lw_all := lw_g (lw_at lw_m6 179 rfl) rfl
theorem q1447 : (Jvm.Cond.selects "ChairRanksModel" ({ cls := "ChairRanksModel", name := "mend", desc := "(I)I" } : Jvm.MethodName) ({ cls := "ChairRanksModel", name := "mend", desc := "(I)I" } : Jvm.MethodName)) ∈ lw_all := lw_g (lw_at lw_m6 180 rfl) rfl
theorem q1448 : (Jvm.Cond.code ({ cls := "ChairRanksModel", name := "mend", desc := "(I)I" } : Jvm.MethodName) prog_16_method_37_code (2 : Nat) (Option.some Jvm.ClassFile.FieldType.int)) ∈ lw_all := lw_g (lw_at lw_m6 181 rfl) rfl
theorem q1449 : (Jvm.Cond.methodLink "ChairRanksModel" (183 : Nat) ({ cls := "ChairRanksModel", name := "glue", desc := "(I)V" } : Jvm.MethodName)) ∈ lw_all := lw_g (lw_at lw_m6 182 rfl) rfl
theorem q1450 : (Jvm.Cond.privateMethod ({ cls := "ChairRanksModel", name := "glue", desc := "(I)V" } : Jvm.MethodName)) ∈ lw_tbl := lw_at lw_m6 183 rfl
theorem q1451 : (Jvm.Cond.instanceMethod ({ cls := "ChairRanksModel", name := "glue", desc := "(I)V" } : Jvm.MethodName)) ∈ lw_all := lw_g (lw_at lw_m6 184 rfl) rfl
theorem q1452 : (Jvm.Cond.code ({ cls := "ChairRanksModel", name := "glue", desc := "(I)V" } : Jvm.MethodName) prog_16_method_36_code (3 : Nat) (Option.none : Option Jvm.ClassFile.FieldType)) ∈ lw_all := lw_g (lw_at lw_m6 185 rfl) rfl
theorem q1454 : (Jvm.Cond.instanceMethod ({ cls := "ChairRanksModel", name := "watch", desc := "(II)I" } : Jvm.MethodName)) ∈ lw_all := lw_g (lw_at lw_m6 187 rfl) rfl
theorem q1455 : (Jvm.Cond.selects "ChairRanksModel" ({ cls := "ChairRanksModel", name := "watch", desc := "(II)I" } : Jvm.MethodName) ({ cls := "ChairRanksModel", name := "watch", desc := "(II)I" } : Jvm.MethodName)) ∈ lw_all := lw_g (lw_at lw_m6 188 rfl) rfl
theorem q1456 : (Jvm.Cond.code ({ cls := "ChairRanksModel", name := "watch", desc := "(II)I" } : Jvm.MethodName) prog_16_method_38_code (3 : Nat) (Option.some Jvm.ClassFile.FieldType.int)) ∈ lw_all := lw_g (lw_at lw_m6 189 rfl) rfl
theorem q1457 : (Jvm.Cond.methodLink "ChairRanksModel" (187 : Nat) ({ cls := "ChairRanksModel", name := "ones", desc := "(I)I" } : Jvm.MethodName)) ∈ lw_all := lw_g (lw_at lw_m6 190 rfl) rfl
theorem q1458 : (Jvm.Cond.static ({ cls := "ChairRanksModel", name := "ones", desc := "(I)I" } : Jvm.MethodName)) ∈ lw_all := lw_g (lw_at lw_m6 191 rfl) rfl
theorem q1459 : (Jvm.Cond.code ({ cls := "ChairRanksModel", name := "ones", desc := "(I)I" } : Jvm.MethodName) prog_16_method_4_code (3 : Nat) (Option.some Jvm.ClassFile.FieldType.int)) ∈ lw_all := lw_g (lw_at lw_m6 192 rfl) rfl
theorem q1461 : (Jvm.Cond.instanceMethod ({ cls := "ChairRanksModel", name := "change", desc := "(II)I" } : Jvm.MethodName)) ∈ lw_all := lw_g (lw_at lw_m6 194 rfl) rfl
theorem q1462 : (Jvm.Cond.selects "ChairRanksModel" ({ cls := "ChairRanksModel", name := "change", desc := "(II)I" } : Jvm.MethodName) ({ cls := "ChairRanksModel", name := "change", desc := "(II)I" } : Jvm.MethodName)) ∈ lw_all := lw_g (lw_at lw_m6 195 rfl) rfl
theorem q1463 : (Jvm.Cond.code ({ cls := "ChairRanksModel", name := "change", desc := "(II)I" } : Jvm.MethodName) prog_16_method_40_code (3 : Nat) (Option.some Jvm.ClassFile.FieldType.int)) ∈ lw_all := lw_g (lw_at lw_m6 196 rfl) rfl
theorem q1464 : (Jvm.Cond.methodLink "ChairRanksModel" (190 : Nat) ({ cls := "ChairRanksModel", name := "exchange", desc := "(III)V" } : Jvm.MethodName)) ∈ lw_all := lw_g (lw_at lw_m6 197 rfl) rfl
theorem q1465 : (Jvm.Cond.privateMethod ({ cls := "ChairRanksModel", name := "exchange", desc := "(III)V" } : Jvm.MethodName)) ∈ lw_tbl := lw_at lw_m6 198 rfl
theorem q1466 : (Jvm.Cond.instanceMethod ({ cls := "ChairRanksModel", name := "exchange", desc := "(III)V" } : Jvm.MethodName)) ∈ lw_all := lw_g (lw_at lw_m6 199 rfl) rfl
theorem q1467 : (Jvm.Cond.code ({ cls := "ChairRanksModel", name := "exchange", desc := "(III)V" } : Jvm.MethodName) prog_16_method_39_code (5 : Nat) (Option.none : Option Jvm.ClassFile.FieldType)) ∈ lw_all := lw_g (lw_at lw_m6 200 rfl) rfl
theorem q1469 : (Jvm.Cond.instanceMethod ({ cls := "ChairRanksModel", name := "saw", desc := "(II)I" } : Jvm.MethodName)) ∈ lw_all := lw_g (lw_at lw_m6 202 rfl) rfl
theorem q1470 : (Jvm.Cond.selects "ChairRanksModel" ({ cls := "ChairRanksModel", name := "saw", desc := "(II)I" } : Jvm.MethodName) ({ cls := "ChairRanksModel", name := "saw", desc := "(II)I" } : Jvm.MethodName)) ∈ lw_all := lw_g (lw_at lw_m6 203 rfl) rfl
theorem q1471 : (Jvm.Cond.code ({ cls := "ChairRanksModel", name := "saw", desc := "(II)I" } : Jvm.MethodName) prog_16_method_41_code (4 : Nat) (Option.some Jvm.ClassFile.FieldType.int)) ∈ lw_all := lw_g (lw_at lw_m6 204 rfl) rfl
theorem q1472 : (Jvm.Cond.constantLong "ChairRanksModel" (194 : Nat) (9 : Int64)) ∈ lw_all := lw_g (lw_at lw_m6 205 rfl) rfl
theorem q1474 : (Jvm.Cond.instanceMethod ({ cls := "ChairRanksModel", name := "chair", desc := "(II)I" } : Jvm.MethodName)) ∈ lw_all := lw_g (lw_at lw_m6 207 rfl) rfl
theorem q1475 : (Jvm.Cond.selects "ChairRanksModel" ({ cls := "ChairRanksModel", name := "chair", desc := "(II)I" } : Jvm.MethodName) ({ cls := "ChairRanksModel", name := "chair", desc := "(II)I" } : Jvm.MethodName)) ∈ lw_all := lw_g (lw_at lw_m6 208 rfl) rfl
theorem q1476 : (Jvm.Cond.code ({ cls := "ChairRanksModel", name := "chair", desc := "(II)I" } : Jvm.MethodName) prog_16_method_42_code (3 : Nat) (Option.some Jvm.ClassFile.FieldType.int)) ∈ lw_all := lw_g (lw_at lw_m6 209 rfl) rfl
theorem q1478 : (Jvm.Cond.instanceMethod ({ cls := "ChairRanksModel", name := "ranked", desc := "(I)I" } : Jvm.MethodName)) ∈ lw_all := lw_g (lw_at lw_m6 211 rfl) rfl
theorem q1479 : (Jvm.Cond.selects "ChairRanksModel" ({ cls := "ChairRanksModel", name := "ranked", desc := "(I)I" } : Jvm.MethodName) ({ cls := "ChairRanksModel", name := "ranked", desc := "(I)I" } : Jvm.MethodName)) ∈ lw_all := lw_g (lw_at lw_m6 212 rfl) rfl
theorem q1480 : (Jvm.Cond.code ({ cls := "ChairRanksModel", name := "ranked", desc := "(I)I" } : Jvm.MethodName) prog_16_method_43_code (2 : Nat) (Option.some Jvm.ClassFile.FieldType.int)) ∈ lw_all := lw_g (lw_at lw_m6 213 rfl) rfl
theorem q1482 : (Jvm.Cond.instanceMethod ({ cls := "ChairRanksModel", name := "ahead", desc := "(III)I" } : Jvm.MethodName)) ∈ lw_all := lw_g (lw_at lw_m6 215 rfl) rfl
theorem q1483 : (Jvm.Cond.selects "ChairRanksModel" ({ cls := "ChairRanksModel", name := "ahead", desc := "(III)I" } : Jvm.MethodName) ({ cls := "ChairRanksModel", name := "ahead", desc := "(III)I" } : Jvm.MethodName)) ∈ lw_all := lw_g (lw_at lw_m6 216 rfl) rfl
theorem q1484 : (Jvm.Cond.code ({ cls := "ChairRanksModel", name := "ahead", desc := "(III)I" } : Jvm.MethodName) prog_16_method_49_code (5 : Nat) (Option.some Jvm.ClassFile.FieldType.int)) ∈ lw_all := lw_g (lw_at lw_m6 217 rfl) rfl
theorem q1485 : (Jvm.Cond.constantLong "ChairRanksModel" (202 : Nat) (60 : Int64)) ∈ lw_all := lw_g (lw_at lw_m6 218 rfl) rfl
theorem q1486 : (Jvm.Cond.methodLink "ChairRanksModel" (204 : Nat) ({ cls := "ChairRanksModel", name := "putAside", desc := "()V" } : Jvm.MethodName)) ∈ lw_all := lw_g (lw_at lw_m6 219 rfl) rfl
theorem q1487 : (Jvm.Cond.privateMethod ({ cls := "ChairRanksModel", name := "putAside", desc := "()V" } : Jvm.MethodName)) ∈ lw_tbl := lw_at lw_m6 220 rfl
theorem q1488 : (Jvm.Cond.instanceMethod ({ cls := "ChairRanksModel", name := "putAside", desc := "()V" } : Jvm.MethodName)) ∈ lw_all := lw_g (lw_at lw_m6 221 rfl) rfl
theorem q1489 : (Jvm.Cond.code ({ cls := "ChairRanksModel", name := "putAside", desc := "()V" } : Jvm.MethodName) prog_16_method_44_code (2 : Nat) (Option.none : Option Jvm.ClassFile.FieldType)) ∈ lw_all := lw_g (lw_at lw_m6 222 rfl) rfl
theorem q1490 : (Jvm.Cond.methodLink "ChairRanksModel" (196 : Nat) ({ cls := "ChairRanksModel", name := "goOn", desc := "(I)V" } : Jvm.MethodName)) ∈ lw_all := lw_g (lw_at lw_m6 223 rfl) rfl
theorem q1491 : (Jvm.Cond.privateMethod ({ cls := "ChairRanksModel", name := "goOn", desc := "(I)V" } : Jvm.MethodName)) ∈ lw_tbl := lw_at lw_m6 224 rfl
theorem q1492 : (Jvm.Cond.instanceMethod ({ cls := "ChairRanksModel", name := "goOn", desc := "(I)V" } : Jvm.MethodName)) ∈ lw_all := lw_g (lw_at lw_m6 225 rfl) rfl
theorem q1493 : (Jvm.Cond.code ({ cls := "ChairRanksModel", name := "goOn", desc := "(I)V" } : Jvm.MethodName) prog_16_method_46_code (3 : Nat) (Option.none : Option Jvm.ClassFile.FieldType)) ∈ lw_all := lw_g (lw_at lw_m6 226 rfl) rfl
theorem q1494 : (Jvm.Cond.methodLink "ChairRanksModel" (199 : Nat) ({ cls := "ChairRanksModel", name := "takeBack", desc := "()V" } : Jvm.MethodName)) ∈ lw_all := lw_g (lw_at lw_m6 227 rfl) rfl
theorem q1495 : (Jvm.Cond.privateMethod ({ cls := "ChairRanksModel", name := "takeBack", desc := "()V" } : Jvm.MethodName)) ∈ lw_tbl := lw_at lw_m6 228 rfl
theorem q1496 : (Jvm.Cond.instanceMethod ({ cls := "ChairRanksModel", name := "takeBack", desc := "()V" } : Jvm.MethodName)) ∈ lw_all := lw_g (lw_at lw_m6 229 rfl) rfl
theorem q1497 : (Jvm.Cond.code ({ cls := "ChairRanksModel", name := "takeBack", desc := "()V" } : Jvm.MethodName) prog_16_method_45_code (2 : Nat) (Option.none : Option Jvm.ClassFile.FieldType)) ∈ lw_all := lw_g (lw_at lw_m6 230 rfl) rfl
theorem q1499 : (Jvm.Cond.instanceMethod ({ cls := "ChairRanksModel", name := "minister", desc := "(I)I" } : Jvm.MethodName)) ∈ lw_all := lw_g (lw_at lw_m6 232 rfl) rfl
theorem q1500 : (Jvm.Cond.selects "ChairRanksModel" ({ cls := "ChairRanksModel", name := "minister", desc := "(I)I" } : Jvm.MethodName) ({ cls := "ChairRanksModel", name := "minister", desc := "(I)I" } : Jvm.MethodName)) ∈ lw_all := lw_g (lw_at lw_m6 233 rfl) rfl
theorem q1501 : (Jvm.Cond.code ({ cls := "ChairRanksModel", name := "minister", desc := "(I)I" } : Jvm.MethodName) prog_16_method_50_code (3 : Nat) (Option.some Jvm.ClassFile.FieldType.int)) ∈ lw_all := lw_g (lw_at lw_m6 234 rfl) rfl
theorem q1503 : (Jvm.Cond.instanceMethod ({ cls := "ChairRanksModel", name := "floor", desc := "(I)I" } : Jvm.MethodName)) ∈ lw_all := lw_g (lw_at lw_m6 236 rfl) rfl
theorem q1504 : (Jvm.Cond.selects "ChairRanksModel" ({ cls := "ChairRanksModel", name := "floor", desc := "(I)I" } : Jvm.MethodName) ({ cls := "ChairRanksModel", name := "floor", desc := "(I)I" } : Jvm.MethodName)) ∈ lw_all := lw_g (lw_at lw_m6 237 rfl) rfl
theorem q1505 : (Jvm.Cond.code ({ cls := "ChairRanksModel", name := "floor", desc := "(I)I" } : Jvm.MethodName) prog_16_method_51_code (4 : Nat) (Option.some Jvm.ClassFile.FieldType.int)) ∈ lw_all := lw_g (lw_at lw_m6 238 rfl) rfl
theorem q1507 : (Jvm.Cond.instanceMethod ({ cls := "ChairRanksModel", name := "rises", desc := "(II)I" } : Jvm.MethodName)) ∈ lw_all := lw_g (lw_at lw_m7 0 rfl) rfl
theorem q1508 : (Jvm.Cond.selects "ChairRanksModel" ({ cls := "ChairRanksModel", name := "rises", desc := "(II)I" } : Jvm.MethodName) ({ cls := "ChairRanksModel", name := "rises", desc := "(II)I" } : Jvm.MethodName)) ∈ lw_all := lw_g (lw_at lw_m7 1 rfl) rfl
theorem q1509 : (Jvm.Cond.code ({ cls := "ChairRanksModel", name := "rises", desc := "(II)I" } : Jvm.MethodName) prog_16_method_52_code (5 : Nat) (Option.some Jvm.ClassFile.FieldType.int)) ∈ lw_all := lw_g (lw_at lw_m7 2 rfl) rfl
theorem q1510 : (Jvm.Cond.constantLong "ChairRanksModel" (207 : Nat) (5 : Int64)) ∈ lw_all := lw_g (lw_at lw_m7 3 rfl) rfl
theorem q1512 : (Jvm.Cond.instanceMethod ({ cls := "ChairRanksModel", name := "calm", desc := "()I" } : Jvm.MethodName)) ∈ lw_all := lw_g (lw_at lw_m7 5 rfl) rfl
theorem q1513 : (Jvm.Cond.selects "ChairRanksModel" ({ cls := "ChairRanksModel", name := "calm", desc := "()I" } : Jvm.MethodName) ({ cls := "ChairRanksModel", name := "calm", desc := "()I" } : Jvm.MethodName)) ∈ lw_all := lw_g (lw_at lw_m7 6 rfl) rfl
theorem q1514 : (Jvm.Cond.code ({ cls := "ChairRanksModel", name := "calm", desc := "()I" } : Jvm.MethodName) prog_16_method_53_code (4 : Nat) (Option.some Jvm.ClassFile.FieldType.int)) ∈ lw_all := lw_g (lw_at lw_m7 7 rfl) rfl
theorem q1515 : (Jvm.Cond.methodLink "ChairRanksModel" (209 : Nat) ({ cls := "ChairRanksModel", name := "sumOf", desc := "(I)I" } : Jvm.MethodName)) ∈ lw_all := lw_g (lw_at lw_m7 8 rfl) rfl
theorem q1516 : (Jvm.Cond.privateMethod ({ cls := "ChairRanksModel", name := "sumOf", desc := "(I)I" } : Jvm.MethodName)) ∈ lw_tbl := lw_at lw_m7 9 rfl
theorem q1517 : (Jvm.Cond.instanceMethod ({ cls := "ChairRanksModel", name := "sumOf", desc := "(I)I" } : Jvm.MethodName)) ∈ lw_all := lw_g (lw_at lw_m7 10 rfl) rfl
theorem q1518 : (Jvm.Cond.code ({ cls := "ChairRanksModel", name := "sumOf", desc := "(I)I" } : Jvm.MethodName) prog_16_method_31_code (4 : Nat) (Option.some Jvm.ClassFile.FieldType.int)) ∈ lw_all := lw_g (lw_at lw_m7 11 rfl) rfl
theorem q1520 : (Jvm.Cond.instanceMethod ({ cls := "ChairRanksModel", name := "cushionFor", desc := "(III)I" } : Jvm.MethodName)) ∈ lw_all := lw_g (lw_at lw_m7 13 rfl) rfl
theorem q1521 : (Jvm.Cond.selects "ChairRanksModel" ({ cls := "ChairRanksModel", name := "cushionFor", desc := "(III)I" } : Jvm.MethodName) ({ cls := "ChairRanksModel", name := "cushionFor", desc := "(III)I" } : Jvm.MethodName)) ∈ lw_all := lw_g (lw_at lw_m7 14 rfl) rfl
theorem q1522 : (Jvm.Cond.code ({ cls := "ChairRanksModel", name := "cushionFor", desc := "(III)I" } : Jvm.MethodName) prog_16_method_54_code (6 : Nat) (Option.some Jvm.ClassFile.FieldType.int)) ∈ lw_all := lw_g (lw_at lw_m7 15 rfl) rfl
theorem q1523 : (Jvm.Cond.constantLong "ChairRanksModel" (212 : Nat) (30 : Int64)) ∈ lw_all := lw_g (lw_at lw_m7 16 rfl) rfl
theorem q1524 : (Jvm.Cond.methodLink "ChairRanksModel" (214 : Nat) ({ cls := "ChairRanksModel", name := "rankBy", desc := "(II)I" } : Jvm.MethodName)) ∈ lw_all := lw_g (lw_at lw_m7 17 rfl) rfl
theorem q1525 : (Jvm.Cond.privateMethod ({ cls := "ChairRanksModel", name := "rankBy", desc := "(II)I" } : Jvm.MethodName)) ∈ lw_tbl := lw_at lw_m7 18 rfl
theorem q1526 : (Jvm.Cond.instanceMethod ({ cls := "ChairRanksModel", name := "rankBy", desc := "(II)I" } : Jvm.MethodName)) ∈ lw_all := lw_g (lw_at lw_m7 19 rfl) rfl
theorem q1527 : (Jvm.Cond.code ({ cls := "ChairRanksModel", name := "rankBy", desc := "(II)I" } : Jvm.MethodName) prog_16_method_48_code (4 : Nat) (Option.some Jvm.ClassFile.FieldType.int)) ∈ lw_all := lw_g (lw_at lw_m7 20 rfl) rfl
theorem q1529 : (Jvm.Cond.instanceMethod ({ cls := "ChairRanksModel", name := "guard", desc := "(IIII)I" } : Jvm.MethodName)) ∈ lw_all := lw_g (lw_at lw_m7 22 rfl) rfl
theorem q1530 : (Jvm.Cond.selects "ChairRanksModel" ({ cls := "ChairRanksModel", name := "guard", desc := "(IIII)I" } : Jvm.MethodName) ({ cls := "ChairRanksModel", name := "guard", desc := "(IIII)I" } : Jvm.MethodName)) ∈ lw_all := lw_g (lw_at lw_m7 23 rfl) rfl
theorem q1531 : (Jvm.Cond.code ({ cls := "ChairRanksModel", name := "guard", desc := "(IIII)I" } : Jvm.MethodName) prog_16_method_55_code (7 : Nat) (Option.some Jvm.ClassFile.FieldType.int)) ∈ lw_all := lw_g (lw_at lw_m7 24 rfl) rfl
theorem q1532 : (Jvm.Cond.methodLink "ChairRanksModel" (217 : Nat) ({ cls := "ChairRanksModel", name := "isWhat", desc := "(I)Z" } : Jvm.MethodName)) ∈ lw_all := lw_g (lw_at lw_m7 25 rfl) rfl
theorem q1533 : (Jvm.Cond.static ({ cls := "ChairRanksModel", name := "isWhat", desc := "(I)Z" } : Jvm.MethodName)) ∈ lw_all := lw_g (lw_at lw_m7 26 rfl) rfl
theorem q1534 : (Jvm.Cond.code ({ cls := "ChairRanksModel", name := "isWhat", desc := "(I)Z" } : Jvm.MethodName) prog_16_method_47_code (1 : Nat) (Option.some Jvm.ClassFile.FieldType.boolean)) ∈ lw_all := lw_g (lw_at lw_m7 27 rfl) rfl
theorem q1536 : (Jvm.Cond.instanceMethod ({ cls := "ChairRanksModel", name := "bestWatch", desc := "(II)I" } : Jvm.MethodName)) ∈ lw_all := lw_g (lw_at lw_m7 29 rfl) rfl
theorem q1537 : (Jvm.Cond.selects "ChairRanksModel" ({ cls := "ChairRanksModel", name := "bestWatch", desc := "(II)I" } : Jvm.MethodName) ({ cls := "ChairRanksModel", name := "bestWatch", desc := "(II)I" } : Jvm.MethodName)) ∈ lw_all := lw_g (lw_at lw_m7 30 rfl) rfl
theorem q1538 : (Jvm.Cond.code ({ cls := "ChairRanksModel", name := "bestWatch", desc := "(II)I" } : Jvm.MethodName) prog_16_method_56_code (7 : Nat) (Option.some Jvm.ClassFile.FieldType.int)) ∈ lw_all := lw_g (lw_at lw_m7 31 rfl) rfl
theorem q1540 : (Jvm.Cond.instanceMethod ({ cls := "ChairRanksModel", name := "sawdust", desc := "(II)I" } : Jvm.MethodName)) ∈ lw_all := lw_g (lw_at lw_m7 33 rfl) rfl
theorem q1541 : (Jvm.Cond.selects "ChairRanksModel" ({ cls := "ChairRanksModel", name := "sawdust", desc := "(II)I" } : Jvm.MethodName) ({ cls := "ChairRanksModel", name := "sawdust", desc := "(II)I" } : Jvm.MethodName)) ∈ lw_all := lw_g (lw_at lw_m7 34 rfl) rfl
theorem q1542 : (Jvm.Cond.code ({ cls := "ChairRanksModel", name := "sawdust", desc := "(II)I" } : Jvm.MethodName) prog_16_method_60_code (11 : Nat) (Option.some Jvm.ClassFile.FieldType.int)) ∈ lw_all := lw_g (lw_at lw_m7 35 rfl) rfl
theorem q1543 : (Jvm.Cond.methodLink "ChairRanksModel" (223 : Nat) ({ cls := "ChairRanksModel", name := "lacksOrder", desc := "(II)I" } : Jvm.MethodName)) ∈ lw_all := lw_g (lw_at lw_m7 36 rfl) rfl
theorem q1544 : (Jvm.Cond.privateMethod ({ cls := "ChairRanksModel", name := "lacksOrder", desc := "(II)I" } : Jvm.MethodName)) ∈ lw_tbl := lw_at lw_m7 37 rfl
theorem q1545 : (Jvm.Cond.instanceMethod ({ cls := "ChairRanksModel", name := "lacksOrder", desc := "(II)I" } : Jvm.MethodName)) ∈ lw_all := lw_g (lw_at lw_m7 38 rfl) rfl
theorem q1546 : (Jvm.Cond.code ({ cls := "ChairRanksModel", name := "lacksOrder", desc := "(II)I" } : Jvm.MethodName) prog_16_method_58_code (7 : Nat) (Option.some Jvm.ClassFile.FieldType.int)) ∈ lw_all := lw_g (lw_at lw_m7 39 rfl) rfl
theorem q1547 : (Jvm.Cond.methodLink "ChairRanksModel" (220 : Nat) ({ cls := "ChairRanksModel", name := "lacks", desc := "(III)I" } : Jvm.MethodName)) ∈ lw_all := lw_g (lw_at lw_m7 40 rfl) rfl
theorem q1548 : (Jvm.Cond.privateMethod ({ cls := "ChairRanksModel", name := "lacks", desc := "(III)I" } : Jvm.MethodName)) ∈ lw_tbl := lw_at lw_m7 41 rfl
theorem q1549 : (Jvm.Cond.instanceMethod ({ cls := "ChairRanksModel", name := "lacks", desc := "(III)I" } : Jvm.MethodName)) ∈ lw_all := lw_g (lw_at lw_m7 42 rfl) rfl
theorem q1550 : (Jvm.Cond.code ({ cls := "ChairRanksModel", name := "lacks", desc := "(III)I" } : Jvm.MethodName) prog_16_method_57_code (4 : Nat) (Option.some Jvm.ClassFile.FieldType.int)) ∈ lw_all := lw_g (lw_at lw_m7 43 rfl) rfl
theorem q1551 : (Jvm.Cond.methodLink "ChairRanksModel" (226 : Nat) ({ cls := "ChairRanksModel", name := "isAbove", desc := "(IIII)Z" } : Jvm.MethodName)) ∈ lw_all := lw_g (lw_at lw_m7 44 rfl) rfl
theorem q1552 : (Jvm.Cond.static ({ cls := "ChairRanksModel", name := "isAbove", desc := "(IIII)Z" } : Jvm.MethodName)) ∈ lw_all := lw_g (lw_at lw_m7 45 rfl) rfl
theorem q1553 : (Jvm.Cond.code ({ cls := "ChairRanksModel", name := "isAbove", desc := "(IIII)Z" } : Jvm.MethodName) prog_16_method_59_code (4 : Nat) (Option.some Jvm.ClassFile.FieldType.boolean)) ∈ lw_all := lw_g (lw_at lw_m7 46 rfl) rfl
theorem q1555 : (Jvm.Cond.instanceMethod ({ cls := "ChairRanksModel", name := "pile", desc := "(II)I" } : Jvm.MethodName)) ∈ lw_all := lw_g (lw_at lw_m7 48 rfl) rfl
theorem q1556 : (Jvm.Cond.selects "ChairRanksModel" ({ cls := "ChairRanksModel", name := "pile", desc := "(II)I" } : Jvm.MethodName) ({ cls := "ChairRanksModel", name := "pile", desc := "(II)I" } : Jvm.MethodName)) ∈ lw_all := lw_g (lw_at lw_m7 49 rfl) rfl
theorem q1557 : (Jvm.Cond.code ({ cls := "ChairRanksModel", name := "pile", desc := "(II)I" } : Jvm.MethodName) prog_16_method_61_code (11 : Nat) (Option.some Jvm.ClassFile.FieldType.int)) ∈ lw_all := lw_g (lw_at lw_m7 50 rfl) rfl
theorem q1559 : (Jvm.Cond.instanceMethod ({ cls := "ChairRanksModel", name := "climb", desc := "(I)I" } : Jvm.MethodName)) ∈ lw_all := lw_g (lw_at lw_m7 52 rfl) rfl
theorem q1560 : (Jvm.Cond.selects "ChairRanksModel" ({ cls := "ChairRanksModel", name := "climb", desc := "(I)I" } : Jvm.MethodName) ({ cls := "ChairRanksModel", name := "climb", desc := "(I)I" } : Jvm.MethodName)) ∈ lw_all := lw_g (lw_at lw_m7 53 rfl) rfl
theorem q1561 : (Jvm.Cond.code ({ cls := "ChairRanksModel", name := "climb", desc := "(I)I" } : Jvm.MethodName) prog_16_method_62_code (5 : Nat) (Option.some Jvm.ClassFile.FieldType.int)) ∈ lw_all := lw_g (lw_at lw_m7 54 rfl) rfl
theorem q1563 : (Jvm.Cond.instanceMethod ({ cls := "ChairRanksModel", name := "coalition", desc := "(I)I" } : Jvm.MethodName)) ∈ lw_all := lw_g (lw_at lw_m7 56 rfl) rfl
theorem q1564 : (Jvm.Cond.selects "ChairRanksModel" ({ cls := "ChairRanksModel", name := "coalition", desc := "(I)I" } : Jvm.MethodName) ({ cls := "ChairRanksModel", name := "coalition", desc := "(I)I" } : Jvm.MethodName)) ∈ lw_all := lw_g (lw_at lw_m7 57 rfl) rfl
theorem q1565 : (Jvm.Cond.code ({ cls := "ChairRanksModel", name := "coalition", desc := "(I)I" } : Jvm.MethodName) prog_16_method_63_code (7 : Nat) (Option.some Jvm.ClassFile.FieldType.int)) ∈ lw_all := lw_g (lw_at lw_m7 58 rfl) rfl
theorem q1567 : (Jvm.Cond.instanceMethod ({ cls := "ChairRanksModel", name := "sawnBy", desc := "(I)I" } : Jvm.MethodName)) ∈ lw_all := lw_g (lw_at lw_m7 60 rfl) rfl
theorem q1568 : (Jvm.Cond.selects "ChairRanksModel" ({ cls := "ChairRanksModel", name := "sawnBy", desc := "(I)I" } : Jvm.MethodName) ({ cls := "ChairRanksModel", name := "sawnBy", desc := "(I)I" } : Jvm.MethodName)) ∈ lw_all := lw_g (lw_at lw_m7 61 rfl) rfl
theorem q1569 : (Jvm.Cond.code ({ cls := "ChairRanksModel", name := "sawnBy", desc := "(I)I" } : Jvm.MethodName) prog_16_method_64_code (4 : Nat) (Option.some Jvm.ClassFile.FieldType.int)) ∈ lw_all := lw_g (lw_at lw_m7 62 rfl) rfl
theorem q1571 : (Jvm.Cond.instanceMethod ({ cls := "ChairRanksModel", name := "round", desc := "()I" } : Jvm.MethodName)) ∈ lw_all := lw_g (lw_at lw_m7 64 rfl) rfl
theorem q1572 : (Jvm.Cond.selects "ChairRanksModel" ({ cls := "ChairRanksModel", name := "round", desc := "()I" } : Jvm.MethodName) ({ cls := "ChairRanksModel", name := "round", desc := "()I" } : Jvm.MethodName)) ∈ lw_all := lw_g (lw_at lw_m7 65 rfl) rfl
theorem q1573 : (Jvm.Cond.code ({ cls := "ChairRanksModel", name := "round", desc := "()I" } : Jvm.MethodName) prog_16_method_65_code (4 : Nat) (Option.some Jvm.ClassFile.FieldType.int)) ∈ lw_all := lw_g (lw_at lw_m7 66 rfl) rfl
theorem q1575 : (Jvm.Cond.instanceMethod ({ cls := "ChairRanksModel", name := "enemy", desc := "(III)I" } : Jvm.MethodName)) ∈ lw_all := lw_g (lw_at lw_m7 68 rfl) rfl
theorem q1576 : (Jvm.Cond.selects "ChairRanksModel" ({ cls := "ChairRanksModel", name := "enemy", desc := "(III)I" } : Jvm.MethodName) ({ cls := "ChairRanksModel", name := "enemy", desc := "(III)I" } : Jvm.MethodName)) ∈ lw_all := lw_g (lw_at lw_m7 69 rfl) rfl
theorem q1577 : (Jvm.Cond.code ({ cls := "ChairRanksModel", name := "enemy", desc := "(III)I" } : Jvm.MethodName) prog_16_method_66_code (8 : Nat) (Option.some Jvm.ClassFile.FieldType.int)) ∈ lw_all := lw_g (lw_at lw_m7 70 rfl) rfl
theorem q1579 : (Jvm.Cond.instanceMethod ({ cls := "ChairRanksModel", name := "who", desc := "(IIIIII)I" } : Jvm.MethodName)) ∈ lw_all := lw_g (lw_at lw_m7 72 rfl) rfl
theorem q1580 : (Jvm.Cond.selects "ChairRanksModel" ({ cls := "ChairRanksModel", name := "who", desc := "(IIIIII)I" } : Jvm.MethodName) ({ cls := "ChairRanksModel", name := "who", desc := "(IIIIII)I" } : Jvm.MethodName)) ∈ lw_all := lw_g (lw_at lw_m7 73 rfl) rfl
theorem q1581 : (Jvm.Cond.code ({ cls := "ChairRanksModel", name := "who", desc := "(IIIIII)I" } : Jvm.MethodName) prog_16_method_68_code (11 : Nat) (Option.some Jvm.ClassFile.FieldType.int)) ∈ lw_all := lw_g (lw_at lw_m7 74 rfl) rfl
theorem q1582 : (Jvm.Cond.constantLong "ChairRanksModel" (229 : Nat) (12 : Int64)) ∈ lw_all := lw_g (lw_at lw_m7 75 rfl) rfl
theorem q1583 : (Jvm.Cond.methodLink "ChairRanksModel" (231 : Nat) ({ cls := "ChairRanksModel", name := "isSo", desc := "(III)Z" } : Jvm.MethodName)) ∈ lw_all := lw_g (lw_at lw_m7 76 rfl) rfl
theorem q1584 : (Jvm.Cond.privateMethod ({ cls := "ChairRanksModel", name := "isSo", desc := "(III)Z" } : Jvm.MethodName)) ∈ lw_tbl := lw_at lw_m7 77 rfl
theorem q1585 : (Jvm.Cond.instanceMethod ({ cls := "ChairRanksModel", name := "isSo", desc := "(III)Z" } : Jvm.MethodName)) ∈ lw_all := lw_g (lw_at lw_m7 78 rfl) rfl
theorem q1586 : (Jvm.Cond.code ({ cls := "ChairRanksModel", name := "isSo", desc := "(III)Z" } : Jvm.MethodName) prog_16_method_67_code (6 : Nat) (Option.some Jvm.ClassFile.FieldType.boolean)) ∈ lw_all := lw_g (lw_at lw_m7 79 rfl) rfl
theorem q1588 : (Jvm.Cond.instanceMethod ({ cls := "ChairRanksModel", name := "guarded", desc := "(IIII)I" } : Jvm.MethodName)) ∈ lw_all := lw_g (lw_at lw_m7 81 rfl) rfl
theorem q1589 : (Jvm.Cond.selects "ChairRanksModel" ({ cls := "ChairRanksModel", name := "guarded", desc := "(IIII)I" } : Jvm.MethodName) ({ cls := "ChairRanksModel", name := "guarded", desc := "(IIII)I" } : Jvm.MethodName)) ∈ lw_all := lw_g (lw_at lw_m7 82 rfl) rfl
theorem q1590 : (Jvm.Cond.code ({ cls := "ChairRanksModel", name := "guarded", desc := "(IIII)I" } : Jvm.MethodName) prog_16_method_69_code (8 : Nat) (Option.some Jvm.ClassFile.FieldType.int)) ∈ lw_all := lw_g (lw_at lw_m7 83 rfl) rfl
theorem q1592 : (Jvm.Cond.instanceMethod ({ cls := "ChairRanksModel", name := "doze", desc := "(IIIII)J" } : Jvm.MethodName)) ∈ lw_all := lw_g (lw_at lw_m7 85 rfl) rfl
theorem q1593 : (Jvm.Cond.selects "ChairRanksModel" ({ cls := "ChairRanksModel", name := "doze", desc := "(IIIII)J" } : Jvm.MethodName) ({ cls := "ChairRanksModel", name := "doze", desc := "(IIIII)J" } : Jvm.MethodName)) ∈ lw_all := lw_g (lw_at lw_m7 86 rfl) rfl
theorem q1594 : (Jvm.Cond.code ({ cls := "ChairRanksModel", name := "doze", desc := "(IIIII)J" } : Jvm.MethodName) prog_16_method_70_code (17 : Nat) (Option.some Jvm.ClassFile.FieldType.long)) ∈ lw_all := lw_g (lw_at lw_m7 87 rfl) rfl
theorem q1595 : (Jvm.Cond.constantLong "ChairRanksModel" (235 : Nat) (10 : Int64)) ∈ lw_all := lw_g (lw_at lw_m7 88 rfl) rfl
theorem q1596 : (Jvm.Cond.constantLong "ChairRanksModel" (237 : Nat) (-1000001 : Int64)) ∈ lw_all := lw_g (lw_at lw_m7 89 rfl) rfl
theorem q1598 : (Jvm.Cond.instanceMethod ({ cls := "ChairRanksModel", name := "drawn", desc := "(III)I" } : Jvm.MethodName)) ∈ lw_all := lw_g (lw_at lw_m7 91 rfl) rfl
theorem q1599 : (Jvm.Cond.selects "ChairRanksModel" ({ cls := "ChairRanksModel", name := "drawn", desc := "(III)I" } : Jvm.MethodName) ({ cls := "ChairRanksModel", name := "drawn", desc := "(III)I" } : Jvm.MethodName)) ∈ lw_all := lw_g (lw_at lw_m7 92 rfl) rfl
theorem q1600 : (Jvm.Cond.code ({ cls := "ChairRanksModel", name := "drawn", desc := "(III)I" } : Jvm.MethodName) prog_16_method_71_code (8 : Nat) (Option.some Jvm.ClassFile.FieldType.int)) ∈ lw_all := lw_g (lw_at lw_m7 93 rfl) rfl
theorem q1601 : (Jvm.Cond.constantLong "ChairRanksModel" (239 : Nat) (999999 : Int64)) ∈ lw_all := lw_g (lw_at lw_m7 94 rfl) rfl
theorem q1602 : (Jvm.Cond.constantLong "ChairRanksModel" (241 : Nat) (16807 : Int64)) ∈ lw_all := lw_g (lw_at lw_m7 95 rfl) rfl
theorem q1603 : (Jvm.Cond.constantLong "ChairRanksModel" (243 : Nat) (2147483647 : Int64)) ∈ lw_all := lw_g (lw_at lw_m7 96 rfl) rfl
theorem q1605 : (Jvm.Cond.instanceMethod ({ cls := "ChairRanksModel", name := "image", desc := "(I)I" } : Jvm.MethodName)) ∈ lw_all := lw_g (lw_at lw_m7 98 rfl) rfl
theorem q1606 : (Jvm.Cond.selects "ChairRanksModel" ({ cls := "ChairRanksModel", name := "image", desc := "(I)I" } : Jvm.MethodName) ({ cls := "ChairRanksModel", name := "image", desc := "(I)I" } : Jvm.MethodName)) ∈ lw_all := lw_g (lw_at lw_m7 99 rfl) rfl
theorem q1607 : (Jvm.Cond.code ({ cls := "ChairRanksModel", name := "image", desc := "(I)I" } : Jvm.MethodName) prog_16_method_72_code (3 : Nat) (Option.some Jvm.ClassFile.FieldType.int)) ∈ lw_all := lw_g (lw_at lw_m7 100 rfl) rfl
theorem q1609 : (Jvm.Cond.instanceMethod ({ cls := "ChairRanksModel", name := "restore", desc := "(I)I" } : Jvm.MethodName)) ∈ lw_all := lw_g (lw_at lw_m7 102 rfl) rfl
theorem q1610 : (Jvm.Cond.selects "ChairRanksModel" ({ cls := "ChairRanksModel", name := "restore", desc := "(I)I" } : Jvm.MethodName) ({ cls := "ChairRanksModel", name := "restore", desc := "(I)I" } : Jvm.MethodName)) ∈ lw_all := lw_g (lw_at lw_m7 103 rfl) rfl
theorem q1611 : (Jvm.Cond.code ({ cls := "ChairRanksModel", name := "restore", desc := "(I)I" } : Jvm.MethodName) prog_16_method_73_code (3 : Nat) (Option.some Jvm.ClassFile.FieldType.int)) ∈ lw_all := lw_g (lw_at lw_m7 104 rfl) rfl
theorem q1613 : (Jvm.Cond.instanceMethod ({ cls := "ChairRanksModel", name := "kind", desc := "(I)I" } : Jvm.MethodName)) ∈ lw_all := lw_g (lw_at lw_m7 106 rfl) rfl
theorem q1614 : (Jvm.Cond.selects "ChairRanksModel" ({ cls := "ChairRanksModel", name := "kind", desc := "(I)I" } : Jvm.MethodName) ({ cls := "ChairRanksModel", name := "kind", desc := "(I)I" } : Jvm.MethodName)) ∈ lw_all := lw_g (lw_at lw_m7 107 rfl) rfl
theorem q1615 : (Jvm.Cond.code ({ cls := "ChairRanksModel", name := "kind", desc := "(I)I" } : Jvm.MethodName) prog_16_method_74_code (2 : Nat) (Option.some Jvm.ClassFile.FieldType.int)) ∈ lw_all := lw_g (lw_at lw_m7 108 rfl) rfl
theorem q1617 : (Jvm.Cond.instanceMethod ({ cls := "ChairRanksModel", name := "as", desc := "(II)I" } : Jvm.MethodName)) ∈ lw_all := lw_g (lw_at lw_m7 110 rfl) rfl
theorem q1618 : (Jvm.Cond.selects "ChairRanksModel" ({ cls := "ChairRanksModel", name := "as", desc := "(II)I" } : Jvm.MethodName) ({ cls := "ChairRanksModel", name := "as", desc := "(II)I" } : Jvm.MethodName)) ∈ lw_all := lw_g (lw_at lw_m7 111 rfl) rfl
theorem q1619 : (Jvm.Cond.code ({ cls := "ChairRanksModel", name := "as", desc := "(II)I" } : Jvm.MethodName) prog_16_method_76_code (3 : Nat) (Option.some Jvm.ClassFile.FieldType.int)) ∈ lw_all := lw_g (lw_at lw_m7 112 rfl) rfl
theorem q1620 : (Jvm.Cond.methodLink "ChairRanksModel" (245 : Nat) ({ cls := "ChairRanksModel", name := "isKind", desc := "(II)Z" } : Jvm.MethodName)) ∈ lw_all := lw_g (lw_at lw_m7 113 rfl) rfl
theorem q1621 : (Jvm.Cond.static ({ cls := "ChairRanksModel", name := "isKind", desc := "(II)Z" } : Jvm.MethodName)) ∈ lw_all := lw_g (lw_at lw_m7 114 rfl) rfl
theorem q1622 : (Jvm.Cond.code ({ cls := "ChairRanksModel", name := "isKind", desc := "(II)Z" } : Jvm.MethodName) prog_16_method_75_code (2 : Nat) (Option.some Jvm.ClassFile.FieldType.boolean)) ∈ lw_all := lw_g (lw_at lw_m7 115 rfl) rfl
theorem q1624 : (Jvm.Cond.instanceMethod ({ cls := "ChairRanksModel", name := "ask", desc := "(II)I" } : Jvm.MethodName)) ∈ lw_all := lw_g (lw_at lw_m7 117 rfl) rfl
theorem q1625 : (Jvm.Cond.selects "ChairRanksModel" ({ cls := "ChairRanksModel", name := "ask", desc := "(II)I" } : Jvm.MethodName) ({ cls := "ChairRanksModel", name := "ask", desc := "(II)I" } : Jvm.MethodName)) ∈ lw_all := lw_g (lw_at lw_m7 118 rfl) rfl
theorem q1626 : (Jvm.Cond.code ({ cls := "ChairRanksModel", name := "ask", desc := "(II)I" } : Jvm.MethodName) prog_16_method_85_code (3 : Nat) (Option.some Jvm.ClassFile.FieldType.int)) ∈ lw_all := lw_g (lw_at lw_m7 119 rfl) rfl
theorem q1627 : (Jvm.Cond.methodLink "ChairRanksModel" (272 : Nat) ({ cls := "ChairRanksModel", name := "sizeOf", desc := "(I)I" } : Jvm.MethodName)) ∈ lw_all := lw_g (lw_at lw_m7 120 rfl) rfl
theorem q1628 : (Jvm.Cond.privateMethod ({ cls := "ChairRanksModel", name := "sizeOf", desc := "(I)I" } : Jvm.MethodName)) ∈ lw_tbl := lw_at lw_m7 121 rfl
theorem q1629 : (Jvm.Cond.instanceMethod ({ cls := "ChairRanksModel", name := "sizeOf", desc := "(I)I" } : Jvm.MethodName)) ∈ lw_all := lw_g (lw_at lw_m7 122 rfl) rfl
theorem q1630 : (Jvm.Cond.code ({ cls := "ChairRanksModel", name := "sizeOf", desc := "(I)I" } : Jvm.MethodName) prog_16_method_84_code (3 : Nat) (Option.some Jvm.ClassFile.FieldType.int)) ∈ lw_all := lw_g (lw_at lw_m7 123 rfl) rfl
theorem q1631 : (Jvm.Cond.methodLink "ChairRanksModel" (251 : Nat) ({ cls := "ChairRanksModel", name := "begin", desc := "(I)V" } : Jvm.MethodName)) ∈ lw_all := lw_g (lw_at lw_m7 124 rfl) rfl
theorem q1632 : (Jvm.Cond.privateMethod ({ cls := "ChairRanksModel", name := "begin", desc := "(I)V" } : Jvm.MethodName)) ∈ lw_tbl := lw_at lw_m7 125 rfl
theorem q1633 : (Jvm.Cond.instanceMethod ({ cls := "ChairRanksModel", name := "begin", desc := "(I)V" } : Jvm.MethodName)) ∈ lw_all := lw_g (lw_at lw_m7 126 rfl) rfl
theorem q1634 : (Jvm.Cond.code ({ cls := "ChairRanksModel", name := "begin", desc := "(I)V" } : Jvm.MethodName) prog_16_method_77_code (2 : Nat) (Option.none : Option Jvm.ClassFile.FieldType)) ∈ lw_all := lw_g (lw_at lw_m7 127 rfl) rfl
theorem q1635 : (Jvm.Cond.methodLink "ChairRanksModel" (269 : Nat) ({ cls := "ChairRanksModel", name := "plainSize", desc := "(I)I" } : Jvm.MethodName)) ∈ lw_all := lw_g (lw_at lw_m7 128 rfl) rfl
theorem q1636 : (Jvm.Cond.privateMethod ({ cls := "ChairRanksModel", name := "plainSize", desc := "(I)I" } : Jvm.MethodName)) ∈ lw_tbl := lw_at lw_m7 129 rfl
theorem q1637 : (Jvm.Cond.instanceMethod ({ cls := "ChairRanksModel", name := "plainSize", desc := "(I)I" } : Jvm.MethodName)) ∈ lw_all := lw_g (lw_at lw_m7 130 rfl) rfl
theorem q1638 : (Jvm.Cond.code ({ cls := "ChairRanksModel", name := "plainSize", desc := "(I)I" } : Jvm.MethodName) prog_16_method_83_code (3 : Nat) (Option.some Jvm.ClassFile.FieldType.int)) ∈ lw_all := lw_g (lw_at lw_m7 131 rfl) rfl
theorem q1639 : (Jvm.Cond.methodLink "ChairRanksModel" (254 : Nat) ({ cls := "ChairRanksModel", name := "lent", desc := "(II)I" } : Jvm.MethodName)) ∈ lw_all := lw_g (lw_at lw_m7 132 rfl) rfl
theorem q1640 : (Jvm.Cond.privateMethod ({ cls := "ChairRanksModel", name := "lent", desc := "(II)I" } : Jvm.MethodName)) ∈ lw_tbl := lw_at lw_m7 133 rfl
theorem q1641 : (Jvm.Cond.instanceMethod ({ cls := "ChairRanksModel", name := "lent", desc := "(II)I" } : Jvm.MethodName)) ∈ lw_all := lw_g (lw_at lw_m7 134 rfl) rfl
theorem q1642 : (Jvm.Cond.code ({ cls := "ChairRanksModel", name := "lent", desc := "(II)I" } : Jvm.MethodName) prog_16_method_78_code (3 : Nat) (Option.some Jvm.ClassFile.FieldType.int)) ∈ lw_all := lw_g (lw_at lw_m7 135 rfl) rfl
theorem q1643 : (Jvm.Cond.methodLink "ChairRanksModel" (266 : Nat) ({ cls := "ChairRanksModel", name := "markOf", desc := "(I)I" } : Jvm.MethodName)) ∈ lw_all := lw_g (lw_at lw_m7 136 rfl) rfl
theorem q1644 : (Jvm.Cond.privateMethod ({ cls := "ChairRanksModel", name := "markOf", desc := "(I)I" } : Jvm.MethodName)) ∈ lw_tbl := lw_at lw_m7 137 rfl
theorem q1645 : (Jvm.Cond.instanceMethod ({ cls := "ChairRanksModel", name := "markOf", desc := "(I)I" } : Jvm.MethodName)) ∈ lw_all := lw_g (lw_at lw_m7 138 rfl) rfl
theorem q1646 : (Jvm.Cond.code ({ cls := "ChairRanksModel", name := "markOf", desc := "(I)I" } : Jvm.MethodName) prog_16_method_82_code (4 : Nat) (Option.some Jvm.ClassFile.FieldType.int)) ∈ lw_all := lw_g (lw_at lw_m7 139 rfl) rfl
theorem q1647 : (Jvm.Cond.methodLink "ChairRanksModel" (260 : Nat) ({ cls := "ChairRanksModel", name := "plainMark", desc := "(I)I" } : Jvm.MethodName)) ∈ lw_all := lw_g (lw_at lw_m7 140 rfl) rfl
theorem q1648 : (Jvm.Cond.privateMethod ({ cls := "ChairRanksModel", name := "plainMark", desc := "(I)I" } : Jvm.MethodName)) ∈ lw_tbl := lw_at lw_m7 141 rfl
theorem q1649 : (Jvm.Cond.instanceMethod ({ cls := "ChairRanksModel", name := "plainMark", desc := "(I)I" } : Jvm.MethodName)) ∈ lw_all := lw_g (lw_at lw_m7 142 rfl) rfl
theorem q1650 : (Jvm.Cond.code ({ cls := "ChairRanksModel", name := "plainMark", desc := "(I)I" } : Jvm.MethodName) prog_16_method_79_code (2 : Nat) (Option.some Jvm.ClassFile.FieldType.int)) ∈ lw_all := lw_g (lw_at lw_m7 143 rfl) rfl
theorem q1651 : (Jvm.Cond.methodLink "ChairRanksModel" (263 : Nat) ({ cls := "ChairRanksModel", name := "sizeOfOak", desc := "(I)I" } : Jvm.MethodName)) ∈ lw_all := lw_g (lw_at lw_m7 144 rfl) rfl
theorem q1652 : (Jvm.Cond.privateMethod ({ cls := "ChairRanksModel", name := "sizeOfOak", desc := "(I)I" } : Jvm.MethodName)) ∈ lw_tbl := lw_at lw_m7 145 rfl
theorem q1653 : (Jvm.Cond.instanceMethod ({ cls := "ChairRanksModel", name := "sizeOfOak", desc := "(I)I" } : Jvm.MethodName)) ∈ lw_all := lw_g (lw_at lw_m7 146 rfl) rfl
theorem q1654 : (Jvm.Cond.code ({ cls := "ChairRanksModel", name := "sizeOfOak", desc := "(I)I" } : Jvm.MethodName) prog_16_method_81_code (2 : Nat) (Option.some Jvm.ClassFile.FieldType.int)) ∈ lw_all := lw_g (lw_at lw_m7 147 rfl) rfl
theorem q1655 : (Jvm.Cond.methodLink "ChairRanksModel" (257 : Nat) ({ cls := "ChairRanksModel", name := "oakSize", desc := "(I)I" } : Jvm.MethodName)) ∈ lw_all := lw_g (lw_at lw_m7 148 rfl) rfl
theorem q1656 : (Jvm.Cond.privateMethod ({ cls := "ChairRanksModel", name := "oakSize", desc := "(I)I" } : Jvm.MethodName)) ∈ lw_tbl := lw_at lw_m7 149 rfl
theorem q1657 : (Jvm.Cond.instanceMethod ({ cls := "ChairRanksModel", name := "oakSize", desc := "(I)I" } : Jvm.MethodName)) ∈ lw_all := lw_g (lw_at lw_m7 150 rfl) rfl
theorem q1658 : (Jvm.Cond.code ({ cls := "ChairRanksModel", name := "oakSize", desc := "(I)I" } : Jvm.MethodName) prog_16_method_80_code (2 : Nat) (Option.some Jvm.ClassFile.FieldType.int)) ∈ lw_all := lw_g (lw_at lw_m7 151 rfl) rfl
theorem q1660 : (Jvm.Cond.instanceMethod ({ cls := "ChairRanksModel", name := "trace", desc := "(I)I" } : Jvm.MethodName)) ∈ lw_all := lw_g (lw_at lw_m7 153 rfl) rfl
theorem q1661 : (Jvm.Cond.selects "ChairRanksModel" ({ cls := "ChairRanksModel", name := "trace", desc := "(I)I" } : Jvm.MethodName) ({ cls := "ChairRanksModel", name := "trace", desc := "(I)I" } : Jvm.MethodName)) ∈ lw_all := lw_g (lw_at lw_m7 154 rfl) rfl
theorem q1662 : (Jvm.Cond.code ({ cls := "ChairRanksModel", name := "trace", desc := "(I)I" } : Jvm.MethodName) prog_16_method_86_code (2 : Nat) (Option.some Jvm.ClassFile.FieldType.int)) ∈ lw_all := lw_g (lw_at lw_m7 155 rfl) rfl
theorem q1664 : (Jvm.Cond.instanceMethod ({ cls := "ChairRanksModel", name := "count", desc := "(I)I" } : Jvm.MethodName)) ∈ lw_all := lw_g (lw_at lw_m7 157 rfl) rfl
theorem q1665 : (Jvm.Cond.selects "ChairRanksModel" ({ cls := "ChairRanksModel", name := "count", desc := "(I)I" } : Jvm.MethodName) ({ cls := "ChairRanksModel", name := "count", desc := "(I)I" } : Jvm.MethodName)) ∈ lw_all := lw_g (lw_at lw_m7 158 rfl) rfl
theorem q1666 : (Jvm.Cond.code ({ cls := "ChairRanksModel", name := "count", desc := "(I)I" } : Jvm.MethodName) prog_16_method_87_code (4 : Nat) (Option.some Jvm.ClassFile.FieldType.int)) ∈ lw_all := lw_g (lw_at lw_m7 159 rfl) rfl
theorem q1668 : (Jvm.Cond.instanceMethod ({ cls := "ChairRanksModel", name := "status", desc := "()I" } : Jvm.MethodName)) ∈ lw_all := lw_g (lw_at lw_m7 161 rfl) rfl
theorem q1669 : (Jvm.Cond.selects "ChairRanksModel" ({ cls := "ChairRanksModel", name := "status", desc := "()I" } : Jvm.MethodName) ({ cls := "ChairRanksModel", name := "status", desc := "()I" } : Jvm.MethodName)) ∈ lw_all := lw_g (lw_at lw_m7 162 rfl) rfl
theorem q1670 : (Jvm.Cond.code ({ cls := "ChairRanksModel", name := "status", desc := "()I" } : Jvm.MethodName) prog_16_method_88_code (1 : Nat) (Option.some Jvm.ClassFile.FieldType.int)) ∈ lw_all := lw_g (lw_at lw_m7 163 rfl) rfl
theorem q1698 : (Jvm.Cond.castable "ChairRanksModel" "java/lang/Object") ∈ lw_tbl := lw_at lw_m7 191 rfl
theorem in_X9 : ∀ w ∈ wsX90, w ∈ lw_all := lw_in wsX90 [1255, 1257, 1259, 1261, 1263, 1265, 1267, 1269, 1271, 1273, 1275, 1277, 1279, 1281, 1283, 1285, 1287, 1289, 1291, 1293, 1295, 1297, 1299, 1301, 1303] (by decide +kernel) (by decide +kernel)
