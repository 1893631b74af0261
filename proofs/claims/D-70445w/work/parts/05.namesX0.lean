/-! LampSquares -/
set_option maxRecDepth 100000
def RX0 : String := "LampSquares"
def TX0 : u_T := fun k => match k with
  | 0 => ("LampSquares", "rows", "[LLampSquares$Row;", true)
  | 1 => ("LampSquares", "tape", "[B", true)
  | 2 => ("LampSquares", "taped", "I", false)
  | 3 => ("LampSquares", "faultKind", "I", false)
  | 4 => ("LampSquares", "door", "LLampSquares$Door;", true)
  | 5 => ("LampSquares", "trial", "LLampSquares$Door;", true)
  | 6 => ("LampSquares", "past", "[LLampSquares$Door;", true)
  | 7 => ("LampSquares", "acts", "I", false)
  | 8 => ("LampSquares", "images", "[LLampSquares$Door;", true)
  | 9 => ("LampSquares", "trail", "LLampSquares$Trail;", false)
  | 10 => ("LampSquares", "status", "I", false)
  | _ => ("LampSquares", "takens", "[LLampSquares$Square;", true)
def tyX0 : Nat → FieldType := fun k => match k with
  | 0 => .array (.object "LampSquares$Row")
  | 1 => .array .byte
  | 2 => .int
  | 3 => .int
  | 4 => .object "LampSquares$Door"
  | 5 => .object "LampSquares$Door"
  | 6 => .array (.object "LampSquares$Door")
  | 7 => .int
  | 8 => .array (.object "LampSquares$Door")
  | 9 => .object "LampSquares$Trail"
  | 10 => .int
  | _ => .array (.object "LampSquares$Square")
abbrev wsX00 : List Cond := u_ws RX0 TX0 12
theorem nmX0 : ∀ a, a < 12 → ∀ b, b < 12 → a ≠ b → (TX0 a).2.1 ≠ (TX0 b).2.1 := by decide +kernel
theorem tyX0_ok : ∀ k, k < 12 → parseFieldDescriptor (TX0 k).2.2.1 = some (tyX0 k) := by decide +kernel
abbrev cX0_init : ByteArray := prog_1_method_5_code
def yX0_init : MethodName := ⟨RX0, "<init>", "()V"⟩
def dkwX0_init_5 : List UInt8 := [183, 0, 15, 83, 89, 7, 187, 0, 16, 89, 3, 183, 0, 18, 83, 181, 0, 66, 177]
abbrev dktX0_init_5 : List UInt8 := dkwX0_init_5 ++ []
def dkwX0_init_4 : List UInt8 := [89, 3, 183, 0, 9, 83, 89, 5, 187, 0, 10, 89, 3, 183, 0, 12, 83, 89, 6, 187, 0, 13, 89, 3]
abbrev dktX0_init_4 : List UInt8 := dkwX0_init_4 ++ dktX0_init_5
def dkwX0_init_3 : List UInt8 := [181, 0, 62, 42, 8, 189, 0, 20, 89, 3, 187, 0, 1, 89, 3, 183, 0, 3, 83, 89, 4, 187, 0, 7]
abbrev dktX0_init_3 : List UInt8 := dkwX0_init_3 ++ dktX0_init_4
def dkwX0_init_2 : List UInt8 := [189, 0, 42, 181, 0, 52, 42, 5, 189, 0, 42, 181, 0, 56, 42, 187, 0, 59, 89, 183, 0, 61]
abbrev dktX0_init_2 : List UInt8 := dkwX0_init_2 ++ dktX0_init_3
def dkwX0_init_1 : List UInt8 := [187, 0, 42, 89, 183, 0, 44, 181, 0, 45, 42, 187, 0, 42, 89, 183, 0, 44, 181, 0, 49, 42, 16, 24]
abbrev dktX0_init_1 : List UInt8 := dkwX0_init_1 ++ dktX0_init_2
def dkwX0_init_0 : List UInt8 := [42, 183, 0, 27, 42, 16, 8, 189, 0, 32, 181, 0, 34, 42, 16, 120, 188, 8, 181, 0, 38, 42]
abbrev dktX0_init_0 : List UInt8 := dkwX0_init_0 ++ dktX0_init_1
theorem dksX0_init_0 : cX0_init.data.toList.drop 0 = dktX0_init_0 := by decide +kernel
theorem dksX0_init_1 : cX0_init.data.toList.drop 22 = dktX0_init_1 := dk_seg dksX0_init_0 22 rfl rfl
theorem dksX0_init_2 : cX0_init.data.toList.drop 46 = dktX0_init_2 := dk_seg dksX0_init_1 24 rfl rfl
theorem dksX0_init_3 : cX0_init.data.toList.drop 68 = dktX0_init_3 := dk_seg dksX0_init_2 22 rfl rfl
theorem dksX0_init_4 : cX0_init.data.toList.drop 92 = dktX0_init_4 := dk_seg dksX0_init_3 24 rfl rfl
theorem dksX0_init_5 : cX0_init.data.toList.drop 116 = dktX0_init_5 := dk_seg dksX0_init_4 24 rfl rfl
theorem dX0_init_0 : decode cX0_init 0 = .ok (.aload_n 0, 1) := dk_42 (dk_at dksX0_init_0 0 rfl rfl)
theorem dX0_init_1 : decode cX0_init 1 = .ok (.invokespecial 27, 3) := dk_183 0 27 (dk_at dksX0_init_0 1 rfl rfl)
theorem dX0_init_4 : decode cX0_init 4 = .ok (.aload_n 0, 1) := dk_42 (dk_at dksX0_init_0 4 rfl rfl)
theorem dX0_init_5 : decode cX0_init 5 = .ok (.bipush 8, 2) := dk_16 8 (dk_at dksX0_init_0 5 rfl rfl)
theorem dX0_init_7 : decode cX0_init 7 = .ok (.anewarray 32, 3) := dk_189 0 32 (dk_at dksX0_init_0 7 rfl rfl)
theorem dX0_init_10 : decode cX0_init 10 = .ok (.putfield 34, 3) := dk_181 0 34 (dk_at dksX0_init_0 10 rfl rfl)
theorem dX0_init_13 : decode cX0_init 13 = .ok (.aload_n 0, 1) := dk_42 (dk_at dksX0_init_0 13 rfl rfl)
theorem dX0_init_14 : decode cX0_init 14 = .ok (.bipush 120, 2) := dk_16 120 (dk_at dksX0_init_0 14 rfl rfl)
theorem dX0_init_16 : decode cX0_init 16 = .ok (.newarray .byte, 2) := dk_188_8 (dk_at dksX0_init_0 16 rfl rfl)
theorem dX0_init_18 : decode cX0_init 18 = .ok (.putfield 38, 3) := dk_181 0 38 (dk_at dksX0_init_0 18 rfl rfl)
theorem dX0_init_21 : decode cX0_init 21 = .ok (.aload_n 0, 1) := dk_42 (dk_at dksX0_init_0 21 rfl rfl)
theorem dX0_init_22 : decode cX0_init 22 = .ok (.new 42, 3) := dk_187 0 42 (dk_at dksX0_init_1 0 rfl rfl)
theorem dX0_init_25 : decode cX0_init 25 = .ok (.dup, 1) := dk_89 (dk_at dksX0_init_1 3 rfl rfl)
theorem dX0_init_26 : decode cX0_init 26 = .ok (.invokespecial 44, 3) := dk_183 0 44 (dk_at dksX0_init_1 4 rfl rfl)
theorem dX0_init_29 : decode cX0_init 29 = .ok (.putfield 45, 3) := dk_181 0 45 (dk_at dksX0_init_1 7 rfl rfl)
theorem dX0_init_32 : decode cX0_init 32 = .ok (.aload_n 0, 1) := dk_42 (dk_at dksX0_init_1 10 rfl rfl)
theorem dX0_init_33 : decode cX0_init 33 = .ok (.new 42, 3) := dk_187 0 42 (dk_at dksX0_init_1 11 rfl rfl)
theorem dX0_init_36 : decode cX0_init 36 = .ok (.dup, 1) := dk_89 (dk_at dksX0_init_1 14 rfl rfl)
theorem dX0_init_37 : decode cX0_init 37 = .ok (.invokespecial 44, 3) := dk_183 0 44 (dk_at dksX0_init_1 15 rfl rfl)
theorem dX0_init_40 : decode cX0_init 40 = .ok (.putfield 49, 3) := dk_181 0 49 (dk_at dksX0_init_1 18 rfl rfl)
theorem dX0_init_43 : decode cX0_init 43 = .ok (.aload_n 0, 1) := dk_42 (dk_at dksX0_init_1 21 rfl rfl)
theorem dX0_init_44 : decode cX0_init 44 = .ok (.bipush 24, 2) := dk_16 24 (dk_at dksX0_init_1 22 rfl rfl)
theorem dX0_init_46 : decode cX0_init 46 = .ok (.anewarray 42, 3) := dk_189 0 42 (dk_at dksX0_init_2 0 rfl rfl)
theorem dX0_init_49 : decode cX0_init 49 = .ok (.putfield 52, 3) := dk_181 0 52 (dk_at dksX0_init_2 3 rfl rfl)
theorem dX0_init_52 : decode cX0_init 52 = .ok (.aload_n 0, 1) := dk_42 (dk_at dksX0_init_2 6 rfl rfl)
theorem dX0_init_53 : decode cX0_init 53 = .ok (.iconst 2, 1) := dk_5 (dk_at dksX0_init_2 7 rfl rfl)
theorem dX0_init_54 : decode cX0_init 54 = .ok (.anewarray 42, 3) := dk_189 0 42 (dk_at dksX0_init_2 8 rfl rfl)
theorem dX0_init_57 : decode cX0_init 57 = .ok (.putfield 56, 3) := dk_181 0 56 (dk_at dksX0_init_2 11 rfl rfl)
theorem dX0_init_60 : decode cX0_init 60 = .ok (.aload_n 0, 1) := dk_42 (dk_at dksX0_init_2 14 rfl rfl)
theorem dX0_init_61 : decode cX0_init 61 = .ok (.new 59, 3) := dk_187 0 59 (dk_at dksX0_init_2 15 rfl rfl)
theorem dX0_init_64 : decode cX0_init 64 = .ok (.dup, 1) := dk_89 (dk_at dksX0_init_2 18 rfl rfl)
theorem dX0_init_65 : decode cX0_init 65 = .ok (.invokespecial 61, 3) := dk_183 0 61 (dk_at dksX0_init_2 19 rfl rfl)
theorem dX0_init_68 : decode cX0_init 68 = .ok (.putfield 62, 3) := dk_181 0 62 (dk_at dksX0_init_3 0 rfl rfl)
theorem dX0_init_71 : decode cX0_init 71 = .ok (.aload_n 0, 1) := dk_42 (dk_at dksX0_init_3 3 rfl rfl)
theorem dX0_init_72 : decode cX0_init 72 = .ok (.iconst 5, 1) := dk_8 (dk_at dksX0_init_3 4 rfl rfl)
theorem dX0_init_73 : decode cX0_init 73 = .ok (.anewarray 20, 3) := dk_189 0 20 (dk_at dksX0_init_3 5 rfl rfl)
theorem dX0_init_76 : decode cX0_init 76 = .ok (.dup, 1) := dk_89 (dk_at dksX0_init_3 8 rfl rfl)
theorem dX0_init_77 : decode cX0_init 77 = .ok (.iconst 0, 1) := dk_3 (dk_at dksX0_init_3 9 rfl rfl)
theorem dX0_init_78 : decode cX0_init 78 = .ok (.new 1, 3) := dk_187 0 1 (dk_at dksX0_init_3 10 rfl rfl)
theorem dX0_init_81 : decode cX0_init 81 = .ok (.dup, 1) := dk_89 (dk_at dksX0_init_3 13 rfl rfl)
theorem dX0_init_82 : decode cX0_init 82 = .ok (.iconst 0, 1) := dk_3 (dk_at dksX0_init_3 14 rfl rfl)
theorem dX0_init_83 : decode cX0_init 83 = .ok (.invokespecial 3, 3) := dk_183 0 3 (dk_at dksX0_init_3 15 rfl rfl)
theorem dX0_init_86 : decode cX0_init 86 = .ok (.aastore, 1) := dk_83 (dk_at dksX0_init_3 18 rfl rfl)
theorem dX0_init_87 : decode cX0_init 87 = .ok (.dup, 1) := dk_89 (dk_at dksX0_init_3 19 rfl rfl)
theorem dX0_init_88 : decode cX0_init 88 = .ok (.iconst 1, 1) := dk_4 (dk_at dksX0_init_3 20 rfl rfl)
theorem dX0_init_89 : decode cX0_init 89 = .ok (.new 7, 3) := dk_187 0 7 (dk_at dksX0_init_3 21 rfl rfl)
theorem dX0_init_92 : decode cX0_init 92 = .ok (.dup, 1) := dk_89 (dk_at dksX0_init_4 0 rfl rfl)
theorem dX0_init_93 : decode cX0_init 93 = .ok (.iconst 0, 1) := dk_3 (dk_at dksX0_init_4 1 rfl rfl)
theorem dX0_init_94 : decode cX0_init 94 = .ok (.invokespecial 9, 3) := dk_183 0 9 (dk_at dksX0_init_4 2 rfl rfl)
theorem dX0_init_97 : decode cX0_init 97 = .ok (.aastore, 1) := dk_83 (dk_at dksX0_init_4 5 rfl rfl)
theorem dX0_init_98 : decode cX0_init 98 = .ok (.dup, 1) := dk_89 (dk_at dksX0_init_4 6 rfl rfl)
theorem dX0_init_99 : decode cX0_init 99 = .ok (.iconst 2, 1) := dk_5 (dk_at dksX0_init_4 7 rfl rfl)
theorem dX0_init_100 : decode cX0_init 100 = .ok (.new 10, 3) := dk_187 0 10 (dk_at dksX0_init_4 8 rfl rfl)
theorem dX0_init_103 : decode cX0_init 103 = .ok (.dup, 1) := dk_89 (dk_at dksX0_init_4 11 rfl rfl)
theorem dX0_init_104 : decode cX0_init 104 = .ok (.iconst 0, 1) := dk_3 (dk_at dksX0_init_4 12 rfl rfl)
theorem dX0_init_105 : decode cX0_init 105 = .ok (.invokespecial 12, 3) := dk_183 0 12 (dk_at dksX0_init_4 13 rfl rfl)
theorem dX0_init_108 : decode cX0_init 108 = .ok (.aastore, 1) := dk_83 (dk_at dksX0_init_4 16 rfl rfl)
theorem dX0_init_109 : decode cX0_init 109 = .ok (.dup, 1) := dk_89 (dk_at dksX0_init_4 17 rfl rfl)
theorem dX0_init_110 : decode cX0_init 110 = .ok (.iconst 3, 1) := dk_6 (dk_at dksX0_init_4 18 rfl rfl)
theorem dX0_init_111 : decode cX0_init 111 = .ok (.new 13, 3) := dk_187 0 13 (dk_at dksX0_init_4 19 rfl rfl)
theorem dX0_init_114 : decode cX0_init 114 = .ok (.dup, 1) := dk_89 (dk_at dksX0_init_4 22 rfl rfl)
theorem dX0_init_115 : decode cX0_init 115 = .ok (.iconst 0, 1) := dk_3 (dk_at dksX0_init_4 23 rfl rfl)
theorem dX0_init_116 : decode cX0_init 116 = .ok (.invokespecial 15, 3) := dk_183 0 15 (dk_at dksX0_init_5 0 rfl rfl)
theorem dX0_init_119 : decode cX0_init 119 = .ok (.aastore, 1) := dk_83 (dk_at dksX0_init_5 3 rfl rfl)
theorem dX0_init_120 : decode cX0_init 120 = .ok (.dup, 1) := dk_89 (dk_at dksX0_init_5 4 rfl rfl)
theorem dX0_init_121 : decode cX0_init 121 = .ok (.iconst 4, 1) := dk_7 (dk_at dksX0_init_5 5 rfl rfl)
theorem dX0_init_122 : decode cX0_init 122 = .ok (.new 16, 3) := dk_187 0 16 (dk_at dksX0_init_5 6 rfl rfl)
theorem dX0_init_125 : decode cX0_init 125 = .ok (.dup, 1) := dk_89 (dk_at dksX0_init_5 9 rfl rfl)
theorem dX0_init_126 : decode cX0_init 126 = .ok (.iconst 0, 1) := dk_3 (dk_at dksX0_init_5 10 rfl rfl)
theorem dX0_init_127 : decode cX0_init 127 = .ok (.invokespecial 18, 3) := dk_183 0 18 (dk_at dksX0_init_5 11 rfl rfl)
theorem dX0_init_130 : decode cX0_init 130 = .ok (.aastore, 1) := dk_83 (dk_at dksX0_init_5 14 rfl rfl)
theorem dX0_init_131 : decode cX0_init 131 = .ok (.putfield 66, 3) := dk_181 0 66 (dk_at dksX0_init_5 15 rfl rfl)
theorem dX0_init_134 : decode cX0_init 134 = .ok (.return_, 1) := dk_177 (dk_at dksX0_init_5 18 rfl rfl)
abbrev cX0_row : ByteArray := prog_1_method_11_code
def yX0_row : MethodName := ⟨RX0, "row", "(III)I"⟩
def dkwX0_row_3 : List UInt8 := [172]
abbrev dktX0_row_3 : List UInt8 := dkwX0_row_3 ++ []
def dkwX0_row_2 : List UInt8 := [187, 0, 32, 89, 28, 29, 183, 0, 98, 83, 42, 29, 182, 0, 101, 172, 58, 4, 42, 25, 4, 182, 0, 105]
abbrev dktX0_row_2 : List UInt8 := dkwX0_row_2 ++ dktX0_row_3
def dkwX0_row_1 : List UInt8 := [164, 0, 6, 18, 97, 172, 29, 155, 0, 7, 4, 167, 0, 4, 3, 7, 184, 0, 87, 42, 180, 0, 34, 27]
abbrev dktX0_row_1 : List UInt8 := dkwX0_row_1 ++ dktX0_row_2
def dkwX0_row_0 : List UInt8 := [27, 184, 0, 91, 153, 0, 21, 28, 133, 9, 20, 0, 95, 184, 0, 83, 153, 0, 9, 29, 16, 40]
abbrev dktX0_row_0 : List UInt8 := dkwX0_row_0 ++ dktX0_row_1
theorem dksX0_row_0 : cX0_row.data.toList.drop 0 = dktX0_row_0 := by decide +kernel
theorem dksX0_row_1 : cX0_row.data.toList.drop 22 = dktX0_row_1 := dk_seg dksX0_row_0 22 rfl rfl
theorem dksX0_row_2 : cX0_row.data.toList.drop 46 = dktX0_row_2 := dk_seg dksX0_row_1 24 rfl rfl
theorem dksX0_row_3 : cX0_row.data.toList.drop 70 = dktX0_row_3 := dk_seg dksX0_row_2 24 rfl rfl
theorem dX0_row_0 : decode cX0_row 0 = .ok (.iload_n 1, 1) := dk_27 (dk_at dksX0_row_0 0 rfl rfl)
theorem dX0_row_1 : decode cX0_row 1 = .ok (.invokestatic 91, 3) := dk_184 0 91 (dk_at dksX0_row_0 1 rfl rfl)
theorem dX0_row_4 : decode cX0_row 4 = .ok (.ifCond .eq 21, 3) := dk_153 0 21 (dk_at dksX0_row_0 4 rfl rfl)
theorem dX0_row_7 : decode cX0_row 7 = .ok (.iload_n 2, 1) := dk_28 (dk_at dksX0_row_0 7 rfl rfl)
theorem dX0_row_8 : decode cX0_row 8 = .ok (.i2l, 1) := dk_133 (dk_at dksX0_row_0 8 rfl rfl)
theorem dX0_row_9 : decode cX0_row 9 = .ok (.lconst 0, 1) := dk_9 (dk_at dksX0_row_0 9 rfl rfl)
theorem dX0_row_10 : decode cX0_row 10 = .ok (.ldc2_w 95, 3) := dk_20 0 95 (dk_at dksX0_row_0 10 rfl rfl)
theorem dX0_row_13 : decode cX0_row 13 = .ok (.invokestatic 83, 3) := dk_184 0 83 (dk_at dksX0_row_0 13 rfl rfl)
theorem dX0_row_16 : decode cX0_row 16 = .ok (.ifCond .eq 9, 3) := dk_153 0 9 (dk_at dksX0_row_0 16 rfl rfl)
theorem dX0_row_19 : decode cX0_row 19 = .ok (.iload_n 3, 1) := dk_29 (dk_at dksX0_row_0 19 rfl rfl)
theorem dX0_row_20 : decode cX0_row 20 = .ok (.bipush 40, 2) := dk_16 40 (dk_at dksX0_row_0 20 rfl rfl)
theorem dX0_row_22 : decode cX0_row 22 = .ok (.if_icmp .le 6, 3) := dk_164 0 6 (dk_at dksX0_row_1 0 rfl rfl)
theorem dX0_row_25 : decode cX0_row 25 = .ok (.ldc 97, 2) := dk_18 97 (dk_at dksX0_row_1 3 rfl rfl)
theorem dX0_row_27 : decode cX0_row 27 = .ok (.ireturn, 1) := dk_172 (dk_at dksX0_row_1 5 rfl rfl)
theorem dX0_row_28 : decode cX0_row 28 = .ok (.iload_n 3, 1) := dk_29 (dk_at dksX0_row_1 6 rfl rfl)
theorem dX0_row_29 : decode cX0_row 29 = .ok (.ifCond .lt 7, 3) := dk_155 0 7 (dk_at dksX0_row_1 7 rfl rfl)
theorem dX0_row_32 : decode cX0_row 32 = .ok (.iconst 1, 1) := dk_4 (dk_at dksX0_row_1 10 rfl rfl)
theorem dX0_row_33 : decode cX0_row 33 = .ok (.goto 4, 3) := dk_167 0 4 (dk_at dksX0_row_1 11 rfl rfl)
theorem dX0_row_36 : decode cX0_row 36 = .ok (.iconst 0, 1) := dk_3 (dk_at dksX0_row_1 14 rfl rfl)
theorem dX0_row_37 : decode cX0_row 37 = .ok (.iconst 4, 1) := dk_7 (dk_at dksX0_row_1 15 rfl rfl)
theorem dX0_row_38 : decode cX0_row 38 = .ok (.invokestatic 87, 3) := dk_184 0 87 (dk_at dksX0_row_1 16 rfl rfl)
theorem dX0_row_41 : decode cX0_row 41 = .ok (.aload_n 0, 1) := dk_42 (dk_at dksX0_row_1 19 rfl rfl)
theorem dX0_row_42 : decode cX0_row 42 = .ok (.getfield 34, 3) := dk_180 0 34 (dk_at dksX0_row_1 20 rfl rfl)
theorem dX0_row_45 : decode cX0_row 45 = .ok (.iload_n 1, 1) := dk_27 (dk_at dksX0_row_1 23 rfl rfl)
theorem dX0_row_46 : decode cX0_row 46 = .ok (.new 32, 3) := dk_187 0 32 (dk_at dksX0_row_2 0 rfl rfl)
theorem dX0_row_49 : decode cX0_row 49 = .ok (.dup, 1) := dk_89 (dk_at dksX0_row_2 3 rfl rfl)
theorem dX0_row_50 : decode cX0_row 50 = .ok (.iload_n 2, 1) := dk_28 (dk_at dksX0_row_2 4 rfl rfl)
theorem dX0_row_51 : decode cX0_row 51 = .ok (.iload_n 3, 1) := dk_29 (dk_at dksX0_row_2 5 rfl rfl)
theorem dX0_row_52 : decode cX0_row 52 = .ok (.invokespecial 98, 3) := dk_183 0 98 (dk_at dksX0_row_2 6 rfl rfl)
theorem dX0_row_55 : decode cX0_row 55 = .ok (.aastore, 1) := dk_83 (dk_at dksX0_row_2 9 rfl rfl)
theorem dX0_row_56 : decode cX0_row 56 = .ok (.aload_n 0, 1) := dk_42 (dk_at dksX0_row_2 10 rfl rfl)
theorem dX0_row_57 : decode cX0_row 57 = .ok (.iload_n 3, 1) := dk_29 (dk_at dksX0_row_2 11 rfl rfl)
theorem dX0_row_58 : decode cX0_row 58 = .ok (.invokevirtual 101, 3) := dk_182 0 101 (dk_at dksX0_row_2 12 rfl rfl)
theorem dX0_row_61 : decode cX0_row 61 = .ok (.ireturn, 1) := dk_172 (dk_at dksX0_row_2 15 rfl rfl)
theorem dX0_row_62 : decode cX0_row 62 = .ok (.astore 4, 2) := dk_58 4 (dk_at dksX0_row_2 16 rfl rfl)
theorem dX0_row_64 : decode cX0_row 64 = .ok (.aload_n 0, 1) := dk_42 (dk_at dksX0_row_2 18 rfl rfl)
theorem dX0_row_65 : decode cX0_row 65 = .ok (.aload 4, 2) := dk_25 4 (dk_at dksX0_row_2 19 rfl rfl)
theorem dX0_row_67 : decode cX0_row 67 = .ok (.invokevirtual 105, 3) := dk_182 0 105 (dk_at dksX0_row_2 21 rfl rfl)
theorem dX0_row_70 : decode cX0_row 70 = .ok (.ireturn, 1) := dk_172 (dk_at dksX0_row_3 0 rfl rfl)
abbrev cX0_isRow : ByteArray := prog_1_method_9_code
def yX0_isRow : MethodName := ⟨RX0, "isRow", "(I)Z"⟩
def dkwX0_isRow_0 : List UInt8 := [26, 133, 9, 20, 0, 81, 184, 0, 83, 172]
abbrev dktX0_isRow_0 : List UInt8 := dkwX0_isRow_0 ++ []
theorem dksX0_isRow_0 : cX0_isRow.data.toList.drop 0 = dktX0_isRow_0 := by decide +kernel
theorem dX0_isRow_0 : decode cX0_isRow 0 = .ok (.iload_n 0, 1) := dk_26 (dk_at dksX0_isRow_0 0 rfl rfl)
theorem dX0_isRow_1 : decode cX0_isRow 1 = .ok (.i2l, 1) := dk_133 (dk_at dksX0_isRow_0 1 rfl rfl)
theorem dX0_isRow_2 : decode cX0_isRow 2 = .ok (.lconst 0, 1) := dk_9 (dk_at dksX0_isRow_0 2 rfl rfl)
theorem dX0_isRow_3 : decode cX0_isRow 3 = .ok (.ldc2_w 81, 3) := dk_20 0 81 (dk_at dksX0_isRow_0 3 rfl rfl)
theorem dX0_isRow_6 : decode cX0_isRow 6 = .ok (.invokestatic 83, 3) := dk_184 0 83 (dk_at dksX0_isRow_0 6 rfl rfl)
theorem dX0_isRow_9 : decode cX0_isRow 9 = .ok (.ireturn, 1) := dk_172 (dk_at dksX0_isRow_0 9 rfl rfl)
abbrev cX0_isIn : ByteArray := prog_1_method_1_code
def yX0_isIn : MethodName := ⟨RX0, "isIn", "(JJJ)Z"⟩
def dkwX0_isIn_0 : List UInt8 := [30, 32, 148, 155, 0, 14, 30, 22, 4, 148, 157, 0, 7, 4, 167, 0, 4, 3, 172]
abbrev dktX0_isIn_0 : List UInt8 := dkwX0_isIn_0 ++ []
theorem dksX0_isIn_0 : cX0_isIn.data.toList.drop 0 = dktX0_isIn_0 := by decide +kernel
theorem dX0_isIn_0 : decode cX0_isIn 0 = .ok (.lload_n 0, 1) := dk_30 (dk_at dksX0_isIn_0 0 rfl rfl)
theorem dX0_isIn_1 : decode cX0_isIn 1 = .ok (.lload_n 2, 1) := dk_32 (dk_at dksX0_isIn_0 1 rfl rfl)
theorem dX0_isIn_2 : decode cX0_isIn 2 = .ok (.lcmp, 1) := dk_148 (dk_at dksX0_isIn_0 2 rfl rfl)
theorem dX0_isIn_3 : decode cX0_isIn 3 = .ok (.ifCond .lt 14, 3) := dk_155 0 14 (dk_at dksX0_isIn_0 3 rfl rfl)
theorem dX0_isIn_6 : decode cX0_isIn 6 = .ok (.lload_n 0, 1) := dk_30 (dk_at dksX0_isIn_0 6 rfl rfl)
theorem dX0_isIn_7 : decode cX0_isIn 7 = .ok (.lload 4, 2) := dk_22 4 (dk_at dksX0_isIn_0 7 rfl rfl)
theorem dX0_isIn_9 : decode cX0_isIn 9 = .ok (.lcmp, 1) := dk_148 (dk_at dksX0_isIn_0 9 rfl rfl)
theorem dX0_isIn_10 : decode cX0_isIn 10 = .ok (.ifCond .gt 7, 3) := dk_157 0 7 (dk_at dksX0_isIn_0 10 rfl rfl)
theorem dX0_isIn_13 : decode cX0_isIn 13 = .ok (.iconst 1, 1) := dk_4 (dk_at dksX0_isIn_0 13 rfl rfl)
theorem dX0_isIn_14 : decode cX0_isIn 14 = .ok (.goto 4, 3) := dk_167 0 4 (dk_at dksX0_isIn_0 14 rfl rfl)
theorem dX0_isIn_17 : decode cX0_isIn 17 = .ok (.iconst 0, 1) := dk_3 (dk_at dksX0_isIn_0 17 rfl rfl)
theorem dX0_isIn_18 : decode cX0_isIn 18 = .ok (.ireturn, 1) := dk_172 (dk_at dksX0_isIn_0 18 rfl rfl)
abbrev cX0_must : ByteArray := prog_1_method_8_code
def yX0_must : MethodName := ⟨RX0, "must", "(ZI)V"⟩
def dkwX0_must_0 : List UInt8 := [26, 154, 0, 12, 187, 0, 71, 89, 27, 183, 0, 80, 191, 177]
abbrev dktX0_must_0 : List UInt8 := dkwX0_must_0 ++ []
theorem dksX0_must_0 : cX0_must.data.toList.drop 0 = dktX0_must_0 := by decide +kernel
theorem dX0_must_0 : decode cX0_must 0 = .ok (.iload_n 0, 1) := dk_26 (dk_at dksX0_must_0 0 rfl rfl)
theorem dX0_must_1 : decode cX0_must 1 = .ok (.ifCond .ne 12, 3) := dk_154 0 12 (dk_at dksX0_must_0 1 rfl rfl)
theorem dX0_must_4 : decode cX0_must 4 = .ok (.new 71, 3) := dk_187 0 71 (dk_at dksX0_must_0 4 rfl rfl)
theorem dX0_must_7 : decode cX0_must 7 = .ok (.dup, 1) := dk_89 (dk_at dksX0_must_0 7 rfl rfl)
theorem dX0_must_8 : decode cX0_must 8 = .ok (.iload_n 1, 1) := dk_27 (dk_at dksX0_must_0 8 rfl rfl)
theorem dX0_must_9 : decode cX0_must 9 = .ok (.invokespecial 80, 3) := dk_183 0 80 (dk_at dksX0_must_0 9 rfl rfl)
theorem dX0_must_12 : decode cX0_must 12 = .ok (.athrow, 1) := dk_191 (dk_at dksX0_must_0 12 rfl rfl)
theorem dX0_must_13 : decode cX0_must 13 = .ok (.return_, 1) := dk_177 (dk_at dksX0_must_0 13 rfl rfl)
abbrev cX0_well : ByteArray := prog_1_method_7_code
def yX0_well : MethodName := ⟨RX0, "well", "(I)I"⟩
def dkwX0_well_0 : List UInt8 := [42, 3, 181, 0, 76, 27, 172]
abbrev dktX0_well_0 : List UInt8 := dkwX0_well_0 ++ []
theorem dksX0_well_0 : cX0_well.data.toList.drop 0 = dktX0_well_0 := by decide +kernel
theorem dX0_well_0 : decode cX0_well 0 = .ok (.aload_n 0, 1) := dk_42 (dk_at dksX0_well_0 0 rfl rfl)
theorem dX0_well_1 : decode cX0_well 1 = .ok (.iconst 0, 1) := dk_3 (dk_at dksX0_well_0 1 rfl rfl)
theorem dX0_well_2 : decode cX0_well 2 = .ok (.putfield 76, 3) := dk_181 0 76 (dk_at dksX0_well_0 2 rfl rfl)
theorem dX0_well_5 : decode cX0_well 5 = .ok (.iload_n 1, 1) := dk_27 (dk_at dksX0_well_0 5 rfl rfl)
theorem dX0_well_6 : decode cX0_well 6 = .ok (.ireturn, 1) := dk_172 (dk_at dksX0_well_0 6 rfl rfl)
abbrev cX0_found : ByteArray := prog_1_method_6_code
def yX0_found : MethodName := ⟨RX0, "found", "(LLampSquares$Finding;)I"⟩
def dkwX0_found_0 : List UInt8 := [42, 43, 180, 0, 70, 181, 0, 76, 18, 79, 43, 180, 0, 70, 100, 172]
abbrev dktX0_found_0 : List UInt8 := dkwX0_found_0 ++ []
theorem dksX0_found_0 : cX0_found.data.toList.drop 0 = dktX0_found_0 := by decide +kernel
theorem dX0_found_0 : decode cX0_found 0 = .ok (.aload_n 0, 1) := dk_42 (dk_at dksX0_found_0 0 rfl rfl)
theorem dX0_found_1 : decode cX0_found 1 = .ok (.aload_n 1, 1) := dk_43 (dk_at dksX0_found_0 1 rfl rfl)
theorem dX0_found_2 : decode cX0_found 2 = .ok (.getfield 70, 3) := dk_180 0 70 (dk_at dksX0_found_0 2 rfl rfl)
theorem dX0_found_5 : decode cX0_found 5 = .ok (.putfield 76, 3) := dk_181 0 76 (dk_at dksX0_found_0 5 rfl rfl)
theorem dX0_found_8 : decode cX0_found 8 = .ok (.ldc 79, 2) := dk_18 79 (dk_at dksX0_found_0 8 rfl rfl)
theorem dX0_found_10 : decode cX0_found 10 = .ok (.aload_n 1, 1) := dk_43 (dk_at dksX0_found_0 10 rfl rfl)
theorem dX0_found_11 : decode cX0_found 11 = .ok (.getfield 70, 3) := dk_180 0 70 (dk_at dksX0_found_0 11 rfl rfl)
theorem dX0_found_14 : decode cX0_found 14 = .ok (.isub, 1) := dk_100 (dk_at dksX0_found_0 14 rfl rfl)
theorem dX0_found_15 : decode cX0_found 15 = .ok (.ireturn, 1) := dk_172 (dk_at dksX0_found_0 15 rfl rfl)
abbrev cX0_set : ByteArray := prog_1_method_12_code
def yX0_set : MethodName := ⟨RX0, "set", "(III)I"⟩
def dkwX0_set_3 : List UInt8 := [172]
abbrev dktX0_set_3 : List UInt8 := dkwX0_set_3 ++ []
def dkwX0_set_2 : List UInt8 := [182, 0, 117, 79, 42, 25, 4, 180, 0, 113, 28, 46, 182, 0, 101, 172, 58, 4, 42, 25, 4, 182, 0, 105]
abbrev dktX0_set_2 : List UInt8 := dkwX0_set_2 ++ dktX0_set_3
def dkwX0_set_1 : List UInt8 := [180, 0, 113, 190, 4, 100, 133, 184, 0, 83, 5, 184, 0, 87, 25, 4, 180, 0, 113, 28, 25, 4, 29]
abbrev dktX0_set_1 : List UInt8 := dkwX0_set_1 ++ dktX0_set_2
def dkwX0_set_0 : List UInt8 := [27, 184, 0, 91, 154, 0, 6, 18, 97, 172, 42, 27, 182, 0, 109, 58, 4, 28, 133, 9, 25, 4]
abbrev dktX0_set_0 : List UInt8 := dkwX0_set_0 ++ dktX0_set_1
theorem dksX0_set_0 : cX0_set.data.toList.drop 0 = dktX0_set_0 := by decide +kernel
theorem dksX0_set_1 : cX0_set.data.toList.drop 22 = dktX0_set_1 := dk_seg dksX0_set_0 22 rfl rfl
theorem dksX0_set_2 : cX0_set.data.toList.drop 45 = dktX0_set_2 := dk_seg dksX0_set_1 23 rfl rfl
theorem dksX0_set_3 : cX0_set.data.toList.drop 69 = dktX0_set_3 := dk_seg dksX0_set_2 24 rfl rfl
theorem dX0_set_0 : decode cX0_set 0 = .ok (.iload_n 1, 1) := dk_27 (dk_at dksX0_set_0 0 rfl rfl)
theorem dX0_set_1 : decode cX0_set 1 = .ok (.invokestatic 91, 3) := dk_184 0 91 (dk_at dksX0_set_0 1 rfl rfl)
theorem dX0_set_4 : decode cX0_set 4 = .ok (.ifCond .ne 6, 3) := dk_154 0 6 (dk_at dksX0_set_0 4 rfl rfl)
theorem dX0_set_7 : decode cX0_set 7 = .ok (.ldc 97, 2) := dk_18 97 (dk_at dksX0_set_0 7 rfl rfl)
theorem dX0_set_9 : decode cX0_set 9 = .ok (.ireturn, 1) := dk_172 (dk_at dksX0_set_0 9 rfl rfl)
theorem dX0_set_10 : decode cX0_set 10 = .ok (.aload_n 0, 1) := dk_42 (dk_at dksX0_set_0 10 rfl rfl)
theorem dX0_set_11 : decode cX0_set 11 = .ok (.iload_n 1, 1) := dk_27 (dk_at dksX0_set_0 11 rfl rfl)
theorem dX0_set_12 : decode cX0_set 12 = .ok (.invokevirtual 109, 3) := dk_182 0 109 (dk_at dksX0_set_0 12 rfl rfl)
theorem dX0_set_15 : decode cX0_set 15 = .ok (.astore 4, 2) := dk_58 4 (dk_at dksX0_set_0 15 rfl rfl)
theorem dX0_set_17 : decode cX0_set 17 = .ok (.iload_n 2, 1) := dk_28 (dk_at dksX0_set_0 17 rfl rfl)
theorem dX0_set_18 : decode cX0_set 18 = .ok (.i2l, 1) := dk_133 (dk_at dksX0_set_0 18 rfl rfl)
theorem dX0_set_19 : decode cX0_set 19 = .ok (.lconst 0, 1) := dk_9 (dk_at dksX0_set_0 19 rfl rfl)
theorem dX0_set_20 : decode cX0_set 20 = .ok (.aload 4, 2) := dk_25 4 (dk_at dksX0_set_0 20 rfl rfl)
theorem dX0_set_22 : decode cX0_set 22 = .ok (.getfield 113, 3) := dk_180 0 113 (dk_at dksX0_set_1 0 rfl rfl)
theorem dX0_set_25 : decode cX0_set 25 = .ok (.arraylength, 1) := dk_190 (dk_at dksX0_set_1 3 rfl rfl)
theorem dX0_set_26 : decode cX0_set 26 = .ok (.iconst 1, 1) := dk_4 (dk_at dksX0_set_1 4 rfl rfl)
theorem dX0_set_27 : decode cX0_set 27 = .ok (.isub, 1) := dk_100 (dk_at dksX0_set_1 5 rfl rfl)
theorem dX0_set_28 : decode cX0_set 28 = .ok (.i2l, 1) := dk_133 (dk_at dksX0_set_1 6 rfl rfl)
theorem dX0_set_29 : decode cX0_set 29 = .ok (.invokestatic 83, 3) := dk_184 0 83 (dk_at dksX0_set_1 7 rfl rfl)
theorem dX0_set_32 : decode cX0_set 32 = .ok (.iconst 2, 1) := dk_5 (dk_at dksX0_set_1 10 rfl rfl)
theorem dX0_set_33 : decode cX0_set 33 = .ok (.invokestatic 87, 3) := dk_184 0 87 (dk_at dksX0_set_1 11 rfl rfl)
theorem dX0_set_36 : decode cX0_set 36 = .ok (.aload 4, 2) := dk_25 4 (dk_at dksX0_set_1 14 rfl rfl)
theorem dX0_set_38 : decode cX0_set 38 = .ok (.getfield 113, 3) := dk_180 0 113 (dk_at dksX0_set_1 16 rfl rfl)
theorem dX0_set_41 : decode cX0_set 41 = .ok (.iload_n 2, 1) := dk_28 (dk_at dksX0_set_1 19 rfl rfl)
theorem dX0_set_42 : decode cX0_set 42 = .ok (.aload 4, 2) := dk_25 4 (dk_at dksX0_set_1 20 rfl rfl)
theorem dX0_set_44 : decode cX0_set 44 = .ok (.iload_n 3, 1) := dk_29 (dk_at dksX0_set_1 22 rfl rfl)
theorem dX0_set_45 : decode cX0_set 45 = .ok (.invokevirtual 117, 3) := dk_182 0 117 (dk_at dksX0_set_2 0 rfl rfl)
theorem dX0_set_48 : decode cX0_set 48 = .ok (.iastore, 1) := dk_79 (dk_at dksX0_set_2 3 rfl rfl)
theorem dX0_set_49 : decode cX0_set 49 = .ok (.aload_n 0, 1) := dk_42 (dk_at dksX0_set_2 4 rfl rfl)
theorem dX0_set_50 : decode cX0_set 50 = .ok (.aload 4, 2) := dk_25 4 (dk_at dksX0_set_2 5 rfl rfl)
theorem dX0_set_52 : decode cX0_set 52 = .ok (.getfield 113, 3) := dk_180 0 113 (dk_at dksX0_set_2 7 rfl rfl)
theorem dX0_set_55 : decode cX0_set 55 = .ok (.iload_n 2, 1) := dk_28 (dk_at dksX0_set_2 10 rfl rfl)
theorem dX0_set_56 : decode cX0_set 56 = .ok (.iaload, 1) := dk_46 (dk_at dksX0_set_2 11 rfl rfl)
theorem dX0_set_57 : decode cX0_set 57 = .ok (.invokevirtual 101, 3) := dk_182 0 101 (dk_at dksX0_set_2 12 rfl rfl)
theorem dX0_set_60 : decode cX0_set 60 = .ok (.ireturn, 1) := dk_172 (dk_at dksX0_set_2 15 rfl rfl)
theorem dX0_set_61 : decode cX0_set 61 = .ok (.astore 4, 2) := dk_58 4 (dk_at dksX0_set_2 16 rfl rfl)
theorem dX0_set_63 : decode cX0_set 63 = .ok (.aload_n 0, 1) := dk_42 (dk_at dksX0_set_2 18 rfl rfl)
theorem dX0_set_64 : decode cX0_set 64 = .ok (.aload 4, 2) := dk_25 4 (dk_at dksX0_set_2 19 rfl rfl)
theorem dX0_set_66 : decode cX0_set 66 = .ok (.invokevirtual 105, 3) := dk_182 0 105 (dk_at dksX0_set_2 21 rfl rfl)
theorem dX0_set_69 : decode cX0_set 69 = .ok (.ireturn, 1) := dk_172 (dk_at dksX0_set_3 0 rfl rfl)
abbrev cX0_rowAt : ByteArray := prog_1_method_10_code
def yX0_rowAt : MethodName := ⟨RX0, "rowAt", "(I)LLampSquares$Row;"⟩
def dkwX0_rowAt_1 : List UInt8 := [176]
abbrev dktX0_rowAt_1 : List UInt8 := dkwX0_rowAt_1 ++ []
def dkwX0_rowAt_0 : List UInt8 := [42, 180, 0, 34, 27, 50, 198, 0, 7, 4, 167, 0, 4, 3, 4, 184, 0, 87, 42, 180, 0, 34, 27, 50]
abbrev dktX0_rowAt_0 : List UInt8 := dkwX0_rowAt_0 ++ dktX0_rowAt_1
theorem dksX0_rowAt_0 : cX0_rowAt.data.toList.drop 0 = dktX0_rowAt_0 := by decide +kernel
theorem dksX0_rowAt_1 : cX0_rowAt.data.toList.drop 24 = dktX0_rowAt_1 := dk_seg dksX0_rowAt_0 24 rfl rfl
theorem dX0_rowAt_0 : decode cX0_rowAt 0 = .ok (.aload_n 0, 1) := dk_42 (dk_at dksX0_rowAt_0 0 rfl rfl)
theorem dX0_rowAt_1 : decode cX0_rowAt 1 = .ok (.getfield 34, 3) := dk_180 0 34 (dk_at dksX0_rowAt_0 1 rfl rfl)
theorem dX0_rowAt_4 : decode cX0_rowAt 4 = .ok (.iload_n 1, 1) := dk_27 (dk_at dksX0_rowAt_0 4 rfl rfl)
theorem dX0_rowAt_5 : decode cX0_rowAt 5 = .ok (.aaload, 1) := dk_50 (dk_at dksX0_rowAt_0 5 rfl rfl)
theorem dX0_rowAt_6 : decode cX0_rowAt 6 = .ok (.ifnull 7, 3) := dk_198 0 7 (dk_at dksX0_rowAt_0 6 rfl rfl)
theorem dX0_rowAt_9 : decode cX0_rowAt 9 = .ok (.iconst 1, 1) := dk_4 (dk_at dksX0_rowAt_0 9 rfl rfl)
theorem dX0_rowAt_10 : decode cX0_rowAt 10 = .ok (.goto 4, 3) := dk_167 0 4 (dk_at dksX0_rowAt_0 10 rfl rfl)
theorem dX0_rowAt_13 : decode cX0_rowAt 13 = .ok (.iconst 0, 1) := dk_3 (dk_at dksX0_rowAt_0 13 rfl rfl)
theorem dX0_rowAt_14 : decode cX0_rowAt 14 = .ok (.iconst 1, 1) := dk_4 (dk_at dksX0_rowAt_0 14 rfl rfl)
theorem dX0_rowAt_15 : decode cX0_rowAt 15 = .ok (.invokestatic 87, 3) := dk_184 0 87 (dk_at dksX0_rowAt_0 15 rfl rfl)
theorem dX0_rowAt_18 : decode cX0_rowAt 18 = .ok (.aload_n 0, 1) := dk_42 (dk_at dksX0_rowAt_0 18 rfl rfl)
theorem dX0_rowAt_19 : decode cX0_rowAt 19 = .ok (.getfield 34, 3) := dk_180 0 34 (dk_at dksX0_rowAt_0 19 rfl rfl)
theorem dX0_rowAt_22 : decode cX0_rowAt 22 = .ok (.iload_n 1, 1) := dk_27 (dk_at dksX0_rowAt_0 22 rfl rfl)
theorem dX0_rowAt_23 : decode cX0_rowAt 23 = .ok (.aaload, 1) := dk_50 (dk_at dksX0_rowAt_0 23 rfl rfl)
theorem dX0_rowAt_24 : decode cX0_rowAt 24 = .ok (.areturn, 1) := dk_176 (dk_at dksX0_rowAt_1 0 rfl rfl)
abbrev cX0_copy : ByteArray := prog_1_method_13_code
def yX0_copy : MethodName := ⟨RX0, "copy", "(IIIII)I"⟩
def dkwX0_copy_4 : List UInt8 := [25, 6, 182, 0, 105, 172]
abbrev dktX0_copy_4 : List UInt8 := dkwX0_copy_4 ++ []
def dkwX0_copy_3 : List UInt8 := [167, 0, 14, 58, 8, 187, 0, 71, 89, 5, 183, 0, 80, 191, 42, 21, 5, 182, 0, 101, 172, 58, 6, 42]
abbrev dktX0_copy_3 : List UInt8 := dkwX0_copy_3 ++ dktX0_copy_4
def dkwX0_copy_2 : List UInt8 := [3, 8, 184, 0, 87, 25, 6, 180, 0, 113, 28, 25, 7, 180, 0, 113, 21, 4, 21, 5, 184, 0, 123]
abbrev dktX0_copy_2 : List UInt8 := dkwX0_copy_2 ++ dktX0_copy_3
def dkwX0_copy_1 : List UInt8 := [42, 29, 182, 0, 109, 58, 7, 25, 6, 180, 0, 120, 25, 7, 180, 0, 120, 160, 0, 7, 4, 167, 0, 4]
abbrev dktX0_copy_1 : List UInt8 := dkwX0_copy_1 ++ dktX0_copy_2
def dkwX0_copy_0 : List UInt8 := [27, 184, 0, 91, 153, 0, 10, 29, 184, 0, 91, 154, 0, 6, 18, 97, 172, 42, 27, 182, 0, 109, 58, 6]
abbrev dktX0_copy_0 : List UInt8 := dkwX0_copy_0 ++ dktX0_copy_1
theorem dksX0_copy_0 : cX0_copy.data.toList.drop 0 = dktX0_copy_0 := by decide +kernel
theorem dksX0_copy_1 : cX0_copy.data.toList.drop 24 = dktX0_copy_1 := dk_seg dksX0_copy_0 24 rfl rfl
theorem dksX0_copy_2 : cX0_copy.data.toList.drop 48 = dktX0_copy_2 := dk_seg dksX0_copy_1 24 rfl rfl
theorem dksX0_copy_3 : cX0_copy.data.toList.drop 71 = dktX0_copy_3 := dk_seg dksX0_copy_2 23 rfl rfl
theorem dksX0_copy_4 : cX0_copy.data.toList.drop 95 = dktX0_copy_4 := dk_seg dksX0_copy_3 24 rfl rfl
theorem dX0_copy_0 : decode cX0_copy 0 = .ok (.iload_n 1, 1) := dk_27 (dk_at dksX0_copy_0 0 rfl rfl)
theorem dX0_copy_1 : decode cX0_copy 1 = .ok (.invokestatic 91, 3) := dk_184 0 91 (dk_at dksX0_copy_0 1 rfl rfl)
theorem dX0_copy_4 : decode cX0_copy 4 = .ok (.ifCond .eq 10, 3) := dk_153 0 10 (dk_at dksX0_copy_0 4 rfl rfl)
theorem dX0_copy_7 : decode cX0_copy 7 = .ok (.iload_n 3, 1) := dk_29 (dk_at dksX0_copy_0 7 rfl rfl)
theorem dX0_copy_8 : decode cX0_copy 8 = .ok (.invokestatic 91, 3) := dk_184 0 91 (dk_at dksX0_copy_0 8 rfl rfl)
theorem dX0_copy_11 : decode cX0_copy 11 = .ok (.ifCond .ne 6, 3) := dk_154 0 6 (dk_at dksX0_copy_0 11 rfl rfl)
theorem dX0_copy_14 : decode cX0_copy 14 = .ok (.ldc 97, 2) := dk_18 97 (dk_at dksX0_copy_0 14 rfl rfl)
theorem dX0_copy_16 : decode cX0_copy 16 = .ok (.ireturn, 1) := dk_172 (dk_at dksX0_copy_0 16 rfl rfl)
theorem dX0_copy_17 : decode cX0_copy 17 = .ok (.aload_n 0, 1) := dk_42 (dk_at dksX0_copy_0 17 rfl rfl)
theorem dX0_copy_18 : decode cX0_copy 18 = .ok (.iload_n 1, 1) := dk_27 (dk_at dksX0_copy_0 18 rfl rfl)
theorem dX0_copy_19 : decode cX0_copy 19 = .ok (.invokevirtual 109, 3) := dk_182 0 109 (dk_at dksX0_copy_0 19 rfl rfl)
theorem dX0_copy_22 : decode cX0_copy 22 = .ok (.astore 6, 2) := dk_58 6 (dk_at dksX0_copy_0 22 rfl rfl)
theorem dX0_copy_24 : decode cX0_copy 24 = .ok (.aload_n 0, 1) := dk_42 (dk_at dksX0_copy_1 0 rfl rfl)
theorem dX0_copy_25 : decode cX0_copy 25 = .ok (.iload_n 3, 1) := dk_29 (dk_at dksX0_copy_1 1 rfl rfl)
theorem dX0_copy_26 : decode cX0_copy 26 = .ok (.invokevirtual 109, 3) := dk_182 0 109 (dk_at dksX0_copy_1 2 rfl rfl)
theorem dX0_copy_29 : decode cX0_copy 29 = .ok (.astore 7, 2) := dk_58 7 (dk_at dksX0_copy_1 5 rfl rfl)
theorem dX0_copy_31 : decode cX0_copy 31 = .ok (.aload 6, 2) := dk_25 6 (dk_at dksX0_copy_1 7 rfl rfl)
theorem dX0_copy_33 : decode cX0_copy 33 = .ok (.getfield 120, 3) := dk_180 0 120 (dk_at dksX0_copy_1 9 rfl rfl)
theorem dX0_copy_36 : decode cX0_copy 36 = .ok (.aload 7, 2) := dk_25 7 (dk_at dksX0_copy_1 12 rfl rfl)
theorem dX0_copy_38 : decode cX0_copy 38 = .ok (.getfield 120, 3) := dk_180 0 120 (dk_at dksX0_copy_1 14 rfl rfl)
theorem dX0_copy_41 : decode cX0_copy 41 = .ok (.if_icmp .ne 7, 3) := dk_160 0 7 (dk_at dksX0_copy_1 17 rfl rfl)
theorem dX0_copy_44 : decode cX0_copy 44 = .ok (.iconst 1, 1) := dk_4 (dk_at dksX0_copy_1 20 rfl rfl)
theorem dX0_copy_45 : decode cX0_copy 45 = .ok (.goto 4, 3) := dk_167 0 4 (dk_at dksX0_copy_1 21 rfl rfl)
theorem dX0_copy_48 : decode cX0_copy 48 = .ok (.iconst 0, 1) := dk_3 (dk_at dksX0_copy_2 0 rfl rfl)
theorem dX0_copy_49 : decode cX0_copy 49 = .ok (.iconst 5, 1) := dk_8 (dk_at dksX0_copy_2 1 rfl rfl)
theorem dX0_copy_50 : decode cX0_copy 50 = .ok (.invokestatic 87, 3) := dk_184 0 87 (dk_at dksX0_copy_2 2 rfl rfl)
theorem dX0_copy_53 : decode cX0_copy 53 = .ok (.aload 6, 2) := dk_25 6 (dk_at dksX0_copy_2 5 rfl rfl)
theorem dX0_copy_55 : decode cX0_copy 55 = .ok (.getfield 113, 3) := dk_180 0 113 (dk_at dksX0_copy_2 7 rfl rfl)
theorem dX0_copy_58 : decode cX0_copy 58 = .ok (.iload_n 2, 1) := dk_28 (dk_at dksX0_copy_2 10 rfl rfl)
theorem dX0_copy_59 : decode cX0_copy 59 = .ok (.aload 7, 2) := dk_25 7 (dk_at dksX0_copy_2 11 rfl rfl)
theorem dX0_copy_61 : decode cX0_copy 61 = .ok (.getfield 113, 3) := dk_180 0 113 (dk_at dksX0_copy_2 13 rfl rfl)
theorem dX0_copy_64 : decode cX0_copy 64 = .ok (.iload 4, 2) := dk_21 4 (dk_at dksX0_copy_2 16 rfl rfl)
theorem dX0_copy_66 : decode cX0_copy 66 = .ok (.iload 5, 2) := dk_21 5 (dk_at dksX0_copy_2 18 rfl rfl)
theorem dX0_copy_68 : decode cX0_copy 68 = .ok (.invokestatic 123, 3) := dk_184 0 123 (dk_at dksX0_copy_2 20 rfl rfl)
theorem dX0_copy_71 : decode cX0_copy 71 = .ok (.goto 14, 3) := dk_167 0 14 (dk_at dksX0_copy_3 0 rfl rfl)
theorem dX0_copy_74 : decode cX0_copy 74 = .ok (.astore 8, 2) := dk_58 8 (dk_at dksX0_copy_3 3 rfl rfl)
theorem dX0_copy_76 : decode cX0_copy 76 = .ok (.new 71, 3) := dk_187 0 71 (dk_at dksX0_copy_3 5 rfl rfl)
theorem dX0_copy_79 : decode cX0_copy 79 = .ok (.dup, 1) := dk_89 (dk_at dksX0_copy_3 8 rfl rfl)
theorem dX0_copy_80 : decode cX0_copy 80 = .ok (.iconst 2, 1) := dk_5 (dk_at dksX0_copy_3 9 rfl rfl)
theorem dX0_copy_81 : decode cX0_copy 81 = .ok (.invokespecial 80, 3) := dk_183 0 80 (dk_at dksX0_copy_3 10 rfl rfl)
theorem dX0_copy_84 : decode cX0_copy 84 = .ok (.athrow, 1) := dk_191 (dk_at dksX0_copy_3 13 rfl rfl)
theorem dX0_copy_85 : decode cX0_copy 85 = .ok (.aload_n 0, 1) := dk_42 (dk_at dksX0_copy_3 14 rfl rfl)
theorem dX0_copy_86 : decode cX0_copy 86 = .ok (.iload 5, 2) := dk_21 5 (dk_at dksX0_copy_3 15 rfl rfl)
theorem dX0_copy_88 : decode cX0_copy 88 = .ok (.invokevirtual 101, 3) := dk_182 0 101 (dk_at dksX0_copy_3 17 rfl rfl)
theorem dX0_copy_91 : decode cX0_copy 91 = .ok (.ireturn, 1) := dk_172 (dk_at dksX0_copy_3 20 rfl rfl)
theorem dX0_copy_92 : decode cX0_copy 92 = .ok (.astore 6, 2) := dk_58 6 (dk_at dksX0_copy_3 21 rfl rfl)
theorem dX0_copy_94 : decode cX0_copy 94 = .ok (.aload_n 0, 1) := dk_42 (dk_at dksX0_copy_3 23 rfl rfl)
theorem dX0_copy_95 : decode cX0_copy 95 = .ok (.aload 6, 2) := dk_25 6 (dk_at dksX0_copy_4 0 rfl rfl)
theorem dX0_copy_97 : decode cX0_copy 97 = .ok (.invokevirtual 105, 3) := dk_182 0 105 (dk_at dksX0_copy_4 2 rfl rfl)
theorem dX0_copy_100 : decode cX0_copy 100 = .ok (.ireturn, 1) := dk_172 (dk_at dksX0_copy_4 5 rfl rfl)
abbrev cX0_drop : ByteArray := prog_1_method_14_code
def yX0_drop : MethodName := ⟨RX0, "drop", "(I)I"⟩
def dkwX0_drop_1 : List UInt8 := [27, 1, 83, 42, 28, 182, 0, 101, 172, 77, 42, 44, 182, 0, 105, 172]
abbrev dktX0_drop_1 : List UInt8 := dkwX0_drop_1 ++ []
def dkwX0_drop_0 : List UInt8 := [27, 184, 0, 91, 154, 0, 6, 18, 97, 172, 42, 27, 182, 0, 109, 180, 0, 113, 190, 61, 42, 180, 0, 34]
abbrev dktX0_drop_0 : List UInt8 := dkwX0_drop_0 ++ dktX0_drop_1
theorem dksX0_drop_0 : cX0_drop.data.toList.drop 0 = dktX0_drop_0 := by decide +kernel
theorem dksX0_drop_1 : cX0_drop.data.toList.drop 24 = dktX0_drop_1 := dk_seg dksX0_drop_0 24 rfl rfl
theorem dX0_drop_0 : decode cX0_drop 0 = .ok (.iload_n 1, 1) := dk_27 (dk_at dksX0_drop_0 0 rfl rfl)
theorem dX0_drop_1 : decode cX0_drop 1 = .ok (.invokestatic 91, 3) := dk_184 0 91 (dk_at dksX0_drop_0 1 rfl rfl)
theorem dX0_drop_4 : decode cX0_drop 4 = .ok (.ifCond .ne 6, 3) := dk_154 0 6 (dk_at dksX0_drop_0 4 rfl rfl)
theorem dX0_drop_7 : decode cX0_drop 7 = .ok (.ldc 97, 2) := dk_18 97 (dk_at dksX0_drop_0 7 rfl rfl)
theorem dX0_drop_9 : decode cX0_drop 9 = .ok (.ireturn, 1) := dk_172 (dk_at dksX0_drop_0 9 rfl rfl)
theorem dX0_drop_10 : decode cX0_drop 10 = .ok (.aload_n 0, 1) := dk_42 (dk_at dksX0_drop_0 10 rfl rfl)
theorem dX0_drop_11 : decode cX0_drop 11 = .ok (.iload_n 1, 1) := dk_27 (dk_at dksX0_drop_0 11 rfl rfl)
theorem dX0_drop_12 : decode cX0_drop 12 = .ok (.invokevirtual 109, 3) := dk_182 0 109 (dk_at dksX0_drop_0 12 rfl rfl)
theorem dX0_drop_15 : decode cX0_drop 15 = .ok (.getfield 113, 3) := dk_180 0 113 (dk_at dksX0_drop_0 15 rfl rfl)
theorem dX0_drop_18 : decode cX0_drop 18 = .ok (.arraylength, 1) := dk_190 (dk_at dksX0_drop_0 18 rfl rfl)
theorem dX0_drop_19 : decode cX0_drop 19 = .ok (.istore_n 2, 1) := dk_61 (dk_at dksX0_drop_0 19 rfl rfl)
theorem dX0_drop_20 : decode cX0_drop 20 = .ok (.aload_n 0, 1) := dk_42 (dk_at dksX0_drop_0 20 rfl rfl)
theorem dX0_drop_21 : decode cX0_drop 21 = .ok (.getfield 34, 3) := dk_180 0 34 (dk_at dksX0_drop_0 21 rfl rfl)
theorem dX0_drop_24 : decode cX0_drop 24 = .ok (.iload_n 1, 1) := dk_27 (dk_at dksX0_drop_1 0 rfl rfl)
theorem dX0_drop_25 : decode cX0_drop 25 = .ok (.aconst_null, 1) := dk_1 (dk_at dksX0_drop_1 1 rfl rfl)
theorem dX0_drop_26 : decode cX0_drop 26 = .ok (.aastore, 1) := dk_83 (dk_at dksX0_drop_1 2 rfl rfl)
theorem dX0_drop_27 : decode cX0_drop 27 = .ok (.aload_n 0, 1) := dk_42 (dk_at dksX0_drop_1 3 rfl rfl)
theorem dX0_drop_28 : decode cX0_drop 28 = .ok (.iload_n 2, 1) := dk_28 (dk_at dksX0_drop_1 4 rfl rfl)
theorem dX0_drop_29 : decode cX0_drop 29 = .ok (.invokevirtual 101, 3) := dk_182 0 101 (dk_at dksX0_drop_1 5 rfl rfl)
theorem dX0_drop_32 : decode cX0_drop 32 = .ok (.ireturn, 1) := dk_172 (dk_at dksX0_drop_1 8 rfl rfl)
theorem dX0_drop_33 : decode cX0_drop 33 = .ok (.astore_n 2, 1) := dk_77 (dk_at dksX0_drop_1 9 rfl rfl)
theorem dX0_drop_34 : decode cX0_drop 34 = .ok (.aload_n 0, 1) := dk_42 (dk_at dksX0_drop_1 10 rfl rfl)
theorem dX0_drop_35 : decode cX0_drop 35 = .ok (.aload_n 2, 1) := dk_44 (dk_at dksX0_drop_1 11 rfl rfl)
theorem dX0_drop_36 : decode cX0_drop 36 = .ok (.invokevirtual 105, 3) := dk_182 0 105 (dk_at dksX0_drop_1 12 rfl rfl)
theorem dX0_drop_39 : decode cX0_drop 39 = .ok (.ireturn, 1) := dk_172 (dk_at dksX0_drop_1 15 rfl rfl)
abbrev cX0_feed : ByteArray := prog_1_method_15_code
def yX0_feed : MethodName := ⟨RX0, "feed", "(I)I"⟩
def dkwX0_feed_2 : List UInt8 := [180, 0, 133, 172]
abbrev dktX0_feed_2 : List UInt8 := dkwX0_feed_2 ++ []
def dkwX0_feed_1 : List UInt8 := [18, 136, 172, 42, 180, 0, 38, 42, 89, 180, 0, 133, 90, 4, 96, 181, 0, 133, 27, 145, 84, 42]
abbrev dktX0_feed_1 : List UInt8 := dkwX0_feed_1 ++ dktX0_feed_2
def dkwX0_feed_0 : List UInt8 := [27, 133, 9, 20, 0, 131, 184, 0, 83, 154, 0, 6, 18, 97, 172, 42, 180, 0, 133, 16, 120, 160, 0, 6]
abbrev dktX0_feed_0 : List UInt8 := dkwX0_feed_0 ++ dktX0_feed_1
theorem dksX0_feed_0 : cX0_feed.data.toList.drop 0 = dktX0_feed_0 := by decide +kernel
theorem dksX0_feed_1 : cX0_feed.data.toList.drop 24 = dktX0_feed_1 := dk_seg dksX0_feed_0 24 rfl rfl
theorem dksX0_feed_2 : cX0_feed.data.toList.drop 46 = dktX0_feed_2 := dk_seg dksX0_feed_1 22 rfl rfl
theorem dX0_feed_0 : decode cX0_feed 0 = .ok (.iload_n 1, 1) := dk_27 (dk_at dksX0_feed_0 0 rfl rfl)
theorem dX0_feed_1 : decode cX0_feed 1 = .ok (.i2l, 1) := dk_133 (dk_at dksX0_feed_0 1 rfl rfl)
theorem dX0_feed_2 : decode cX0_feed 2 = .ok (.lconst 0, 1) := dk_9 (dk_at dksX0_feed_0 2 rfl rfl)
theorem dX0_feed_3 : decode cX0_feed 3 = .ok (.ldc2_w 131, 3) := dk_20 0 131 (dk_at dksX0_feed_0 3 rfl rfl)
theorem dX0_feed_6 : decode cX0_feed 6 = .ok (.invokestatic 83, 3) := dk_184 0 83 (dk_at dksX0_feed_0 6 rfl rfl)
theorem dX0_feed_9 : decode cX0_feed 9 = .ok (.ifCond .ne 6, 3) := dk_154 0 6 (dk_at dksX0_feed_0 9 rfl rfl)
theorem dX0_feed_12 : decode cX0_feed 12 = .ok (.ldc 97, 2) := dk_18 97 (dk_at dksX0_feed_0 12 rfl rfl)
theorem dX0_feed_14 : decode cX0_feed 14 = .ok (.ireturn, 1) := dk_172 (dk_at dksX0_feed_0 14 rfl rfl)
theorem dX0_feed_15 : decode cX0_feed 15 = .ok (.aload_n 0, 1) := dk_42 (dk_at dksX0_feed_0 15 rfl rfl)
theorem dX0_feed_16 : decode cX0_feed 16 = .ok (.getfield 133, 3) := dk_180 0 133 (dk_at dksX0_feed_0 16 rfl rfl)
theorem dX0_feed_19 : decode cX0_feed 19 = .ok (.bipush 120, 2) := dk_16 120 (dk_at dksX0_feed_0 19 rfl rfl)
theorem dX0_feed_21 : decode cX0_feed 21 = .ok (.if_icmp .ne 6, 3) := dk_160 0 6 (dk_at dksX0_feed_0 21 rfl rfl)
theorem dX0_feed_24 : decode cX0_feed 24 = .ok (.ldc 136, 2) := dk_18 136 (dk_at dksX0_feed_1 0 rfl rfl)
theorem dX0_feed_26 : decode cX0_feed 26 = .ok (.ireturn, 1) := dk_172 (dk_at dksX0_feed_1 2 rfl rfl)
theorem dX0_feed_27 : decode cX0_feed 27 = .ok (.aload_n 0, 1) := dk_42 (dk_at dksX0_feed_1 3 rfl rfl)
theorem dX0_feed_28 : decode cX0_feed 28 = .ok (.getfield 38, 3) := dk_180 0 38 (dk_at dksX0_feed_1 4 rfl rfl)
theorem dX0_feed_31 : decode cX0_feed 31 = .ok (.aload_n 0, 1) := dk_42 (dk_at dksX0_feed_1 7 rfl rfl)
theorem dX0_feed_32 : decode cX0_feed 32 = .ok (.dup, 1) := dk_89 (dk_at dksX0_feed_1 8 rfl rfl)
theorem dX0_feed_33 : decode cX0_feed 33 = .ok (.getfield 133, 3) := dk_180 0 133 (dk_at dksX0_feed_1 9 rfl rfl)
theorem dX0_feed_36 : decode cX0_feed 36 = .ok (.dup_x1, 1) := dk_90 (dk_at dksX0_feed_1 12 rfl rfl)
theorem dX0_feed_37 : decode cX0_feed 37 = .ok (.iconst 1, 1) := dk_4 (dk_at dksX0_feed_1 13 rfl rfl)
theorem dX0_feed_38 : decode cX0_feed 38 = .ok (.iadd, 1) := dk_96 (dk_at dksX0_feed_1 14 rfl rfl)
theorem dX0_feed_39 : decode cX0_feed 39 = .ok (.putfield 133, 3) := dk_181 0 133 (dk_at dksX0_feed_1 15 rfl rfl)
theorem dX0_feed_42 : decode cX0_feed 42 = .ok (.iload_n 1, 1) := dk_27 (dk_at dksX0_feed_1 18 rfl rfl)
theorem dX0_feed_43 : decode cX0_feed 43 = .ok (.i2b, 1) := dk_145 (dk_at dksX0_feed_1 19 rfl rfl)
theorem dX0_feed_44 : decode cX0_feed 44 = .ok (.bastore, 1) := dk_84 (dk_at dksX0_feed_1 20 rfl rfl)
theorem dX0_feed_45 : decode cX0_feed 45 = .ok (.aload_n 0, 1) := dk_42 (dk_at dksX0_feed_1 21 rfl rfl)
theorem dX0_feed_46 : decode cX0_feed 46 = .ok (.getfield 133, 3) := dk_180 0 133 (dk_at dksX0_feed_2 0 rfl rfl)
theorem dX0_feed_49 : decode cX0_feed 49 = .ok (.ireturn, 1) := dk_172 (dk_at dksX0_feed_2 3 rfl rfl)
abbrev cX0_door : ByteArray := prog_1_method_16_code
def yX0_door : MethodName := ⟨RX0, "door", "()I"⟩
def dkwX0_door_2 : List UInt8 := [180, 0, 45, 43, 180, 0, 157, 182, 0, 160, 87, 42, 3, 181, 0, 164, 42, 180, 0, 45, 182, 0, 167, 172]
abbrev dktX0_door_2 : List UInt8 := dkwX0_door_2 ++ []
def dkwX0_door_1 : List UInt8 := [182, 0, 142, 167, 0, 20, 77, 42, 44, 180, 0, 147, 181, 0, 150, 18, 153, 44, 180, 0, 154, 100, 172, 42]
abbrev dktX0_door_1 : List UInt8 := dkwX0_door_1 ++ dktX0_door_2
def dkwX0_door_0 : List UInt8 := [187, 0, 137, 89, 42, 180, 0, 38, 42, 180, 0, 133, 183, 0, 139, 76, 42, 3, 181, 0, 133, 43]
abbrev dktX0_door_0 : List UInt8 := dkwX0_door_0 ++ dktX0_door_1
theorem dksX0_door_0 : cX0_door.data.toList.drop 0 = dktX0_door_0 := by decide +kernel
theorem dksX0_door_1 : cX0_door.data.toList.drop 22 = dktX0_door_1 := dk_seg dksX0_door_0 22 rfl rfl
theorem dksX0_door_2 : cX0_door.data.toList.drop 46 = dktX0_door_2 := dk_seg dksX0_door_1 24 rfl rfl
theorem dX0_door_0 : decode cX0_door 0 = .ok (.new 137, 3) := dk_187 0 137 (dk_at dksX0_door_0 0 rfl rfl)
theorem dX0_door_3 : decode cX0_door 3 = .ok (.dup, 1) := dk_89 (dk_at dksX0_door_0 3 rfl rfl)
theorem dX0_door_4 : decode cX0_door 4 = .ok (.aload_n 0, 1) := dk_42 (dk_at dksX0_door_0 4 rfl rfl)
theorem dX0_door_5 : decode cX0_door 5 = .ok (.getfield 38, 3) := dk_180 0 38 (dk_at dksX0_door_0 5 rfl rfl)
theorem dX0_door_8 : decode cX0_door 8 = .ok (.aload_n 0, 1) := dk_42 (dk_at dksX0_door_0 8 rfl rfl)
theorem dX0_door_9 : decode cX0_door 9 = .ok (.getfield 133, 3) := dk_180 0 133 (dk_at dksX0_door_0 9 rfl rfl)
theorem dX0_door_12 : decode cX0_door 12 = .ok (.invokespecial 139, 3) := dk_183 0 139 (dk_at dksX0_door_0 12 rfl rfl)
theorem dX0_door_15 : decode cX0_door 15 = .ok (.astore_n 1, 1) := dk_76 (dk_at dksX0_door_0 15 rfl rfl)
theorem dX0_door_16 : decode cX0_door 16 = .ok (.aload_n 0, 1) := dk_42 (dk_at dksX0_door_0 16 rfl rfl)
theorem dX0_door_17 : decode cX0_door 17 = .ok (.iconst 0, 1) := dk_3 (dk_at dksX0_door_0 17 rfl rfl)
theorem dX0_door_18 : decode cX0_door 18 = .ok (.putfield 133, 3) := dk_181 0 133 (dk_at dksX0_door_0 18 rfl rfl)
theorem dX0_door_21 : decode cX0_door 21 = .ok (.aload_n 1, 1) := dk_43 (dk_at dksX0_door_0 21 rfl rfl)
theorem dX0_door_22 : decode cX0_door 22 = .ok (.invokevirtual 142, 3) := dk_182 0 142 (dk_at dksX0_door_1 0 rfl rfl)
theorem dX0_door_25 : decode cX0_door 25 = .ok (.goto 20, 3) := dk_167 0 20 (dk_at dksX0_door_1 3 rfl rfl)
theorem dX0_door_28 : decode cX0_door 28 = .ok (.astore_n 2, 1) := dk_77 (dk_at dksX0_door_1 6 rfl rfl)
theorem dX0_door_29 : decode cX0_door 29 = .ok (.aload_n 0, 1) := dk_42 (dk_at dksX0_door_1 7 rfl rfl)
theorem dX0_door_30 : decode cX0_door 30 = .ok (.aload_n 2, 1) := dk_44 (dk_at dksX0_door_1 8 rfl rfl)
theorem dX0_door_31 : decode cX0_door 31 = .ok (.getfield 147, 3) := dk_180 0 147 (dk_at dksX0_door_1 9 rfl rfl)
theorem dX0_door_34 : decode cX0_door 34 = .ok (.putfield 150, 3) := dk_181 0 150 (dk_at dksX0_door_1 12 rfl rfl)
theorem dX0_door_37 : decode cX0_door 37 = .ok (.ldc 153, 2) := dk_18 153 (dk_at dksX0_door_1 15 rfl rfl)
theorem dX0_door_39 : decode cX0_door 39 = .ok (.aload_n 2, 1) := dk_44 (dk_at dksX0_door_1 17 rfl rfl)
theorem dX0_door_40 : decode cX0_door 40 = .ok (.getfield 154, 3) := dk_180 0 154 (dk_at dksX0_door_1 18 rfl rfl)
theorem dX0_door_43 : decode cX0_door 43 = .ok (.isub, 1) := dk_100 (dk_at dksX0_door_1 21 rfl rfl)
theorem dX0_door_44 : decode cX0_door 44 = .ok (.ireturn, 1) := dk_172 (dk_at dksX0_door_1 22 rfl rfl)
theorem dX0_door_45 : decode cX0_door 45 = .ok (.aload_n 0, 1) := dk_42 (dk_at dksX0_door_1 23 rfl rfl)
theorem dX0_door_46 : decode cX0_door 46 = .ok (.getfield 45, 3) := dk_180 0 45 (dk_at dksX0_door_2 0 rfl rfl)
theorem dX0_door_49 : decode cX0_door 49 = .ok (.aload_n 1, 1) := dk_43 (dk_at dksX0_door_2 3 rfl rfl)
theorem dX0_door_50 : decode cX0_door 50 = .ok (.getfield 157, 3) := dk_180 0 157 (dk_at dksX0_door_2 4 rfl rfl)
theorem dX0_door_53 : decode cX0_door 53 = .ok (.invokevirtual 160, 3) := dk_182 0 160 (dk_at dksX0_door_2 7 rfl rfl)
theorem dX0_door_56 : decode cX0_door 56 = .ok (.pop, 1) := dk_87 (dk_at dksX0_door_2 10 rfl rfl)
theorem dX0_door_57 : decode cX0_door 57 = .ok (.aload_n 0, 1) := dk_42 (dk_at dksX0_door_2 11 rfl rfl)
theorem dX0_door_58 : decode cX0_door 58 = .ok (.iconst 0, 1) := dk_3 (dk_at dksX0_door_2 12 rfl rfl)
theorem dX0_door_59 : decode cX0_door 59 = .ok (.putfield 164, 3) := dk_181 0 164 (dk_at dksX0_door_2 13 rfl rfl)
theorem dX0_door_62 : decode cX0_door 62 = .ok (.aload_n 0, 1) := dk_42 (dk_at dksX0_door_2 16 rfl rfl)
theorem dX0_door_63 : decode cX0_door 63 = .ok (.getfield 45, 3) := dk_180 0 45 (dk_at dksX0_door_2 17 rfl rfl)
theorem dX0_door_66 : decode cX0_door 66 = .ok (.invokevirtual 167, 3) := dk_182 0 167 (dk_at dksX0_door_2 20 rfl rfl)
theorem dX0_door_69 : decode cX0_door 69 = .ok (.ireturn, 1) := dk_172 (dk_at dksX0_door_2 23 rfl rfl)
abbrev cX0_squareBy : ByteArray := prog_1_method_3_code
def yX0_squareBy : MethodName := ⟨RX0, "squareBy", "(II)LLampSquares$Square;"⟩
def dkwX0_squareBy_3 : List UInt8 := [183, 0, 12, 176, 187, 0, 13, 89, 27, 183, 0, 15, 176, 187, 0, 16, 89, 27, 183, 0, 18, 176]
abbrev dktX0_squareBy_3 : List UInt8 := dkwX0_squareBy_3 ++ []
def dkwX0_squareBy_2 : List UInt8 := [187, 0, 1, 89, 27, 183, 0, 3, 176, 187, 0, 7, 89, 27, 183, 0, 9, 176, 187, 0, 10, 89, 27]
abbrev dktX0_squareBy_2 : List UInt8 := dkwX0_squareBy_2 ++ dktX0_squareBy_3
def dkwX0_squareBy_1 : List UInt8 := [170, 0, 0, 0, 0, 0, 67, 0, 0, 0, 0, 0, 0, 0, 3, 0, 0, 0, 31, 0, 0, 0, 40, 0, 0, 0, 49, 0, 0, 0, 58]
abbrev dktX0_squareBy_1 : List UInt8 := dkwX0_squareBy_1 ++ dktX0_squareBy_2
def dkwX0_squareBy_0 : List UInt8 := [26]
abbrev dktX0_squareBy_0 : List UInt8 := dkwX0_squareBy_0 ++ dktX0_squareBy_1
theorem dksX0_squareBy_0 : cX0_squareBy.data.toList.drop 0 = dktX0_squareBy_0 := by decide +kernel
theorem dksX0_squareBy_1 : cX0_squareBy.data.toList.drop 1 = dktX0_squareBy_1 := dk_seg dksX0_squareBy_0 1 rfl rfl
theorem dksX0_squareBy_2 : cX0_squareBy.data.toList.drop 32 = dktX0_squareBy_2 := dk_seg dksX0_squareBy_1 31 rfl rfl
theorem dksX0_squareBy_3 : cX0_squareBy.data.toList.drop 55 = dktX0_squareBy_3 := dk_seg dksX0_squareBy_2 23 rfl rfl
theorem dX0_squareBy_0 : decode cX0_squareBy 0 = .ok (.iload_n 0, 1) := dk_26 (dk_at dksX0_squareBy_0 0 rfl rfl)
theorem dX0_squareBy_1 : decode cX0_squareBy 1 = .ok (.tableswitch 67 0 3 #[31, 40, 49, 58], 31) := by decide +kernel
theorem dX0_squareBy_32 : decode cX0_squareBy 32 = .ok (.new 1, 3) := dk_187 0 1 (dk_at dksX0_squareBy_2 0 rfl rfl)
theorem dX0_squareBy_35 : decode cX0_squareBy 35 = .ok (.dup, 1) := dk_89 (dk_at dksX0_squareBy_2 3 rfl rfl)
theorem dX0_squareBy_36 : decode cX0_squareBy 36 = .ok (.iload_n 1, 1) := dk_27 (dk_at dksX0_squareBy_2 4 rfl rfl)
theorem dX0_squareBy_37 : decode cX0_squareBy 37 = .ok (.invokespecial 3, 3) := dk_183 0 3 (dk_at dksX0_squareBy_2 5 rfl rfl)
theorem dX0_squareBy_40 : decode cX0_squareBy 40 = .ok (.areturn, 1) := dk_176 (dk_at dksX0_squareBy_2 8 rfl rfl)
theorem dX0_squareBy_41 : decode cX0_squareBy 41 = .ok (.new 7, 3) := dk_187 0 7 (dk_at dksX0_squareBy_2 9 rfl rfl)
theorem dX0_squareBy_44 : decode cX0_squareBy 44 = .ok (.dup, 1) := dk_89 (dk_at dksX0_squareBy_2 12 rfl rfl)
theorem dX0_squareBy_45 : decode cX0_squareBy 45 = .ok (.iload_n 1, 1) := dk_27 (dk_at dksX0_squareBy_2 13 rfl rfl)
theorem dX0_squareBy_46 : decode cX0_squareBy 46 = .ok (.invokespecial 9, 3) := dk_183 0 9 (dk_at dksX0_squareBy_2 14 rfl rfl)
theorem dX0_squareBy_49 : decode cX0_squareBy 49 = .ok (.areturn, 1) := dk_176 (dk_at dksX0_squareBy_2 17 rfl rfl)
theorem dX0_squareBy_50 : decode cX0_squareBy 50 = .ok (.new 10, 3) := dk_187 0 10 (dk_at dksX0_squareBy_2 18 rfl rfl)
theorem dX0_squareBy_53 : decode cX0_squareBy 53 = .ok (.dup, 1) := dk_89 (dk_at dksX0_squareBy_2 21 rfl rfl)
theorem dX0_squareBy_54 : decode cX0_squareBy 54 = .ok (.iload_n 1, 1) := dk_27 (dk_at dksX0_squareBy_2 22 rfl rfl)
theorem dX0_squareBy_55 : decode cX0_squareBy 55 = .ok (.invokespecial 12, 3) := dk_183 0 12 (dk_at dksX0_squareBy_3 0 rfl rfl)
theorem dX0_squareBy_58 : decode cX0_squareBy 58 = .ok (.areturn, 1) := dk_176 (dk_at dksX0_squareBy_3 3 rfl rfl)
theorem dX0_squareBy_59 : decode cX0_squareBy 59 = .ok (.new 13, 3) := dk_187 0 13 (dk_at dksX0_squareBy_3 4 rfl rfl)
theorem dX0_squareBy_62 : decode cX0_squareBy 62 = .ok (.dup, 1) := dk_89 (dk_at dksX0_squareBy_3 7 rfl rfl)
theorem dX0_squareBy_63 : decode cX0_squareBy 63 = .ok (.iload_n 1, 1) := dk_27 (dk_at dksX0_squareBy_3 8 rfl rfl)
theorem dX0_squareBy_64 : decode cX0_squareBy 64 = .ok (.invokespecial 15, 3) := dk_183 0 15 (dk_at dksX0_squareBy_3 9 rfl rfl)
theorem dX0_squareBy_67 : decode cX0_squareBy 67 = .ok (.areturn, 1) := dk_176 (dk_at dksX0_squareBy_3 12 rfl rfl)
theorem dX0_squareBy_68 : decode cX0_squareBy 68 = .ok (.new 16, 3) := dk_187 0 16 (dk_at dksX0_squareBy_3 13 rfl rfl)
theorem dX0_squareBy_71 : decode cX0_squareBy 71 = .ok (.dup, 1) := dk_89 (dk_at dksX0_squareBy_3 16 rfl rfl)
theorem dX0_squareBy_72 : decode cX0_squareBy 72 = .ok (.iload_n 1, 1) := dk_27 (dk_at dksX0_squareBy_3 17 rfl rfl)
theorem dX0_squareBy_73 : decode cX0_squareBy 73 = .ok (.invokespecial 18, 3) := dk_183 0 18 (dk_at dksX0_squareBy_3 18 rfl rfl)
theorem dX0_squareBy_76 : decode cX0_squareBy 76 = .ok (.areturn, 1) := dk_176 (dk_at dksX0_squareBy_3 21 rfl rfl)
abbrev cX0_fault : ByteArray := prog_1_method_17_code
def yX0_fault : MethodName := ⟨RX0, "fault", "()I"⟩
theorem dX0_fault_0 : decode cX0_fault 0 = .ok (.aload_n 0, 1) := by decide +kernel
theorem dX0_fault_1 : decode cX0_fault 1 = .ok (.getfield 150, 3) := by decide +kernel
theorem dX0_fault_4 : decode cX0_fault 4 = .ok (.ireturn, 1) := by decide +kernel
abbrev cX0_undo : ByteArray := prog_1_method_20_code
def yX0_undo : MethodName := ⟨RX0, "undo", "()I"⟩
def dkwX0_undo_1 : List UInt8 := [42, 180, 0, 52, 42, 180, 0, 164, 50, 182, 0, 160, 87, 42, 180, 0, 164, 172]
abbrev dktX0_undo_1 : List UInt8 := dkwX0_undo_1 ++ []
def dkwX0_undo_0 : List UInt8 := [42, 180, 0, 164, 154, 0, 6, 18, 171, 172, 42, 89, 180, 0, 164, 4, 100, 181, 0, 164, 42, 180, 0, 45]
abbrev dktX0_undo_0 : List UInt8 := dkwX0_undo_0 ++ dktX0_undo_1
theorem dksX0_undo_0 : cX0_undo.data.toList.drop 0 = dktX0_undo_0 := by decide +kernel
theorem dksX0_undo_1 : cX0_undo.data.toList.drop 24 = dktX0_undo_1 := dk_seg dksX0_undo_0 24 rfl rfl
theorem dX0_undo_0 : decode cX0_undo 0 = .ok (.aload_n 0, 1) := dk_42 (dk_at dksX0_undo_0 0 rfl rfl)
theorem dX0_undo_1 : decode cX0_undo 1 = .ok (.getfield 164, 3) := dk_180 0 164 (dk_at dksX0_undo_0 1 rfl rfl)
theorem dX0_undo_4 : decode cX0_undo 4 = .ok (.ifCond .ne 6, 3) := dk_154 0 6 (dk_at dksX0_undo_0 4 rfl rfl)
theorem dX0_undo_7 : decode cX0_undo 7 = .ok (.ldc 171, 2) := dk_18 171 (dk_at dksX0_undo_0 7 rfl rfl)
theorem dX0_undo_9 : decode cX0_undo 9 = .ok (.ireturn, 1) := dk_172 (dk_at dksX0_undo_0 9 rfl rfl)
theorem dX0_undo_10 : decode cX0_undo 10 = .ok (.aload_n 0, 1) := dk_42 (dk_at dksX0_undo_0 10 rfl rfl)
theorem dX0_undo_11 : decode cX0_undo 11 = .ok (.dup, 1) := dk_89 (dk_at dksX0_undo_0 11 rfl rfl)
theorem dX0_undo_12 : decode cX0_undo 12 = .ok (.getfield 164, 3) := dk_180 0 164 (dk_at dksX0_undo_0 12 rfl rfl)
theorem dX0_undo_15 : decode cX0_undo 15 = .ok (.iconst 1, 1) := dk_4 (dk_at dksX0_undo_0 15 rfl rfl)
theorem dX0_undo_16 : decode cX0_undo 16 = .ok (.isub, 1) := dk_100 (dk_at dksX0_undo_0 16 rfl rfl)
theorem dX0_undo_17 : decode cX0_undo 17 = .ok (.putfield 164, 3) := dk_181 0 164 (dk_at dksX0_undo_0 17 rfl rfl)
theorem dX0_undo_20 : decode cX0_undo 20 = .ok (.aload_n 0, 1) := dk_42 (dk_at dksX0_undo_0 20 rfl rfl)
theorem dX0_undo_21 : decode cX0_undo 21 = .ok (.getfield 45, 3) := dk_180 0 45 (dk_at dksX0_undo_0 21 rfl rfl)
theorem dX0_undo_24 : decode cX0_undo 24 = .ok (.aload_n 0, 1) := dk_42 (dk_at dksX0_undo_1 0 rfl rfl)
theorem dX0_undo_25 : decode cX0_undo 25 = .ok (.getfield 52, 3) := dk_180 0 52 (dk_at dksX0_undo_1 1 rfl rfl)
theorem dX0_undo_28 : decode cX0_undo 28 = .ok (.aload_n 0, 1) := dk_42 (dk_at dksX0_undo_1 4 rfl rfl)
theorem dX0_undo_29 : decode cX0_undo 29 = .ok (.getfield 164, 3) := dk_180 0 164 (dk_at dksX0_undo_1 5 rfl rfl)
theorem dX0_undo_32 : decode cX0_undo 32 = .ok (.aaload, 1) := dk_50 (dk_at dksX0_undo_1 8 rfl rfl)
theorem dX0_undo_33 : decode cX0_undo 33 = .ok (.invokevirtual 160, 3) := dk_182 0 160 (dk_at dksX0_undo_1 9 rfl rfl)
theorem dX0_undo_36 : decode cX0_undo 36 = .ok (.pop, 1) := dk_87 (dk_at dksX0_undo_1 12 rfl rfl)
theorem dX0_undo_37 : decode cX0_undo 37 = .ok (.aload_n 0, 1) := dk_42 (dk_at dksX0_undo_1 13 rfl rfl)
theorem dX0_undo_38 : decode cX0_undo 38 = .ok (.getfield 164, 3) := dk_180 0 164 (dk_at dksX0_undo_1 14 rfl rfl)
theorem dX0_undo_41 : decode cX0_undo 41 = .ok (.ireturn, 1) := dk_172 (dk_at dksX0_undo_1 17 rfl rfl)
abbrev cX0_pose : ByteArray := prog_1_method_26_code
def yX0_pose : MethodName := ⟨RX0, "pose", "(II)I"⟩
def dkwX0_pose_1 : List UInt8 := [180, 0, 45, 27, 28, 182, 0, 187, 153, 0, 7, 4, 167, 0, 4, 3, 172]
abbrev dktX0_pose_1 : List UInt8 := dkwX0_pose_1 ++ []
def dkwX0_pose_0 : List UInt8 := [42, 27, 182, 0, 178, 153, 0, 11, 42, 28, 182, 0, 181, 154, 0, 6, 18, 97, 172, 42, 182, 0, 184, 42]
abbrev dktX0_pose_0 : List UInt8 := dkwX0_pose_0 ++ dktX0_pose_1
theorem dksX0_pose_0 : cX0_pose.data.toList.drop 0 = dktX0_pose_0 := by decide +kernel
theorem dksX0_pose_1 : cX0_pose.data.toList.drop 24 = dktX0_pose_1 := dk_seg dksX0_pose_0 24 rfl rfl
theorem dX0_pose_0 : decode cX0_pose 0 = .ok (.aload_n 0, 1) := dk_42 (dk_at dksX0_pose_0 0 rfl rfl)
theorem dX0_pose_1 : decode cX0_pose 1 = .ok (.iload_n 1, 1) := dk_27 (dk_at dksX0_pose_0 1 rfl rfl)
theorem dX0_pose_2 : decode cX0_pose 2 = .ok (.invokevirtual 178, 3) := dk_182 0 178 (dk_at dksX0_pose_0 2 rfl rfl)
theorem dX0_pose_5 : decode cX0_pose 5 = .ok (.ifCond .eq 11, 3) := dk_153 0 11 (dk_at dksX0_pose_0 5 rfl rfl)
theorem dX0_pose_8 : decode cX0_pose 8 = .ok (.aload_n 0, 1) := dk_42 (dk_at dksX0_pose_0 8 rfl rfl)
theorem dX0_pose_9 : decode cX0_pose 9 = .ok (.iload_n 2, 1) := dk_28 (dk_at dksX0_pose_0 9 rfl rfl)
theorem dX0_pose_10 : decode cX0_pose 10 = .ok (.invokevirtual 181, 3) := dk_182 0 181 (dk_at dksX0_pose_0 10 rfl rfl)
theorem dX0_pose_13 : decode cX0_pose 13 = .ok (.ifCond .ne 6, 3) := dk_154 0 6 (dk_at dksX0_pose_0 13 rfl rfl)
theorem dX0_pose_16 : decode cX0_pose 16 = .ok (.ldc 97, 2) := dk_18 97 (dk_at dksX0_pose_0 16 rfl rfl)
theorem dX0_pose_18 : decode cX0_pose 18 = .ok (.ireturn, 1) := dk_172 (dk_at dksX0_pose_0 18 rfl rfl)
theorem dX0_pose_19 : decode cX0_pose 19 = .ok (.aload_n 0, 1) := dk_42 (dk_at dksX0_pose_0 19 rfl rfl)
theorem dX0_pose_20 : decode cX0_pose 20 = .ok (.invokevirtual 184, 3) := dk_182 0 184 (dk_at dksX0_pose_0 20 rfl rfl)
theorem dX0_pose_23 : decode cX0_pose 23 = .ok (.aload_n 0, 1) := dk_42 (dk_at dksX0_pose_0 23 rfl rfl)
theorem dX0_pose_24 : decode cX0_pose 24 = .ok (.getfield 45, 3) := dk_180 0 45 (dk_at dksX0_pose_1 0 rfl rfl)
theorem dX0_pose_27 : decode cX0_pose 27 = .ok (.iload_n 1, 1) := dk_27 (dk_at dksX0_pose_1 3 rfl rfl)
theorem dX0_pose_28 : decode cX0_pose 28 = .ok (.iload_n 2, 1) := dk_28 (dk_at dksX0_pose_1 4 rfl rfl)
theorem dX0_pose_29 : decode cX0_pose 29 = .ok (.invokevirtual 187, 3) := dk_182 0 187 (dk_at dksX0_pose_1 5 rfl rfl)
theorem dX0_pose_32 : decode cX0_pose 32 = .ok (.ifCond .eq 7, 3) := dk_153 0 7 (dk_at dksX0_pose_1 8 rfl rfl)
theorem dX0_pose_35 : decode cX0_pose 35 = .ok (.iconst 1, 1) := dk_4 (dk_at dksX0_pose_1 11 rfl rfl)
theorem dX0_pose_36 : decode cX0_pose 36 = .ok (.goto 4, 3) := dk_167 0 4 (dk_at dksX0_pose_1 12 rfl rfl)
theorem dX0_pose_39 : decode cX0_pose 39 = .ok (.iconst 0, 1) := dk_3 (dk_at dksX0_pose_1 15 rfl rfl)
theorem dX0_pose_40 : decode cX0_pose 40 = .ok (.ireturn, 1) := dk_172 (dk_at dksX0_pose_1 16 rfl rfl)
abbrev cX0_isVisitor : ByteArray := prog_1_method_23_code
def yX0_isVisitor : MethodName := ⟨RX0, "isVisitor", "(I)Z"⟩
def dkwX0_isVisitor_0 : List UInt8 := [27, 133, 9, 42, 180, 0, 45, 180, 0, 175, 4, 100, 133, 184, 0, 83, 172]
abbrev dktX0_isVisitor_0 : List UInt8 := dkwX0_isVisitor_0 ++ []
theorem dksX0_isVisitor_0 : cX0_isVisitor.data.toList.drop 0 = dktX0_isVisitor_0 := by decide +kernel
theorem dX0_isVisitor_0 : decode cX0_isVisitor 0 = .ok (.iload_n 1, 1) := dk_27 (dk_at dksX0_isVisitor_0 0 rfl rfl)
theorem dX0_isVisitor_1 : decode cX0_isVisitor 1 = .ok (.i2l, 1) := dk_133 (dk_at dksX0_isVisitor_0 1 rfl rfl)
theorem dX0_isVisitor_2 : decode cX0_isVisitor 2 = .ok (.lconst 0, 1) := dk_9 (dk_at dksX0_isVisitor_0 2 rfl rfl)
theorem dX0_isVisitor_3 : decode cX0_isVisitor 3 = .ok (.aload_n 0, 1) := dk_42 (dk_at dksX0_isVisitor_0 3 rfl rfl)
theorem dX0_isVisitor_4 : decode cX0_isVisitor 4 = .ok (.getfield 45, 3) := dk_180 0 45 (dk_at dksX0_isVisitor_0 4 rfl rfl)
theorem dX0_isVisitor_7 : decode cX0_isVisitor 7 = .ok (.getfield 175, 3) := dk_180 0 175 (dk_at dksX0_isVisitor_0 7 rfl rfl)
theorem dX0_isVisitor_10 : decode cX0_isVisitor 10 = .ok (.iconst 1, 1) := dk_4 (dk_at dksX0_isVisitor_0 10 rfl rfl)
theorem dX0_isVisitor_11 : decode cX0_isVisitor 11 = .ok (.isub, 1) := dk_100 (dk_at dksX0_isVisitor_0 11 rfl rfl)
theorem dX0_isVisitor_12 : decode cX0_isVisitor 12 = .ok (.i2l, 1) := dk_133 (dk_at dksX0_isVisitor_0 12 rfl rfl)
theorem dX0_isVisitor_13 : decode cX0_isVisitor 13 = .ok (.invokestatic 83, 3) := dk_184 0 83 (dk_at dksX0_isVisitor_0 13 rfl rfl)
theorem dX0_isVisitor_16 : decode cX0_isVisitor 16 = .ok (.ireturn, 1) := dk_172 (dk_at dksX0_isVisitor_0 16 rfl rfl)
abbrev cX0_areSquares : ByteArray := prog_1_method_24_code
def yX0_areSquares : MethodName := ⟨RX0, "areSquares", "(I)Z"⟩
def dkwX0_areSquares_0 : List UInt8 := [27, 133, 9, 4, 42, 180, 0, 45, 182, 0, 167, 120, 4, 100, 133, 184, 0, 83, 172]
abbrev dktX0_areSquares_0 : List UInt8 := dkwX0_areSquares_0 ++ []
theorem dksX0_areSquares_0 : cX0_areSquares.data.toList.drop 0 = dktX0_areSquares_0 := by decide +kernel
theorem dX0_areSquares_0 : decode cX0_areSquares 0 = .ok (.iload_n 1, 1) := dk_27 (dk_at dksX0_areSquares_0 0 rfl rfl)
theorem dX0_areSquares_1 : decode cX0_areSquares 1 = .ok (.i2l, 1) := dk_133 (dk_at dksX0_areSquares_0 1 rfl rfl)
theorem dX0_areSquares_2 : decode cX0_areSquares 2 = .ok (.lconst 0, 1) := dk_9 (dk_at dksX0_areSquares_0 2 rfl rfl)
theorem dX0_areSquares_3 : decode cX0_areSquares 3 = .ok (.iconst 1, 1) := dk_4 (dk_at dksX0_areSquares_0 3 rfl rfl)
theorem dX0_areSquares_4 : decode cX0_areSquares 4 = .ok (.aload_n 0, 1) := dk_42 (dk_at dksX0_areSquares_0 4 rfl rfl)
theorem dX0_areSquares_5 : decode cX0_areSquares 5 = .ok (.getfield 45, 3) := dk_180 0 45 (dk_at dksX0_areSquares_0 5 rfl rfl)
theorem dX0_areSquares_8 : decode cX0_areSquares 8 = .ok (.invokevirtual 167, 3) := dk_182 0 167 (dk_at dksX0_areSquares_0 8 rfl rfl)
theorem dX0_areSquares_11 : decode cX0_areSquares 11 = .ok (.ishl, 1) := dk_120 (dk_at dksX0_areSquares_0 11 rfl rfl)
theorem dX0_areSquares_12 : decode cX0_areSquares 12 = .ok (.iconst 1, 1) := dk_4 (dk_at dksX0_areSquares_0 12 rfl rfl)
theorem dX0_areSquares_13 : decode cX0_areSquares 13 = .ok (.isub, 1) := dk_100 (dk_at dksX0_areSquares_0 13 rfl rfl)
theorem dX0_areSquares_14 : decode cX0_areSquares 14 = .ok (.i2l, 1) := dk_133 (dk_at dksX0_areSquares_0 14 rfl rfl)
theorem dX0_areSquares_15 : decode cX0_areSquares 15 = .ok (.invokestatic 83, 3) := dk_184 0 83 (dk_at dksX0_areSquares_0 15 rfl rfl)
theorem dX0_areSquares_18 : decode cX0_areSquares 18 = .ok (.ireturn, 1) := dk_172 (dk_at dksX0_areSquares_0 18 rfl rfl)
abbrev cX0_keep : ByteArray := prog_1_method_19_code
def yX0_keep : MethodName := ⟨RX0, "keep", "()V"⟩
def dkwX0_keep_4 : List UInt8 := [180, 0, 164, 50, 42, 180, 0, 45, 182, 0, 160, 87, 42, 89, 180, 0, 164, 4, 96, 181, 0, 164, 177]
abbrev dktX0_keep_4 : List UInt8 := dkwX0_keep_4 ++ []
def dkwX0_keep_3 : List UInt8 := [199, 0, 19, 42, 180, 0, 52, 42, 180, 0, 164, 187, 0, 42, 89, 183, 0, 44, 83, 42, 180, 0, 52, 42]
abbrev dktX0_keep_3 : List UInt8 := dkwX0_keep_3 ++ dktX0_keep_4
def dkwX0_keep_2 : List UInt8 := [16, 23, 43, 83, 42, 89, 180, 0, 164, 4, 100, 181, 0, 164, 42, 180, 0, 52, 42, 180, 0, 164, 50]
abbrev dktX0_keep_2 : List UInt8 := dkwX0_keep_2 ++ dktX0_keep_3
def dkwX0_keep_1 : List UInt8 := [42, 180, 0, 52, 28, 4, 100, 42, 180, 0, 52, 28, 50, 83, 132, 2, 1, 167, 255, 233, 42, 180, 0, 52]
abbrev dktX0_keep_1 : List UInt8 := dkwX0_keep_1 ++ dktX0_keep_2
def dkwX0_keep_0 : List UInt8 := [42, 180, 0, 164, 16, 24, 160, 0, 56, 42, 180, 0, 52, 3, 50, 76, 4, 61, 28, 16, 24, 162, 0, 23]
abbrev dktX0_keep_0 : List UInt8 := dkwX0_keep_0 ++ dktX0_keep_1
theorem dksX0_keep_0 : cX0_keep.data.toList.drop 0 = dktX0_keep_0 := by decide +kernel
theorem dksX0_keep_1 : cX0_keep.data.toList.drop 24 = dktX0_keep_1 := dk_seg dksX0_keep_0 24 rfl rfl
theorem dksX0_keep_2 : cX0_keep.data.toList.drop 48 = dktX0_keep_2 := dk_seg dksX0_keep_1 24 rfl rfl
theorem dksX0_keep_3 : cX0_keep.data.toList.drop 71 = dktX0_keep_3 := dk_seg dksX0_keep_2 23 rfl rfl
theorem dksX0_keep_4 : cX0_keep.data.toList.drop 95 = dktX0_keep_4 := dk_seg dksX0_keep_3 24 rfl rfl
theorem dX0_keep_0 : decode cX0_keep 0 = .ok (.aload_n 0, 1) := dk_42 (dk_at dksX0_keep_0 0 rfl rfl)
theorem dX0_keep_1 : decode cX0_keep 1 = .ok (.getfield 164, 3) := dk_180 0 164 (dk_at dksX0_keep_0 1 rfl rfl)
theorem dX0_keep_4 : decode cX0_keep 4 = .ok (.bipush 24, 2) := dk_16 24 (dk_at dksX0_keep_0 4 rfl rfl)
theorem dX0_keep_6 : decode cX0_keep 6 = .ok (.if_icmp .ne 56, 3) := dk_160 0 56 (dk_at dksX0_keep_0 6 rfl rfl)
theorem dX0_keep_9 : decode cX0_keep 9 = .ok (.aload_n 0, 1) := dk_42 (dk_at dksX0_keep_0 9 rfl rfl)
theorem dX0_keep_10 : decode cX0_keep 10 = .ok (.getfield 52, 3) := dk_180 0 52 (dk_at dksX0_keep_0 10 rfl rfl)
theorem dX0_keep_13 : decode cX0_keep 13 = .ok (.iconst 0, 1) := dk_3 (dk_at dksX0_keep_0 13 rfl rfl)
theorem dX0_keep_14 : decode cX0_keep 14 = .ok (.aaload, 1) := dk_50 (dk_at dksX0_keep_0 14 rfl rfl)
theorem dX0_keep_15 : decode cX0_keep 15 = .ok (.astore_n 1, 1) := dk_76 (dk_at dksX0_keep_0 15 rfl rfl)
theorem dX0_keep_16 : decode cX0_keep 16 = .ok (.iconst 1, 1) := dk_4 (dk_at dksX0_keep_0 16 rfl rfl)
theorem dX0_keep_17 : decode cX0_keep 17 = .ok (.istore_n 2, 1) := dk_61 (dk_at dksX0_keep_0 17 rfl rfl)
theorem dX0_keep_18 : decode cX0_keep 18 = .ok (.iload_n 2, 1) := dk_28 (dk_at dksX0_keep_0 18 rfl rfl)
theorem dX0_keep_19 : decode cX0_keep 19 = .ok (.bipush 24, 2) := dk_16 24 (dk_at dksX0_keep_0 19 rfl rfl)
theorem dX0_keep_21 : decode cX0_keep 21 = .ok (.if_icmp .ge 23, 3) := dk_162 0 23 (dk_at dksX0_keep_0 21 rfl rfl)
theorem dX0_keep_24 : decode cX0_keep 24 = .ok (.aload_n 0, 1) := dk_42 (dk_at dksX0_keep_1 0 rfl rfl)
theorem dX0_keep_25 : decode cX0_keep 25 = .ok (.getfield 52, 3) := dk_180 0 52 (dk_at dksX0_keep_1 1 rfl rfl)
theorem dX0_keep_28 : decode cX0_keep 28 = .ok (.iload_n 2, 1) := dk_28 (dk_at dksX0_keep_1 4 rfl rfl)
theorem dX0_keep_29 : decode cX0_keep 29 = .ok (.iconst 1, 1) := dk_4 (dk_at dksX0_keep_1 5 rfl rfl)
theorem dX0_keep_30 : decode cX0_keep 30 = .ok (.isub, 1) := dk_100 (dk_at dksX0_keep_1 6 rfl rfl)
theorem dX0_keep_31 : decode cX0_keep 31 = .ok (.aload_n 0, 1) := dk_42 (dk_at dksX0_keep_1 7 rfl rfl)
theorem dX0_keep_32 : decode cX0_keep 32 = .ok (.getfield 52, 3) := dk_180 0 52 (dk_at dksX0_keep_1 8 rfl rfl)
theorem dX0_keep_35 : decode cX0_keep 35 = .ok (.iload_n 2, 1) := dk_28 (dk_at dksX0_keep_1 11 rfl rfl)
theorem dX0_keep_36 : decode cX0_keep 36 = .ok (.aaload, 1) := dk_50 (dk_at dksX0_keep_1 12 rfl rfl)
theorem dX0_keep_37 : decode cX0_keep 37 = .ok (.aastore, 1) := dk_83 (dk_at dksX0_keep_1 13 rfl rfl)
theorem dX0_keep_38 : decode cX0_keep 38 = .ok (.iinc 2 1, 3) := dk_132 2 1 (dk_at dksX0_keep_1 14 rfl rfl)
theorem dX0_keep_41 : decode cX0_keep 41 = .ok (.goto (-23), 3) := dk_167 255 233 (dk_at dksX0_keep_1 17 rfl rfl)
theorem dX0_keep_44 : decode cX0_keep 44 = .ok (.aload_n 0, 1) := dk_42 (dk_at dksX0_keep_1 20 rfl rfl)
theorem dX0_keep_45 : decode cX0_keep 45 = .ok (.getfield 52, 3) := dk_180 0 52 (dk_at dksX0_keep_1 21 rfl rfl)
theorem dX0_keep_48 : decode cX0_keep 48 = .ok (.bipush 23, 2) := dk_16 23 (dk_at dksX0_keep_2 0 rfl rfl)
theorem dX0_keep_50 : decode cX0_keep 50 = .ok (.aload_n 1, 1) := dk_43 (dk_at dksX0_keep_2 2 rfl rfl)
theorem dX0_keep_51 : decode cX0_keep 51 = .ok (.aastore, 1) := dk_83 (dk_at dksX0_keep_2 3 rfl rfl)
theorem dX0_keep_52 : decode cX0_keep 52 = .ok (.aload_n 0, 1) := dk_42 (dk_at dksX0_keep_2 4 rfl rfl)
theorem dX0_keep_53 : decode cX0_keep 53 = .ok (.dup, 1) := dk_89 (dk_at dksX0_keep_2 5 rfl rfl)
theorem dX0_keep_54 : decode cX0_keep 54 = .ok (.getfield 164, 3) := dk_180 0 164 (dk_at dksX0_keep_2 6 rfl rfl)
theorem dX0_keep_57 : decode cX0_keep 57 = .ok (.iconst 1, 1) := dk_4 (dk_at dksX0_keep_2 9 rfl rfl)
theorem dX0_keep_58 : decode cX0_keep 58 = .ok (.isub, 1) := dk_100 (dk_at dksX0_keep_2 10 rfl rfl)
theorem dX0_keep_59 : decode cX0_keep 59 = .ok (.putfield 164, 3) := dk_181 0 164 (dk_at dksX0_keep_2 11 rfl rfl)
theorem dX0_keep_62 : decode cX0_keep 62 = .ok (.aload_n 0, 1) := dk_42 (dk_at dksX0_keep_2 14 rfl rfl)
theorem dX0_keep_63 : decode cX0_keep 63 = .ok (.getfield 52, 3) := dk_180 0 52 (dk_at dksX0_keep_2 15 rfl rfl)
theorem dX0_keep_66 : decode cX0_keep 66 = .ok (.aload_n 0, 1) := dk_42 (dk_at dksX0_keep_2 18 rfl rfl)
theorem dX0_keep_67 : decode cX0_keep 67 = .ok (.getfield 164, 3) := dk_180 0 164 (dk_at dksX0_keep_2 19 rfl rfl)
theorem dX0_keep_70 : decode cX0_keep 70 = .ok (.aaload, 1) := dk_50 (dk_at dksX0_keep_2 22 rfl rfl)
theorem dX0_keep_71 : decode cX0_keep 71 = .ok (.ifnonnull 19, 3) := dk_199 0 19 (dk_at dksX0_keep_3 0 rfl rfl)
theorem dX0_keep_74 : decode cX0_keep 74 = .ok (.aload_n 0, 1) := dk_42 (dk_at dksX0_keep_3 3 rfl rfl)
theorem dX0_keep_75 : decode cX0_keep 75 = .ok (.getfield 52, 3) := dk_180 0 52 (dk_at dksX0_keep_3 4 rfl rfl)
theorem dX0_keep_78 : decode cX0_keep 78 = .ok (.aload_n 0, 1) := dk_42 (dk_at dksX0_keep_3 7 rfl rfl)
theorem dX0_keep_79 : decode cX0_keep 79 = .ok (.getfield 164, 3) := dk_180 0 164 (dk_at dksX0_keep_3 8 rfl rfl)
theorem dX0_keep_82 : decode cX0_keep 82 = .ok (.new 42, 3) := dk_187 0 42 (dk_at dksX0_keep_3 11 rfl rfl)
theorem dX0_keep_85 : decode cX0_keep 85 = .ok (.dup, 1) := dk_89 (dk_at dksX0_keep_3 14 rfl rfl)
theorem dX0_keep_86 : decode cX0_keep 86 = .ok (.invokespecial 44, 3) := dk_183 0 44 (dk_at dksX0_keep_3 15 rfl rfl)
theorem dX0_keep_89 : decode cX0_keep 89 = .ok (.aastore, 1) := dk_83 (dk_at dksX0_keep_3 18 rfl rfl)
theorem dX0_keep_90 : decode cX0_keep 90 = .ok (.aload_n 0, 1) := dk_42 (dk_at dksX0_keep_3 19 rfl rfl)
theorem dX0_keep_91 : decode cX0_keep 91 = .ok (.getfield 52, 3) := dk_180 0 52 (dk_at dksX0_keep_3 20 rfl rfl)
theorem dX0_keep_94 : decode cX0_keep 94 = .ok (.aload_n 0, 1) := dk_42 (dk_at dksX0_keep_3 23 rfl rfl)
theorem dX0_keep_95 : decode cX0_keep 95 = .ok (.getfield 164, 3) := dk_180 0 164 (dk_at dksX0_keep_4 0 rfl rfl)
theorem dX0_keep_98 : decode cX0_keep 98 = .ok (.aaload, 1) := dk_50 (dk_at dksX0_keep_4 3 rfl rfl)
theorem dX0_keep_99 : decode cX0_keep 99 = .ok (.aload_n 0, 1) := dk_42 (dk_at dksX0_keep_4 4 rfl rfl)
theorem dX0_keep_100 : decode cX0_keep 100 = .ok (.getfield 45, 3) := dk_180 0 45 (dk_at dksX0_keep_4 5 rfl rfl)
theorem dX0_keep_103 : decode cX0_keep 103 = .ok (.invokevirtual 160, 3) := dk_182 0 160 (dk_at dksX0_keep_4 8 rfl rfl)
theorem dX0_keep_106 : decode cX0_keep 106 = .ok (.pop, 1) := dk_87 (dk_at dksX0_keep_4 11 rfl rfl)
theorem dX0_keep_107 : decode cX0_keep 107 = .ok (.aload_n 0, 1) := dk_42 (dk_at dksX0_keep_4 12 rfl rfl)
theorem dX0_keep_108 : decode cX0_keep 108 = .ok (.dup, 1) := dk_89 (dk_at dksX0_keep_4 13 rfl rfl)
theorem dX0_keep_109 : decode cX0_keep 109 = .ok (.getfield 164, 3) := dk_180 0 164 (dk_at dksX0_keep_4 14 rfl rfl)
theorem dX0_keep_112 : decode cX0_keep 112 = .ok (.iconst 1, 1) := dk_4 (dk_at dksX0_keep_4 17 rfl rfl)
theorem dX0_keep_113 : decode cX0_keep 113 = .ok (.iadd, 1) := dk_96 (dk_at dksX0_keep_4 18 rfl rfl)
theorem dX0_keep_114 : decode cX0_keep 114 = .ok (.putfield 164, 3) := dk_181 0 164 (dk_at dksX0_keep_4 19 rfl rfl)
theorem dX0_keep_117 : decode cX0_keep 117 = .ok (.return_, 1) := dk_177 (dk_at dksX0_keep_4 22 rfl rfl)
abbrev cX0_clicksBy : ByteArray := prog_1_method_4_code
def yX0_clicksBy : MethodName := ⟨RX0, "clicksBy", "(LLampSquares$Square;III)Z"⟩
def dkwX0_clicksBy_0 : List UInt8 := [42, 27, 28, 29, 182, 0, 19, 16, 9, 28, 100, 164, 0, 7, 4, 167, 0, 4, 3, 172]
abbrev dktX0_clicksBy_0 : List UInt8 := dkwX0_clicksBy_0 ++ []
theorem dksX0_clicksBy_0 : cX0_clicksBy.data.toList.drop 0 = dktX0_clicksBy_0 := by decide +kernel
theorem dX0_clicksBy_0 : decode cX0_clicksBy 0 = .ok (.aload_n 0, 1) := dk_42 (dk_at dksX0_clicksBy_0 0 rfl rfl)
theorem dX0_clicksBy_1 : decode cX0_clicksBy 1 = .ok (.iload_n 1, 1) := dk_27 (dk_at dksX0_clicksBy_0 1 rfl rfl)
theorem dX0_clicksBy_2 : decode cX0_clicksBy 2 = .ok (.iload_n 2, 1) := dk_28 (dk_at dksX0_clicksBy_0 2 rfl rfl)
theorem dX0_clicksBy_3 : decode cX0_clicksBy 3 = .ok (.iload_n 3, 1) := dk_29 (dk_at dksX0_clicksBy_0 3 rfl rfl)
theorem dX0_clicksBy_4 : decode cX0_clicksBy 4 = .ok (.invokevirtual 19, 3) := dk_182 0 19 (dk_at dksX0_clicksBy_0 4 rfl rfl)
theorem dX0_clicksBy_7 : decode cX0_clicksBy 7 = .ok (.bipush 9, 2) := dk_16 9 (dk_at dksX0_clicksBy_0 7 rfl rfl)
theorem dX0_clicksBy_9 : decode cX0_clicksBy 9 = .ok (.iload_n 2, 1) := dk_28 (dk_at dksX0_clicksBy_0 9 rfl rfl)
theorem dX0_clicksBy_10 : decode cX0_clicksBy 10 = .ok (.isub, 1) := dk_100 (dk_at dksX0_clicksBy_0 10 rfl rfl)
theorem dX0_clicksBy_11 : decode cX0_clicksBy 11 = .ok (.if_icmp .le 7, 3) := dk_164 0 7 (dk_at dksX0_clicksBy_0 11 rfl rfl)
theorem dX0_clicksBy_14 : decode cX0_clicksBy 14 = .ok (.iconst 1, 1) := dk_4 (dk_at dksX0_clicksBy_0 14 rfl rfl)
theorem dX0_clicksBy_15 : decode cX0_clicksBy 15 = .ok (.goto 4, 3) := dk_167 0 4 (dk_at dksX0_clicksBy_0 15 rfl rfl)
theorem dX0_clicksBy_18 : decode cX0_clicksBy 18 = .ok (.iconst 0, 1) := dk_3 (dk_at dksX0_clicksBy_0 18 rfl rfl)
theorem dX0_clicksBy_19 : decode cX0_clicksBy 19 = .ok (.ireturn, 1) := dk_172 (dk_at dksX0_clicksBy_0 19 rfl rfl)
abbrev cX0_strict : ByteArray := prog_1_method_27_code
def yX0_strict : MethodName := ⟨RX0, "strict", "(I)I"⟩
def dkwX0_strict_1 : List UInt8 := [172, 42, 182, 0, 184, 42, 180, 0, 45, 180, 0, 197, 61, 42, 180, 0, 45, 27, 181, 0, 197, 28, 172]
abbrev dktX0_strict_1 : List UInt8 := dkwX0_strict_1 ++ []
def dkwX0_strict_0 : List UInt8 := [42, 182, 0, 191, 154, 0, 6, 18, 171, 172, 27, 133, 9, 20, 0, 195, 184, 0, 83, 154, 0, 6, 18, 97]
abbrev dktX0_strict_0 : List UInt8 := dkwX0_strict_0 ++ dktX0_strict_1
theorem dksX0_strict_0 : cX0_strict.data.toList.drop 0 = dktX0_strict_0 := by decide +kernel
theorem dksX0_strict_1 : cX0_strict.data.toList.drop 24 = dktX0_strict_1 := dk_seg dksX0_strict_0 24 rfl rfl
theorem dX0_strict_0 : decode cX0_strict 0 = .ok (.aload_n 0, 1) := dk_42 (dk_at dksX0_strict_0 0 rfl rfl)
theorem dX0_strict_1 : decode cX0_strict 1 = .ok (.invokevirtual 191, 3) := dk_182 0 191 (dk_at dksX0_strict_0 1 rfl rfl)
theorem dX0_strict_4 : decode cX0_strict 4 = .ok (.ifCond .ne 6, 3) := dk_154 0 6 (dk_at dksX0_strict_0 4 rfl rfl)
theorem dX0_strict_7 : decode cX0_strict 7 = .ok (.ldc 171, 2) := dk_18 171 (dk_at dksX0_strict_0 7 rfl rfl)
theorem dX0_strict_9 : decode cX0_strict 9 = .ok (.ireturn, 1) := dk_172 (dk_at dksX0_strict_0 9 rfl rfl)
theorem dX0_strict_10 : decode cX0_strict 10 = .ok (.iload_n 1, 1) := dk_27 (dk_at dksX0_strict_0 10 rfl rfl)
theorem dX0_strict_11 : decode cX0_strict 11 = .ok (.i2l, 1) := dk_133 (dk_at dksX0_strict_0 11 rfl rfl)
theorem dX0_strict_12 : decode cX0_strict 12 = .ok (.lconst 0, 1) := dk_9 (dk_at dksX0_strict_0 12 rfl rfl)
theorem dX0_strict_13 : decode cX0_strict 13 = .ok (.ldc2_w 195, 3) := dk_20 0 195 (dk_at dksX0_strict_0 13 rfl rfl)
theorem dX0_strict_16 : decode cX0_strict 16 = .ok (.invokestatic 83, 3) := dk_184 0 83 (dk_at dksX0_strict_0 16 rfl rfl)
theorem dX0_strict_19 : decode cX0_strict 19 = .ok (.ifCond .ne 6, 3) := dk_154 0 6 (dk_at dksX0_strict_0 19 rfl rfl)
theorem dX0_strict_22 : decode cX0_strict 22 = .ok (.ldc 97, 2) := dk_18 97 (dk_at dksX0_strict_0 22 rfl rfl)
theorem dX0_strict_24 : decode cX0_strict 24 = .ok (.ireturn, 1) := dk_172 (dk_at dksX0_strict_1 0 rfl rfl)
theorem dX0_strict_25 : decode cX0_strict 25 = .ok (.aload_n 0, 1) := dk_42 (dk_at dksX0_strict_1 1 rfl rfl)
theorem dX0_strict_26 : decode cX0_strict 26 = .ok (.invokevirtual 184, 3) := dk_182 0 184 (dk_at dksX0_strict_1 2 rfl rfl)
theorem dX0_strict_29 : decode cX0_strict 29 = .ok (.aload_n 0, 1) := dk_42 (dk_at dksX0_strict_1 5 rfl rfl)
theorem dX0_strict_30 : decode cX0_strict 30 = .ok (.getfield 45, 3) := dk_180 0 45 (dk_at dksX0_strict_1 6 rfl rfl)
theorem dX0_strict_33 : decode cX0_strict 33 = .ok (.getfield 197, 3) := dk_180 0 197 (dk_at dksX0_strict_1 9 rfl rfl)
theorem dX0_strict_36 : decode cX0_strict 36 = .ok (.istore_n 2, 1) := dk_61 (dk_at dksX0_strict_1 12 rfl rfl)
theorem dX0_strict_37 : decode cX0_strict 37 = .ok (.aload_n 0, 1) := dk_42 (dk_at dksX0_strict_1 13 rfl rfl)
theorem dX0_strict_38 : decode cX0_strict 38 = .ok (.getfield 45, 3) := dk_180 0 45 (dk_at dksX0_strict_1 14 rfl rfl)
theorem dX0_strict_41 : decode cX0_strict 41 = .ok (.iload_n 1, 1) := dk_27 (dk_at dksX0_strict_1 17 rfl rfl)
theorem dX0_strict_42 : decode cX0_strict 42 = .ok (.putfield 197, 3) := dk_181 0 197 (dk_at dksX0_strict_1 18 rfl rfl)
theorem dX0_strict_45 : decode cX0_strict 45 = .ok (.iload_n 2, 1) := dk_28 (dk_at dksX0_strict_1 21 rfl rfl)
theorem dX0_strict_46 : decode cX0_strict 46 = .ok (.ireturn, 1) := dk_172 (dk_at dksX0_strict_1 22 rfl rfl)
abbrev cX0_isDoor : ByteArray := prog_1_method_21_code
def yX0_isDoor : MethodName := ⟨RX0, "isDoor", "()Z"⟩
def dkwX0_isDoor_0 : List UInt8 := [42, 180, 0, 45, 180, 0, 172, 158, 0, 7, 4, 167, 0, 4, 3, 172]
abbrev dktX0_isDoor_0 : List UInt8 := dkwX0_isDoor_0 ++ []
theorem dksX0_isDoor_0 : cX0_isDoor.data.toList.drop 0 = dktX0_isDoor_0 := by decide +kernel
theorem dX0_isDoor_0 : decode cX0_isDoor 0 = .ok (.aload_n 0, 1) := dk_42 (dk_at dksX0_isDoor_0 0 rfl rfl)
theorem dX0_isDoor_1 : decode cX0_isDoor 1 = .ok (.getfield 45, 3) := dk_180 0 45 (dk_at dksX0_isDoor_0 1 rfl rfl)
theorem dX0_isDoor_4 : decode cX0_isDoor 4 = .ok (.getfield 172, 3) := dk_180 0 172 (dk_at dksX0_isDoor_0 4 rfl rfl)
theorem dX0_isDoor_7 : decode cX0_isDoor 7 = .ok (.ifCond .le 7, 3) := dk_158 0 7 (dk_at dksX0_isDoor_0 7 rfl rfl)
theorem dX0_isDoor_10 : decode cX0_isDoor 10 = .ok (.iconst 1, 1) := dk_4 (dk_at dksX0_isDoor_0 10 rfl rfl)
theorem dX0_isDoor_11 : decode cX0_isDoor 11 = .ok (.goto 4, 3) := dk_167 0 4 (dk_at dksX0_isDoor_0 11 rfl rfl)
theorem dX0_isDoor_14 : decode cX0_isDoor 14 = .ok (.iconst 0, 1) := dk_3 (dk_at dksX0_isDoor_0 14 rfl rfl)
theorem dX0_isDoor_15 : decode cX0_isDoor 15 = .ok (.ireturn, 1) := dk_172 (dk_at dksX0_isDoor_0 15 rfl rfl)
abbrev cX0_share : ByteArray := prog_1_method_28_code
def yX0_share : MethodName := ⟨RX0, "share", "(II)I"⟩
def dkwX0_share_2 : List UInt8 := [172]
abbrev dktX0_share_2 : List UInt8 := dkwX0_share_2 ++ []
def dkwX0_share_1 : List UInt8 := [182, 0, 184, 42, 180, 0, 45, 180, 0, 205, 27, 46, 62, 42, 180, 0, 45, 180, 0, 205, 27, 28, 79, 29]
abbrev dktX0_share_1 : List UInt8 := dkwX0_share_1 ++ dktX0_share_2
def dkwX0_share_0 : List UInt8 := [42, 27, 182, 0, 200, 153, 0, 15, 28, 133, 9, 20, 0, 203, 184, 0, 83, 154, 0, 6, 18, 97, 172, 42]
abbrev dktX0_share_0 : List UInt8 := dkwX0_share_0 ++ dktX0_share_1
theorem dksX0_share_0 : cX0_share.data.toList.drop 0 = dktX0_share_0 := by decide +kernel
theorem dksX0_share_1 : cX0_share.data.toList.drop 24 = dktX0_share_1 := dk_seg dksX0_share_0 24 rfl rfl
theorem dksX0_share_2 : cX0_share.data.toList.drop 48 = dktX0_share_2 := dk_seg dksX0_share_1 24 rfl rfl
theorem dX0_share_0 : decode cX0_share 0 = .ok (.aload_n 0, 1) := dk_42 (dk_at dksX0_share_0 0 rfl rfl)
theorem dX0_share_1 : decode cX0_share 1 = .ok (.iload_n 1, 1) := dk_27 (dk_at dksX0_share_0 1 rfl rfl)
theorem dX0_share_2 : decode cX0_share 2 = .ok (.invokevirtual 200, 3) := dk_182 0 200 (dk_at dksX0_share_0 2 rfl rfl)
theorem dX0_share_5 : decode cX0_share 5 = .ok (.ifCond .eq 15, 3) := dk_153 0 15 (dk_at dksX0_share_0 5 rfl rfl)
theorem dX0_share_8 : decode cX0_share 8 = .ok (.iload_n 2, 1) := dk_28 (dk_at dksX0_share_0 8 rfl rfl)
theorem dX0_share_9 : decode cX0_share 9 = .ok (.i2l, 1) := dk_133 (dk_at dksX0_share_0 9 rfl rfl)
theorem dX0_share_10 : decode cX0_share 10 = .ok (.lconst 0, 1) := dk_9 (dk_at dksX0_share_0 10 rfl rfl)
theorem dX0_share_11 : decode cX0_share 11 = .ok (.ldc2_w 203, 3) := dk_20 0 203 (dk_at dksX0_share_0 11 rfl rfl)
theorem dX0_share_14 : decode cX0_share 14 = .ok (.invokestatic 83, 3) := dk_184 0 83 (dk_at dksX0_share_0 14 rfl rfl)
theorem dX0_share_17 : decode cX0_share 17 = .ok (.ifCond .ne 6, 3) := dk_154 0 6 (dk_at dksX0_share_0 17 rfl rfl)
theorem dX0_share_20 : decode cX0_share 20 = .ok (.ldc 97, 2) := dk_18 97 (dk_at dksX0_share_0 20 rfl rfl)
theorem dX0_share_22 : decode cX0_share 22 = .ok (.ireturn, 1) := dk_172 (dk_at dksX0_share_0 22 rfl rfl)
theorem dX0_share_23 : decode cX0_share 23 = .ok (.aload_n 0, 1) := dk_42 (dk_at dksX0_share_0 23 rfl rfl)
theorem dX0_share_24 : decode cX0_share 24 = .ok (.invokevirtual 184, 3) := dk_182 0 184 (dk_at dksX0_share_1 0 rfl rfl)
theorem dX0_share_27 : decode cX0_share 27 = .ok (.aload_n 0, 1) := dk_42 (dk_at dksX0_share_1 3 rfl rfl)
theorem dX0_share_28 : decode cX0_share 28 = .ok (.getfield 45, 3) := dk_180 0 45 (dk_at dksX0_share_1 4 rfl rfl)
theorem dX0_share_31 : decode cX0_share 31 = .ok (.getfield 205, 3) := dk_180 0 205 (dk_at dksX0_share_1 7 rfl rfl)
theorem dX0_share_34 : decode cX0_share 34 = .ok (.iload_n 1, 1) := dk_27 (dk_at dksX0_share_1 10 rfl rfl)
theorem dX0_share_35 : decode cX0_share 35 = .ok (.iaload, 1) := dk_46 (dk_at dksX0_share_1 11 rfl rfl)
theorem dX0_share_36 : decode cX0_share 36 = .ok (.istore_n 3, 1) := dk_62 (dk_at dksX0_share_1 12 rfl rfl)
theorem dX0_share_37 : decode cX0_share 37 = .ok (.aload_n 0, 1) := dk_42 (dk_at dksX0_share_1 13 rfl rfl)
theorem dX0_share_38 : decode cX0_share 38 = .ok (.getfield 45, 3) := dk_180 0 45 (dk_at dksX0_share_1 14 rfl rfl)
theorem dX0_share_41 : decode cX0_share 41 = .ok (.getfield 205, 3) := dk_180 0 205 (dk_at dksX0_share_1 17 rfl rfl)
theorem dX0_share_44 : decode cX0_share 44 = .ok (.iload_n 1, 1) := dk_27 (dk_at dksX0_share_1 20 rfl rfl)
theorem dX0_share_45 : decode cX0_share 45 = .ok (.iload_n 2, 1) := dk_28 (dk_at dksX0_share_1 21 rfl rfl)
theorem dX0_share_46 : decode cX0_share 46 = .ok (.iastore, 1) := dk_79 (dk_at dksX0_share_1 22 rfl rfl)
theorem dX0_share_47 : decode cX0_share 47 = .ok (.iload_n 3, 1) := dk_29 (dk_at dksX0_share_1 23 rfl rfl)
theorem dX0_share_48 : decode cX0_share 48 = .ok (.ireturn, 1) := dk_172 (dk_at dksX0_share_2 0 rfl rfl)
abbrev cX0_isSquare : ByteArray := prog_1_method_22_code
def yX0_isSquare : MethodName := ⟨RX0, "isSquare", "(I)Z"⟩
def dkwX0_isSquare_0 : List UInt8 := [27, 133, 9, 42, 180, 0, 45, 182, 0, 167, 4, 100, 133, 184, 0, 83, 172]
abbrev dktX0_isSquare_0 : List UInt8 := dkwX0_isSquare_0 ++ []
theorem dksX0_isSquare_0 : cX0_isSquare.data.toList.drop 0 = dktX0_isSquare_0 := by decide +kernel
theorem dX0_isSquare_0 : decode cX0_isSquare 0 = .ok (.iload_n 1, 1) := dk_27 (dk_at dksX0_isSquare_0 0 rfl rfl)
theorem dX0_isSquare_1 : decode cX0_isSquare 1 = .ok (.i2l, 1) := dk_133 (dk_at dksX0_isSquare_0 1 rfl rfl)
theorem dX0_isSquare_2 : decode cX0_isSquare 2 = .ok (.lconst 0, 1) := dk_9 (dk_at dksX0_isSquare_0 2 rfl rfl)
theorem dX0_isSquare_3 : decode cX0_isSquare 3 = .ok (.aload_n 0, 1) := dk_42 (dk_at dksX0_isSquare_0 3 rfl rfl)
theorem dX0_isSquare_4 : decode cX0_isSquare 4 = .ok (.getfield 45, 3) := dk_180 0 45 (dk_at dksX0_isSquare_0 4 rfl rfl)
theorem dX0_isSquare_7 : decode cX0_isSquare 7 = .ok (.invokevirtual 167, 3) := dk_182 0 167 (dk_at dksX0_isSquare_0 7 rfl rfl)
theorem dX0_isSquare_10 : decode cX0_isSquare 10 = .ok (.iconst 1, 1) := dk_4 (dk_at dksX0_isSquare_0 10 rfl rfl)
theorem dX0_isSquare_11 : decode cX0_isSquare 11 = .ok (.isub, 1) := dk_100 (dk_at dksX0_isSquare_0 11 rfl rfl)
theorem dX0_isSquare_12 : decode cX0_isSquare 12 = .ok (.i2l, 1) := dk_133 (dk_at dksX0_isSquare_0 12 rfl rfl)
theorem dX0_isSquare_13 : decode cX0_isSquare 13 = .ok (.invokestatic 83, 3) := dk_184 0 83 (dk_at dksX0_isSquare_0 13 rfl rfl)
theorem dX0_isSquare_16 : decode cX0_isSquare 16 = .ok (.ireturn, 1) := dk_172 (dk_at dksX0_isSquare_0 16 rfl rfl)
abbrev cX0_settle : ByteArray := prog_1_method_29_code
def yX0_settle : MethodName := ⟨RX0, "settle", "(I)I"⟩
def dkwX0_settle_3 : List UInt8 := [27, 46, 172]
abbrev dktX0_settle_3 : List UInt8 := dkwX0_settle_3 ++ []
def dkwX0_settle_2 : List UInt8 := [180, 0, 45, 180, 0, 217, 27, 46, 164, 0, 7, 4, 167, 0, 4, 3, 79, 42, 180, 0, 45, 180, 0, 211]
abbrev dktX0_settle_2 : List UInt8 := dkwX0_settle_2 ++ dktX0_settle_3
def dkwX0_settle_1 : List UInt8 := [172, 42, 182, 0, 184, 42, 180, 0, 45, 180, 0, 211, 27, 42, 180, 0, 45, 180, 0, 214, 27, 46, 42]
abbrev dktX0_settle_1 : List UInt8 := dkwX0_settle_1 ++ dktX0_settle_2
def dkwX0_settle_0 : List UInt8 := [42, 27, 182, 0, 200, 154, 0, 6, 18, 97, 172, 42, 180, 0, 45, 27, 182, 0, 208, 153, 0, 6, 18, 171]
abbrev dktX0_settle_0 : List UInt8 := dkwX0_settle_0 ++ dktX0_settle_1
theorem dksX0_settle_0 : cX0_settle.data.toList.drop 0 = dktX0_settle_0 := by decide +kernel
theorem dksX0_settle_1 : cX0_settle.data.toList.drop 24 = dktX0_settle_1 := dk_seg dksX0_settle_0 24 rfl rfl
theorem dksX0_settle_2 : cX0_settle.data.toList.drop 47 = dktX0_settle_2 := dk_seg dksX0_settle_1 23 rfl rfl
theorem dksX0_settle_3 : cX0_settle.data.toList.drop 71 = dktX0_settle_3 := dk_seg dksX0_settle_2 24 rfl rfl
theorem dX0_settle_0 : decode cX0_settle 0 = .ok (.aload_n 0, 1) := dk_42 (dk_at dksX0_settle_0 0 rfl rfl)
theorem dX0_settle_1 : decode cX0_settle 1 = .ok (.iload_n 1, 1) := dk_27 (dk_at dksX0_settle_0 1 rfl rfl)
theorem dX0_settle_2 : decode cX0_settle 2 = .ok (.invokevirtual 200, 3) := dk_182 0 200 (dk_at dksX0_settle_0 2 rfl rfl)
theorem dX0_settle_5 : decode cX0_settle 5 = .ok (.ifCond .ne 6, 3) := dk_154 0 6 (dk_at dksX0_settle_0 5 rfl rfl)
theorem dX0_settle_8 : decode cX0_settle 8 = .ok (.ldc 97, 2) := dk_18 97 (dk_at dksX0_settle_0 8 rfl rfl)
theorem dX0_settle_10 : decode cX0_settle 10 = .ok (.ireturn, 1) := dk_172 (dk_at dksX0_settle_0 10 rfl rfl)
theorem dX0_settle_11 : decode cX0_settle 11 = .ok (.aload_n 0, 1) := dk_42 (dk_at dksX0_settle_0 11 rfl rfl)
theorem dX0_settle_12 : decode cX0_settle 12 = .ok (.getfield 45, 3) := dk_180 0 45 (dk_at dksX0_settle_0 12 rfl rfl)
theorem dX0_settle_15 : decode cX0_settle 15 = .ok (.iload_n 1, 1) := dk_27 (dk_at dksX0_settle_0 15 rfl rfl)
theorem dX0_settle_16 : decode cX0_settle 16 = .ok (.invokevirtual 208, 3) := dk_182 0 208 (dk_at dksX0_settle_0 16 rfl rfl)
theorem dX0_settle_19 : decode cX0_settle 19 = .ok (.ifCond .eq 6, 3) := dk_153 0 6 (dk_at dksX0_settle_0 19 rfl rfl)
theorem dX0_settle_22 : decode cX0_settle 22 = .ok (.ldc 171, 2) := dk_18 171 (dk_at dksX0_settle_0 22 rfl rfl)
theorem dX0_settle_24 : decode cX0_settle 24 = .ok (.ireturn, 1) := dk_172 (dk_at dksX0_settle_1 0 rfl rfl)
theorem dX0_settle_25 : decode cX0_settle 25 = .ok (.aload_n 0, 1) := dk_42 (dk_at dksX0_settle_1 1 rfl rfl)
theorem dX0_settle_26 : decode cX0_settle 26 = .ok (.invokevirtual 184, 3) := dk_182 0 184 (dk_at dksX0_settle_1 2 rfl rfl)
theorem dX0_settle_29 : decode cX0_settle 29 = .ok (.aload_n 0, 1) := dk_42 (dk_at dksX0_settle_1 5 rfl rfl)
theorem dX0_settle_30 : decode cX0_settle 30 = .ok (.getfield 45, 3) := dk_180 0 45 (dk_at dksX0_settle_1 6 rfl rfl)
theorem dX0_settle_33 : decode cX0_settle 33 = .ok (.getfield 211, 3) := dk_180 0 211 (dk_at dksX0_settle_1 9 rfl rfl)
theorem dX0_settle_36 : decode cX0_settle 36 = .ok (.iload_n 1, 1) := dk_27 (dk_at dksX0_settle_1 12 rfl rfl)
theorem dX0_settle_37 : decode cX0_settle 37 = .ok (.aload_n 0, 1) := dk_42 (dk_at dksX0_settle_1 13 rfl rfl)
theorem dX0_settle_38 : decode cX0_settle 38 = .ok (.getfield 45, 3) := dk_180 0 45 (dk_at dksX0_settle_1 14 rfl rfl)
theorem dX0_settle_41 : decode cX0_settle 41 = .ok (.getfield 214, 3) := dk_180 0 214 (dk_at dksX0_settle_1 17 rfl rfl)
theorem dX0_settle_44 : decode cX0_settle 44 = .ok (.iload_n 1, 1) := dk_27 (dk_at dksX0_settle_1 20 rfl rfl)
theorem dX0_settle_45 : decode cX0_settle 45 = .ok (.iaload, 1) := dk_46 (dk_at dksX0_settle_1 21 rfl rfl)
theorem dX0_settle_46 : decode cX0_settle 46 = .ok (.aload_n 0, 1) := dk_42 (dk_at dksX0_settle_1 22 rfl rfl)
theorem dX0_settle_47 : decode cX0_settle 47 = .ok (.getfield 45, 3) := dk_180 0 45 (dk_at dksX0_settle_2 0 rfl rfl)
theorem dX0_settle_50 : decode cX0_settle 50 = .ok (.getfield 217, 3) := dk_180 0 217 (dk_at dksX0_settle_2 3 rfl rfl)
theorem dX0_settle_53 : decode cX0_settle 53 = .ok (.iload_n 1, 1) := dk_27 (dk_at dksX0_settle_2 6 rfl rfl)
theorem dX0_settle_54 : decode cX0_settle 54 = .ok (.iaload, 1) := dk_46 (dk_at dksX0_settle_2 7 rfl rfl)
theorem dX0_settle_55 : decode cX0_settle 55 = .ok (.if_icmp .le 7, 3) := dk_164 0 7 (dk_at dksX0_settle_2 8 rfl rfl)
theorem dX0_settle_58 : decode cX0_settle 58 = .ok (.iconst 1, 1) := dk_4 (dk_at dksX0_settle_2 11 rfl rfl)
theorem dX0_settle_59 : decode cX0_settle 59 = .ok (.goto 4, 3) := dk_167 0 4 (dk_at dksX0_settle_2 12 rfl rfl)
theorem dX0_settle_62 : decode cX0_settle 62 = .ok (.iconst 0, 1) := dk_3 (dk_at dksX0_settle_2 15 rfl rfl)
theorem dX0_settle_63 : decode cX0_settle 63 = .ok (.iastore, 1) := dk_79 (dk_at dksX0_settle_2 16 rfl rfl)
theorem dX0_settle_64 : decode cX0_settle 64 = .ok (.aload_n 0, 1) := dk_42 (dk_at dksX0_settle_2 17 rfl rfl)
theorem dX0_settle_65 : decode cX0_settle 65 = .ok (.getfield 45, 3) := dk_180 0 45 (dk_at dksX0_settle_2 18 rfl rfl)
theorem dX0_settle_68 : decode cX0_settle 68 = .ok (.getfield 211, 3) := dk_180 0 211 (dk_at dksX0_settle_2 21 rfl rfl)
theorem dX0_settle_71 : decode cX0_settle 71 = .ok (.iload_n 1, 1) := dk_27 (dk_at dksX0_settle_3 0 rfl rfl)
theorem dX0_settle_72 : decode cX0_settle 72 = .ok (.iaload, 1) := dk_46 (dk_at dksX0_settle_3 1 rfl rfl)
theorem dX0_settle_73 : decode cX0_settle 73 = .ok (.ireturn, 1) := dk_172 (dk_at dksX0_settle_3 2 rfl rfl)
abbrev cX0_square : ByteArray := prog_1_method_30_code
def yX0_square : MethodName := ⟨RX0, "square", "(II)I"⟩
def dkwX0_square_5 : List UInt8 := [172, 42, 180, 0, 45, 180, 0, 211, 27, 46, 172, 18, 97, 172]
abbrev dktX0_square_5 : List UInt8 := dkwX0_square_5 ++ []
def dkwX0_square_4 : List UInt8 := [167, 0, 4, 3, 172, 42, 180, 0, 45, 180, 0, 214, 27, 46, 172, 42, 180, 0, 45, 180, 0, 217, 27, 46]
abbrev dktX0_square_4 : List UInt8 := dkwX0_square_4 ++ dktX0_square_5
def dkwX0_square_3 : List UInt8 := [180, 0, 172, 161, 0, 7, 4, 167, 0, 4, 3, 172, 42, 180, 0, 45, 27, 182, 0, 208, 153, 0, 7, 4]
abbrev dktX0_square_3 : List UInt8 := dkwX0_square_3 ++ dktX0_square_4
def dkwX0_square_2 : List UInt8 := [42, 180, 0, 45, 180, 0, 205, 27, 46, 172, 42, 180, 0, 45, 180, 0, 205, 27, 46, 42, 180, 0, 45]
abbrev dktX0_square_2 : List UInt8 := dkwX0_square_2 ++ dktX0_square_3
def dkwX0_square_1 : List UInt8 := [170, 0, 0, 0, 0, 0, 0, 122, 0, 0, 0, 0, 0, 0, 0, 5, 0, 0, 0, 40, 0, 0, 0, 50, 0, 0, 0, 75, 0, 0, 0, 92, 0, 0, 0, 102, 0, 0, 0, 112]
abbrev dktX0_square_1 : List UInt8 := dkwX0_square_1 ++ dktX0_square_2
def dkwX0_square_0 : List UInt8 := [42, 27, 182, 0, 200, 154, 0, 6, 18, 97, 172, 28]
abbrev dktX0_square_0 : List UInt8 := dkwX0_square_0 ++ dktX0_square_1
theorem dksX0_square_0 : cX0_square.data.toList.drop 0 = dktX0_square_0 := by decide +kernel
theorem dksX0_square_1 : cX0_square.data.toList.drop 12 = dktX0_square_1 := dk_seg dksX0_square_0 12 rfl rfl
theorem dksX0_square_2 : cX0_square.data.toList.drop 52 = dktX0_square_2 := dk_seg dksX0_square_1 40 rfl rfl
theorem dksX0_square_3 : cX0_square.data.toList.drop 75 = dktX0_square_3 := dk_seg dksX0_square_2 23 rfl rfl
theorem dksX0_square_4 : cX0_square.data.toList.drop 99 = dktX0_square_4 := dk_seg dksX0_square_3 24 rfl rfl
theorem dksX0_square_5 : cX0_square.data.toList.drop 123 = dktX0_square_5 := dk_seg dksX0_square_4 24 rfl rfl
theorem dX0_square_0 : decode cX0_square 0 = .ok (.aload_n 0, 1) := dk_42 (dk_at dksX0_square_0 0 rfl rfl)
theorem dX0_square_1 : decode cX0_square 1 = .ok (.iload_n 1, 1) := dk_27 (dk_at dksX0_square_0 1 rfl rfl)
theorem dX0_square_2 : decode cX0_square 2 = .ok (.invokevirtual 200, 3) := dk_182 0 200 (dk_at dksX0_square_0 2 rfl rfl)
theorem dX0_square_5 : decode cX0_square 5 = .ok (.ifCond .ne 6, 3) := dk_154 0 6 (dk_at dksX0_square_0 5 rfl rfl)
theorem dX0_square_8 : decode cX0_square 8 = .ok (.ldc 97, 2) := dk_18 97 (dk_at dksX0_square_0 8 rfl rfl)
theorem dX0_square_10 : decode cX0_square 10 = .ok (.ireturn, 1) := dk_172 (dk_at dksX0_square_0 10 rfl rfl)
theorem dX0_square_11 : decode cX0_square 11 = .ok (.iload_n 2, 1) := dk_28 (dk_at dksX0_square_0 11 rfl rfl)
theorem dX0_square_12 : decode cX0_square 12 = .ok (.tableswitch 122 0 5 #[40, 50, 75, 92, 102, 112], 40) := by decide +kernel
theorem dX0_square_52 : decode cX0_square 52 = .ok (.aload_n 0, 1) := dk_42 (dk_at dksX0_square_2 0 rfl rfl)
theorem dX0_square_53 : decode cX0_square 53 = .ok (.getfield 45, 3) := dk_180 0 45 (dk_at dksX0_square_2 1 rfl rfl)
theorem dX0_square_56 : decode cX0_square 56 = .ok (.getfield 205, 3) := dk_180 0 205 (dk_at dksX0_square_2 4 rfl rfl)
theorem dX0_square_59 : decode cX0_square 59 = .ok (.iload_n 1, 1) := dk_27 (dk_at dksX0_square_2 7 rfl rfl)
theorem dX0_square_60 : decode cX0_square 60 = .ok (.iaload, 1) := dk_46 (dk_at dksX0_square_2 8 rfl rfl)
theorem dX0_square_61 : decode cX0_square 61 = .ok (.ireturn, 1) := dk_172 (dk_at dksX0_square_2 9 rfl rfl)
theorem dX0_square_62 : decode cX0_square 62 = .ok (.aload_n 0, 1) := dk_42 (dk_at dksX0_square_2 10 rfl rfl)
theorem dX0_square_63 : decode cX0_square 63 = .ok (.getfield 45, 3) := dk_180 0 45 (dk_at dksX0_square_2 11 rfl rfl)
theorem dX0_square_66 : decode cX0_square 66 = .ok (.getfield 205, 3) := dk_180 0 205 (dk_at dksX0_square_2 14 rfl rfl)
theorem dX0_square_69 : decode cX0_square 69 = .ok (.iload_n 1, 1) := dk_27 (dk_at dksX0_square_2 17 rfl rfl)
theorem dX0_square_70 : decode cX0_square 70 = .ok (.iaload, 1) := dk_46 (dk_at dksX0_square_2 18 rfl rfl)
theorem dX0_square_71 : decode cX0_square 71 = .ok (.aload_n 0, 1) := dk_42 (dk_at dksX0_square_2 19 rfl rfl)
theorem dX0_square_72 : decode cX0_square 72 = .ok (.getfield 45, 3) := dk_180 0 45 (dk_at dksX0_square_2 20 rfl rfl)
theorem dX0_square_75 : decode cX0_square 75 = .ok (.getfield 172, 3) := dk_180 0 172 (dk_at dksX0_square_3 0 rfl rfl)
theorem dX0_square_78 : decode cX0_square 78 = .ok (.if_icmp .lt 7, 3) := dk_161 0 7 (dk_at dksX0_square_3 3 rfl rfl)
theorem dX0_square_81 : decode cX0_square 81 = .ok (.iconst 1, 1) := dk_4 (dk_at dksX0_square_3 6 rfl rfl)
theorem dX0_square_82 : decode cX0_square 82 = .ok (.goto 4, 3) := dk_167 0 4 (dk_at dksX0_square_3 7 rfl rfl)
theorem dX0_square_85 : decode cX0_square 85 = .ok (.iconst 0, 1) := dk_3 (dk_at dksX0_square_3 10 rfl rfl)
theorem dX0_square_86 : decode cX0_square 86 = .ok (.ireturn, 1) := dk_172 (dk_at dksX0_square_3 11 rfl rfl)
theorem dX0_square_87 : decode cX0_square 87 = .ok (.aload_n 0, 1) := dk_42 (dk_at dksX0_square_3 12 rfl rfl)
theorem dX0_square_88 : decode cX0_square 88 = .ok (.getfield 45, 3) := dk_180 0 45 (dk_at dksX0_square_3 13 rfl rfl)
theorem dX0_square_91 : decode cX0_square 91 = .ok (.iload_n 1, 1) := dk_27 (dk_at dksX0_square_3 16 rfl rfl)
theorem dX0_square_92 : decode cX0_square 92 = .ok (.invokevirtual 208, 3) := dk_182 0 208 (dk_at dksX0_square_3 17 rfl rfl)
theorem dX0_square_95 : decode cX0_square 95 = .ok (.ifCond .eq 7, 3) := dk_153 0 7 (dk_at dksX0_square_3 20 rfl rfl)
theorem dX0_square_98 : decode cX0_square 98 = .ok (.iconst 1, 1) := dk_4 (dk_at dksX0_square_3 23 rfl rfl)
theorem dX0_square_99 : decode cX0_square 99 = .ok (.goto 4, 3) := dk_167 0 4 (dk_at dksX0_square_4 0 rfl rfl)
theorem dX0_square_102 : decode cX0_square 102 = .ok (.iconst 0, 1) := dk_3 (dk_at dksX0_square_4 3 rfl rfl)
theorem dX0_square_103 : decode cX0_square 103 = .ok (.ireturn, 1) := dk_172 (dk_at dksX0_square_4 4 rfl rfl)
theorem dX0_square_104 : decode cX0_square 104 = .ok (.aload_n 0, 1) := dk_42 (dk_at dksX0_square_4 5 rfl rfl)
theorem dX0_square_105 : decode cX0_square 105 = .ok (.getfield 45, 3) := dk_180 0 45 (dk_at dksX0_square_4 6 rfl rfl)
theorem dX0_square_108 : decode cX0_square 108 = .ok (.getfield 214, 3) := dk_180 0 214 (dk_at dksX0_square_4 9 rfl rfl)
theorem dX0_square_111 : decode cX0_square 111 = .ok (.iload_n 1, 1) := dk_27 (dk_at dksX0_square_4 12 rfl rfl)
theorem dX0_square_112 : decode cX0_square 112 = .ok (.iaload, 1) := dk_46 (dk_at dksX0_square_4 13 rfl rfl)
theorem dX0_square_113 : decode cX0_square 113 = .ok (.ireturn, 1) := dk_172 (dk_at dksX0_square_4 14 rfl rfl)
theorem dX0_square_114 : decode cX0_square 114 = .ok (.aload_n 0, 1) := dk_42 (dk_at dksX0_square_4 15 rfl rfl)
theorem dX0_square_115 : decode cX0_square 115 = .ok (.getfield 45, 3) := dk_180 0 45 (dk_at dksX0_square_4 16 rfl rfl)
theorem dX0_square_118 : decode cX0_square 118 = .ok (.getfield 217, 3) := dk_180 0 217 (dk_at dksX0_square_4 19 rfl rfl)
theorem dX0_square_121 : decode cX0_square 121 = .ok (.iload_n 1, 1) := dk_27 (dk_at dksX0_square_4 22 rfl rfl)
theorem dX0_square_122 : decode cX0_square 122 = .ok (.iaload, 1) := dk_46 (dk_at dksX0_square_4 23 rfl rfl)
theorem dX0_square_123 : decode cX0_square 123 = .ok (.ireturn, 1) := dk_172 (dk_at dksX0_square_5 0 rfl rfl)
theorem dX0_square_124 : decode cX0_square 124 = .ok (.aload_n 0, 1) := dk_42 (dk_at dksX0_square_5 1 rfl rfl)
theorem dX0_square_125 : decode cX0_square 125 = .ok (.getfield 45, 3) := dk_180 0 45 (dk_at dksX0_square_5 2 rfl rfl)
theorem dX0_square_128 : decode cX0_square 128 = .ok (.getfield 211, 3) := dk_180 0 211 (dk_at dksX0_square_5 5 rfl rfl)
theorem dX0_square_131 : decode cX0_square 131 = .ok (.iload_n 1, 1) := dk_27 (dk_at dksX0_square_5 8 rfl rfl)
theorem dX0_square_132 : decode cX0_square 132 = .ok (.iaload, 1) := dk_46 (dk_at dksX0_square_5 9 rfl rfl)
theorem dX0_square_133 : decode cX0_square 133 = .ok (.ireturn, 1) := dk_172 (dk_at dksX0_square_5 10 rfl rfl)
theorem dX0_square_134 : decode cX0_square 134 = .ok (.ldc 97, 2) := dk_18 97 (dk_at dksX0_square_5 11 rfl rfl)
theorem dX0_square_136 : decode cX0_square 136 = .ok (.ireturn, 1) := dk_172 (dk_at dksX0_square_5 13 rfl rfl)
abbrev cX0_visitor : ByteArray := prog_1_method_31_code
def yX0_visitor : MethodName := ⟨RX0, "visitor", "(II)I"⟩
def dkwX0_visitor_3 : List UInt8 := [180, 0, 226, 27, 46, 172, 42, 180, 0, 45, 180, 0, 229, 27, 46, 172, 18, 97, 172]
abbrev dktX0_visitor_3 : List UInt8 := dkwX0_visitor_3 ++ []
def dkwX0_visitor_2 : List UInt8 := [42, 180, 0, 45, 180, 0, 220, 27, 46, 172, 42, 180, 0, 45, 180, 0, 223, 27, 46, 172, 42, 180, 0, 45]
abbrev dktX0_visitor_2 : List UInt8 := dkwX0_visitor_2 ++ dktX0_visitor_3
def dkwX0_visitor_1 : List UInt8 := [170, 0, 0, 0, 0, 0, 0, 72, 0, 0, 0, 0, 0, 0, 0, 3, 0, 0, 0, 32, 0, 0, 0, 42, 0, 0, 0, 52, 0, 0, 0, 62]
abbrev dktX0_visitor_1 : List UInt8 := dkwX0_visitor_1 ++ dktX0_visitor_2
def dkwX0_visitor_0 : List UInt8 := [42, 27, 182, 0, 178, 154, 0, 6, 18, 97, 172, 28]
abbrev dktX0_visitor_0 : List UInt8 := dkwX0_visitor_0 ++ dktX0_visitor_1
theorem dksX0_visitor_0 : cX0_visitor.data.toList.drop 0 = dktX0_visitor_0 := by decide +kernel
theorem dksX0_visitor_1 : cX0_visitor.data.toList.drop 12 = dktX0_visitor_1 := dk_seg dksX0_visitor_0 12 rfl rfl
theorem dksX0_visitor_2 : cX0_visitor.data.toList.drop 44 = dktX0_visitor_2 := dk_seg dksX0_visitor_1 32 rfl rfl
theorem dksX0_visitor_3 : cX0_visitor.data.toList.drop 68 = dktX0_visitor_3 := dk_seg dksX0_visitor_2 24 rfl rfl
theorem dX0_visitor_0 : decode cX0_visitor 0 = .ok (.aload_n 0, 1) := dk_42 (dk_at dksX0_visitor_0 0 rfl rfl)
theorem dX0_visitor_1 : decode cX0_visitor 1 = .ok (.iload_n 1, 1) := dk_27 (dk_at dksX0_visitor_0 1 rfl rfl)
theorem dX0_visitor_2 : decode cX0_visitor 2 = .ok (.invokevirtual 178, 3) := dk_182 0 178 (dk_at dksX0_visitor_0 2 rfl rfl)
theorem dX0_visitor_5 : decode cX0_visitor 5 = .ok (.ifCond .ne 6, 3) := dk_154 0 6 (dk_at dksX0_visitor_0 5 rfl rfl)
theorem dX0_visitor_8 : decode cX0_visitor 8 = .ok (.ldc 97, 2) := dk_18 97 (dk_at dksX0_visitor_0 8 rfl rfl)
theorem dX0_visitor_10 : decode cX0_visitor 10 = .ok (.ireturn, 1) := dk_172 (dk_at dksX0_visitor_0 10 rfl rfl)
theorem dX0_visitor_11 : decode cX0_visitor 11 = .ok (.iload_n 2, 1) := dk_28 (dk_at dksX0_visitor_0 11 rfl rfl)
theorem dX0_visitor_12 : decode cX0_visitor 12 = .ok (.tableswitch 72 0 3 #[32, 42, 52, 62], 32) := by decide +kernel
theorem dX0_visitor_44 : decode cX0_visitor 44 = .ok (.aload_n 0, 1) := dk_42 (dk_at dksX0_visitor_2 0 rfl rfl)
theorem dX0_visitor_45 : decode cX0_visitor 45 = .ok (.getfield 45, 3) := dk_180 0 45 (dk_at dksX0_visitor_2 1 rfl rfl)
theorem dX0_visitor_48 : decode cX0_visitor 48 = .ok (.getfield 220, 3) := dk_180 0 220 (dk_at dksX0_visitor_2 4 rfl rfl)
theorem dX0_visitor_51 : decode cX0_visitor 51 = .ok (.iload_n 1, 1) := dk_27 (dk_at dksX0_visitor_2 7 rfl rfl)
theorem dX0_visitor_52 : decode cX0_visitor 52 = .ok (.iaload, 1) := dk_46 (dk_at dksX0_visitor_2 8 rfl rfl)
theorem dX0_visitor_53 : decode cX0_visitor 53 = .ok (.ireturn, 1) := dk_172 (dk_at dksX0_visitor_2 9 rfl rfl)
theorem dX0_visitor_54 : decode cX0_visitor 54 = .ok (.aload_n 0, 1) := dk_42 (dk_at dksX0_visitor_2 10 rfl rfl)
theorem dX0_visitor_55 : decode cX0_visitor 55 = .ok (.getfield 45, 3) := dk_180 0 45 (dk_at dksX0_visitor_2 11 rfl rfl)
theorem dX0_visitor_58 : decode cX0_visitor 58 = .ok (.getfield 223, 3) := dk_180 0 223 (dk_at dksX0_visitor_2 14 rfl rfl)
theorem dX0_visitor_61 : decode cX0_visitor 61 = .ok (.iload_n 1, 1) := dk_27 (dk_at dksX0_visitor_2 17 rfl rfl)
theorem dX0_visitor_62 : decode cX0_visitor 62 = .ok (.iaload, 1) := dk_46 (dk_at dksX0_visitor_2 18 rfl rfl)
theorem dX0_visitor_63 : decode cX0_visitor 63 = .ok (.ireturn, 1) := dk_172 (dk_at dksX0_visitor_2 19 rfl rfl)
theorem dX0_visitor_64 : decode cX0_visitor 64 = .ok (.aload_n 0, 1) := dk_42 (dk_at dksX0_visitor_2 20 rfl rfl)
theorem dX0_visitor_65 : decode cX0_visitor 65 = .ok (.getfield 45, 3) := dk_180 0 45 (dk_at dksX0_visitor_2 21 rfl rfl)
theorem dX0_visitor_68 : decode cX0_visitor 68 = .ok (.getfield 226, 3) := dk_180 0 226 (dk_at dksX0_visitor_3 0 rfl rfl)
theorem dX0_visitor_71 : decode cX0_visitor 71 = .ok (.iload_n 1, 1) := dk_27 (dk_at dksX0_visitor_3 3 rfl rfl)
theorem dX0_visitor_72 : decode cX0_visitor 72 = .ok (.iaload, 1) := dk_46 (dk_at dksX0_visitor_3 4 rfl rfl)
theorem dX0_visitor_73 : decode cX0_visitor 73 = .ok (.ireturn, 1) := dk_172 (dk_at dksX0_visitor_3 5 rfl rfl)
theorem dX0_visitor_74 : decode cX0_visitor 74 = .ok (.aload_n 0, 1) := dk_42 (dk_at dksX0_visitor_3 6 rfl rfl)
theorem dX0_visitor_75 : decode cX0_visitor 75 = .ok (.getfield 45, 3) := dk_180 0 45 (dk_at dksX0_visitor_3 7 rfl rfl)
theorem dX0_visitor_78 : decode cX0_visitor 78 = .ok (.getfield 229, 3) := dk_180 0 229 (dk_at dksX0_visitor_3 10 rfl rfl)
theorem dX0_visitor_81 : decode cX0_visitor 81 = .ok (.iload_n 1, 1) := dk_27 (dk_at dksX0_visitor_3 13 rfl rfl)
theorem dX0_visitor_82 : decode cX0_visitor 82 = .ok (.iaload, 1) := dk_46 (dk_at dksX0_visitor_3 14 rfl rfl)
theorem dX0_visitor_83 : decode cX0_visitor 83 = .ok (.ireturn, 1) := dk_172 (dk_at dksX0_visitor_3 15 rfl rfl)
theorem dX0_visitor_84 : decode cX0_visitor 84 = .ok (.ldc 97, 2) := dk_18 97 (dk_at dksX0_visitor_3 16 rfl rfl)
theorem dX0_visitor_86 : decode cX0_visitor 86 = .ok (.ireturn, 1) := dk_172 (dk_at dksX0_visitor_3 18 rfl rfl)
abbrev cX0_sees : ByteArray := prog_1_method_32_code
def yX0_sees : MethodName := ⟨RX0, "sees", "(II)I"⟩
def dkwX0_sees_1 : List UInt8 := [182, 0, 232, 167, 0, 5, 18, 97, 172]
abbrev dktX0_sees_1 : List UInt8 := dkwX0_sees_1 ++ []
def dkwX0_sees_0 : List UInt8 := [42, 27, 182, 0, 178, 153, 0, 23, 42, 28, 182, 0, 200, 153, 0, 15, 42, 180, 0, 45, 27, 28]
abbrev dktX0_sees_0 : List UInt8 := dkwX0_sees_0 ++ dktX0_sees_1
theorem dksX0_sees_0 : cX0_sees.data.toList.drop 0 = dktX0_sees_0 := by decide +kernel
theorem dksX0_sees_1 : cX0_sees.data.toList.drop 22 = dktX0_sees_1 := dk_seg dksX0_sees_0 22 rfl rfl
theorem dX0_sees_0 : decode cX0_sees 0 = .ok (.aload_n 0, 1) := dk_42 (dk_at dksX0_sees_0 0 rfl rfl)
theorem dX0_sees_1 : decode cX0_sees 1 = .ok (.iload_n 1, 1) := dk_27 (dk_at dksX0_sees_0 1 rfl rfl)
theorem dX0_sees_2 : decode cX0_sees 2 = .ok (.invokevirtual 178, 3) := dk_182 0 178 (dk_at dksX0_sees_0 2 rfl rfl)
theorem dX0_sees_5 : decode cX0_sees 5 = .ok (.ifCond .eq 23, 3) := dk_153 0 23 (dk_at dksX0_sees_0 5 rfl rfl)
theorem dX0_sees_8 : decode cX0_sees 8 = .ok (.aload_n 0, 1) := dk_42 (dk_at dksX0_sees_0 8 rfl rfl)
theorem dX0_sees_9 : decode cX0_sees 9 = .ok (.iload_n 2, 1) := dk_28 (dk_at dksX0_sees_0 9 rfl rfl)
theorem dX0_sees_10 : decode cX0_sees 10 = .ok (.invokevirtual 200, 3) := dk_182 0 200 (dk_at dksX0_sees_0 10 rfl rfl)
theorem dX0_sees_13 : decode cX0_sees 13 = .ok (.ifCond .eq 15, 3) := dk_153 0 15 (dk_at dksX0_sees_0 13 rfl rfl)
theorem dX0_sees_16 : decode cX0_sees 16 = .ok (.aload_n 0, 1) := dk_42 (dk_at dksX0_sees_0 16 rfl rfl)
theorem dX0_sees_17 : decode cX0_sees 17 = .ok (.getfield 45, 3) := dk_180 0 45 (dk_at dksX0_sees_0 17 rfl rfl)
theorem dX0_sees_20 : decode cX0_sees 20 = .ok (.iload_n 1, 1) := dk_27 (dk_at dksX0_sees_0 20 rfl rfl)
theorem dX0_sees_21 : decode cX0_sees 21 = .ok (.iload_n 2, 1) := dk_28 (dk_at dksX0_sees_0 21 rfl rfl)
theorem dX0_sees_22 : decode cX0_sees 22 = .ok (.invokevirtual 232, 3) := dk_182 0 232 (dk_at dksX0_sees_1 0 rfl rfl)
theorem dX0_sees_25 : decode cX0_sees 25 = .ok (.goto 5, 3) := dk_167 0 5 (dk_at dksX0_sees_1 3 rfl rfl)
theorem dX0_sees_28 : decode cX0_sees 28 = .ok (.ldc 97, 2) := dk_18 97 (dk_at dksX0_sees_1 6 rfl rfl)
theorem dX0_sees_30 : decode cX0_sees 30 = .ok (.ireturn, 1) := dk_172 (dk_at dksX0_sees_1 8 rfl rfl)
abbrev cX0_clicks : ByteArray := prog_1_method_33_code
def yX0_clicks : MethodName := ⟨RX0, "clicks", "(I)I"⟩
def dkwX0_clicks_0 : List UInt8 := [42, 27, 182, 0, 178, 153, 0, 14, 42, 180, 0, 45, 27, 182, 0, 236, 167, 0, 5, 18, 97, 172]
abbrev dktX0_clicks_0 : List UInt8 := dkwX0_clicks_0 ++ []
theorem dksX0_clicks_0 : cX0_clicks.data.toList.drop 0 = dktX0_clicks_0 := by decide +kernel
theorem dX0_clicks_0 : decode cX0_clicks 0 = .ok (.aload_n 0, 1) := dk_42 (dk_at dksX0_clicks_0 0 rfl rfl)
theorem dX0_clicks_1 : decode cX0_clicks 1 = .ok (.iload_n 1, 1) := dk_27 (dk_at dksX0_clicks_0 1 rfl rfl)
theorem dX0_clicks_2 : decode cX0_clicks 2 = .ok (.invokevirtual 178, 3) := dk_182 0 178 (dk_at dksX0_clicks_0 2 rfl rfl)
theorem dX0_clicks_5 : decode cX0_clicks 5 = .ok (.ifCond .eq 14, 3) := dk_153 0 14 (dk_at dksX0_clicks_0 5 rfl rfl)
theorem dX0_clicks_8 : decode cX0_clicks 8 = .ok (.aload_n 0, 1) := dk_42 (dk_at dksX0_clicks_0 8 rfl rfl)
theorem dX0_clicks_9 : decode cX0_clicks 9 = .ok (.getfield 45, 3) := dk_180 0 45 (dk_at dksX0_clicks_0 9 rfl rfl)
theorem dX0_clicks_12 : decode cX0_clicks 12 = .ok (.iload_n 1, 1) := dk_27 (dk_at dksX0_clicks_0 12 rfl rfl)
theorem dX0_clicks_13 : decode cX0_clicks 13 = .ok (.invokevirtual 236, 3) := dk_182 0 236 (dk_at dksX0_clicks_0 13 rfl rfl)
theorem dX0_clicks_16 : decode cX0_clicks 16 = .ok (.goto 5, 3) := dk_167 0 5 (dk_at dksX0_clicks_0 16 rfl rfl)
theorem dX0_clicks_19 : decode cX0_clicks 19 = .ok (.ldc 97, 2) := dk_18 97 (dk_at dksX0_clicks_0 19 rfl rfl)
theorem dX0_clicks_21 : decode cX0_clicks 21 = .ok (.ireturn, 1) := dk_172 (dk_at dksX0_clicks_0 21 rfl rfl)
abbrev cX0_wrong : ByteArray := prog_1_method_34_code
def yX0_wrong : MethodName := ⟨RX0, "wrong", "(II)I"⟩
def dkwX0_wrong_1 : List UInt8 := [27, 182, 0, 236, 28, 182, 0, 239, 167, 0, 5, 18, 97, 172]
abbrev dktX0_wrong_1 : List UInt8 := dkwX0_wrong_1 ++ []
def dkwX0_wrong_0 : List UInt8 := [42, 27, 182, 0, 178, 153, 0, 30, 42, 28, 182, 0, 181, 153, 0, 22, 42, 180, 0, 45, 42, 180, 0, 45]
abbrev dktX0_wrong_0 : List UInt8 := dkwX0_wrong_0 ++ dktX0_wrong_1
theorem dksX0_wrong_0 : cX0_wrong.data.toList.drop 0 = dktX0_wrong_0 := by decide +kernel
theorem dksX0_wrong_1 : cX0_wrong.data.toList.drop 24 = dktX0_wrong_1 := dk_seg dksX0_wrong_0 24 rfl rfl
theorem dX0_wrong_0 : decode cX0_wrong 0 = .ok (.aload_n 0, 1) := dk_42 (dk_at dksX0_wrong_0 0 rfl rfl)
theorem dX0_wrong_1 : decode cX0_wrong 1 = .ok (.iload_n 1, 1) := dk_27 (dk_at dksX0_wrong_0 1 rfl rfl)
theorem dX0_wrong_2 : decode cX0_wrong 2 = .ok (.invokevirtual 178, 3) := dk_182 0 178 (dk_at dksX0_wrong_0 2 rfl rfl)
theorem dX0_wrong_5 : decode cX0_wrong 5 = .ok (.ifCond .eq 30, 3) := dk_153 0 30 (dk_at dksX0_wrong_0 5 rfl rfl)
theorem dX0_wrong_8 : decode cX0_wrong 8 = .ok (.aload_n 0, 1) := dk_42 (dk_at dksX0_wrong_0 8 rfl rfl)
theorem dX0_wrong_9 : decode cX0_wrong 9 = .ok (.iload_n 2, 1) := dk_28 (dk_at dksX0_wrong_0 9 rfl rfl)
theorem dX0_wrong_10 : decode cX0_wrong 10 = .ok (.invokevirtual 181, 3) := dk_182 0 181 (dk_at dksX0_wrong_0 10 rfl rfl)
theorem dX0_wrong_13 : decode cX0_wrong 13 = .ok (.ifCond .eq 22, 3) := dk_153 0 22 (dk_at dksX0_wrong_0 13 rfl rfl)
theorem dX0_wrong_16 : decode cX0_wrong 16 = .ok (.aload_n 0, 1) := dk_42 (dk_at dksX0_wrong_0 16 rfl rfl)
theorem dX0_wrong_17 : decode cX0_wrong 17 = .ok (.getfield 45, 3) := dk_180 0 45 (dk_at dksX0_wrong_0 17 rfl rfl)
theorem dX0_wrong_20 : decode cX0_wrong 20 = .ok (.aload_n 0, 1) := dk_42 (dk_at dksX0_wrong_0 20 rfl rfl)
theorem dX0_wrong_21 : decode cX0_wrong 21 = .ok (.getfield 45, 3) := dk_180 0 45 (dk_at dksX0_wrong_0 21 rfl rfl)
theorem dX0_wrong_24 : decode cX0_wrong 24 = .ok (.iload_n 1, 1) := dk_27 (dk_at dksX0_wrong_1 0 rfl rfl)
theorem dX0_wrong_25 : decode cX0_wrong 25 = .ok (.invokevirtual 236, 3) := dk_182 0 236 (dk_at dksX0_wrong_1 1 rfl rfl)
theorem dX0_wrong_28 : decode cX0_wrong 28 = .ok (.iload_n 2, 1) := dk_28 (dk_at dksX0_wrong_1 4 rfl rfl)
theorem dX0_wrong_29 : decode cX0_wrong 29 = .ok (.invokevirtual 239, 3) := dk_182 0 239 (dk_at dksX0_wrong_1 5 rfl rfl)
theorem dX0_wrong_32 : decode cX0_wrong 32 = .ok (.goto 5, 3) := dk_167 0 5 (dk_at dksX0_wrong_1 8 rfl rfl)
theorem dX0_wrong_35 : decode cX0_wrong 35 = .ok (.ldc 97, 2) := dk_18 97 (dk_at dksX0_wrong_1 11 rfl rfl)
theorem dX0_wrong_37 : decode cX0_wrong 37 = .ok (.ireturn, 1) := dk_172 (dk_at dksX0_wrong_1 13 rfl rfl)
abbrev cX0_guests : ByteArray := prog_1_method_35_code
def yX0_guests : MethodName := ⟨RX0, "guests", "(I)I"⟩
def dkwX0_guests_1 : List UInt8 := [182, 0, 242, 167, 0, 5, 18, 97, 172]
abbrev dktX0_guests_1 : List UInt8 := dkwX0_guests_1 ++ []
def dkwX0_guests_0 : List UInt8 := [42, 182, 0, 191, 154, 0, 6, 18, 171, 172, 42, 27, 182, 0, 181, 153, 0, 14, 42, 180, 0, 45, 27]
abbrev dktX0_guests_0 : List UInt8 := dkwX0_guests_0 ++ dktX0_guests_1
theorem dksX0_guests_0 : cX0_guests.data.toList.drop 0 = dktX0_guests_0 := by decide +kernel
theorem dksX0_guests_1 : cX0_guests.data.toList.drop 23 = dktX0_guests_1 := dk_seg dksX0_guests_0 23 rfl rfl
theorem dX0_guests_0 : decode cX0_guests 0 = .ok (.aload_n 0, 1) := dk_42 (dk_at dksX0_guests_0 0 rfl rfl)
theorem dX0_guests_1 : decode cX0_guests 1 = .ok (.invokevirtual 191, 3) := dk_182 0 191 (dk_at dksX0_guests_0 1 rfl rfl)
theorem dX0_guests_4 : decode cX0_guests 4 = .ok (.ifCond .ne 6, 3) := dk_154 0 6 (dk_at dksX0_guests_0 4 rfl rfl)
theorem dX0_guests_7 : decode cX0_guests 7 = .ok (.ldc 171, 2) := dk_18 171 (dk_at dksX0_guests_0 7 rfl rfl)
theorem dX0_guests_9 : decode cX0_guests 9 = .ok (.ireturn, 1) := dk_172 (dk_at dksX0_guests_0 9 rfl rfl)
theorem dX0_guests_10 : decode cX0_guests 10 = .ok (.aload_n 0, 1) := dk_42 (dk_at dksX0_guests_0 10 rfl rfl)
theorem dX0_guests_11 : decode cX0_guests 11 = .ok (.iload_n 1, 1) := dk_27 (dk_at dksX0_guests_0 11 rfl rfl)
theorem dX0_guests_12 : decode cX0_guests 12 = .ok (.invokevirtual 181, 3) := dk_182 0 181 (dk_at dksX0_guests_0 12 rfl rfl)
theorem dX0_guests_15 : decode cX0_guests 15 = .ok (.ifCond .eq 14, 3) := dk_153 0 14 (dk_at dksX0_guests_0 15 rfl rfl)
theorem dX0_guests_18 : decode cX0_guests 18 = .ok (.aload_n 0, 1) := dk_42 (dk_at dksX0_guests_0 18 rfl rfl)
theorem dX0_guests_19 : decode cX0_guests 19 = .ok (.getfield 45, 3) := dk_180 0 45 (dk_at dksX0_guests_0 19 rfl rfl)
theorem dX0_guests_22 : decode cX0_guests 22 = .ok (.iload_n 1, 1) := dk_27 (dk_at dksX0_guests_0 22 rfl rfl)
theorem dX0_guests_23 : decode cX0_guests 23 = .ok (.invokevirtual 242, 3) := dk_182 0 242 (dk_at dksX0_guests_1 0 rfl rfl)
theorem dX0_guests_26 : decode cX0_guests 26 = .ok (.goto 5, 3) := dk_167 0 5 (dk_at dksX0_guests_1 3 rfl rfl)
theorem dX0_guests_29 : decode cX0_guests 29 = .ok (.ldc 97, 2) := dk_18 97 (dk_at dksX0_guests_1 6 rfl rfl)
theorem dX0_guests_31 : decode cX0_guests 31 = .ok (.ireturn, 1) := dk_172 (dk_at dksX0_guests_1 8 rfl rfl)
abbrev cX0_fewest : ByteArray := prog_1_method_37_code
def yX0_fewest : MethodName := ⟨RX0, "fewest", "(II)I"⟩
def dkwX0_fewest_2 : List UInt8 := [18, 245, 159, 0, 8, 28, 4, 160, 0, 7, 29, 167, 0, 7, 29, 184, 0, 246, 172]
abbrev dktX0_fewest_2 : List UInt8 := dkwX0_fewest_2 ++ []
def dkwX0_fewest_1 : List UInt8 := [154, 0, 6, 18, 97, 172, 42, 4, 42, 180, 0, 45, 182, 0, 167, 120, 4, 100, 27, 182, 1, 1, 62, 29]
abbrev dktX0_fewest_1 : List UInt8 := dkwX0_fewest_1 ++ dktX0_fewest_2
def dkwX0_fewest_0 : List UInt8 := [42, 182, 0, 191, 154, 0, 6, 18, 171, 172, 42, 27, 182, 0, 251, 153, 0, 10, 28, 184, 0, 254]
abbrev dktX0_fewest_0 : List UInt8 := dkwX0_fewest_0 ++ dktX0_fewest_1
theorem dksX0_fewest_0 : cX0_fewest.data.toList.drop 0 = dktX0_fewest_0 := by decide +kernel
theorem dksX0_fewest_1 : cX0_fewest.data.toList.drop 22 = dktX0_fewest_1 := dk_seg dksX0_fewest_0 22 rfl rfl
theorem dksX0_fewest_2 : cX0_fewest.data.toList.drop 46 = dktX0_fewest_2 := dk_seg dksX0_fewest_1 24 rfl rfl
theorem dX0_fewest_0 : decode cX0_fewest 0 = .ok (.aload_n 0, 1) := dk_42 (dk_at dksX0_fewest_0 0 rfl rfl)
theorem dX0_fewest_1 : decode cX0_fewest 1 = .ok (.invokevirtual 191, 3) := dk_182 0 191 (dk_at dksX0_fewest_0 1 rfl rfl)
theorem dX0_fewest_4 : decode cX0_fewest 4 = .ok (.ifCond .ne 6, 3) := dk_154 0 6 (dk_at dksX0_fewest_0 4 rfl rfl)
theorem dX0_fewest_7 : decode cX0_fewest 7 = .ok (.ldc 171, 2) := dk_18 171 (dk_at dksX0_fewest_0 7 rfl rfl)
theorem dX0_fewest_9 : decode cX0_fewest 9 = .ok (.ireturn, 1) := dk_172 (dk_at dksX0_fewest_0 9 rfl rfl)
theorem dX0_fewest_10 : decode cX0_fewest 10 = .ok (.aload_n 0, 1) := dk_42 (dk_at dksX0_fewest_0 10 rfl rfl)
theorem dX0_fewest_11 : decode cX0_fewest 11 = .ok (.iload_n 1, 1) := dk_27 (dk_at dksX0_fewest_0 11 rfl rfl)
theorem dX0_fewest_12 : decode cX0_fewest 12 = .ok (.invokevirtual 251, 3) := dk_182 0 251 (dk_at dksX0_fewest_0 12 rfl rfl)
theorem dX0_fewest_15 : decode cX0_fewest 15 = .ok (.ifCond .eq 10, 3) := dk_153 0 10 (dk_at dksX0_fewest_0 15 rfl rfl)
theorem dX0_fewest_18 : decode cX0_fewest 18 = .ok (.iload_n 2, 1) := dk_28 (dk_at dksX0_fewest_0 18 rfl rfl)
theorem dX0_fewest_19 : decode cX0_fewest 19 = .ok (.invokestatic 254, 3) := dk_184 0 254 (dk_at dksX0_fewest_0 19 rfl rfl)
theorem dX0_fewest_22 : decode cX0_fewest 22 = .ok (.ifCond .ne 6, 3) := dk_154 0 6 (dk_at dksX0_fewest_1 0 rfl rfl)
theorem dX0_fewest_25 : decode cX0_fewest 25 = .ok (.ldc 97, 2) := dk_18 97 (dk_at dksX0_fewest_1 3 rfl rfl)
theorem dX0_fewest_27 : decode cX0_fewest 27 = .ok (.ireturn, 1) := dk_172 (dk_at dksX0_fewest_1 5 rfl rfl)
theorem dX0_fewest_28 : decode cX0_fewest 28 = .ok (.aload_n 0, 1) := dk_42 (dk_at dksX0_fewest_1 6 rfl rfl)
theorem dX0_fewest_29 : decode cX0_fewest 29 = .ok (.iconst 1, 1) := dk_4 (dk_at dksX0_fewest_1 7 rfl rfl)
theorem dX0_fewest_30 : decode cX0_fewest 30 = .ok (.aload_n 0, 1) := dk_42 (dk_at dksX0_fewest_1 8 rfl rfl)
theorem dX0_fewest_31 : decode cX0_fewest 31 = .ok (.getfield 45, 3) := dk_180 0 45 (dk_at dksX0_fewest_1 9 rfl rfl)
theorem dX0_fewest_34 : decode cX0_fewest 34 = .ok (.invokevirtual 167, 3) := dk_182 0 167 (dk_at dksX0_fewest_1 12 rfl rfl)
theorem dX0_fewest_37 : decode cX0_fewest 37 = .ok (.ishl, 1) := dk_120 (dk_at dksX0_fewest_1 15 rfl rfl)
theorem dX0_fewest_38 : decode cX0_fewest 38 = .ok (.iconst 1, 1) := dk_4 (dk_at dksX0_fewest_1 16 rfl rfl)
theorem dX0_fewest_39 : decode cX0_fewest 39 = .ok (.isub, 1) := dk_100 (dk_at dksX0_fewest_1 17 rfl rfl)
theorem dX0_fewest_40 : decode cX0_fewest 40 = .ok (.iload_n 1, 1) := dk_27 (dk_at dksX0_fewest_1 18 rfl rfl)
theorem dX0_fewest_41 : decode cX0_fewest 41 = .ok (.invokevirtual 257, 3) := dk_182 1 1 (dk_at dksX0_fewest_1 19 rfl rfl)
theorem dX0_fewest_44 : decode cX0_fewest 44 = .ok (.istore_n 3, 1) := dk_62 (dk_at dksX0_fewest_1 22 rfl rfl)
theorem dX0_fewest_45 : decode cX0_fewest 45 = .ok (.iload_n 3, 1) := dk_29 (dk_at dksX0_fewest_1 23 rfl rfl)
theorem dX0_fewest_46 : decode cX0_fewest 46 = .ok (.ldc 245, 2) := dk_18 245 (dk_at dksX0_fewest_2 0 rfl rfl)
theorem dX0_fewest_48 : decode cX0_fewest 48 = .ok (.if_icmp .eq 8, 3) := dk_159 0 8 (dk_at dksX0_fewest_2 2 rfl rfl)
theorem dX0_fewest_51 : decode cX0_fewest 51 = .ok (.iload_n 2, 1) := dk_28 (dk_at dksX0_fewest_2 5 rfl rfl)
theorem dX0_fewest_52 : decode cX0_fewest 52 = .ok (.iconst 1, 1) := dk_4 (dk_at dksX0_fewest_2 6 rfl rfl)
theorem dX0_fewest_53 : decode cX0_fewest 53 = .ok (.if_icmp .ne 7, 3) := dk_160 0 7 (dk_at dksX0_fewest_2 7 rfl rfl)
theorem dX0_fewest_56 : decode cX0_fewest 56 = .ok (.iload_n 3, 1) := dk_29 (dk_at dksX0_fewest_2 10 rfl rfl)
theorem dX0_fewest_57 : decode cX0_fewest 57 = .ok (.goto 7, 3) := dk_167 0 7 (dk_at dksX0_fewest_2 11 rfl rfl)
theorem dX0_fewest_60 : decode cX0_fewest 60 = .ok (.iload_n 3, 1) := dk_29 (dk_at dksX0_fewest_2 14 rfl rfl)
theorem dX0_fewest_61 : decode cX0_fewest 61 = .ok (.invokestatic 246, 3) := dk_184 0 246 (dk_at dksX0_fewest_2 15 rfl rfl)
theorem dX0_fewest_64 : decode cX0_fewest 64 = .ok (.ireturn, 1) := dk_172 (dk_at dksX0_fewest_2 18 rfl rfl)
abbrev cX0_areVisitors : ByteArray := prog_1_method_25_code
def yX0_areVisitors : MethodName := ⟨RX0, "areVisitors", "(I)Z"⟩
def dkwX0_areVisitors_0 : List UInt8 := [27, 133, 9, 4, 42, 180, 0, 45, 180, 0, 175, 120, 4, 100, 133, 184, 0, 83, 172]
abbrev dktX0_areVisitors_0 : List UInt8 := dkwX0_areVisitors_0 ++ []
theorem dksX0_areVisitors_0 : cX0_areVisitors.data.toList.drop 0 = dktX0_areVisitors_0 := by decide +kernel
theorem dX0_areVisitors_0 : decode cX0_areVisitors 0 = .ok (.iload_n 1, 1) := dk_27 (dk_at dksX0_areVisitors_0 0 rfl rfl)
theorem dX0_areVisitors_1 : decode cX0_areVisitors 1 = .ok (.i2l, 1) := dk_133 (dk_at dksX0_areVisitors_0 1 rfl rfl)
theorem dX0_areVisitors_2 : decode cX0_areVisitors 2 = .ok (.lconst 0, 1) := dk_9 (dk_at dksX0_areVisitors_0 2 rfl rfl)
theorem dX0_areVisitors_3 : decode cX0_areVisitors 3 = .ok (.iconst 1, 1) := dk_4 (dk_at dksX0_areVisitors_0 3 rfl rfl)
theorem dX0_areVisitors_4 : decode cX0_areVisitors 4 = .ok (.aload_n 0, 1) := dk_42 (dk_at dksX0_areVisitors_0 4 rfl rfl)
theorem dX0_areVisitors_5 : decode cX0_areVisitors 5 = .ok (.getfield 45, 3) := dk_180 0 45 (dk_at dksX0_areVisitors_0 5 rfl rfl)
theorem dX0_areVisitors_8 : decode cX0_areVisitors 8 = .ok (.getfield 175, 3) := dk_180 0 175 (dk_at dksX0_areVisitors_0 8 rfl rfl)
theorem dX0_areVisitors_11 : decode cX0_areVisitors 11 = .ok (.ishl, 1) := dk_120 (dk_at dksX0_areVisitors_0 11 rfl rfl)
theorem dX0_areVisitors_12 : decode cX0_areVisitors 12 = .ok (.iconst 1, 1) := dk_4 (dk_at dksX0_areVisitors_0 12 rfl rfl)
theorem dX0_areVisitors_13 : decode cX0_areVisitors 13 = .ok (.isub, 1) := dk_100 (dk_at dksX0_areVisitors_0 13 rfl rfl)
theorem dX0_areVisitors_14 : decode cX0_areVisitors 14 = .ok (.i2l, 1) := dk_133 (dk_at dksX0_areVisitors_0 14 rfl rfl)
theorem dX0_areVisitors_15 : decode cX0_areVisitors 15 = .ok (.invokestatic 83, 3) := dk_184 0 83 (dk_at dksX0_areVisitors_0 15 rfl rfl)
theorem dX0_areVisitors_18 : decode cX0_areVisitors 18 = .ok (.ireturn, 1) := dk_172 (dk_at dksX0_areVisitors_0 18 rfl rfl)
abbrev cX0_isHalf : ByteArray := prog_1_method_18_code
def yX0_isHalf : MethodName := ⟨RX0, "isHalf", "(I)Z"⟩
def dkwX0_isHalf_0 : List UInt8 := [26, 133, 9, 10, 184, 0, 83, 172]
abbrev dktX0_isHalf_0 : List UInt8 := dkwX0_isHalf_0 ++ []
theorem dksX0_isHalf_0 : cX0_isHalf.data.toList.drop 0 = dktX0_isHalf_0 := by decide +kernel
theorem dX0_isHalf_0 : decode cX0_isHalf 0 = .ok (.iload_n 0, 1) := dk_26 (dk_at dksX0_isHalf_0 0 rfl rfl)
theorem dX0_isHalf_1 : decode cX0_isHalf 1 = .ok (.i2l, 1) := dk_133 (dk_at dksX0_isHalf_0 1 rfl rfl)
theorem dX0_isHalf_2 : decode cX0_isHalf 2 = .ok (.lconst 0, 1) := dk_9 (dk_at dksX0_isHalf_0 2 rfl rfl)
theorem dX0_isHalf_3 : decode cX0_isHalf 3 = .ok (.lconst 1, 1) := dk_10 (dk_at dksX0_isHalf_0 3 rfl rfl)
theorem dX0_isHalf_4 : decode cX0_isHalf 4 = .ok (.invokestatic 83, 3) := dk_184 0 83 (dk_at dksX0_isHalf_0 4 rfl rfl)
theorem dX0_isHalf_7 : decode cX0_isHalf 7 = .ok (.ireturn, 1) := dk_172 (dk_at dksX0_isHalf_0 7 rfl rfl)
abbrev cX0_fewestOf : ByteArray := prog_1_method_36_code
def yX0_fewestOf : MethodName := ⟨RX0, "fewestOf", "(II)I"⟩
def dkwX0_fewestOf_2 : List UInt8 := [182, 0, 242, 28, 160, 0, 8, 21, 4, 167, 0, 4, 29, 62, 132, 4, 1, 167, 255, 197, 29, 172]
abbrev dktX0_fewestOf_2 : List UInt8 := dkwX0_fewestOf_2 ++ []
def dkwX0_fewestOf_1 : List UInt8 := [159, 0, 18, 21, 4, 184, 0, 246, 29, 184, 0, 246, 161, 0, 6, 167, 0, 23, 42, 180, 0, 45, 21, 4]
abbrev dktX0_fewestOf_1 : List UInt8 := dkwX0_fewestOf_1 ++ dktX0_fewestOf_2
def dkwX0_fewestOf_0 : List UInt8 := [18, 245, 62, 3, 54, 4, 21, 4, 27, 163, 0, 59, 21, 4, 27, 2, 130, 126, 154, 0, 44, 29, 18, 245]
abbrev dktX0_fewestOf_0 : List UInt8 := dkwX0_fewestOf_0 ++ dktX0_fewestOf_1
theorem dksX0_fewestOf_0 : cX0_fewestOf.data.toList.drop 0 = dktX0_fewestOf_0 := by decide +kernel
theorem dksX0_fewestOf_1 : cX0_fewestOf.data.toList.drop 24 = dktX0_fewestOf_1 := dk_seg dksX0_fewestOf_0 24 rfl rfl
theorem dksX0_fewestOf_2 : cX0_fewestOf.data.toList.drop 48 = dktX0_fewestOf_2 := dk_seg dksX0_fewestOf_1 24 rfl rfl
theorem dX0_fewestOf_0 : decode cX0_fewestOf 0 = .ok (.ldc 245, 2) := dk_18 245 (dk_at dksX0_fewestOf_0 0 rfl rfl)
theorem dX0_fewestOf_2 : decode cX0_fewestOf 2 = .ok (.istore_n 3, 1) := dk_62 (dk_at dksX0_fewestOf_0 2 rfl rfl)
theorem dX0_fewestOf_3 : decode cX0_fewestOf 3 = .ok (.iconst 0, 1) := dk_3 (dk_at dksX0_fewestOf_0 3 rfl rfl)
theorem dX0_fewestOf_4 : decode cX0_fewestOf 4 = .ok (.istore 4, 2) := dk_54 4 (dk_at dksX0_fewestOf_0 4 rfl rfl)
theorem dX0_fewestOf_6 : decode cX0_fewestOf 6 = .ok (.iload 4, 2) := dk_21 4 (dk_at dksX0_fewestOf_0 6 rfl rfl)
theorem dX0_fewestOf_8 : decode cX0_fewestOf 8 = .ok (.iload_n 1, 1) := dk_27 (dk_at dksX0_fewestOf_0 8 rfl rfl)
theorem dX0_fewestOf_9 : decode cX0_fewestOf 9 = .ok (.if_icmp .gt 59, 3) := dk_163 0 59 (dk_at dksX0_fewestOf_0 9 rfl rfl)
theorem dX0_fewestOf_12 : decode cX0_fewestOf 12 = .ok (.iload 4, 2) := dk_21 4 (dk_at dksX0_fewestOf_0 12 rfl rfl)
theorem dX0_fewestOf_14 : decode cX0_fewestOf 14 = .ok (.iload_n 1, 1) := dk_27 (dk_at dksX0_fewestOf_0 14 rfl rfl)
theorem dX0_fewestOf_15 : decode cX0_fewestOf 15 = .ok (.iconst (-1), 1) := dk_2 (dk_at dksX0_fewestOf_0 15 rfl rfl)
theorem dX0_fewestOf_16 : decode cX0_fewestOf 16 = .ok (.ixor, 1) := dk_130 (dk_at dksX0_fewestOf_0 16 rfl rfl)
theorem dX0_fewestOf_17 : decode cX0_fewestOf 17 = .ok (.iand, 1) := dk_126 (dk_at dksX0_fewestOf_0 17 rfl rfl)
theorem dX0_fewestOf_18 : decode cX0_fewestOf 18 = .ok (.ifCond .ne 44, 3) := dk_154 0 44 (dk_at dksX0_fewestOf_0 18 rfl rfl)
theorem dX0_fewestOf_21 : decode cX0_fewestOf 21 = .ok (.iload_n 3, 1) := dk_29 (dk_at dksX0_fewestOf_0 21 rfl rfl)
theorem dX0_fewestOf_22 : decode cX0_fewestOf 22 = .ok (.ldc 245, 2) := dk_18 245 (dk_at dksX0_fewestOf_0 22 rfl rfl)
theorem dX0_fewestOf_24 : decode cX0_fewestOf 24 = .ok (.if_icmp .eq 18, 3) := dk_159 0 18 (dk_at dksX0_fewestOf_1 0 rfl rfl)
theorem dX0_fewestOf_27 : decode cX0_fewestOf 27 = .ok (.iload 4, 2) := dk_21 4 (dk_at dksX0_fewestOf_1 3 rfl rfl)
theorem dX0_fewestOf_29 : decode cX0_fewestOf 29 = .ok (.invokestatic 246, 3) := dk_184 0 246 (dk_at dksX0_fewestOf_1 5 rfl rfl)
theorem dX0_fewestOf_32 : decode cX0_fewestOf 32 = .ok (.iload_n 3, 1) := dk_29 (dk_at dksX0_fewestOf_1 8 rfl rfl)
theorem dX0_fewestOf_33 : decode cX0_fewestOf 33 = .ok (.invokestatic 246, 3) := dk_184 0 246 (dk_at dksX0_fewestOf_1 9 rfl rfl)
theorem dX0_fewestOf_36 : decode cX0_fewestOf 36 = .ok (.if_icmp .lt 6, 3) := dk_161 0 6 (dk_at dksX0_fewestOf_1 12 rfl rfl)
theorem dX0_fewestOf_39 : decode cX0_fewestOf 39 = .ok (.goto 23, 3) := dk_167 0 23 (dk_at dksX0_fewestOf_1 15 rfl rfl)
theorem dX0_fewestOf_42 : decode cX0_fewestOf 42 = .ok (.aload_n 0, 1) := dk_42 (dk_at dksX0_fewestOf_1 18 rfl rfl)
theorem dX0_fewestOf_43 : decode cX0_fewestOf 43 = .ok (.getfield 45, 3) := dk_180 0 45 (dk_at dksX0_fewestOf_1 19 rfl rfl)
theorem dX0_fewestOf_46 : decode cX0_fewestOf 46 = .ok (.iload 4, 2) := dk_21 4 (dk_at dksX0_fewestOf_1 22 rfl rfl)
theorem dX0_fewestOf_48 : decode cX0_fewestOf 48 = .ok (.invokevirtual 242, 3) := dk_182 0 242 (dk_at dksX0_fewestOf_2 0 rfl rfl)
theorem dX0_fewestOf_51 : decode cX0_fewestOf 51 = .ok (.iload_n 2, 1) := dk_28 (dk_at dksX0_fewestOf_2 3 rfl rfl)
theorem dX0_fewestOf_52 : decode cX0_fewestOf 52 = .ok (.if_icmp .ne 8, 3) := dk_160 0 8 (dk_at dksX0_fewestOf_2 4 rfl rfl)
theorem dX0_fewestOf_55 : decode cX0_fewestOf 55 = .ok (.iload 4, 2) := dk_21 4 (dk_at dksX0_fewestOf_2 7 rfl rfl)
theorem dX0_fewestOf_57 : decode cX0_fewestOf 57 = .ok (.goto 4, 3) := dk_167 0 4 (dk_at dksX0_fewestOf_2 9 rfl rfl)
theorem dX0_fewestOf_60 : decode cX0_fewestOf 60 = .ok (.iload_n 3, 1) := dk_29 (dk_at dksX0_fewestOf_2 12 rfl rfl)
theorem dX0_fewestOf_61 : decode cX0_fewestOf 61 = .ok (.istore_n 3, 1) := dk_62 (dk_at dksX0_fewestOf_2 13 rfl rfl)
theorem dX0_fewestOf_62 : decode cX0_fewestOf 62 = .ok (.iinc 4 1, 3) := dk_132 4 1 (dk_at dksX0_fewestOf_2 14 rfl rfl)
theorem dX0_fewestOf_65 : decode cX0_fewestOf 65 = .ok (.goto (-59), 3) := dk_167 255 197 (dk_at dksX0_fewestOf_2 17 rfl rfl)
theorem dX0_fewestOf_68 : decode cX0_fewestOf 68 = .ok (.iload_n 3, 1) := dk_29 (dk_at dksX0_fewestOf_2 20 rfl rfl)
theorem dX0_fewestOf_69 : decode cX0_fewestOf 69 = .ok (.ireturn, 1) := dk_172 (dk_at dksX0_fewestOf_2 21 rfl rfl)
abbrev cX0_harsh : ByteArray := prog_1_method_38_code
def yX0_harsh : MethodName := ⟨RX0, "harsh", "(II)I"⟩
def dkwX0_harsh_3 : List UInt8 := [132, 4, 1, 167, 255, 216, 29, 172]
abbrev dktX0_harsh_3 : List UInt8 := dkwX0_harsh_3 ++ []
def dkwX0_harsh_2 : List UInt8 := [21, 4, 184, 1, 4, 153, 0, 17, 29, 42, 21, 4, 28, 182, 1, 7, 184, 1, 10, 167, 0, 4, 29, 62]
abbrev dktX0_harsh_2 : List UInt8 := dkwX0_harsh_2 ++ dktX0_harsh_3
def dkwX0_harsh_1 : List UInt8 := [154, 0, 6, 18, 97, 172, 3, 62, 3, 54, 4, 21, 4, 42, 180, 0, 45, 180, 0, 175, 162, 0, 34, 27]
abbrev dktX0_harsh_1 : List UInt8 := dkwX0_harsh_1 ++ dktX0_harsh_2
def dkwX0_harsh_0 : List UInt8 := [42, 182, 0, 191, 154, 0, 6, 18, 171, 172, 42, 27, 182, 0, 251, 153, 0, 11, 42, 28, 182, 0, 181]
abbrev dktX0_harsh_0 : List UInt8 := dkwX0_harsh_0 ++ dktX0_harsh_1
theorem dksX0_harsh_0 : cX0_harsh.data.toList.drop 0 = dktX0_harsh_0 := by decide +kernel
theorem dksX0_harsh_1 : cX0_harsh.data.toList.drop 23 = dktX0_harsh_1 := dk_seg dksX0_harsh_0 23 rfl rfl
theorem dksX0_harsh_2 : cX0_harsh.data.toList.drop 47 = dktX0_harsh_2 := dk_seg dksX0_harsh_1 24 rfl rfl
theorem dksX0_harsh_3 : cX0_harsh.data.toList.drop 71 = dktX0_harsh_3 := dk_seg dksX0_harsh_2 24 rfl rfl
theorem dX0_harsh_0 : decode cX0_harsh 0 = .ok (.aload_n 0, 1) := dk_42 (dk_at dksX0_harsh_0 0 rfl rfl)
theorem dX0_harsh_1 : decode cX0_harsh 1 = .ok (.invokevirtual 191, 3) := dk_182 0 191 (dk_at dksX0_harsh_0 1 rfl rfl)
theorem dX0_harsh_4 : decode cX0_harsh 4 = .ok (.ifCond .ne 6, 3) := dk_154 0 6 (dk_at dksX0_harsh_0 4 rfl rfl)
theorem dX0_harsh_7 : decode cX0_harsh 7 = .ok (.ldc 171, 2) := dk_18 171 (dk_at dksX0_harsh_0 7 rfl rfl)
theorem dX0_harsh_9 : decode cX0_harsh 9 = .ok (.ireturn, 1) := dk_172 (dk_at dksX0_harsh_0 9 rfl rfl)
theorem dX0_harsh_10 : decode cX0_harsh 10 = .ok (.aload_n 0, 1) := dk_42 (dk_at dksX0_harsh_0 10 rfl rfl)
theorem dX0_harsh_11 : decode cX0_harsh 11 = .ok (.iload_n 1, 1) := dk_27 (dk_at dksX0_harsh_0 11 rfl rfl)
theorem dX0_harsh_12 : decode cX0_harsh 12 = .ok (.invokevirtual 251, 3) := dk_182 0 251 (dk_at dksX0_harsh_0 12 rfl rfl)
theorem dX0_harsh_15 : decode cX0_harsh 15 = .ok (.ifCond .eq 11, 3) := dk_153 0 11 (dk_at dksX0_harsh_0 15 rfl rfl)
theorem dX0_harsh_18 : decode cX0_harsh 18 = .ok (.aload_n 0, 1) := dk_42 (dk_at dksX0_harsh_0 18 rfl rfl)
theorem dX0_harsh_19 : decode cX0_harsh 19 = .ok (.iload_n 2, 1) := dk_28 (dk_at dksX0_harsh_0 19 rfl rfl)
theorem dX0_harsh_20 : decode cX0_harsh 20 = .ok (.invokevirtual 181, 3) := dk_182 0 181 (dk_at dksX0_harsh_0 20 rfl rfl)
theorem dX0_harsh_23 : decode cX0_harsh 23 = .ok (.ifCond .ne 6, 3) := dk_154 0 6 (dk_at dksX0_harsh_1 0 rfl rfl)
theorem dX0_harsh_26 : decode cX0_harsh 26 = .ok (.ldc 97, 2) := dk_18 97 (dk_at dksX0_harsh_1 3 rfl rfl)
theorem dX0_harsh_28 : decode cX0_harsh 28 = .ok (.ireturn, 1) := dk_172 (dk_at dksX0_harsh_1 5 rfl rfl)
theorem dX0_harsh_29 : decode cX0_harsh 29 = .ok (.iconst 0, 1) := dk_3 (dk_at dksX0_harsh_1 6 rfl rfl)
theorem dX0_harsh_30 : decode cX0_harsh 30 = .ok (.istore_n 3, 1) := dk_62 (dk_at dksX0_harsh_1 7 rfl rfl)
theorem dX0_harsh_31 : decode cX0_harsh 31 = .ok (.iconst 0, 1) := dk_3 (dk_at dksX0_harsh_1 8 rfl rfl)
theorem dX0_harsh_32 : decode cX0_harsh 32 = .ok (.istore 4, 2) := dk_54 4 (dk_at dksX0_harsh_1 9 rfl rfl)
theorem dX0_harsh_34 : decode cX0_harsh 34 = .ok (.iload 4, 2) := dk_21 4 (dk_at dksX0_harsh_1 11 rfl rfl)
theorem dX0_harsh_36 : decode cX0_harsh 36 = .ok (.aload_n 0, 1) := dk_42 (dk_at dksX0_harsh_1 13 rfl rfl)
theorem dX0_harsh_37 : decode cX0_harsh 37 = .ok (.getfield 45, 3) := dk_180 0 45 (dk_at dksX0_harsh_1 14 rfl rfl)
theorem dX0_harsh_40 : decode cX0_harsh 40 = .ok (.getfield 175, 3) := dk_180 0 175 (dk_at dksX0_harsh_1 17 rfl rfl)
theorem dX0_harsh_43 : decode cX0_harsh 43 = .ok (.if_icmp .ge 34, 3) := dk_162 0 34 (dk_at dksX0_harsh_1 20 rfl rfl)
theorem dX0_harsh_46 : decode cX0_harsh 46 = .ok (.iload_n 1, 1) := dk_27 (dk_at dksX0_harsh_1 23 rfl rfl)
theorem dX0_harsh_47 : decode cX0_harsh 47 = .ok (.iload 4, 2) := dk_21 4 (dk_at dksX0_harsh_2 0 rfl rfl)
theorem dX0_harsh_49 : decode cX0_harsh 49 = .ok (.invokestatic 260, 3) := dk_184 1 4 (dk_at dksX0_harsh_2 2 rfl rfl)
theorem dX0_harsh_52 : decode cX0_harsh 52 = .ok (.ifCond .eq 17, 3) := dk_153 0 17 (dk_at dksX0_harsh_2 5 rfl rfl)
theorem dX0_harsh_55 : decode cX0_harsh 55 = .ok (.iload_n 3, 1) := dk_29 (dk_at dksX0_harsh_2 8 rfl rfl)
theorem dX0_harsh_56 : decode cX0_harsh 56 = .ok (.aload_n 0, 1) := dk_42 (dk_at dksX0_harsh_2 9 rfl rfl)
theorem dX0_harsh_57 : decode cX0_harsh 57 = .ok (.iload 4, 2) := dk_21 4 (dk_at dksX0_harsh_2 10 rfl rfl)
theorem dX0_harsh_59 : decode cX0_harsh 59 = .ok (.iload_n 2, 1) := dk_28 (dk_at dksX0_harsh_2 12 rfl rfl)
theorem dX0_harsh_60 : decode cX0_harsh 60 = .ok (.invokevirtual 263, 3) := dk_182 1 7 (dk_at dksX0_harsh_2 13 rfl rfl)
theorem dX0_harsh_63 : decode cX0_harsh 63 = .ok (.invokestatic 266, 3) := dk_184 1 10 (dk_at dksX0_harsh_2 16 rfl rfl)
theorem dX0_harsh_66 : decode cX0_harsh 66 = .ok (.goto 4, 3) := dk_167 0 4 (dk_at dksX0_harsh_2 19 rfl rfl)
theorem dX0_harsh_69 : decode cX0_harsh 69 = .ok (.iload_n 3, 1) := dk_29 (dk_at dksX0_harsh_2 22 rfl rfl)
theorem dX0_harsh_70 : decode cX0_harsh 70 = .ok (.istore_n 3, 1) := dk_62 (dk_at dksX0_harsh_2 23 rfl rfl)
theorem dX0_harsh_71 : decode cX0_harsh 71 = .ok (.iinc 4 1, 3) := dk_132 4 1 (dk_at dksX0_harsh_3 0 rfl rfl)
theorem dX0_harsh_74 : decode cX0_harsh 74 = .ok (.goto (-40), 3) := dk_167 255 216 (dk_at dksX0_harsh_3 3 rfl rfl)
theorem dX0_harsh_77 : decode cX0_harsh 77 = .ok (.iload_n 3, 1) := dk_29 (dk_at dksX0_harsh_3 6 rfl rfl)
theorem dX0_harsh_78 : decode cX0_harsh 78 = .ok (.ireturn, 1) := dk_172 (dk_at dksX0_harsh_3 7 rfl rfl)
abbrev cX0_has : ByteArray := prog_1_method_2_code
def yX0_has : MethodName := ⟨RX0, "has", "(II)Z"⟩
def dkwX0_has_0 : List UInt8 := [26, 27, 122, 4, 126, 4, 160, 0, 7, 4, 167, 0, 4, 3, 172]
abbrev dktX0_has_0 : List UInt8 := dkwX0_has_0 ++ []
theorem dksX0_has_0 : cX0_has.data.toList.drop 0 = dktX0_has_0 := by decide +kernel
theorem dX0_has_0 : decode cX0_has 0 = .ok (.iload_n 0, 1) := dk_26 (dk_at dksX0_has_0 0 rfl rfl)
theorem dX0_has_1 : decode cX0_has 1 = .ok (.iload_n 1, 1) := dk_27 (dk_at dksX0_has_0 1 rfl rfl)
theorem dX0_has_2 : decode cX0_has 2 = .ok (.ishr, 1) := dk_122 (dk_at dksX0_has_0 2 rfl rfl)
theorem dX0_has_3 : decode cX0_has 3 = .ok (.iconst 1, 1) := dk_4 (dk_at dksX0_has_0 3 rfl rfl)
theorem dX0_has_4 : decode cX0_has 4 = .ok (.iand, 1) := dk_126 (dk_at dksX0_has_0 4 rfl rfl)
theorem dX0_has_5 : decode cX0_has 5 = .ok (.iconst 1, 1) := dk_4 (dk_at dksX0_has_0 5 rfl rfl)
theorem dX0_has_6 : decode cX0_has 6 = .ok (.if_icmp .ne 7, 3) := dk_160 0 7 (dk_at dksX0_has_0 6 rfl rfl)
theorem dX0_has_9 : decode cX0_has 9 = .ok (.iconst 1, 1) := dk_4 (dk_at dksX0_has_0 9 rfl rfl)
theorem dX0_has_10 : decode cX0_has 10 = .ok (.goto 4, 3) := dk_167 0 4 (dk_at dksX0_has_0 10 rfl rfl)
theorem dX0_has_13 : decode cX0_has 13 = .ok (.iconst 0, 1) := dk_3 (dk_at dksX0_has_0 13 rfl rfl)
theorem dX0_has_14 : decode cX0_has 14 = .ok (.ireturn, 1) := dk_172 (dk_at dksX0_has_0 14 rfl rfl)
abbrev cX0_keen : ByteArray := prog_1_method_40_code
def yX0_keen : MethodName := ⟨RX0, "keen", "(I)I"⟩
def dkwX0_keen_4 : List UInt8 := [182, 1, 24, 172]
abbrev dktX0_keen_4 : List UInt8 := dkwX0_keen_4 ++ []
def dkwX0_keen_3 : List UInt8 := [132, 3, 1, 167, 255, 207, 28, 18, 245, 159, 0, 7, 27, 154, 0, 7, 28, 167, 0, 8, 42, 28]
abbrev dktX0_keen_3 : List UInt8 := dkwX0_keen_3 ++ dktX0_keen_4
def dkwX0_keen_2 : List UInt8 := [18, 245, 159, 0, 19, 42, 29, 182, 1, 24, 42, 28, 182, 1, 24, 161, 0, 6, 167, 0, 5, 29, 61]
abbrev dktX0_keen_2 : List UInt8 := dkwX0_keen_2 ++ dktX0_keen_3
def dkwX0_keen_1 : List UInt8 := [62, 29, 42, 180, 0, 45, 182, 0, 167, 162, 0, 44, 42, 180, 0, 45, 29, 182, 0, 208, 153, 0, 27, 28]
abbrev dktX0_keen_1 : List UInt8 := dkwX0_keen_1 ++ dktX0_keen_2
def dkwX0_keen_0 : List UInt8 := [42, 182, 0, 191, 154, 0, 6, 18, 171, 172, 27, 184, 0, 254, 154, 0, 6, 18, 97, 172, 18, 245, 61, 3]
abbrev dktX0_keen_0 : List UInt8 := dkwX0_keen_0 ++ dktX0_keen_1
theorem dksX0_keen_0 : cX0_keen.data.toList.drop 0 = dktX0_keen_0 := by decide +kernel
theorem dksX0_keen_1 : cX0_keen.data.toList.drop 24 = dktX0_keen_1 := dk_seg dksX0_keen_0 24 rfl rfl
theorem dksX0_keen_2 : cX0_keen.data.toList.drop 48 = dktX0_keen_2 := dk_seg dksX0_keen_1 24 rfl rfl
theorem dksX0_keen_3 : cX0_keen.data.toList.drop 71 = dktX0_keen_3 := dk_seg dksX0_keen_2 23 rfl rfl
theorem dksX0_keen_4 : cX0_keen.data.toList.drop 93 = dktX0_keen_4 := dk_seg dksX0_keen_3 22 rfl rfl
theorem dX0_keen_0 : decode cX0_keen 0 = .ok (.aload_n 0, 1) := dk_42 (dk_at dksX0_keen_0 0 rfl rfl)
theorem dX0_keen_1 : decode cX0_keen 1 = .ok (.invokevirtual 191, 3) := dk_182 0 191 (dk_at dksX0_keen_0 1 rfl rfl)
theorem dX0_keen_4 : decode cX0_keen 4 = .ok (.ifCond .ne 6, 3) := dk_154 0 6 (dk_at dksX0_keen_0 4 rfl rfl)
theorem dX0_keen_7 : decode cX0_keen 7 = .ok (.ldc 171, 2) := dk_18 171 (dk_at dksX0_keen_0 7 rfl rfl)
theorem dX0_keen_9 : decode cX0_keen 9 = .ok (.ireturn, 1) := dk_172 (dk_at dksX0_keen_0 9 rfl rfl)
theorem dX0_keen_10 : decode cX0_keen 10 = .ok (.iload_n 1, 1) := dk_27 (dk_at dksX0_keen_0 10 rfl rfl)
theorem dX0_keen_11 : decode cX0_keen 11 = .ok (.invokestatic 254, 3) := dk_184 0 254 (dk_at dksX0_keen_0 11 rfl rfl)
theorem dX0_keen_14 : decode cX0_keen 14 = .ok (.ifCond .ne 6, 3) := dk_154 0 6 (dk_at dksX0_keen_0 14 rfl rfl)
theorem dX0_keen_17 : decode cX0_keen 17 = .ok (.ldc 97, 2) := dk_18 97 (dk_at dksX0_keen_0 17 rfl rfl)
theorem dX0_keen_19 : decode cX0_keen 19 = .ok (.ireturn, 1) := dk_172 (dk_at dksX0_keen_0 19 rfl rfl)
theorem dX0_keen_20 : decode cX0_keen 20 = .ok (.ldc 245, 2) := dk_18 245 (dk_at dksX0_keen_0 20 rfl rfl)
theorem dX0_keen_22 : decode cX0_keen 22 = .ok (.istore_n 2, 1) := dk_61 (dk_at dksX0_keen_0 22 rfl rfl)
theorem dX0_keen_23 : decode cX0_keen 23 = .ok (.iconst 0, 1) := dk_3 (dk_at dksX0_keen_0 23 rfl rfl)
theorem dX0_keen_24 : decode cX0_keen 24 = .ok (.istore_n 3, 1) := dk_62 (dk_at dksX0_keen_1 0 rfl rfl)
theorem dX0_keen_25 : decode cX0_keen 25 = .ok (.iload_n 3, 1) := dk_29 (dk_at dksX0_keen_1 1 rfl rfl)
theorem dX0_keen_26 : decode cX0_keen 26 = .ok (.aload_n 0, 1) := dk_42 (dk_at dksX0_keen_1 2 rfl rfl)
theorem dX0_keen_27 : decode cX0_keen 27 = .ok (.getfield 45, 3) := dk_180 0 45 (dk_at dksX0_keen_1 3 rfl rfl)
theorem dX0_keen_30 : decode cX0_keen 30 = .ok (.invokevirtual 167, 3) := dk_182 0 167 (dk_at dksX0_keen_1 6 rfl rfl)
theorem dX0_keen_33 : decode cX0_keen 33 = .ok (.if_icmp .ge 44, 3) := dk_162 0 44 (dk_at dksX0_keen_1 9 rfl rfl)
theorem dX0_keen_36 : decode cX0_keen 36 = .ok (.aload_n 0, 1) := dk_42 (dk_at dksX0_keen_1 12 rfl rfl)
theorem dX0_keen_37 : decode cX0_keen 37 = .ok (.getfield 45, 3) := dk_180 0 45 (dk_at dksX0_keen_1 13 rfl rfl)
theorem dX0_keen_40 : decode cX0_keen 40 = .ok (.iload_n 3, 1) := dk_29 (dk_at dksX0_keen_1 16 rfl rfl)
theorem dX0_keen_41 : decode cX0_keen 41 = .ok (.invokevirtual 208, 3) := dk_182 0 208 (dk_at dksX0_keen_1 17 rfl rfl)
theorem dX0_keen_44 : decode cX0_keen 44 = .ok (.ifCond .eq 27, 3) := dk_153 0 27 (dk_at dksX0_keen_1 20 rfl rfl)
theorem dX0_keen_47 : decode cX0_keen 47 = .ok (.iload_n 2, 1) := dk_28 (dk_at dksX0_keen_1 23 rfl rfl)
theorem dX0_keen_48 : decode cX0_keen 48 = .ok (.ldc 245, 2) := dk_18 245 (dk_at dksX0_keen_2 0 rfl rfl)
theorem dX0_keen_50 : decode cX0_keen 50 = .ok (.if_icmp .eq 19, 3) := dk_159 0 19 (dk_at dksX0_keen_2 2 rfl rfl)
theorem dX0_keen_53 : decode cX0_keen 53 = .ok (.aload_n 0, 1) := dk_42 (dk_at dksX0_keen_2 5 rfl rfl)
theorem dX0_keen_54 : decode cX0_keen 54 = .ok (.iload_n 3, 1) := dk_29 (dk_at dksX0_keen_2 6 rfl rfl)
theorem dX0_keen_55 : decode cX0_keen 55 = .ok (.invokevirtual 280, 3) := dk_182 1 24 (dk_at dksX0_keen_2 7 rfl rfl)
theorem dX0_keen_58 : decode cX0_keen 58 = .ok (.aload_n 0, 1) := dk_42 (dk_at dksX0_keen_2 10 rfl rfl)
theorem dX0_keen_59 : decode cX0_keen 59 = .ok (.iload_n 2, 1) := dk_28 (dk_at dksX0_keen_2 11 rfl rfl)
theorem dX0_keen_60 : decode cX0_keen 60 = .ok (.invokevirtual 280, 3) := dk_182 1 24 (dk_at dksX0_keen_2 12 rfl rfl)
theorem dX0_keen_63 : decode cX0_keen 63 = .ok (.if_icmp .lt 6, 3) := dk_161 0 6 (dk_at dksX0_keen_2 15 rfl rfl)
theorem dX0_keen_66 : decode cX0_keen 66 = .ok (.goto 5, 3) := dk_167 0 5 (dk_at dksX0_keen_2 18 rfl rfl)
theorem dX0_keen_69 : decode cX0_keen 69 = .ok (.iload_n 3, 1) := dk_29 (dk_at dksX0_keen_2 21 rfl rfl)
theorem dX0_keen_70 : decode cX0_keen 70 = .ok (.istore_n 2, 1) := dk_61 (dk_at dksX0_keen_2 22 rfl rfl)
theorem dX0_keen_71 : decode cX0_keen 71 = .ok (.iinc 3 1, 3) := dk_132 3 1 (dk_at dksX0_keen_3 0 rfl rfl)
theorem dX0_keen_74 : decode cX0_keen 74 = .ok (.goto (-49), 3) := dk_167 255 207 (dk_at dksX0_keen_3 3 rfl rfl)
theorem dX0_keen_77 : decode cX0_keen 77 = .ok (.iload_n 2, 1) := dk_28 (dk_at dksX0_keen_3 6 rfl rfl)
theorem dX0_keen_78 : decode cX0_keen 78 = .ok (.ldc 245, 2) := dk_18 245 (dk_at dksX0_keen_3 7 rfl rfl)
theorem dX0_keen_80 : decode cX0_keen 80 = .ok (.if_icmp .eq 7, 3) := dk_159 0 7 (dk_at dksX0_keen_3 9 rfl rfl)
theorem dX0_keen_83 : decode cX0_keen 83 = .ok (.iload_n 1, 1) := dk_27 (dk_at dksX0_keen_3 12 rfl rfl)
theorem dX0_keen_84 : decode cX0_keen 84 = .ok (.ifCond .ne 7, 3) := dk_154 0 7 (dk_at dksX0_keen_3 13 rfl rfl)
theorem dX0_keen_87 : decode cX0_keen 87 = .ok (.iload_n 2, 1) := dk_28 (dk_at dksX0_keen_3 16 rfl rfl)
theorem dX0_keen_88 : decode cX0_keen 88 = .ok (.goto 8, 3) := dk_167 0 8 (dk_at dksX0_keen_3 17 rfl rfl)
theorem dX0_keen_91 : decode cX0_keen 91 = .ok (.aload_n 0, 1) := dk_42 (dk_at dksX0_keen_3 20 rfl rfl)
theorem dX0_keen_92 : decode cX0_keen 92 = .ok (.iload_n 2, 1) := dk_28 (dk_at dksX0_keen_3 21 rfl rfl)
theorem dX0_keen_93 : decode cX0_keen 93 = .ok (.invokevirtual 280, 3) := dk_182 1 24 (dk_at dksX0_keen_4 0 rfl rfl)
theorem dX0_keen_96 : decode cX0_keen 96 = .ok (.ireturn, 1) := dk_172 (dk_at dksX0_keen_4 3 rfl rfl)
abbrev cX0_dullness : ByteArray := prog_1_method_39_code
def yX0_dullness : MethodName := ⟨RX0, "dullness", "(I)I"⟩
def dkwX0_dullness_2 : List UInt8 := [167, 255, 214, 28, 184, 1, 21, 172]
abbrev dktX0_dullness_2 : List UInt8 := dkwX0_dullness_2 ++ []
def dkwX0_dullness_1 : List UInt8 := [182, 1, 15, 42, 180, 0, 45, 27, 182, 1, 18, 160, 0, 7, 4, 167, 0, 4, 2, 96, 61, 132, 3, 1]
abbrev dktX0_dullness_1 : List UInt8 := dkwX0_dullness_1 ++ dktX0_dullness_2
def dkwX0_dullness_0 : List UInt8 := [3, 61, 3, 62, 29, 42, 180, 0, 45, 180, 0, 175, 162, 0, 37, 28, 42, 180, 0, 45, 29, 27]
abbrev dktX0_dullness_0 : List UInt8 := dkwX0_dullness_0 ++ dktX0_dullness_1
theorem dksX0_dullness_0 : cX0_dullness.data.toList.drop 0 = dktX0_dullness_0 := by decide +kernel
theorem dksX0_dullness_1 : cX0_dullness.data.toList.drop 22 = dktX0_dullness_1 := dk_seg dksX0_dullness_0 22 rfl rfl
theorem dksX0_dullness_2 : cX0_dullness.data.toList.drop 46 = dktX0_dullness_2 := dk_seg dksX0_dullness_1 24 rfl rfl
theorem dX0_dullness_0 : decode cX0_dullness 0 = .ok (.iconst 0, 1) := dk_3 (dk_at dksX0_dullness_0 0 rfl rfl)
theorem dX0_dullness_1 : decode cX0_dullness 1 = .ok (.istore_n 2, 1) := dk_61 (dk_at dksX0_dullness_0 1 rfl rfl)
theorem dX0_dullness_2 : decode cX0_dullness 2 = .ok (.iconst 0, 1) := dk_3 (dk_at dksX0_dullness_0 2 rfl rfl)
theorem dX0_dullness_3 : decode cX0_dullness 3 = .ok (.istore_n 3, 1) := dk_62 (dk_at dksX0_dullness_0 3 rfl rfl)
theorem dX0_dullness_4 : decode cX0_dullness 4 = .ok (.iload_n 3, 1) := dk_29 (dk_at dksX0_dullness_0 4 rfl rfl)
theorem dX0_dullness_5 : decode cX0_dullness 5 = .ok (.aload_n 0, 1) := dk_42 (dk_at dksX0_dullness_0 5 rfl rfl)
theorem dX0_dullness_6 : decode cX0_dullness 6 = .ok (.getfield 45, 3) := dk_180 0 45 (dk_at dksX0_dullness_0 6 rfl rfl)
theorem dX0_dullness_9 : decode cX0_dullness 9 = .ok (.getfield 175, 3) := dk_180 0 175 (dk_at dksX0_dullness_0 9 rfl rfl)
theorem dX0_dullness_12 : decode cX0_dullness 12 = .ok (.if_icmp .ge 37, 3) := dk_162 0 37 (dk_at dksX0_dullness_0 12 rfl rfl)
theorem dX0_dullness_15 : decode cX0_dullness 15 = .ok (.iload_n 2, 1) := dk_28 (dk_at dksX0_dullness_0 15 rfl rfl)
theorem dX0_dullness_16 : decode cX0_dullness 16 = .ok (.aload_n 0, 1) := dk_42 (dk_at dksX0_dullness_0 16 rfl rfl)
theorem dX0_dullness_17 : decode cX0_dullness 17 = .ok (.getfield 45, 3) := dk_180 0 45 (dk_at dksX0_dullness_0 17 rfl rfl)
theorem dX0_dullness_20 : decode cX0_dullness 20 = .ok (.iload_n 3, 1) := dk_29 (dk_at dksX0_dullness_0 20 rfl rfl)
theorem dX0_dullness_21 : decode cX0_dullness 21 = .ok (.iload_n 1, 1) := dk_27 (dk_at dksX0_dullness_0 21 rfl rfl)
theorem dX0_dullness_22 : decode cX0_dullness 22 = .ok (.invokevirtual 271, 3) := dk_182 1 15 (dk_at dksX0_dullness_1 0 rfl rfl)
theorem dX0_dullness_25 : decode cX0_dullness 25 = .ok (.aload_n 0, 1) := dk_42 (dk_at dksX0_dullness_1 3 rfl rfl)
theorem dX0_dullness_26 : decode cX0_dullness 26 = .ok (.getfield 45, 3) := dk_180 0 45 (dk_at dksX0_dullness_1 4 rfl rfl)
theorem dX0_dullness_29 : decode cX0_dullness 29 = .ok (.iload_n 1, 1) := dk_27 (dk_at dksX0_dullness_1 7 rfl rfl)
theorem dX0_dullness_30 : decode cX0_dullness 30 = .ok (.invokevirtual 274, 3) := dk_182 1 18 (dk_at dksX0_dullness_1 8 rfl rfl)
theorem dX0_dullness_33 : decode cX0_dullness 33 = .ok (.if_icmp .ne 7, 3) := dk_160 0 7 (dk_at dksX0_dullness_1 11 rfl rfl)
theorem dX0_dullness_36 : decode cX0_dullness 36 = .ok (.iconst 1, 1) := dk_4 (dk_at dksX0_dullness_1 14 rfl rfl)
theorem dX0_dullness_37 : decode cX0_dullness 37 = .ok (.goto 4, 3) := dk_167 0 4 (dk_at dksX0_dullness_1 15 rfl rfl)
theorem dX0_dullness_40 : decode cX0_dullness 40 = .ok (.iconst (-1), 1) := dk_2 (dk_at dksX0_dullness_1 18 rfl rfl)
theorem dX0_dullness_41 : decode cX0_dullness 41 = .ok (.iadd, 1) := dk_96 (dk_at dksX0_dullness_1 19 rfl rfl)
theorem dX0_dullness_42 : decode cX0_dullness 42 = .ok (.istore_n 2, 1) := dk_61 (dk_at dksX0_dullness_1 20 rfl rfl)
theorem dX0_dullness_43 : decode cX0_dullness 43 = .ok (.iinc 3 1, 3) := dk_132 3 1 (dk_at dksX0_dullness_1 21 rfl rfl)
theorem dX0_dullness_46 : decode cX0_dullness 46 = .ok (.goto (-42), 3) := dk_167 255 214 (dk_at dksX0_dullness_2 0 rfl rfl)
theorem dX0_dullness_49 : decode cX0_dullness 49 = .ok (.iload_n 2, 1) := dk_28 (dk_at dksX0_dullness_2 3 rfl rfl)
theorem dX0_dullness_50 : decode cX0_dullness 50 = .ok (.invokestatic 277, 3) := dk_184 1 21 (dk_at dksX0_dullness_2 4 rfl rfl)
theorem dX0_dullness_53 : decode cX0_dullness 53 = .ok (.ireturn, 1) := dk_172 (dk_at dksX0_dullness_2 7 rfl rfl)
abbrev cX0_tells : ByteArray := prog_1_method_41_code
def yX0_tells : MethodName := ⟨RX0, "tells", "(II)I"⟩
def dkwX0_tells_6 : List UInt8 := [132, 6, 1, 167, 255, 170, 132, 5, 1, 167, 255, 146, 28, 154, 0, 7, 29, 167, 0, 5, 21, 4, 172]
abbrev dktX0_tells_6 : List UInt8 := dkwX0_tells_6 ++ []
def dkwX0_tells_5 : List UInt8 := [21, 6, 96, 167, 0, 5, 21, 4, 54, 4, 29, 21, 7, 153, 0, 7, 3, 167, 0, 4, 4, 96, 62]
abbrev dktX0_tells_5 : List UInt8 := dkwX0_tells_5 ++ dktX0_tells_6
def dkwX0_tells_4 : List UInt8 := [167, 0, 4, 3, 54, 7, 21, 7, 153, 0, 21, 21, 4, 18, 245, 160, 0, 14, 16, 10, 21, 5, 104]
abbrev dktX0_tells_4 : List UInt8 := dkwX0_tells_4 ++ dktX0_tells_5
def dkwX0_tells_3 : List UInt8 := [180, 0, 45, 21, 5, 182, 0, 236, 42, 180, 0, 45, 21, 6, 182, 0, 236, 130, 27, 126, 154, 0, 7, 4]
abbrev dktX0_tells_3 : List UInt8 := dkwX0_tells_3 ++ dktX0_tells_4
def dkwX0_tells_2 : List UInt8 := [162, 0, 104, 21, 5, 4, 96, 54, 6, 21, 6, 42, 180, 0, 45, 180, 0, 175, 162, 0, 80, 42]
abbrev dktX0_tells_2 : List UInt8 := dkwX0_tells_2 ++ dktX0_tells_3
def dkwX0_tells_1 : List UInt8 := [154, 0, 6, 18, 97, 172, 3, 62, 18, 245, 54, 4, 3, 54, 5, 21, 5, 42, 180, 0, 45, 180, 0, 175]
abbrev dktX0_tells_1 : List UInt8 := dkwX0_tells_1 ++ dktX0_tells_2
def dkwX0_tells_0 : List UInt8 := [42, 182, 0, 191, 154, 0, 6, 18, 171, 172, 42, 27, 182, 0, 181, 153, 0, 10, 28, 184, 0, 254]
abbrev dktX0_tells_0 : List UInt8 := dkwX0_tells_0 ++ dktX0_tells_1
theorem dksX0_tells_0 : cX0_tells.data.toList.drop 0 = dktX0_tells_0 := by decide +kernel
theorem dksX0_tells_1 : cX0_tells.data.toList.drop 22 = dktX0_tells_1 := dk_seg dksX0_tells_0 22 rfl rfl
theorem dksX0_tells_2 : cX0_tells.data.toList.drop 46 = dktX0_tells_2 := dk_seg dksX0_tells_1 24 rfl rfl
theorem dksX0_tells_3 : cX0_tells.data.toList.drop 68 = dktX0_tells_3 := dk_seg dksX0_tells_2 22 rfl rfl
theorem dksX0_tells_4 : cX0_tells.data.toList.drop 92 = dktX0_tells_4 := dk_seg dksX0_tells_3 24 rfl rfl
theorem dksX0_tells_5 : cX0_tells.data.toList.drop 115 = dktX0_tells_5 := dk_seg dksX0_tells_4 23 rfl rfl
theorem dksX0_tells_6 : cX0_tells.data.toList.drop 138 = dktX0_tells_6 := dk_seg dksX0_tells_5 23 rfl rfl
theorem dX0_tells_0 : decode cX0_tells 0 = .ok (.aload_n 0, 1) := dk_42 (dk_at dksX0_tells_0 0 rfl rfl)
theorem dX0_tells_1 : decode cX0_tells 1 = .ok (.invokevirtual 191, 3) := dk_182 0 191 (dk_at dksX0_tells_0 1 rfl rfl)
theorem dX0_tells_4 : decode cX0_tells 4 = .ok (.ifCond .ne 6, 3) := dk_154 0 6 (dk_at dksX0_tells_0 4 rfl rfl)
theorem dX0_tells_7 : decode cX0_tells 7 = .ok (.ldc 171, 2) := dk_18 171 (dk_at dksX0_tells_0 7 rfl rfl)
theorem dX0_tells_9 : decode cX0_tells 9 = .ok (.ireturn, 1) := dk_172 (dk_at dksX0_tells_0 9 rfl rfl)
theorem dX0_tells_10 : decode cX0_tells 10 = .ok (.aload_n 0, 1) := dk_42 (dk_at dksX0_tells_0 10 rfl rfl)
theorem dX0_tells_11 : decode cX0_tells 11 = .ok (.iload_n 1, 1) := dk_27 (dk_at dksX0_tells_0 11 rfl rfl)
theorem dX0_tells_12 : decode cX0_tells 12 = .ok (.invokevirtual 181, 3) := dk_182 0 181 (dk_at dksX0_tells_0 12 rfl rfl)
theorem dX0_tells_15 : decode cX0_tells 15 = .ok (.ifCond .eq 10, 3) := dk_153 0 10 (dk_at dksX0_tells_0 15 rfl rfl)
theorem dX0_tells_18 : decode cX0_tells 18 = .ok (.iload_n 2, 1) := dk_28 (dk_at dksX0_tells_0 18 rfl rfl)
theorem dX0_tells_19 : decode cX0_tells 19 = .ok (.invokestatic 254, 3) := dk_184 0 254 (dk_at dksX0_tells_0 19 rfl rfl)
theorem dX0_tells_22 : decode cX0_tells 22 = .ok (.ifCond .ne 6, 3) := dk_154 0 6 (dk_at dksX0_tells_1 0 rfl rfl)
theorem dX0_tells_25 : decode cX0_tells 25 = .ok (.ldc 97, 2) := dk_18 97 (dk_at dksX0_tells_1 3 rfl rfl)
theorem dX0_tells_27 : decode cX0_tells 27 = .ok (.ireturn, 1) := dk_172 (dk_at dksX0_tells_1 5 rfl rfl)
theorem dX0_tells_28 : decode cX0_tells 28 = .ok (.iconst 0, 1) := dk_3 (dk_at dksX0_tells_1 6 rfl rfl)
theorem dX0_tells_29 : decode cX0_tells 29 = .ok (.istore_n 3, 1) := dk_62 (dk_at dksX0_tells_1 7 rfl rfl)
theorem dX0_tells_30 : decode cX0_tells 30 = .ok (.ldc 245, 2) := dk_18 245 (dk_at dksX0_tells_1 8 rfl rfl)
theorem dX0_tells_32 : decode cX0_tells 32 = .ok (.istore 4, 2) := dk_54 4 (dk_at dksX0_tells_1 10 rfl rfl)
theorem dX0_tells_34 : decode cX0_tells 34 = .ok (.iconst 0, 1) := dk_3 (dk_at dksX0_tells_1 12 rfl rfl)
theorem dX0_tells_35 : decode cX0_tells 35 = .ok (.istore 5, 2) := dk_54 5 (dk_at dksX0_tells_1 13 rfl rfl)
theorem dX0_tells_37 : decode cX0_tells 37 = .ok (.iload 5, 2) := dk_21 5 (dk_at dksX0_tells_1 15 rfl rfl)
theorem dX0_tells_39 : decode cX0_tells 39 = .ok (.aload_n 0, 1) := dk_42 (dk_at dksX0_tells_1 17 rfl rfl)
theorem dX0_tells_40 : decode cX0_tells 40 = .ok (.getfield 45, 3) := dk_180 0 45 (dk_at dksX0_tells_1 18 rfl rfl)
theorem dX0_tells_43 : decode cX0_tells 43 = .ok (.getfield 175, 3) := dk_180 0 175 (dk_at dksX0_tells_1 21 rfl rfl)
theorem dX0_tells_46 : decode cX0_tells 46 = .ok (.if_icmp .ge 104, 3) := dk_162 0 104 (dk_at dksX0_tells_2 0 rfl rfl)
theorem dX0_tells_49 : decode cX0_tells 49 = .ok (.iload 5, 2) := dk_21 5 (dk_at dksX0_tells_2 3 rfl rfl)
theorem dX0_tells_51 : decode cX0_tells 51 = .ok (.iconst 1, 1) := dk_4 (dk_at dksX0_tells_2 5 rfl rfl)
theorem dX0_tells_52 : decode cX0_tells 52 = .ok (.iadd, 1) := dk_96 (dk_at dksX0_tells_2 6 rfl rfl)
theorem dX0_tells_53 : decode cX0_tells 53 = .ok (.istore 6, 2) := dk_54 6 (dk_at dksX0_tells_2 7 rfl rfl)
theorem dX0_tells_55 : decode cX0_tells 55 = .ok (.iload 6, 2) := dk_21 6 (dk_at dksX0_tells_2 9 rfl rfl)
theorem dX0_tells_57 : decode cX0_tells 57 = .ok (.aload_n 0, 1) := dk_42 (dk_at dksX0_tells_2 11 rfl rfl)
theorem dX0_tells_58 : decode cX0_tells 58 = .ok (.getfield 45, 3) := dk_180 0 45 (dk_at dksX0_tells_2 12 rfl rfl)
theorem dX0_tells_61 : decode cX0_tells 61 = .ok (.getfield 175, 3) := dk_180 0 175 (dk_at dksX0_tells_2 15 rfl rfl)
theorem dX0_tells_64 : decode cX0_tells 64 = .ok (.if_icmp .ge 80, 3) := dk_162 0 80 (dk_at dksX0_tells_2 18 rfl rfl)
theorem dX0_tells_67 : decode cX0_tells 67 = .ok (.aload_n 0, 1) := dk_42 (dk_at dksX0_tells_2 21 rfl rfl)
theorem dX0_tells_68 : decode cX0_tells 68 = .ok (.getfield 45, 3) := dk_180 0 45 (dk_at dksX0_tells_3 0 rfl rfl)
theorem dX0_tells_71 : decode cX0_tells 71 = .ok (.iload 5, 2) := dk_21 5 (dk_at dksX0_tells_3 3 rfl rfl)
theorem dX0_tells_73 : decode cX0_tells 73 = .ok (.invokevirtual 236, 3) := dk_182 0 236 (dk_at dksX0_tells_3 5 rfl rfl)
theorem dX0_tells_76 : decode cX0_tells 76 = .ok (.aload_n 0, 1) := dk_42 (dk_at dksX0_tells_3 8 rfl rfl)
theorem dX0_tells_77 : decode cX0_tells 77 = .ok (.getfield 45, 3) := dk_180 0 45 (dk_at dksX0_tells_3 9 rfl rfl)
theorem dX0_tells_80 : decode cX0_tells 80 = .ok (.iload 6, 2) := dk_21 6 (dk_at dksX0_tells_3 12 rfl rfl)
theorem dX0_tells_82 : decode cX0_tells 82 = .ok (.invokevirtual 236, 3) := dk_182 0 236 (dk_at dksX0_tells_3 14 rfl rfl)
theorem dX0_tells_85 : decode cX0_tells 85 = .ok (.ixor, 1) := dk_130 (dk_at dksX0_tells_3 17 rfl rfl)
theorem dX0_tells_86 : decode cX0_tells 86 = .ok (.iload_n 1, 1) := dk_27 (dk_at dksX0_tells_3 18 rfl rfl)
theorem dX0_tells_87 : decode cX0_tells 87 = .ok (.iand, 1) := dk_126 (dk_at dksX0_tells_3 19 rfl rfl)
theorem dX0_tells_88 : decode cX0_tells 88 = .ok (.ifCond .ne 7, 3) := dk_154 0 7 (dk_at dksX0_tells_3 20 rfl rfl)
theorem dX0_tells_91 : decode cX0_tells 91 = .ok (.iconst 1, 1) := dk_4 (dk_at dksX0_tells_3 23 rfl rfl)
theorem dX0_tells_92 : decode cX0_tells 92 = .ok (.goto 4, 3) := dk_167 0 4 (dk_at dksX0_tells_4 0 rfl rfl)
theorem dX0_tells_95 : decode cX0_tells 95 = .ok (.iconst 0, 1) := dk_3 (dk_at dksX0_tells_4 3 rfl rfl)
theorem dX0_tells_96 : decode cX0_tells 96 = .ok (.istore 7, 2) := dk_54 7 (dk_at dksX0_tells_4 4 rfl rfl)
theorem dX0_tells_98 : decode cX0_tells 98 = .ok (.iload 7, 2) := dk_21 7 (dk_at dksX0_tells_4 6 rfl rfl)
theorem dX0_tells_100 : decode cX0_tells 100 = .ok (.ifCond .eq 21, 3) := dk_153 0 21 (dk_at dksX0_tells_4 8 rfl rfl)
theorem dX0_tells_103 : decode cX0_tells 103 = .ok (.iload 4, 2) := dk_21 4 (dk_at dksX0_tells_4 11 rfl rfl)
theorem dX0_tells_105 : decode cX0_tells 105 = .ok (.ldc 245, 2) := dk_18 245 (dk_at dksX0_tells_4 13 rfl rfl)
theorem dX0_tells_107 : decode cX0_tells 107 = .ok (.if_icmp .ne 14, 3) := dk_160 0 14 (dk_at dksX0_tells_4 15 rfl rfl)
theorem dX0_tells_110 : decode cX0_tells 110 = .ok (.bipush 10, 2) := dk_16 10 (dk_at dksX0_tells_4 18 rfl rfl)
theorem dX0_tells_112 : decode cX0_tells 112 = .ok (.iload 5, 2) := dk_21 5 (dk_at dksX0_tells_4 20 rfl rfl)
theorem dX0_tells_114 : decode cX0_tells 114 = .ok (.imul, 1) := dk_104 (dk_at dksX0_tells_4 22 rfl rfl)
theorem dX0_tells_115 : decode cX0_tells 115 = .ok (.iload 6, 2) := dk_21 6 (dk_at dksX0_tells_5 0 rfl rfl)
theorem dX0_tells_117 : decode cX0_tells 117 = .ok (.iadd, 1) := dk_96 (dk_at dksX0_tells_5 2 rfl rfl)
theorem dX0_tells_118 : decode cX0_tells 118 = .ok (.goto 5, 3) := dk_167 0 5 (dk_at dksX0_tells_5 3 rfl rfl)
theorem dX0_tells_121 : decode cX0_tells 121 = .ok (.iload 4, 2) := dk_21 4 (dk_at dksX0_tells_5 6 rfl rfl)
theorem dX0_tells_123 : decode cX0_tells 123 = .ok (.istore 4, 2) := dk_54 4 (dk_at dksX0_tells_5 8 rfl rfl)
theorem dX0_tells_125 : decode cX0_tells 125 = .ok (.iload_n 3, 1) := dk_29 (dk_at dksX0_tells_5 10 rfl rfl)
theorem dX0_tells_126 : decode cX0_tells 126 = .ok (.iload 7, 2) := dk_21 7 (dk_at dksX0_tells_5 11 rfl rfl)
theorem dX0_tells_128 : decode cX0_tells 128 = .ok (.ifCond .eq 7, 3) := dk_153 0 7 (dk_at dksX0_tells_5 13 rfl rfl)
theorem dX0_tells_131 : decode cX0_tells 131 = .ok (.iconst 0, 1) := dk_3 (dk_at dksX0_tells_5 16 rfl rfl)
theorem dX0_tells_132 : decode cX0_tells 132 = .ok (.goto 4, 3) := dk_167 0 4 (dk_at dksX0_tells_5 17 rfl rfl)
theorem dX0_tells_135 : decode cX0_tells 135 = .ok (.iconst 1, 1) := dk_4 (dk_at dksX0_tells_5 20 rfl rfl)
theorem dX0_tells_136 : decode cX0_tells 136 = .ok (.iadd, 1) := dk_96 (dk_at dksX0_tells_5 21 rfl rfl)
theorem dX0_tells_137 : decode cX0_tells 137 = .ok (.istore_n 3, 1) := dk_62 (dk_at dksX0_tells_5 22 rfl rfl)
theorem dX0_tells_138 : decode cX0_tells 138 = .ok (.iinc 6 1, 3) := dk_132 6 1 (dk_at dksX0_tells_6 0 rfl rfl)
theorem dX0_tells_141 : decode cX0_tells 141 = .ok (.goto (-86), 3) := dk_167 255 170 (dk_at dksX0_tells_6 3 rfl rfl)
theorem dX0_tells_144 : decode cX0_tells 144 = .ok (.iinc 5 1, 3) := dk_132 5 1 (dk_at dksX0_tells_6 6 rfl rfl)
theorem dX0_tells_147 : decode cX0_tells 147 = .ok (.goto (-110), 3) := dk_167 255 146 (dk_at dksX0_tells_6 9 rfl rfl)
theorem dX0_tells_150 : decode cX0_tells 150 = .ok (.iload_n 2, 1) := dk_28 (dk_at dksX0_tells_6 12 rfl rfl)
theorem dX0_tells_151 : decode cX0_tells 151 = .ok (.ifCond .ne 7, 3) := dk_154 0 7 (dk_at dksX0_tells_6 13 rfl rfl)
theorem dX0_tells_154 : decode cX0_tells 154 = .ok (.iload_n 3, 1) := dk_29 (dk_at dksX0_tells_6 16 rfl rfl)
theorem dX0_tells_155 : decode cX0_tells 155 = .ok (.goto 5, 3) := dk_167 0 5 (dk_at dksX0_tells_6 17 rfl rfl)
theorem dX0_tells_158 : decode cX0_tells 158 = .ok (.iload 4, 2) := dk_21 4 (dk_at dksX0_tells_6 20 rfl rfl)
theorem dX0_tells_160 : decode cX0_tells 160 = .ok (.ireturn, 1) := dk_172 (dk_at dksX0_tells_6 22 rfl rfl)
abbrev cX0_learned : ByteArray := prog_1_method_42_code
def yX0_learned : MethodName := ⟨RX0, "learned", "(I)I"⟩
def dkwX0_learned_1 : List UInt8 := [180, 0, 217, 27, 46, 100, 184, 1, 27, 96, 167, 0, 5, 18, 97, 172]
abbrev dktX0_learned_1 : List UInt8 := dkwX0_learned_1 ++ []
def dkwX0_learned_0 : List UInt8 := [42, 27, 182, 0, 200, 153, 0, 30, 4, 42, 180, 0, 45, 180, 0, 214, 27, 46, 42, 180, 0, 45]
abbrev dktX0_learned_0 : List UInt8 := dkwX0_learned_0 ++ dktX0_learned_1
theorem dksX0_learned_0 : cX0_learned.data.toList.drop 0 = dktX0_learned_0 := by decide +kernel
theorem dksX0_learned_1 : cX0_learned.data.toList.drop 22 = dktX0_learned_1 := dk_seg dksX0_learned_0 22 rfl rfl
theorem dX0_learned_0 : decode cX0_learned 0 = .ok (.aload_n 0, 1) := dk_42 (dk_at dksX0_learned_0 0 rfl rfl)
theorem dX0_learned_1 : decode cX0_learned 1 = .ok (.iload_n 1, 1) := dk_27 (dk_at dksX0_learned_0 1 rfl rfl)
theorem dX0_learned_2 : decode cX0_learned 2 = .ok (.invokevirtual 200, 3) := dk_182 0 200 (dk_at dksX0_learned_0 2 rfl rfl)
theorem dX0_learned_5 : decode cX0_learned 5 = .ok (.ifCond .eq 30, 3) := dk_153 0 30 (dk_at dksX0_learned_0 5 rfl rfl)
theorem dX0_learned_8 : decode cX0_learned 8 = .ok (.iconst 1, 1) := dk_4 (dk_at dksX0_learned_0 8 rfl rfl)
theorem dX0_learned_9 : decode cX0_learned 9 = .ok (.aload_n 0, 1) := dk_42 (dk_at dksX0_learned_0 9 rfl rfl)
theorem dX0_learned_10 : decode cX0_learned 10 = .ok (.getfield 45, 3) := dk_180 0 45 (dk_at dksX0_learned_0 10 rfl rfl)
theorem dX0_learned_13 : decode cX0_learned 13 = .ok (.getfield 214, 3) := dk_180 0 214 (dk_at dksX0_learned_0 13 rfl rfl)
theorem dX0_learned_16 : decode cX0_learned 16 = .ok (.iload_n 1, 1) := dk_27 (dk_at dksX0_learned_0 16 rfl rfl)
theorem dX0_learned_17 : decode cX0_learned 17 = .ok (.iaload, 1) := dk_46 (dk_at dksX0_learned_0 17 rfl rfl)
theorem dX0_learned_18 : decode cX0_learned 18 = .ok (.aload_n 0, 1) := dk_42 (dk_at dksX0_learned_0 18 rfl rfl)
theorem dX0_learned_19 : decode cX0_learned 19 = .ok (.getfield 45, 3) := dk_180 0 45 (dk_at dksX0_learned_0 19 rfl rfl)
theorem dX0_learned_22 : decode cX0_learned 22 = .ok (.getfield 217, 3) := dk_180 0 217 (dk_at dksX0_learned_1 0 rfl rfl)
theorem dX0_learned_25 : decode cX0_learned 25 = .ok (.iload_n 1, 1) := dk_27 (dk_at dksX0_learned_1 3 rfl rfl)
theorem dX0_learned_26 : decode cX0_learned 26 = .ok (.iaload, 1) := dk_46 (dk_at dksX0_learned_1 4 rfl rfl)
theorem dX0_learned_27 : decode cX0_learned 27 = .ok (.isub, 1) := dk_100 (dk_at dksX0_learned_1 5 rfl rfl)
theorem dX0_learned_28 : decode cX0_learned 28 = .ok (.invokestatic 283, 3) := dk_184 1 27 (dk_at dksX0_learned_1 6 rfl rfl)
theorem dX0_learned_31 : decode cX0_learned 31 = .ok (.iadd, 1) := dk_96 (dk_at dksX0_learned_1 9 rfl rfl)
theorem dX0_learned_32 : decode cX0_learned 32 = .ok (.goto 5, 3) := dk_167 0 5 (dk_at dksX0_learned_1 10 rfl rfl)
theorem dX0_learned_35 : decode cX0_learned 35 = .ok (.ldc 97, 2) := dk_18 97 (dk_at dksX0_learned_1 13 rfl rfl)
theorem dX0_learned_37 : decode cX0_learned 37 = .ok (.ireturn, 1) := dk_172 (dk_at dksX0_learned_1 15 rfl rfl)
abbrev cX0_needs : ByteArray := prog_1_method_43_code
def yX0_needs : MethodName := ⟨RX0, "needs", "(I)I"⟩
def dkwX0_needs_2 : List UInt8 := [158, 0, 7, 28, 167, 0, 6, 4, 28, 100, 172]
abbrev dktX0_needs_2 : List UInt8 := dkwX0_needs_2 ++ []
def dkwX0_needs_1 : List UInt8 := [172, 42, 180, 0, 45, 180, 0, 214, 27, 46, 42, 180, 0, 45, 180, 0, 217, 27, 46, 100, 61, 28]
abbrev dktX0_needs_1 : List UInt8 := dkwX0_needs_1 ++ dktX0_needs_2
def dkwX0_needs_0 : List UInt8 := [42, 27, 182, 0, 200, 154, 0, 6, 18, 97, 172, 42, 180, 0, 45, 27, 182, 0, 208, 153, 0, 6, 18, 171]
abbrev dktX0_needs_0 : List UInt8 := dkwX0_needs_0 ++ dktX0_needs_1
theorem dksX0_needs_0 : cX0_needs.data.toList.drop 0 = dktX0_needs_0 := by decide +kernel
theorem dksX0_needs_1 : cX0_needs.data.toList.drop 24 = dktX0_needs_1 := dk_seg dksX0_needs_0 24 rfl rfl
theorem dksX0_needs_2 : cX0_needs.data.toList.drop 46 = dktX0_needs_2 := dk_seg dksX0_needs_1 22 rfl rfl
theorem dX0_needs_0 : decode cX0_needs 0 = .ok (.aload_n 0, 1) := dk_42 (dk_at dksX0_needs_0 0 rfl rfl)
theorem dX0_needs_1 : decode cX0_needs 1 = .ok (.iload_n 1, 1) := dk_27 (dk_at dksX0_needs_0 1 rfl rfl)
theorem dX0_needs_2 : decode cX0_needs 2 = .ok (.invokevirtual 200, 3) := dk_182 0 200 (dk_at dksX0_needs_0 2 rfl rfl)
theorem dX0_needs_5 : decode cX0_needs 5 = .ok (.ifCond .ne 6, 3) := dk_154 0 6 (dk_at dksX0_needs_0 5 rfl rfl)
theorem dX0_needs_8 : decode cX0_needs 8 = .ok (.ldc 97, 2) := dk_18 97 (dk_at dksX0_needs_0 8 rfl rfl)
theorem dX0_needs_10 : decode cX0_needs 10 = .ok (.ireturn, 1) := dk_172 (dk_at dksX0_needs_0 10 rfl rfl)
theorem dX0_needs_11 : decode cX0_needs 11 = .ok (.aload_n 0, 1) := dk_42 (dk_at dksX0_needs_0 11 rfl rfl)
theorem dX0_needs_12 : decode cX0_needs 12 = .ok (.getfield 45, 3) := dk_180 0 45 (dk_at dksX0_needs_0 12 rfl rfl)
theorem dX0_needs_15 : decode cX0_needs 15 = .ok (.iload_n 1, 1) := dk_27 (dk_at dksX0_needs_0 15 rfl rfl)
theorem dX0_needs_16 : decode cX0_needs 16 = .ok (.invokevirtual 208, 3) := dk_182 0 208 (dk_at dksX0_needs_0 16 rfl rfl)
theorem dX0_needs_19 : decode cX0_needs 19 = .ok (.ifCond .eq 6, 3) := dk_153 0 6 (dk_at dksX0_needs_0 19 rfl rfl)
theorem dX0_needs_22 : decode cX0_needs 22 = .ok (.ldc 171, 2) := dk_18 171 (dk_at dksX0_needs_0 22 rfl rfl)
theorem dX0_needs_24 : decode cX0_needs 24 = .ok (.ireturn, 1) := dk_172 (dk_at dksX0_needs_1 0 rfl rfl)
theorem dX0_needs_25 : decode cX0_needs 25 = .ok (.aload_n 0, 1) := dk_42 (dk_at dksX0_needs_1 1 rfl rfl)
theorem dX0_needs_26 : decode cX0_needs 26 = .ok (.getfield 45, 3) := dk_180 0 45 (dk_at dksX0_needs_1 2 rfl rfl)
theorem dX0_needs_29 : decode cX0_needs 29 = .ok (.getfield 214, 3) := dk_180 0 214 (dk_at dksX0_needs_1 5 rfl rfl)
theorem dX0_needs_32 : decode cX0_needs 32 = .ok (.iload_n 1, 1) := dk_27 (dk_at dksX0_needs_1 8 rfl rfl)
theorem dX0_needs_33 : decode cX0_needs 33 = .ok (.iaload, 1) := dk_46 (dk_at dksX0_needs_1 9 rfl rfl)
theorem dX0_needs_34 : decode cX0_needs 34 = .ok (.aload_n 0, 1) := dk_42 (dk_at dksX0_needs_1 10 rfl rfl)
theorem dX0_needs_35 : decode cX0_needs 35 = .ok (.getfield 45, 3) := dk_180 0 45 (dk_at dksX0_needs_1 11 rfl rfl)
theorem dX0_needs_38 : decode cX0_needs 38 = .ok (.getfield 217, 3) := dk_180 0 217 (dk_at dksX0_needs_1 14 rfl rfl)
theorem dX0_needs_41 : decode cX0_needs 41 = .ok (.iload_n 1, 1) := dk_27 (dk_at dksX0_needs_1 17 rfl rfl)
theorem dX0_needs_42 : decode cX0_needs 42 = .ok (.iaload, 1) := dk_46 (dk_at dksX0_needs_1 18 rfl rfl)
theorem dX0_needs_43 : decode cX0_needs 43 = .ok (.isub, 1) := dk_100 (dk_at dksX0_needs_1 19 rfl rfl)
theorem dX0_needs_44 : decode cX0_needs 44 = .ok (.istore_n 2, 1) := dk_61 (dk_at dksX0_needs_1 20 rfl rfl)
theorem dX0_needs_45 : decode cX0_needs 45 = .ok (.iload_n 2, 1) := dk_28 (dk_at dksX0_needs_1 21 rfl rfl)
theorem dX0_needs_46 : decode cX0_needs 46 = .ok (.ifCond .le 7, 3) := dk_158 0 7 (dk_at dksX0_needs_2 0 rfl rfl)
theorem dX0_needs_49 : decode cX0_needs 49 = .ok (.iload_n 2, 1) := dk_28 (dk_at dksX0_needs_2 3 rfl rfl)
theorem dX0_needs_50 : decode cX0_needs 50 = .ok (.goto 6, 3) := dk_167 0 6 (dk_at dksX0_needs_2 4 rfl rfl)
theorem dX0_needs_53 : decode cX0_needs 53 = .ok (.iconst 1, 1) := dk_4 (dk_at dksX0_needs_2 7 rfl rfl)
theorem dX0_needs_54 : decode cX0_needs 54 = .ok (.iload_n 2, 1) := dk_28 (dk_at dksX0_needs_2 8 rfl rfl)
theorem dX0_needs_55 : decode cX0_needs 55 = .ok (.isub, 1) := dk_100 (dk_at dksX0_needs_2 9 rfl rfl)
theorem dX0_needs_56 : decode cX0_needs 56 = .ok (.ireturn, 1) := dk_172 (dk_at dksX0_needs_2 10 rfl rfl)
abbrev cX0_save : ByteArray := prog_1_method_44_code
def yX0_save : MethodName := ⟨RX0, "save", "(II)I"⟩
def dkwX0_save_2 : List UInt8 := [160, 0, 7, 29, 167, 0, 7, 29, 184, 0, 246, 172]
abbrev dktX0_save_2 : List UInt8 := dkwX0_save_2 ++ []
def dkwX0_save_1 : List UInt8 := [154, 0, 6, 18, 97, 172, 42, 27, 42, 180, 0, 45, 27, 182, 0, 242, 182, 1, 1, 62, 28, 4]
abbrev dktX0_save_1 : List UInt8 := dkwX0_save_1 ++ dktX0_save_2
def dkwX0_save_0 : List UInt8 := [42, 182, 0, 191, 154, 0, 6, 18, 171, 172, 42, 27, 182, 0, 181, 153, 0, 10, 28, 184, 0, 254]
abbrev dktX0_save_0 : List UInt8 := dkwX0_save_0 ++ dktX0_save_1
theorem dksX0_save_0 : cX0_save.data.toList.drop 0 = dktX0_save_0 := by decide +kernel
theorem dksX0_save_1 : cX0_save.data.toList.drop 22 = dktX0_save_1 := dk_seg dksX0_save_0 22 rfl rfl
theorem dksX0_save_2 : cX0_save.data.toList.drop 44 = dktX0_save_2 := dk_seg dksX0_save_1 22 rfl rfl
theorem dX0_save_0 : decode cX0_save 0 = .ok (.aload_n 0, 1) := dk_42 (dk_at dksX0_save_0 0 rfl rfl)
theorem dX0_save_1 : decode cX0_save 1 = .ok (.invokevirtual 191, 3) := dk_182 0 191 (dk_at dksX0_save_0 1 rfl rfl)
theorem dX0_save_4 : decode cX0_save 4 = .ok (.ifCond .ne 6, 3) := dk_154 0 6 (dk_at dksX0_save_0 4 rfl rfl)
theorem dX0_save_7 : decode cX0_save 7 = .ok (.ldc 171, 2) := dk_18 171 (dk_at dksX0_save_0 7 rfl rfl)
theorem dX0_save_9 : decode cX0_save 9 = .ok (.ireturn, 1) := dk_172 (dk_at dksX0_save_0 9 rfl rfl)
theorem dX0_save_10 : decode cX0_save 10 = .ok (.aload_n 0, 1) := dk_42 (dk_at dksX0_save_0 10 rfl rfl)
theorem dX0_save_11 : decode cX0_save 11 = .ok (.iload_n 1, 1) := dk_27 (dk_at dksX0_save_0 11 rfl rfl)
theorem dX0_save_12 : decode cX0_save 12 = .ok (.invokevirtual 181, 3) := dk_182 0 181 (dk_at dksX0_save_0 12 rfl rfl)
theorem dX0_save_15 : decode cX0_save 15 = .ok (.ifCond .eq 10, 3) := dk_153 0 10 (dk_at dksX0_save_0 15 rfl rfl)
theorem dX0_save_18 : decode cX0_save 18 = .ok (.iload_n 2, 1) := dk_28 (dk_at dksX0_save_0 18 rfl rfl)
theorem dX0_save_19 : decode cX0_save 19 = .ok (.invokestatic 254, 3) := dk_184 0 254 (dk_at dksX0_save_0 19 rfl rfl)
theorem dX0_save_22 : decode cX0_save 22 = .ok (.ifCond .ne 6, 3) := dk_154 0 6 (dk_at dksX0_save_1 0 rfl rfl)
theorem dX0_save_25 : decode cX0_save 25 = .ok (.ldc 97, 2) := dk_18 97 (dk_at dksX0_save_1 3 rfl rfl)
theorem dX0_save_27 : decode cX0_save 27 = .ok (.ireturn, 1) := dk_172 (dk_at dksX0_save_1 5 rfl rfl)
theorem dX0_save_28 : decode cX0_save 28 = .ok (.aload_n 0, 1) := dk_42 (dk_at dksX0_save_1 6 rfl rfl)
theorem dX0_save_29 : decode cX0_save 29 = .ok (.iload_n 1, 1) := dk_27 (dk_at dksX0_save_1 7 rfl rfl)
theorem dX0_save_30 : decode cX0_save 30 = .ok (.aload_n 0, 1) := dk_42 (dk_at dksX0_save_1 8 rfl rfl)
theorem dX0_save_31 : decode cX0_save 31 = .ok (.getfield 45, 3) := dk_180 0 45 (dk_at dksX0_save_1 9 rfl rfl)
theorem dX0_save_34 : decode cX0_save 34 = .ok (.iload_n 1, 1) := dk_27 (dk_at dksX0_save_1 12 rfl rfl)
theorem dX0_save_35 : decode cX0_save 35 = .ok (.invokevirtual 242, 3) := dk_182 0 242 (dk_at dksX0_save_1 13 rfl rfl)
theorem dX0_save_38 : decode cX0_save 38 = .ok (.invokevirtual 257, 3) := dk_182 1 1 (dk_at dksX0_save_1 16 rfl rfl)
theorem dX0_save_41 : decode cX0_save 41 = .ok (.istore_n 3, 1) := dk_62 (dk_at dksX0_save_1 19 rfl rfl)
theorem dX0_save_42 : decode cX0_save 42 = .ok (.iload_n 2, 1) := dk_28 (dk_at dksX0_save_1 20 rfl rfl)
theorem dX0_save_43 : decode cX0_save 43 = .ok (.iconst 1, 1) := dk_4 (dk_at dksX0_save_1 21 rfl rfl)
theorem dX0_save_44 : decode cX0_save 44 = .ok (.if_icmp .ne 7, 3) := dk_160 0 7 (dk_at dksX0_save_2 0 rfl rfl)
theorem dX0_save_47 : decode cX0_save 47 = .ok (.iload_n 3, 1) := dk_29 (dk_at dksX0_save_2 3 rfl rfl)
theorem dX0_save_48 : decode cX0_save 48 = .ok (.goto 7, 3) := dk_167 0 7 (dk_at dksX0_save_2 4 rfl rfl)
theorem dX0_save_51 : decode cX0_save 51 = .ok (.iload_n 3, 1) := dk_29 (dk_at dksX0_save_2 7 rfl rfl)
theorem dX0_save_52 : decode cX0_save 52 = .ok (.invokestatic 246, 3) := dk_184 0 246 (dk_at dksX0_save_2 8 rfl rfl)
theorem dX0_save_55 : decode cX0_save 55 = .ok (.ireturn, 1) := dk_172 (dk_at dksX0_save_2 11 rfl rfl)
abbrev cX0_shares : ByteArray := prog_1_method_46_code
def yX0_shares : MethodName := ⟨RX0, "shares", "(III)I"⟩
def dkwX0_shares_4 : List UInt8 := [167, 255, 206, 42, 21, 5, 182, 0, 101, 172, 58, 4, 42, 25, 4, 182, 0, 105, 172]
abbrev dktX0_shares_4 : List UInt8 := dkwX0_shares_4 ++ []
def dkwX0_shares_3 : List UInt8 := [25, 4, 182, 1, 48, 153, 0, 10, 4, 21, 6, 120, 167, 0, 4, 3, 128, 54, 5, 132, 6, 1]
abbrev dktX0_shares_3 : List UInt8 := dkwX0_shares_3 ++ dktX0_shares_4
def dkwX0_shares_2 : List UInt8 := [163, 0, 49, 21, 5, 42, 42, 180, 0, 45, 180, 1, 38, 27, 185, 1, 42, 2, 0, 192, 0, 20, 21, 6]
abbrev dktX0_shares_2 : List UInt8 := dkwX0_shares_2 ++ dktX0_shares_3
def dkwX0_shares_1 : List UInt8 := [42, 180, 0, 45, 180, 0, 175, 182, 1, 34, 58, 4, 3, 54, 5, 3, 54, 6, 21, 6, 16, 9]
abbrev dktX0_shares_1 : List UInt8 := dkwX0_shares_1 ++ dktX0_shares_2
def dkwX0_shares_0 : List UInt8 := [42, 27, 182, 0, 200, 153, 0, 10, 28, 184, 0, 91, 154, 0, 6, 18, 97, 172, 42, 28, 182, 0, 109, 29]
abbrev dktX0_shares_0 : List UInt8 := dkwX0_shares_0 ++ dktX0_shares_1
theorem dksX0_shares_0 : cX0_shares.data.toList.drop 0 = dktX0_shares_0 := by decide +kernel
theorem dksX0_shares_1 : cX0_shares.data.toList.drop 24 = dktX0_shares_1 := dk_seg dksX0_shares_0 24 rfl rfl
theorem dksX0_shares_2 : cX0_shares.data.toList.drop 46 = dktX0_shares_2 := dk_seg dksX0_shares_1 22 rfl rfl
theorem dksX0_shares_3 : cX0_shares.data.toList.drop 70 = dktX0_shares_3 := dk_seg dksX0_shares_2 24 rfl rfl
theorem dksX0_shares_4 : cX0_shares.data.toList.drop 92 = dktX0_shares_4 := dk_seg dksX0_shares_3 22 rfl rfl
theorem dX0_shares_0 : decode cX0_shares 0 = .ok (.aload_n 0, 1) := dk_42 (dk_at dksX0_shares_0 0 rfl rfl)
theorem dX0_shares_1 : decode cX0_shares 1 = .ok (.iload_n 1, 1) := dk_27 (dk_at dksX0_shares_0 1 rfl rfl)
theorem dX0_shares_2 : decode cX0_shares 2 = .ok (.invokevirtual 200, 3) := dk_182 0 200 (dk_at dksX0_shares_0 2 rfl rfl)
theorem dX0_shares_5 : decode cX0_shares 5 = .ok (.ifCond .eq 10, 3) := dk_153 0 10 (dk_at dksX0_shares_0 5 rfl rfl)
theorem dX0_shares_8 : decode cX0_shares 8 = .ok (.iload_n 2, 1) := dk_28 (dk_at dksX0_shares_0 8 rfl rfl)
theorem dX0_shares_9 : decode cX0_shares 9 = .ok (.invokestatic 91, 3) := dk_184 0 91 (dk_at dksX0_shares_0 9 rfl rfl)
theorem dX0_shares_12 : decode cX0_shares 12 = .ok (.ifCond .ne 6, 3) := dk_154 0 6 (dk_at dksX0_shares_0 12 rfl rfl)
theorem dX0_shares_15 : decode cX0_shares 15 = .ok (.ldc 97, 2) := dk_18 97 (dk_at dksX0_shares_0 15 rfl rfl)
theorem dX0_shares_17 : decode cX0_shares 17 = .ok (.ireturn, 1) := dk_172 (dk_at dksX0_shares_0 17 rfl rfl)
theorem dX0_shares_18 : decode cX0_shares 18 = .ok (.aload_n 0, 1) := dk_42 (dk_at dksX0_shares_0 18 rfl rfl)
theorem dX0_shares_19 : decode cX0_shares 19 = .ok (.iload_n 2, 1) := dk_28 (dk_at dksX0_shares_0 19 rfl rfl)
theorem dX0_shares_20 : decode cX0_shares 20 = .ok (.invokevirtual 109, 3) := dk_182 0 109 (dk_at dksX0_shares_0 20 rfl rfl)
theorem dX0_shares_23 : decode cX0_shares 23 = .ok (.iload_n 3, 1) := dk_29 (dk_at dksX0_shares_0 23 rfl rfl)
theorem dX0_shares_24 : decode cX0_shares 24 = .ok (.aload_n 0, 1) := dk_42 (dk_at dksX0_shares_1 0 rfl rfl)
theorem dX0_shares_25 : decode cX0_shares 25 = .ok (.getfield 45, 3) := dk_180 0 45 (dk_at dksX0_shares_1 1 rfl rfl)
theorem dX0_shares_28 : decode cX0_shares 28 = .ok (.getfield 175, 3) := dk_180 0 175 (dk_at dksX0_shares_1 4 rfl rfl)
theorem dX0_shares_31 : decode cX0_shares 31 = .ok (.invokevirtual 290, 3) := dk_182 1 34 (dk_at dksX0_shares_1 7 rfl rfl)
theorem dX0_shares_34 : decode cX0_shares 34 = .ok (.astore 4, 2) := dk_58 4 (dk_at dksX0_shares_1 10 rfl rfl)
theorem dX0_shares_36 : decode cX0_shares 36 = .ok (.iconst 0, 1) := dk_3 (dk_at dksX0_shares_1 12 rfl rfl)
theorem dX0_shares_37 : decode cX0_shares 37 = .ok (.istore 5, 2) := dk_54 5 (dk_at dksX0_shares_1 13 rfl rfl)
theorem dX0_shares_39 : decode cX0_shares 39 = .ok (.iconst 0, 1) := dk_3 (dk_at dksX0_shares_1 15 rfl rfl)
theorem dX0_shares_40 : decode cX0_shares 40 = .ok (.istore 6, 2) := dk_54 6 (dk_at dksX0_shares_1 16 rfl rfl)
theorem dX0_shares_42 : decode cX0_shares 42 = .ok (.iload 6, 2) := dk_21 6 (dk_at dksX0_shares_1 18 rfl rfl)
theorem dX0_shares_44 : decode cX0_shares 44 = .ok (.bipush 9, 2) := dk_16 9 (dk_at dksX0_shares_1 20 rfl rfl)
theorem dX0_shares_46 : decode cX0_shares 46 = .ok (.if_icmp .gt 49, 3) := dk_163 0 49 (dk_at dksX0_shares_2 0 rfl rfl)
theorem dX0_shares_49 : decode cX0_shares 49 = .ok (.iload 5, 2) := dk_21 5 (dk_at dksX0_shares_2 3 rfl rfl)
theorem dX0_shares_51 : decode cX0_shares 51 = .ok (.aload_n 0, 1) := dk_42 (dk_at dksX0_shares_2 5 rfl rfl)
theorem dX0_shares_52 : decode cX0_shares 52 = .ok (.aload_n 0, 1) := dk_42 (dk_at dksX0_shares_2 6 rfl rfl)
theorem dX0_shares_53 : decode cX0_shares 53 = .ok (.getfield 45, 3) := dk_180 0 45 (dk_at dksX0_shares_2 7 rfl rfl)
theorem dX0_shares_56 : decode cX0_shares 56 = .ok (.getfield 294, 3) := dk_180 1 38 (dk_at dksX0_shares_2 10 rfl rfl)
theorem dX0_shares_59 : decode cX0_shares 59 = .ok (.iload_n 1, 1) := dk_27 (dk_at dksX0_shares_2 13 rfl rfl)
theorem dX0_shares_60 : decode cX0_shares 60 = .ok (.invokeinterface 298 2, 5) := by decide +kernel
theorem dX0_shares_65 : decode cX0_shares 65 = .ok (.checkcast 20, 3) := dk_192 0 20 (dk_at dksX0_shares_2 19 rfl rfl)
theorem dX0_shares_68 : decode cX0_shares 68 = .ok (.iload 6, 2) := dk_21 6 (dk_at dksX0_shares_2 22 rfl rfl)
theorem dX0_shares_70 : decode cX0_shares 70 = .ok (.aload 4, 2) := dk_25 4 (dk_at dksX0_shares_3 0 rfl rfl)
theorem dX0_shares_72 : decode cX0_shares 72 = .ok (.invokevirtual 304, 3) := dk_182 1 48 (dk_at dksX0_shares_3 2 rfl rfl)
theorem dX0_shares_75 : decode cX0_shares 75 = .ok (.ifCond .eq 10, 3) := dk_153 0 10 (dk_at dksX0_shares_3 5 rfl rfl)
theorem dX0_shares_78 : decode cX0_shares 78 = .ok (.iconst 1, 1) := dk_4 (dk_at dksX0_shares_3 8 rfl rfl)
theorem dX0_shares_79 : decode cX0_shares 79 = .ok (.iload 6, 2) := dk_21 6 (dk_at dksX0_shares_3 9 rfl rfl)
theorem dX0_shares_81 : decode cX0_shares 81 = .ok (.ishl, 1) := dk_120 (dk_at dksX0_shares_3 11 rfl rfl)
theorem dX0_shares_82 : decode cX0_shares 82 = .ok (.goto 4, 3) := dk_167 0 4 (dk_at dksX0_shares_3 12 rfl rfl)
theorem dX0_shares_85 : decode cX0_shares 85 = .ok (.iconst 0, 1) := dk_3 (dk_at dksX0_shares_3 15 rfl rfl)
theorem dX0_shares_86 : decode cX0_shares 86 = .ok (.ior, 1) := dk_128 (dk_at dksX0_shares_3 16 rfl rfl)
theorem dX0_shares_87 : decode cX0_shares 87 = .ok (.istore 5, 2) := dk_54 5 (dk_at dksX0_shares_3 17 rfl rfl)
theorem dX0_shares_89 : decode cX0_shares 89 = .ok (.iinc 6 1, 3) := dk_132 6 1 (dk_at dksX0_shares_3 19 rfl rfl)
theorem dX0_shares_92 : decode cX0_shares 92 = .ok (.goto (-50), 3) := dk_167 255 206 (dk_at dksX0_shares_4 0 rfl rfl)
theorem dX0_shares_95 : decode cX0_shares 95 = .ok (.aload_n 0, 1) := dk_42 (dk_at dksX0_shares_4 3 rfl rfl)
theorem dX0_shares_96 : decode cX0_shares 96 = .ok (.iload 5, 2) := dk_21 5 (dk_at dksX0_shares_4 4 rfl rfl)
theorem dX0_shares_98 : decode cX0_shares 98 = .ok (.invokevirtual 101, 3) := dk_182 0 101 (dk_at dksX0_shares_4 6 rfl rfl)
theorem dX0_shares_101 : decode cX0_shares 101 = .ok (.ireturn, 1) := dk_172 (dk_at dksX0_shares_4 9 rfl rfl)
theorem dX0_shares_102 : decode cX0_shares 102 = .ok (.astore 4, 2) := dk_58 4 (dk_at dksX0_shares_4 10 rfl rfl)
theorem dX0_shares_104 : decode cX0_shares 104 = .ok (.aload_n 0, 1) := dk_42 (dk_at dksX0_shares_4 12 rfl rfl)
theorem dX0_shares_105 : decode cX0_shares 105 = .ok (.aload 4, 2) := dk_25 4 (dk_at dksX0_shares_4 13 rfl rfl)
theorem dX0_shares_107 : decode cX0_shares 107 = .ok (.invokevirtual 105, 3) := dk_182 0 105 (dk_at dksX0_shares_4 15 rfl rfl)
theorem dX0_shares_110 : decode cX0_shares 110 = .ok (.ireturn, 1) := dk_172 (dk_at dksX0_shares_4 18 rfl rfl)
abbrev cX0_isClickedSo : ByteArray := prog_1_method_45_code
def yX0_isClickedSo : MethodName := ⟨RX0, "isClickedSo", "(LLampSquares$Square;I[I)Z"⟩
def dkwX0_isClickedSo_3 : List UInt8 := [167, 255, 196, 21, 4, 172]
abbrev dktX0_isClickedSo_3 : List UInt8 := dkwX0_isClickedSo_3 ++ []
def dkwX0_isClickedSo_2 : List UInt8 := [153, 0, 7, 4, 167, 0, 4, 3, 160, 0, 7, 4, 167, 0, 4, 3, 126, 54, 4, 132, 5, 1]
abbrev dktX0_isClickedSo_2 : List UInt8 := dkwX0_isClickedSo_2 ++ dktX0_isClickedSo_3
def dkwX0_isClickedSo_1 : List UInt8 := [180, 0, 45, 180, 0, 220, 21, 5, 46, 42, 180, 0, 45, 180, 0, 223, 21, 5, 46, 184, 1, 30]
abbrev dktX0_isClickedSo_1 : List UInt8 := dkwX0_isClickedSo_1 ++ dktX0_isClickedSo_2
def dkwX0_isClickedSo_0 : List UInt8 := [4, 54, 4, 3, 54, 5, 21, 5, 45, 190, 162, 0, 59, 21, 4, 45, 21, 5, 46, 43, 28, 42]
abbrev dktX0_isClickedSo_0 : List UInt8 := dkwX0_isClickedSo_0 ++ dktX0_isClickedSo_1
theorem dksX0_isClickedSo_0 : cX0_isClickedSo.data.toList.drop 0 = dktX0_isClickedSo_0 := by decide +kernel
theorem dksX0_isClickedSo_1 : cX0_isClickedSo.data.toList.drop 22 = dktX0_isClickedSo_1 := dk_seg dksX0_isClickedSo_0 22 rfl rfl
theorem dksX0_isClickedSo_2 : cX0_isClickedSo.data.toList.drop 44 = dktX0_isClickedSo_2 := dk_seg dksX0_isClickedSo_1 22 rfl rfl
theorem dksX0_isClickedSo_3 : cX0_isClickedSo.data.toList.drop 66 = dktX0_isClickedSo_3 := dk_seg dksX0_isClickedSo_2 22 rfl rfl
theorem dX0_isClickedSo_0 : decode cX0_isClickedSo 0 = .ok (.iconst 1, 1) := dk_4 (dk_at dksX0_isClickedSo_0 0 rfl rfl)
theorem dX0_isClickedSo_1 : decode cX0_isClickedSo 1 = .ok (.istore 4, 2) := dk_54 4 (dk_at dksX0_isClickedSo_0 1 rfl rfl)
theorem dX0_isClickedSo_3 : decode cX0_isClickedSo 3 = .ok (.iconst 0, 1) := dk_3 (dk_at dksX0_isClickedSo_0 3 rfl rfl)
theorem dX0_isClickedSo_4 : decode cX0_isClickedSo 4 = .ok (.istore 5, 2) := dk_54 5 (dk_at dksX0_isClickedSo_0 4 rfl rfl)
theorem dX0_isClickedSo_6 : decode cX0_isClickedSo 6 = .ok (.iload 5, 2) := dk_21 5 (dk_at dksX0_isClickedSo_0 6 rfl rfl)
theorem dX0_isClickedSo_8 : decode cX0_isClickedSo 8 = .ok (.aload_n 3, 1) := dk_45 (dk_at dksX0_isClickedSo_0 8 rfl rfl)
theorem dX0_isClickedSo_9 : decode cX0_isClickedSo 9 = .ok (.arraylength, 1) := dk_190 (dk_at dksX0_isClickedSo_0 9 rfl rfl)
theorem dX0_isClickedSo_10 : decode cX0_isClickedSo 10 = .ok (.if_icmp .ge 59, 3) := dk_162 0 59 (dk_at dksX0_isClickedSo_0 10 rfl rfl)
theorem dX0_isClickedSo_13 : decode cX0_isClickedSo 13 = .ok (.iload 4, 2) := dk_21 4 (dk_at dksX0_isClickedSo_0 13 rfl rfl)
theorem dX0_isClickedSo_15 : decode cX0_isClickedSo 15 = .ok (.aload_n 3, 1) := dk_45 (dk_at dksX0_isClickedSo_0 15 rfl rfl)
theorem dX0_isClickedSo_16 : decode cX0_isClickedSo 16 = .ok (.iload 5, 2) := dk_21 5 (dk_at dksX0_isClickedSo_0 16 rfl rfl)
theorem dX0_isClickedSo_18 : decode cX0_isClickedSo 18 = .ok (.iaload, 1) := dk_46 (dk_at dksX0_isClickedSo_0 18 rfl rfl)
theorem dX0_isClickedSo_19 : decode cX0_isClickedSo 19 = .ok (.aload_n 1, 1) := dk_43 (dk_at dksX0_isClickedSo_0 19 rfl rfl)
theorem dX0_isClickedSo_20 : decode cX0_isClickedSo 20 = .ok (.iload_n 2, 1) := dk_28 (dk_at dksX0_isClickedSo_0 20 rfl rfl)
theorem dX0_isClickedSo_21 : decode cX0_isClickedSo 21 = .ok (.aload_n 0, 1) := dk_42 (dk_at dksX0_isClickedSo_0 21 rfl rfl)
theorem dX0_isClickedSo_22 : decode cX0_isClickedSo 22 = .ok (.getfield 45, 3) := dk_180 0 45 (dk_at dksX0_isClickedSo_1 0 rfl rfl)
theorem dX0_isClickedSo_25 : decode cX0_isClickedSo 25 = .ok (.getfield 220, 3) := dk_180 0 220 (dk_at dksX0_isClickedSo_1 3 rfl rfl)
theorem dX0_isClickedSo_28 : decode cX0_isClickedSo 28 = .ok (.iload 5, 2) := dk_21 5 (dk_at dksX0_isClickedSo_1 6 rfl rfl)
theorem dX0_isClickedSo_30 : decode cX0_isClickedSo 30 = .ok (.iaload, 1) := dk_46 (dk_at dksX0_isClickedSo_1 8 rfl rfl)
theorem dX0_isClickedSo_31 : decode cX0_isClickedSo 31 = .ok (.aload_n 0, 1) := dk_42 (dk_at dksX0_isClickedSo_1 9 rfl rfl)
theorem dX0_isClickedSo_32 : decode cX0_isClickedSo 32 = .ok (.getfield 45, 3) := dk_180 0 45 (dk_at dksX0_isClickedSo_1 10 rfl rfl)
theorem dX0_isClickedSo_35 : decode cX0_isClickedSo 35 = .ok (.getfield 223, 3) := dk_180 0 223 (dk_at dksX0_isClickedSo_1 13 rfl rfl)
theorem dX0_isClickedSo_38 : decode cX0_isClickedSo 38 = .ok (.iload 5, 2) := dk_21 5 (dk_at dksX0_isClickedSo_1 16 rfl rfl)
theorem dX0_isClickedSo_40 : decode cX0_isClickedSo 40 = .ok (.iaload, 1) := dk_46 (dk_at dksX0_isClickedSo_1 18 rfl rfl)
theorem dX0_isClickedSo_41 : decode cX0_isClickedSo 41 = .ok (.invokestatic 286, 3) := dk_184 1 30 (dk_at dksX0_isClickedSo_1 19 rfl rfl)
theorem dX0_isClickedSo_44 : decode cX0_isClickedSo 44 = .ok (.ifCond .eq 7, 3) := dk_153 0 7 (dk_at dksX0_isClickedSo_2 0 rfl rfl)
theorem dX0_isClickedSo_47 : decode cX0_isClickedSo 47 = .ok (.iconst 1, 1) := dk_4 (dk_at dksX0_isClickedSo_2 3 rfl rfl)
theorem dX0_isClickedSo_48 : decode cX0_isClickedSo 48 = .ok (.goto 4, 3) := dk_167 0 4 (dk_at dksX0_isClickedSo_2 4 rfl rfl)
theorem dX0_isClickedSo_51 : decode cX0_isClickedSo 51 = .ok (.iconst 0, 1) := dk_3 (dk_at dksX0_isClickedSo_2 7 rfl rfl)
theorem dX0_isClickedSo_52 : decode cX0_isClickedSo 52 = .ok (.if_icmp .ne 7, 3) := dk_160 0 7 (dk_at dksX0_isClickedSo_2 8 rfl rfl)
theorem dX0_isClickedSo_55 : decode cX0_isClickedSo 55 = .ok (.iconst 1, 1) := dk_4 (dk_at dksX0_isClickedSo_2 11 rfl rfl)
theorem dX0_isClickedSo_56 : decode cX0_isClickedSo 56 = .ok (.goto 4, 3) := dk_167 0 4 (dk_at dksX0_isClickedSo_2 12 rfl rfl)
theorem dX0_isClickedSo_59 : decode cX0_isClickedSo 59 = .ok (.iconst 0, 1) := dk_3 (dk_at dksX0_isClickedSo_2 15 rfl rfl)
theorem dX0_isClickedSo_60 : decode cX0_isClickedSo 60 = .ok (.iand, 1) := dk_126 (dk_at dksX0_isClickedSo_2 16 rfl rfl)
theorem dX0_isClickedSo_61 : decode cX0_isClickedSo 61 = .ok (.istore 4, 2) := dk_54 4 (dk_at dksX0_isClickedSo_2 17 rfl rfl)
theorem dX0_isClickedSo_63 : decode cX0_isClickedSo 63 = .ok (.iinc 5 1, 3) := dk_132 5 1 (dk_at dksX0_isClickedSo_2 19 rfl rfl)
theorem dX0_isClickedSo_66 : decode cX0_isClickedSo 66 = .ok (.goto (-60), 3) := dk_167 255 196 (dk_at dksX0_isClickedSo_3 0 rfl rfl)
theorem dX0_isClickedSo_69 : decode cX0_isClickedSo 69 = .ok (.iload 4, 2) := dk_21 4 (dk_at dksX0_isClickedSo_3 3 rfl rfl)
theorem dX0_isClickedSo_71 : decode cX0_isClickedSo 71 = .ok (.ireturn, 1) := dk_172 (dk_at dksX0_isClickedSo_3 5 rfl rfl)
abbrev cX0_kinds : ByteArray := prog_1_method_47_code
def yX0_kinds : MethodName := ⟨RX0, "kinds", "(III)I"⟩
def dkwX0_kinds_5 : List UInt8 := [172]
abbrev dktX0_kinds_5 : List UInt8 := dkwX0_kinds_5 ++ []
def dkwX0_kinds_4 : List UInt8 := [128, 54, 5, 132, 6, 1, 167, 255, 197, 42, 21, 5, 182, 0, 101, 172, 58, 4, 42, 25, 4, 182, 0, 105]
abbrev dktX0_kinds_4 : List UInt8 := dkwX0_kinds_4 ++ dktX0_kinds_5
def dkwX0_kinds_3 : List UInt8 := [25, 4, 182, 1, 48, 153, 0, 18, 4, 42, 180, 0, 66, 21, 6, 50, 182, 1, 52, 120, 167, 0, 4, 3]
abbrev dktX0_kinds_3 : List UInt8 := dkwX0_kinds_3 ++ dktX0_kinds_4
def dkwX0_kinds_2 : List UInt8 := [190, 162, 0, 55, 21, 5, 42, 42, 180, 0, 66, 21, 6, 50, 42, 180, 0, 45, 180, 0, 205, 27, 46]
abbrev dktX0_kinds_2 : List UInt8 := dkwX0_kinds_2 ++ dktX0_kinds_3
def dkwX0_kinds_1 : List UInt8 := [42, 180, 0, 45, 180, 0, 175, 182, 1, 34, 58, 4, 3, 54, 5, 3, 54, 6, 21, 6, 42, 180, 0, 66]
abbrev dktX0_kinds_1 : List UInt8 := dkwX0_kinds_1 ++ dktX0_kinds_2
def dkwX0_kinds_0 : List UInt8 := [42, 27, 182, 0, 200, 153, 0, 10, 28, 184, 0, 91, 154, 0, 6, 18, 97, 172, 42, 28, 182, 0, 109, 29]
abbrev dktX0_kinds_0 : List UInt8 := dkwX0_kinds_0 ++ dktX0_kinds_1
theorem dksX0_kinds_0 : cX0_kinds.data.toList.drop 0 = dktX0_kinds_0 := by decide +kernel
theorem dksX0_kinds_1 : cX0_kinds.data.toList.drop 24 = dktX0_kinds_1 := dk_seg dksX0_kinds_0 24 rfl rfl
theorem dksX0_kinds_2 : cX0_kinds.data.toList.drop 48 = dktX0_kinds_2 := dk_seg dksX0_kinds_1 24 rfl rfl
theorem dksX0_kinds_3 : cX0_kinds.data.toList.drop 71 = dktX0_kinds_3 := dk_seg dksX0_kinds_2 23 rfl rfl
theorem dksX0_kinds_4 : cX0_kinds.data.toList.drop 95 = dktX0_kinds_4 := dk_seg dksX0_kinds_3 24 rfl rfl
theorem dksX0_kinds_5 : cX0_kinds.data.toList.drop 119 = dktX0_kinds_5 := dk_seg dksX0_kinds_4 24 rfl rfl
theorem dX0_kinds_0 : decode cX0_kinds 0 = .ok (.aload_n 0, 1) := dk_42 (dk_at dksX0_kinds_0 0 rfl rfl)
theorem dX0_kinds_1 : decode cX0_kinds 1 = .ok (.iload_n 1, 1) := dk_27 (dk_at dksX0_kinds_0 1 rfl rfl)
theorem dX0_kinds_2 : decode cX0_kinds 2 = .ok (.invokevirtual 200, 3) := dk_182 0 200 (dk_at dksX0_kinds_0 2 rfl rfl)
theorem dX0_kinds_5 : decode cX0_kinds 5 = .ok (.ifCond .eq 10, 3) := dk_153 0 10 (dk_at dksX0_kinds_0 5 rfl rfl)
theorem dX0_kinds_8 : decode cX0_kinds 8 = .ok (.iload_n 2, 1) := dk_28 (dk_at dksX0_kinds_0 8 rfl rfl)
theorem dX0_kinds_9 : decode cX0_kinds 9 = .ok (.invokestatic 91, 3) := dk_184 0 91 (dk_at dksX0_kinds_0 9 rfl rfl)
theorem dX0_kinds_12 : decode cX0_kinds 12 = .ok (.ifCond .ne 6, 3) := dk_154 0 6 (dk_at dksX0_kinds_0 12 rfl rfl)
theorem dX0_kinds_15 : decode cX0_kinds 15 = .ok (.ldc 97, 2) := dk_18 97 (dk_at dksX0_kinds_0 15 rfl rfl)
theorem dX0_kinds_17 : decode cX0_kinds 17 = .ok (.ireturn, 1) := dk_172 (dk_at dksX0_kinds_0 17 rfl rfl)
theorem dX0_kinds_18 : decode cX0_kinds 18 = .ok (.aload_n 0, 1) := dk_42 (dk_at dksX0_kinds_0 18 rfl rfl)
theorem dX0_kinds_19 : decode cX0_kinds 19 = .ok (.iload_n 2, 1) := dk_28 (dk_at dksX0_kinds_0 19 rfl rfl)
theorem dX0_kinds_20 : decode cX0_kinds 20 = .ok (.invokevirtual 109, 3) := dk_182 0 109 (dk_at dksX0_kinds_0 20 rfl rfl)
theorem dX0_kinds_23 : decode cX0_kinds 23 = .ok (.iload_n 3, 1) := dk_29 (dk_at dksX0_kinds_0 23 rfl rfl)
theorem dX0_kinds_24 : decode cX0_kinds 24 = .ok (.aload_n 0, 1) := dk_42 (dk_at dksX0_kinds_1 0 rfl rfl)
theorem dX0_kinds_25 : decode cX0_kinds 25 = .ok (.getfield 45, 3) := dk_180 0 45 (dk_at dksX0_kinds_1 1 rfl rfl)
theorem dX0_kinds_28 : decode cX0_kinds 28 = .ok (.getfield 175, 3) := dk_180 0 175 (dk_at dksX0_kinds_1 4 rfl rfl)
theorem dX0_kinds_31 : decode cX0_kinds 31 = .ok (.invokevirtual 290, 3) := dk_182 1 34 (dk_at dksX0_kinds_1 7 rfl rfl)
theorem dX0_kinds_34 : decode cX0_kinds 34 = .ok (.astore 4, 2) := dk_58 4 (dk_at dksX0_kinds_1 10 rfl rfl)
theorem dX0_kinds_36 : decode cX0_kinds 36 = .ok (.iconst 0, 1) := dk_3 (dk_at dksX0_kinds_1 12 rfl rfl)
theorem dX0_kinds_37 : decode cX0_kinds 37 = .ok (.istore 5, 2) := dk_54 5 (dk_at dksX0_kinds_1 13 rfl rfl)
theorem dX0_kinds_39 : decode cX0_kinds 39 = .ok (.iconst 0, 1) := dk_3 (dk_at dksX0_kinds_1 15 rfl rfl)
theorem dX0_kinds_40 : decode cX0_kinds 40 = .ok (.istore 6, 2) := dk_54 6 (dk_at dksX0_kinds_1 16 rfl rfl)
theorem dX0_kinds_42 : decode cX0_kinds 42 = .ok (.iload 6, 2) := dk_21 6 (dk_at dksX0_kinds_1 18 rfl rfl)
theorem dX0_kinds_44 : decode cX0_kinds 44 = .ok (.aload_n 0, 1) := dk_42 (dk_at dksX0_kinds_1 20 rfl rfl)
theorem dX0_kinds_45 : decode cX0_kinds 45 = .ok (.getfield 66, 3) := dk_180 0 66 (dk_at dksX0_kinds_1 21 rfl rfl)
theorem dX0_kinds_48 : decode cX0_kinds 48 = .ok (.arraylength, 1) := dk_190 (dk_at dksX0_kinds_2 0 rfl rfl)
theorem dX0_kinds_49 : decode cX0_kinds 49 = .ok (.if_icmp .ge 55, 3) := dk_162 0 55 (dk_at dksX0_kinds_2 1 rfl rfl)
theorem dX0_kinds_52 : decode cX0_kinds 52 = .ok (.iload 5, 2) := dk_21 5 (dk_at dksX0_kinds_2 4 rfl rfl)
theorem dX0_kinds_54 : decode cX0_kinds 54 = .ok (.aload_n 0, 1) := dk_42 (dk_at dksX0_kinds_2 6 rfl rfl)
theorem dX0_kinds_55 : decode cX0_kinds 55 = .ok (.aload_n 0, 1) := dk_42 (dk_at dksX0_kinds_2 7 rfl rfl)
theorem dX0_kinds_56 : decode cX0_kinds 56 = .ok (.getfield 66, 3) := dk_180 0 66 (dk_at dksX0_kinds_2 8 rfl rfl)
theorem dX0_kinds_59 : decode cX0_kinds 59 = .ok (.iload 6, 2) := dk_21 6 (dk_at dksX0_kinds_2 11 rfl rfl)
theorem dX0_kinds_61 : decode cX0_kinds 61 = .ok (.aaload, 1) := dk_50 (dk_at dksX0_kinds_2 13 rfl rfl)
theorem dX0_kinds_62 : decode cX0_kinds 62 = .ok (.aload_n 0, 1) := dk_42 (dk_at dksX0_kinds_2 14 rfl rfl)
theorem dX0_kinds_63 : decode cX0_kinds 63 = .ok (.getfield 45, 3) := dk_180 0 45 (dk_at dksX0_kinds_2 15 rfl rfl)
theorem dX0_kinds_66 : decode cX0_kinds 66 = .ok (.getfield 205, 3) := dk_180 0 205 (dk_at dksX0_kinds_2 18 rfl rfl)
theorem dX0_kinds_69 : decode cX0_kinds 69 = .ok (.iload_n 1, 1) := dk_27 (dk_at dksX0_kinds_2 21 rfl rfl)
theorem dX0_kinds_70 : decode cX0_kinds 70 = .ok (.iaload, 1) := dk_46 (dk_at dksX0_kinds_2 22 rfl rfl)
theorem dX0_kinds_71 : decode cX0_kinds 71 = .ok (.aload 4, 2) := dk_25 4 (dk_at dksX0_kinds_3 0 rfl rfl)
theorem dX0_kinds_73 : decode cX0_kinds 73 = .ok (.invokevirtual 304, 3) := dk_182 1 48 (dk_at dksX0_kinds_3 2 rfl rfl)
theorem dX0_kinds_76 : decode cX0_kinds 76 = .ok (.ifCond .eq 18, 3) := dk_153 0 18 (dk_at dksX0_kinds_3 5 rfl rfl)
theorem dX0_kinds_79 : decode cX0_kinds 79 = .ok (.iconst 1, 1) := dk_4 (dk_at dksX0_kinds_3 8 rfl rfl)
theorem dX0_kinds_80 : decode cX0_kinds 80 = .ok (.aload_n 0, 1) := dk_42 (dk_at dksX0_kinds_3 9 rfl rfl)
theorem dX0_kinds_81 : decode cX0_kinds 81 = .ok (.getfield 66, 3) := dk_180 0 66 (dk_at dksX0_kinds_3 10 rfl rfl)
theorem dX0_kinds_84 : decode cX0_kinds 84 = .ok (.iload 6, 2) := dk_21 6 (dk_at dksX0_kinds_3 13 rfl rfl)
theorem dX0_kinds_86 : decode cX0_kinds 86 = .ok (.aaload, 1) := dk_50 (dk_at dksX0_kinds_3 15 rfl rfl)
theorem dX0_kinds_87 : decode cX0_kinds 87 = .ok (.invokevirtual 308, 3) := dk_182 1 52 (dk_at dksX0_kinds_3 16 rfl rfl)
theorem dX0_kinds_90 : decode cX0_kinds 90 = .ok (.ishl, 1) := dk_120 (dk_at dksX0_kinds_3 19 rfl rfl)
theorem dX0_kinds_91 : decode cX0_kinds 91 = .ok (.goto 4, 3) := dk_167 0 4 (dk_at dksX0_kinds_3 20 rfl rfl)
theorem dX0_kinds_94 : decode cX0_kinds 94 = .ok (.iconst 0, 1) := dk_3 (dk_at dksX0_kinds_3 23 rfl rfl)
theorem dX0_kinds_95 : decode cX0_kinds 95 = .ok (.ior, 1) := dk_128 (dk_at dksX0_kinds_4 0 rfl rfl)
theorem dX0_kinds_96 : decode cX0_kinds 96 = .ok (.istore 5, 2) := dk_54 5 (dk_at dksX0_kinds_4 1 rfl rfl)
theorem dX0_kinds_98 : decode cX0_kinds 98 = .ok (.iinc 6 1, 3) := dk_132 6 1 (dk_at dksX0_kinds_4 3 rfl rfl)
theorem dX0_kinds_101 : decode cX0_kinds 101 = .ok (.goto (-59), 3) := dk_167 255 197 (dk_at dksX0_kinds_4 6 rfl rfl)
theorem dX0_kinds_104 : decode cX0_kinds 104 = .ok (.aload_n 0, 1) := dk_42 (dk_at dksX0_kinds_4 9 rfl rfl)
theorem dX0_kinds_105 : decode cX0_kinds 105 = .ok (.iload 5, 2) := dk_21 5 (dk_at dksX0_kinds_4 10 rfl rfl)
theorem dX0_kinds_107 : decode cX0_kinds 107 = .ok (.invokevirtual 101, 3) := dk_182 0 101 (dk_at dksX0_kinds_4 12 rfl rfl)
theorem dX0_kinds_110 : decode cX0_kinds 110 = .ok (.ireturn, 1) := dk_172 (dk_at dksX0_kinds_4 15 rfl rfl)
theorem dX0_kinds_111 : decode cX0_kinds 111 = .ok (.astore 4, 2) := dk_58 4 (dk_at dksX0_kinds_4 16 rfl rfl)
theorem dX0_kinds_113 : decode cX0_kinds 113 = .ok (.aload_n 0, 1) := dk_42 (dk_at dksX0_kinds_4 18 rfl rfl)
theorem dX0_kinds_114 : decode cX0_kinds 114 = .ok (.aload 4, 2) := dk_25 4 (dk_at dksX0_kinds_4 19 rfl rfl)
theorem dX0_kinds_116 : decode cX0_kinds 116 = .ok (.invokevirtual 105, 3) := dk_182 0 105 (dk_at dksX0_kinds_4 21 rfl rfl)
theorem dX0_kinds_119 : decode cX0_kinds 119 = .ok (.ireturn, 1) := dk_172 (dk_at dksX0_kinds_5 0 rfl rfl)
abbrev cX0_who : ByteArray := prog_1_method_49_code
def yX0_who : MethodName := ⟨RX0, "who", "(II)I"⟩
def dkwX0_who_4 : List UInt8 := [128, 54, 4, 132, 5, 1, 167, 255, 200, 42, 21, 4, 182, 0, 101, 172, 78, 42, 45, 182, 0, 105, 172]
abbrev dktX0_who_4 : List UInt8 := dkwX0_who_4 ++ []
def dkwX0_who_3 : List UInt8 := [180, 0, 45, 180, 0, 223, 21, 5, 46, 45, 182, 1, 54, 153, 0, 10, 4, 21, 5, 120, 167, 0, 4, 3]
abbrev dktX0_who_3 : List UInt8 := dkwX0_who_3 ++ dktX0_who_4
def dkwX0_who_2 : List UInt8 := [180, 0, 45, 180, 0, 175, 162, 0, 50, 21, 4, 42, 42, 180, 0, 45, 180, 0, 220, 21, 5, 46, 42]
abbrev dktX0_who_2 : List UInt8 := dkwX0_who_2 ++ dktX0_who_3
def dkwX0_who_1 : List UInt8 := [182, 0, 109, 28, 42, 180, 0, 45, 182, 0, 167, 182, 1, 34, 78, 3, 54, 4, 3, 54, 5, 21, 5, 42]
abbrev dktX0_who_1 : List UInt8 := dkwX0_who_1 ++ dktX0_who_2
def dkwX0_who_0 : List UInt8 := [42, 182, 0, 191, 154, 0, 6, 18, 171, 172, 27, 184, 0, 91, 154, 0, 6, 18, 97, 172, 42, 27]
abbrev dktX0_who_0 : List UInt8 := dkwX0_who_0 ++ dktX0_who_1
theorem dksX0_who_0 : cX0_who.data.toList.drop 0 = dktX0_who_0 := by decide +kernel
theorem dksX0_who_1 : cX0_who.data.toList.drop 22 = dktX0_who_1 := dk_seg dksX0_who_0 22 rfl rfl
theorem dksX0_who_2 : cX0_who.data.toList.drop 46 = dktX0_who_2 := dk_seg dksX0_who_1 24 rfl rfl
theorem dksX0_who_3 : cX0_who.data.toList.drop 69 = dktX0_who_3 := dk_seg dksX0_who_2 23 rfl rfl
theorem dksX0_who_4 : cX0_who.data.toList.drop 93 = dktX0_who_4 := dk_seg dksX0_who_3 24 rfl rfl
theorem dX0_who_0 : decode cX0_who 0 = .ok (.aload_n 0, 1) := dk_42 (dk_at dksX0_who_0 0 rfl rfl)
theorem dX0_who_1 : decode cX0_who 1 = .ok (.invokevirtual 191, 3) := dk_182 0 191 (dk_at dksX0_who_0 1 rfl rfl)
theorem dX0_who_4 : decode cX0_who 4 = .ok (.ifCond .ne 6, 3) := dk_154 0 6 (dk_at dksX0_who_0 4 rfl rfl)
theorem dX0_who_7 : decode cX0_who 7 = .ok (.ldc 171, 2) := dk_18 171 (dk_at dksX0_who_0 7 rfl rfl)
theorem dX0_who_9 : decode cX0_who 9 = .ok (.ireturn, 1) := dk_172 (dk_at dksX0_who_0 9 rfl rfl)
theorem dX0_who_10 : decode cX0_who 10 = .ok (.iload_n 1, 1) := dk_27 (dk_at dksX0_who_0 10 rfl rfl)
theorem dX0_who_11 : decode cX0_who 11 = .ok (.invokestatic 91, 3) := dk_184 0 91 (dk_at dksX0_who_0 11 rfl rfl)
theorem dX0_who_14 : decode cX0_who 14 = .ok (.ifCond .ne 6, 3) := dk_154 0 6 (dk_at dksX0_who_0 14 rfl rfl)
theorem dX0_who_17 : decode cX0_who 17 = .ok (.ldc 97, 2) := dk_18 97 (dk_at dksX0_who_0 17 rfl rfl)
theorem dX0_who_19 : decode cX0_who 19 = .ok (.ireturn, 1) := dk_172 (dk_at dksX0_who_0 19 rfl rfl)
theorem dX0_who_20 : decode cX0_who 20 = .ok (.aload_n 0, 1) := dk_42 (dk_at dksX0_who_0 20 rfl rfl)
theorem dX0_who_21 : decode cX0_who 21 = .ok (.iload_n 1, 1) := dk_27 (dk_at dksX0_who_0 21 rfl rfl)
theorem dX0_who_22 : decode cX0_who 22 = .ok (.invokevirtual 109, 3) := dk_182 0 109 (dk_at dksX0_who_1 0 rfl rfl)
theorem dX0_who_25 : decode cX0_who 25 = .ok (.iload_n 2, 1) := dk_28 (dk_at dksX0_who_1 3 rfl rfl)
theorem dX0_who_26 : decode cX0_who 26 = .ok (.aload_n 0, 1) := dk_42 (dk_at dksX0_who_1 4 rfl rfl)
theorem dX0_who_27 : decode cX0_who 27 = .ok (.getfield 45, 3) := dk_180 0 45 (dk_at dksX0_who_1 5 rfl rfl)
theorem dX0_who_30 : decode cX0_who 30 = .ok (.invokevirtual 167, 3) := dk_182 0 167 (dk_at dksX0_who_1 8 rfl rfl)
theorem dX0_who_33 : decode cX0_who 33 = .ok (.invokevirtual 290, 3) := dk_182 1 34 (dk_at dksX0_who_1 11 rfl rfl)
theorem dX0_who_36 : decode cX0_who 36 = .ok (.astore_n 3, 1) := dk_78 (dk_at dksX0_who_1 14 rfl rfl)
theorem dX0_who_37 : decode cX0_who 37 = .ok (.iconst 0, 1) := dk_3 (dk_at dksX0_who_1 15 rfl rfl)
theorem dX0_who_38 : decode cX0_who 38 = .ok (.istore 4, 2) := dk_54 4 (dk_at dksX0_who_1 16 rfl rfl)
theorem dX0_who_40 : decode cX0_who 40 = .ok (.iconst 0, 1) := dk_3 (dk_at dksX0_who_1 18 rfl rfl)
theorem dX0_who_41 : decode cX0_who 41 = .ok (.istore 5, 2) := dk_54 5 (dk_at dksX0_who_1 19 rfl rfl)
theorem dX0_who_43 : decode cX0_who 43 = .ok (.iload 5, 2) := dk_21 5 (dk_at dksX0_who_1 21 rfl rfl)
theorem dX0_who_45 : decode cX0_who 45 = .ok (.aload_n 0, 1) := dk_42 (dk_at dksX0_who_1 23 rfl rfl)
theorem dX0_who_46 : decode cX0_who 46 = .ok (.getfield 45, 3) := dk_180 0 45 (dk_at dksX0_who_2 0 rfl rfl)
theorem dX0_who_49 : decode cX0_who 49 = .ok (.getfield 175, 3) := dk_180 0 175 (dk_at dksX0_who_2 3 rfl rfl)
theorem dX0_who_52 : decode cX0_who 52 = .ok (.if_icmp .ge 50, 3) := dk_162 0 50 (dk_at dksX0_who_2 6 rfl rfl)
theorem dX0_who_55 : decode cX0_who 55 = .ok (.iload 4, 2) := dk_21 4 (dk_at dksX0_who_2 9 rfl rfl)
theorem dX0_who_57 : decode cX0_who 57 = .ok (.aload_n 0, 1) := dk_42 (dk_at dksX0_who_2 11 rfl rfl)
theorem dX0_who_58 : decode cX0_who 58 = .ok (.aload_n 0, 1) := dk_42 (dk_at dksX0_who_2 12 rfl rfl)
theorem dX0_who_59 : decode cX0_who 59 = .ok (.getfield 45, 3) := dk_180 0 45 (dk_at dksX0_who_2 13 rfl rfl)
theorem dX0_who_62 : decode cX0_who 62 = .ok (.getfield 220, 3) := dk_180 0 220 (dk_at dksX0_who_2 16 rfl rfl)
theorem dX0_who_65 : decode cX0_who 65 = .ok (.iload 5, 2) := dk_21 5 (dk_at dksX0_who_2 19 rfl rfl)
theorem dX0_who_67 : decode cX0_who 67 = .ok (.iaload, 1) := dk_46 (dk_at dksX0_who_2 21 rfl rfl)
theorem dX0_who_68 : decode cX0_who 68 = .ok (.aload_n 0, 1) := dk_42 (dk_at dksX0_who_2 22 rfl rfl)
theorem dX0_who_69 : decode cX0_who 69 = .ok (.getfield 45, 3) := dk_180 0 45 (dk_at dksX0_who_3 0 rfl rfl)
theorem dX0_who_72 : decode cX0_who 72 = .ok (.getfield 223, 3) := dk_180 0 223 (dk_at dksX0_who_3 3 rfl rfl)
theorem dX0_who_75 : decode cX0_who 75 = .ok (.iload 5, 2) := dk_21 5 (dk_at dksX0_who_3 6 rfl rfl)
theorem dX0_who_77 : decode cX0_who 77 = .ok (.iaload, 1) := dk_46 (dk_at dksX0_who_3 8 rfl rfl)
theorem dX0_who_78 : decode cX0_who 78 = .ok (.aload_n 3, 1) := dk_45 (dk_at dksX0_who_3 9 rfl rfl)
theorem dX0_who_79 : decode cX0_who 79 = .ok (.invokevirtual 310, 3) := dk_182 1 54 (dk_at dksX0_who_3 10 rfl rfl)
theorem dX0_who_82 : decode cX0_who 82 = .ok (.ifCond .eq 10, 3) := dk_153 0 10 (dk_at dksX0_who_3 13 rfl rfl)
theorem dX0_who_85 : decode cX0_who 85 = .ok (.iconst 1, 1) := dk_4 (dk_at dksX0_who_3 16 rfl rfl)
theorem dX0_who_86 : decode cX0_who 86 = .ok (.iload 5, 2) := dk_21 5 (dk_at dksX0_who_3 17 rfl rfl)
theorem dX0_who_88 : decode cX0_who 88 = .ok (.ishl, 1) := dk_120 (dk_at dksX0_who_3 19 rfl rfl)
theorem dX0_who_89 : decode cX0_who 89 = .ok (.goto 4, 3) := dk_167 0 4 (dk_at dksX0_who_3 20 rfl rfl)
theorem dX0_who_92 : decode cX0_who 92 = .ok (.iconst 0, 1) := dk_3 (dk_at dksX0_who_3 23 rfl rfl)
theorem dX0_who_93 : decode cX0_who 93 = .ok (.ior, 1) := dk_128 (dk_at dksX0_who_4 0 rfl rfl)
theorem dX0_who_94 : decode cX0_who 94 = .ok (.istore 4, 2) := dk_54 4 (dk_at dksX0_who_4 1 rfl rfl)
theorem dX0_who_96 : decode cX0_who 96 = .ok (.iinc 5 1, 3) := dk_132 5 1 (dk_at dksX0_who_4 3 rfl rfl)
theorem dX0_who_99 : decode cX0_who 99 = .ok (.goto (-56), 3) := dk_167 255 200 (dk_at dksX0_who_4 6 rfl rfl)
theorem dX0_who_102 : decode cX0_who 102 = .ok (.aload_n 0, 1) := dk_42 (dk_at dksX0_who_4 9 rfl rfl)
theorem dX0_who_103 : decode cX0_who 103 = .ok (.iload 4, 2) := dk_21 4 (dk_at dksX0_who_4 10 rfl rfl)
theorem dX0_who_105 : decode cX0_who 105 = .ok (.invokevirtual 101, 3) := dk_182 0 101 (dk_at dksX0_who_4 12 rfl rfl)
theorem dX0_who_108 : decode cX0_who 108 = .ok (.ireturn, 1) := dk_172 (dk_at dksX0_who_4 15 rfl rfl)
theorem dX0_who_109 : decode cX0_who 109 = .ok (.astore_n 3, 1) := dk_78 (dk_at dksX0_who_4 16 rfl rfl)
theorem dX0_who_110 : decode cX0_who 110 = .ok (.aload_n 0, 1) := dk_42 (dk_at dksX0_who_4 17 rfl rfl)
theorem dX0_who_111 : decode cX0_who 111 = .ok (.aload_n 3, 1) := dk_45 (dk_at dksX0_who_4 18 rfl rfl)
theorem dX0_who_112 : decode cX0_who 112 = .ok (.invokevirtual 105, 3) := dk_182 0 105 (dk_at dksX0_who_4 19 rfl rfl)
theorem dX0_who_115 : decode cX0_who 115 = .ok (.ireturn, 1) := dk_172 (dk_at dksX0_who_4 22 rfl rfl)
abbrev cX0_clicksSo : ByteArray := prog_1_method_48_code
def yX0_clicksSo : MethodName := ⟨RX0, "clicksSo", "(II[I)Z"⟩
def dkwX0_clicksSo_3 : List UInt8 := [132, 5, 1, 167, 255, 189, 21, 4, 172]
abbrev dktX0_clicksSo_3 : List UInt8 := dkwX0_clicksSo_3 ++ []
def dkwX0_clicksSo_2 : List UInt8 := [28, 184, 1, 30, 153, 0, 7, 4, 167, 0, 4, 3, 160, 0, 7, 4, 167, 0, 4, 3, 126, 54, 4]
abbrev dktX0_clicksSo_2 : List UInt8 := dkwX0_clicksSo_2 ++ dktX0_clicksSo_3
def dkwX0_clicksSo_1 : List UInt8 := [180, 1, 38, 21, 5, 185, 1, 42, 2, 0, 192, 0, 20, 42, 180, 0, 45, 180, 0, 205, 21, 5, 46, 27]
abbrev dktX0_clicksSo_1 : List UInt8 := dkwX0_clicksSo_1 ++ dktX0_clicksSo_2
def dkwX0_clicksSo_0 : List UInt8 := [4, 54, 4, 3, 54, 5, 21, 5, 45, 190, 162, 0, 66, 21, 4, 45, 21, 5, 46, 42, 180, 0, 45]
abbrev dktX0_clicksSo_0 : List UInt8 := dkwX0_clicksSo_0 ++ dktX0_clicksSo_1
theorem dksX0_clicksSo_0 : cX0_clicksSo.data.toList.drop 0 = dktX0_clicksSo_0 := by decide +kernel
theorem dksX0_clicksSo_1 : cX0_clicksSo.data.toList.drop 23 = dktX0_clicksSo_1 := dk_seg dksX0_clicksSo_0 23 rfl rfl
theorem dksX0_clicksSo_2 : cX0_clicksSo.data.toList.drop 47 = dktX0_clicksSo_2 := dk_seg dksX0_clicksSo_1 24 rfl rfl
theorem dksX0_clicksSo_3 : cX0_clicksSo.data.toList.drop 70 = dktX0_clicksSo_3 := dk_seg dksX0_clicksSo_2 23 rfl rfl
theorem dX0_clicksSo_0 : decode cX0_clicksSo 0 = .ok (.iconst 1, 1) := dk_4 (dk_at dksX0_clicksSo_0 0 rfl rfl)
theorem dX0_clicksSo_1 : decode cX0_clicksSo 1 = .ok (.istore 4, 2) := dk_54 4 (dk_at dksX0_clicksSo_0 1 rfl rfl)
theorem dX0_clicksSo_3 : decode cX0_clicksSo 3 = .ok (.iconst 0, 1) := dk_3 (dk_at dksX0_clicksSo_0 3 rfl rfl)
theorem dX0_clicksSo_4 : decode cX0_clicksSo 4 = .ok (.istore 5, 2) := dk_54 5 (dk_at dksX0_clicksSo_0 4 rfl rfl)
theorem dX0_clicksSo_6 : decode cX0_clicksSo 6 = .ok (.iload 5, 2) := dk_21 5 (dk_at dksX0_clicksSo_0 6 rfl rfl)
theorem dX0_clicksSo_8 : decode cX0_clicksSo 8 = .ok (.aload_n 3, 1) := dk_45 (dk_at dksX0_clicksSo_0 8 rfl rfl)
theorem dX0_clicksSo_9 : decode cX0_clicksSo 9 = .ok (.arraylength, 1) := dk_190 (dk_at dksX0_clicksSo_0 9 rfl rfl)
theorem dX0_clicksSo_10 : decode cX0_clicksSo 10 = .ok (.if_icmp .ge 66, 3) := dk_162 0 66 (dk_at dksX0_clicksSo_0 10 rfl rfl)
theorem dX0_clicksSo_13 : decode cX0_clicksSo 13 = .ok (.iload 4, 2) := dk_21 4 (dk_at dksX0_clicksSo_0 13 rfl rfl)
theorem dX0_clicksSo_15 : decode cX0_clicksSo 15 = .ok (.aload_n 3, 1) := dk_45 (dk_at dksX0_clicksSo_0 15 rfl rfl)
theorem dX0_clicksSo_16 : decode cX0_clicksSo 16 = .ok (.iload 5, 2) := dk_21 5 (dk_at dksX0_clicksSo_0 16 rfl rfl)
theorem dX0_clicksSo_18 : decode cX0_clicksSo 18 = .ok (.iaload, 1) := dk_46 (dk_at dksX0_clicksSo_0 18 rfl rfl)
theorem dX0_clicksSo_19 : decode cX0_clicksSo 19 = .ok (.aload_n 0, 1) := dk_42 (dk_at dksX0_clicksSo_0 19 rfl rfl)
theorem dX0_clicksSo_20 : decode cX0_clicksSo 20 = .ok (.getfield 45, 3) := dk_180 0 45 (dk_at dksX0_clicksSo_0 20 rfl rfl)
theorem dX0_clicksSo_23 : decode cX0_clicksSo 23 = .ok (.getfield 294, 3) := dk_180 1 38 (dk_at dksX0_clicksSo_1 0 rfl rfl)
theorem dX0_clicksSo_26 : decode cX0_clicksSo 26 = .ok (.iload 5, 2) := dk_21 5 (dk_at dksX0_clicksSo_1 3 rfl rfl)
theorem dX0_clicksSo_28 : decode cX0_clicksSo 28 = .ok (.invokeinterface 298 2, 5) := by decide +kernel
theorem dX0_clicksSo_33 : decode cX0_clicksSo 33 = .ok (.checkcast 20, 3) := dk_192 0 20 (dk_at dksX0_clicksSo_1 10 rfl rfl)
theorem dX0_clicksSo_36 : decode cX0_clicksSo 36 = .ok (.aload_n 0, 1) := dk_42 (dk_at dksX0_clicksSo_1 13 rfl rfl)
theorem dX0_clicksSo_37 : decode cX0_clicksSo 37 = .ok (.getfield 45, 3) := dk_180 0 45 (dk_at dksX0_clicksSo_1 14 rfl rfl)
theorem dX0_clicksSo_40 : decode cX0_clicksSo 40 = .ok (.getfield 205, 3) := dk_180 0 205 (dk_at dksX0_clicksSo_1 17 rfl rfl)
theorem dX0_clicksSo_43 : decode cX0_clicksSo 43 = .ok (.iload 5, 2) := dk_21 5 (dk_at dksX0_clicksSo_1 20 rfl rfl)
theorem dX0_clicksSo_45 : decode cX0_clicksSo 45 = .ok (.iaload, 1) := dk_46 (dk_at dksX0_clicksSo_1 22 rfl rfl)
theorem dX0_clicksSo_46 : decode cX0_clicksSo 46 = .ok (.iload_n 1, 1) := dk_27 (dk_at dksX0_clicksSo_1 23 rfl rfl)
theorem dX0_clicksSo_47 : decode cX0_clicksSo 47 = .ok (.iload_n 2, 1) := dk_28 (dk_at dksX0_clicksSo_2 0 rfl rfl)
theorem dX0_clicksSo_48 : decode cX0_clicksSo 48 = .ok (.invokestatic 286, 3) := dk_184 1 30 (dk_at dksX0_clicksSo_2 1 rfl rfl)
theorem dX0_clicksSo_51 : decode cX0_clicksSo 51 = .ok (.ifCond .eq 7, 3) := dk_153 0 7 (dk_at dksX0_clicksSo_2 4 rfl rfl)
theorem dX0_clicksSo_54 : decode cX0_clicksSo 54 = .ok (.iconst 1, 1) := dk_4 (dk_at dksX0_clicksSo_2 7 rfl rfl)
theorem dX0_clicksSo_55 : decode cX0_clicksSo 55 = .ok (.goto 4, 3) := dk_167 0 4 (dk_at dksX0_clicksSo_2 8 rfl rfl)
theorem dX0_clicksSo_58 : decode cX0_clicksSo 58 = .ok (.iconst 0, 1) := dk_3 (dk_at dksX0_clicksSo_2 11 rfl rfl)
theorem dX0_clicksSo_59 : decode cX0_clicksSo 59 = .ok (.if_icmp .ne 7, 3) := dk_160 0 7 (dk_at dksX0_clicksSo_2 12 rfl rfl)
theorem dX0_clicksSo_62 : decode cX0_clicksSo 62 = .ok (.iconst 1, 1) := dk_4 (dk_at dksX0_clicksSo_2 15 rfl rfl)
theorem dX0_clicksSo_63 : decode cX0_clicksSo 63 = .ok (.goto 4, 3) := dk_167 0 4 (dk_at dksX0_clicksSo_2 16 rfl rfl)
theorem dX0_clicksSo_66 : decode cX0_clicksSo 66 = .ok (.iconst 0, 1) := dk_3 (dk_at dksX0_clicksSo_2 19 rfl rfl)
theorem dX0_clicksSo_67 : decode cX0_clicksSo 67 = .ok (.iand, 1) := dk_126 (dk_at dksX0_clicksSo_2 20 rfl rfl)
theorem dX0_clicksSo_68 : decode cX0_clicksSo 68 = .ok (.istore 4, 2) := dk_54 4 (dk_at dksX0_clicksSo_2 21 rfl rfl)
theorem dX0_clicksSo_70 : decode cX0_clicksSo 70 = .ok (.iinc 5 1, 3) := dk_132 5 1 (dk_at dksX0_clicksSo_3 0 rfl rfl)
theorem dX0_clicksSo_73 : decode cX0_clicksSo 73 = .ok (.goto (-67), 3) := dk_167 255 189 (dk_at dksX0_clicksSo_3 3 rfl rfl)
theorem dX0_clicksSo_76 : decode cX0_clicksSo 76 = .ok (.iload 4, 2) := dk_21 4 (dk_at dksX0_clicksSo_3 6 rfl rfl)
theorem dX0_clicksSo_78 : decode cX0_clicksSo 78 = .ok (.ireturn, 1) := dk_172 (dk_at dksX0_clicksSo_3 8 rfl rfl)
abbrev cX0_cares : ByteArray := prog_1_method_50_code
def yX0_cares : MethodName := ⟨RX0, "cares", "(III)I"⟩
def dkwX0_cares_4 : List UInt8 := [167, 255, 221, 42, 21, 5, 182, 0, 101, 172, 58, 4, 42, 25, 4, 182, 0, 105, 172]
abbrev dktX0_cares_4 : List UInt8 := dkwX0_cares_4 ++ []
def dkwX0_cares_3 : List UInt8 := [25, 4, 182, 1, 54, 153, 0, 10, 4, 21, 6, 120, 167, 0, 4, 3, 128, 54, 5, 132, 6, 1]
abbrev dktX0_cares_3 : List UInt8 := dkwX0_cares_3 ++ dktX0_cares_4
def dkwX0_cares_2 : List UInt8 := [182, 1, 34, 58, 4, 3, 54, 5, 3, 54, 6, 21, 6, 16, 9, 163, 0, 34, 21, 5, 42, 21, 6, 27]
abbrev dktX0_cares_2 : List UInt8 := dkwX0_cares_2 ++ dktX0_cares_3
def dkwX0_cares_1 : List UInt8 := [184, 0, 91, 154, 0, 6, 18, 97, 172, 42, 28, 182, 0, 109, 29, 42, 180, 0, 45, 182, 0, 167]
abbrev dktX0_cares_1 : List UInt8 := dkwX0_cares_1 ++ dktX0_cares_2
def dkwX0_cares_0 : List UInt8 := [42, 182, 0, 191, 154, 0, 6, 18, 171, 172, 27, 133, 9, 20, 0, 203, 184, 0, 83, 153, 0, 10, 28]
abbrev dktX0_cares_0 : List UInt8 := dkwX0_cares_0 ++ dktX0_cares_1
theorem dksX0_cares_0 : cX0_cares.data.toList.drop 0 = dktX0_cares_0 := by decide +kernel
theorem dksX0_cares_1 : cX0_cares.data.toList.drop 23 = dktX0_cares_1 := dk_seg dksX0_cares_0 23 rfl rfl
theorem dksX0_cares_2 : cX0_cares.data.toList.drop 45 = dktX0_cares_2 := dk_seg dksX0_cares_1 22 rfl rfl
theorem dksX0_cares_3 : cX0_cares.data.toList.drop 69 = dktX0_cares_3 := dk_seg dksX0_cares_2 24 rfl rfl
theorem dksX0_cares_4 : cX0_cares.data.toList.drop 91 = dktX0_cares_4 := dk_seg dksX0_cares_3 22 rfl rfl
theorem dX0_cares_0 : decode cX0_cares 0 = .ok (.aload_n 0, 1) := dk_42 (dk_at dksX0_cares_0 0 rfl rfl)
theorem dX0_cares_1 : decode cX0_cares 1 = .ok (.invokevirtual 191, 3) := dk_182 0 191 (dk_at dksX0_cares_0 1 rfl rfl)
theorem dX0_cares_4 : decode cX0_cares 4 = .ok (.ifCond .ne 6, 3) := dk_154 0 6 (dk_at dksX0_cares_0 4 rfl rfl)
theorem dX0_cares_7 : decode cX0_cares 7 = .ok (.ldc 171, 2) := dk_18 171 (dk_at dksX0_cares_0 7 rfl rfl)
theorem dX0_cares_9 : decode cX0_cares 9 = .ok (.ireturn, 1) := dk_172 (dk_at dksX0_cares_0 9 rfl rfl)
theorem dX0_cares_10 : decode cX0_cares 10 = .ok (.iload_n 1, 1) := dk_27 (dk_at dksX0_cares_0 10 rfl rfl)
theorem dX0_cares_11 : decode cX0_cares 11 = .ok (.i2l, 1) := dk_133 (dk_at dksX0_cares_0 11 rfl rfl)
theorem dX0_cares_12 : decode cX0_cares 12 = .ok (.lconst 0, 1) := dk_9 (dk_at dksX0_cares_0 12 rfl rfl)
theorem dX0_cares_13 : decode cX0_cares 13 = .ok (.ldc2_w 203, 3) := dk_20 0 203 (dk_at dksX0_cares_0 13 rfl rfl)
theorem dX0_cares_16 : decode cX0_cares 16 = .ok (.invokestatic 83, 3) := dk_184 0 83 (dk_at dksX0_cares_0 16 rfl rfl)
theorem dX0_cares_19 : decode cX0_cares 19 = .ok (.ifCond .eq 10, 3) := dk_153 0 10 (dk_at dksX0_cares_0 19 rfl rfl)
theorem dX0_cares_22 : decode cX0_cares 22 = .ok (.iload_n 2, 1) := dk_28 (dk_at dksX0_cares_0 22 rfl rfl)
theorem dX0_cares_23 : decode cX0_cares 23 = .ok (.invokestatic 91, 3) := dk_184 0 91 (dk_at dksX0_cares_1 0 rfl rfl)
theorem dX0_cares_26 : decode cX0_cares 26 = .ok (.ifCond .ne 6, 3) := dk_154 0 6 (dk_at dksX0_cares_1 3 rfl rfl)
theorem dX0_cares_29 : decode cX0_cares 29 = .ok (.ldc 97, 2) := dk_18 97 (dk_at dksX0_cares_1 6 rfl rfl)
theorem dX0_cares_31 : decode cX0_cares 31 = .ok (.ireturn, 1) := dk_172 (dk_at dksX0_cares_1 8 rfl rfl)
theorem dX0_cares_32 : decode cX0_cares 32 = .ok (.aload_n 0, 1) := dk_42 (dk_at dksX0_cares_1 9 rfl rfl)
theorem dX0_cares_33 : decode cX0_cares 33 = .ok (.iload_n 2, 1) := dk_28 (dk_at dksX0_cares_1 10 rfl rfl)
theorem dX0_cares_34 : decode cX0_cares 34 = .ok (.invokevirtual 109, 3) := dk_182 0 109 (dk_at dksX0_cares_1 11 rfl rfl)
theorem dX0_cares_37 : decode cX0_cares 37 = .ok (.iload_n 3, 1) := dk_29 (dk_at dksX0_cares_1 14 rfl rfl)
theorem dX0_cares_38 : decode cX0_cares 38 = .ok (.aload_n 0, 1) := dk_42 (dk_at dksX0_cares_1 15 rfl rfl)
theorem dX0_cares_39 : decode cX0_cares 39 = .ok (.getfield 45, 3) := dk_180 0 45 (dk_at dksX0_cares_1 16 rfl rfl)
theorem dX0_cares_42 : decode cX0_cares 42 = .ok (.invokevirtual 167, 3) := dk_182 0 167 (dk_at dksX0_cares_1 19 rfl rfl)
theorem dX0_cares_45 : decode cX0_cares 45 = .ok (.invokevirtual 290, 3) := dk_182 1 34 (dk_at dksX0_cares_2 0 rfl rfl)
theorem dX0_cares_48 : decode cX0_cares 48 = .ok (.astore 4, 2) := dk_58 4 (dk_at dksX0_cares_2 3 rfl rfl)
theorem dX0_cares_50 : decode cX0_cares 50 = .ok (.iconst 0, 1) := dk_3 (dk_at dksX0_cares_2 5 rfl rfl)
theorem dX0_cares_51 : decode cX0_cares 51 = .ok (.istore 5, 2) := dk_54 5 (dk_at dksX0_cares_2 6 rfl rfl)
theorem dX0_cares_53 : decode cX0_cares 53 = .ok (.iconst 0, 1) := dk_3 (dk_at dksX0_cares_2 8 rfl rfl)
theorem dX0_cares_54 : decode cX0_cares 54 = .ok (.istore 6, 2) := dk_54 6 (dk_at dksX0_cares_2 9 rfl rfl)
theorem dX0_cares_56 : decode cX0_cares 56 = .ok (.iload 6, 2) := dk_21 6 (dk_at dksX0_cares_2 11 rfl rfl)
theorem dX0_cares_58 : decode cX0_cares 58 = .ok (.bipush 9, 2) := dk_16 9 (dk_at dksX0_cares_2 13 rfl rfl)
theorem dX0_cares_60 : decode cX0_cares 60 = .ok (.if_icmp .gt 34, 3) := dk_163 0 34 (dk_at dksX0_cares_2 15 rfl rfl)
theorem dX0_cares_63 : decode cX0_cares 63 = .ok (.iload 5, 2) := dk_21 5 (dk_at dksX0_cares_2 18 rfl rfl)
theorem dX0_cares_65 : decode cX0_cares 65 = .ok (.aload_n 0, 1) := dk_42 (dk_at dksX0_cares_2 20 rfl rfl)
theorem dX0_cares_66 : decode cX0_cares 66 = .ok (.iload 6, 2) := dk_21 6 (dk_at dksX0_cares_2 21 rfl rfl)
theorem dX0_cares_68 : decode cX0_cares 68 = .ok (.iload_n 1, 1) := dk_27 (dk_at dksX0_cares_2 23 rfl rfl)
theorem dX0_cares_69 : decode cX0_cares 69 = .ok (.aload 4, 2) := dk_25 4 (dk_at dksX0_cares_3 0 rfl rfl)
theorem dX0_cares_71 : decode cX0_cares 71 = .ok (.invokevirtual 310, 3) := dk_182 1 54 (dk_at dksX0_cares_3 2 rfl rfl)
theorem dX0_cares_74 : decode cX0_cares 74 = .ok (.ifCond .eq 10, 3) := dk_153 0 10 (dk_at dksX0_cares_3 5 rfl rfl)
theorem dX0_cares_77 : decode cX0_cares 77 = .ok (.iconst 1, 1) := dk_4 (dk_at dksX0_cares_3 8 rfl rfl)
theorem dX0_cares_78 : decode cX0_cares 78 = .ok (.iload 6, 2) := dk_21 6 (dk_at dksX0_cares_3 9 rfl rfl)
theorem dX0_cares_80 : decode cX0_cares 80 = .ok (.ishl, 1) := dk_120 (dk_at dksX0_cares_3 11 rfl rfl)
theorem dX0_cares_81 : decode cX0_cares 81 = .ok (.goto 4, 3) := dk_167 0 4 (dk_at dksX0_cares_3 12 rfl rfl)
theorem dX0_cares_84 : decode cX0_cares 84 = .ok (.iconst 0, 1) := dk_3 (dk_at dksX0_cares_3 15 rfl rfl)
theorem dX0_cares_85 : decode cX0_cares 85 = .ok (.ior, 1) := dk_128 (dk_at dksX0_cares_3 16 rfl rfl)
theorem dX0_cares_86 : decode cX0_cares 86 = .ok (.istore 5, 2) := dk_54 5 (dk_at dksX0_cares_3 17 rfl rfl)
theorem dX0_cares_88 : decode cX0_cares 88 = .ok (.iinc 6 1, 3) := dk_132 6 1 (dk_at dksX0_cares_3 19 rfl rfl)
theorem dX0_cares_91 : decode cX0_cares 91 = .ok (.goto (-35), 3) := dk_167 255 221 (dk_at dksX0_cares_4 0 rfl rfl)
theorem dX0_cares_94 : decode cX0_cares 94 = .ok (.aload_n 0, 1) := dk_42 (dk_at dksX0_cares_4 3 rfl rfl)
theorem dX0_cares_95 : decode cX0_cares 95 = .ok (.iload 5, 2) := dk_21 5 (dk_at dksX0_cares_4 4 rfl rfl)
theorem dX0_cares_97 : decode cX0_cares 97 = .ok (.invokevirtual 101, 3) := dk_182 0 101 (dk_at dksX0_cares_4 6 rfl rfl)
theorem dX0_cares_100 : decode cX0_cares 100 = .ok (.ireturn, 1) := dk_172 (dk_at dksX0_cares_4 9 rfl rfl)
theorem dX0_cares_101 : decode cX0_cares 101 = .ok (.astore 4, 2) := dk_58 4 (dk_at dksX0_cares_4 10 rfl rfl)
theorem dX0_cares_103 : decode cX0_cares 103 = .ok (.aload_n 0, 1) := dk_42 (dk_at dksX0_cares_4 12 rfl rfl)
theorem dX0_cares_104 : decode cX0_cares 104 = .ok (.aload 4, 2) := dk_25 4 (dk_at dksX0_cares_4 13 rfl rfl)
theorem dX0_cares_106 : decode cX0_cares 106 = .ok (.invokevirtual 105, 3) := dk_182 0 105 (dk_at dksX0_cares_4 15 rfl rfl)
theorem dX0_cares_109 : decode cX0_cares 109 = .ok (.ireturn, 1) := dk_172 (dk_at dksX0_cares_4 18 rfl rfl)
abbrev cX0_slip : ByteArray := prog_1_method_52_code
def yX0_slip : MethodName := ⟨RX0, "slip", "(IIII)J"⟩
def dkwX0_slip_10 : List UInt8 := [167, 0, 5, 22, 8, 22, 6, 22, 8, 184, 1, 65, 109, 173]
abbrev dktX0_slip_10 : List UInt8 := dkwX0_slip_10 ++ []
def dkwX0_slip_9 : List UInt8 := [167, 255, 202, 22, 6, 22, 11, 97, 55, 6, 132, 10, 1, 167, 255, 134, 21, 4, 154, 0, 8, 22, 6]
abbrev dktX0_slip_9 : List UInt8 := dkwX0_slip_9 ++ dktX0_slip_10
def dkwX0_slip_8 : List UInt8 := [21, 13, 184, 1, 4, 153, 0, 8, 29, 133, 167, 0, 8, 16, 10, 29, 100, 133, 105, 55, 11, 132, 13, 1]
abbrev dktX0_slip_8 : List UInt8 := dkwX0_slip_8 ++ dktX0_slip_9
def dkwX0_slip_7 : List UInt8 := [182, 0, 167, 162, 0, 48, 22, 11, 21, 5, 21, 13, 184, 1, 4, 154, 0, 7, 10, 167, 0, 23, 21, 10]
abbrev dktX0_slip_7 : List UInt8 := dkwX0_slip_7 ++ dktX0_slip_8
def dkwX0_slip_6 : List UInt8 := [180, 0, 45, 180, 0, 197, 164, 0, 6, 167, 0, 73, 10, 55, 11, 3, 54, 13, 21, 13, 42, 180, 0, 45]
abbrev dktX0_slip_6 : List UInt8 := dkwX0_slip_6 ++ dktX0_slip_7
def dkwX0_slip_5 : List UInt8 := [126, 154, 0, 105, 42, 180, 0, 45, 42, 180, 0, 45, 27, 182, 0, 236, 21, 10, 130, 28, 182, 0, 239, 42]
abbrev dktX0_slip_5 : List UInt8 := dkwX0_slip_5 ++ dktX0_slip_6
def dkwX0_slip_4 : List UInt8 := [55, 8, 132, 10, 1, 167, 255, 219, 3, 54, 10, 21, 10, 21, 5, 163, 0, 121, 21, 10, 21, 5, 2, 130]
abbrev dktX0_slip_4 : List UInt8 := dkwX0_slip_4 ++ dktX0_slip_5
def dkwX0_slip_3 : List UInt8 := [162, 0, 31, 22, 8, 21, 5, 21, 10, 184, 1, 4, 153, 0, 9, 20, 1, 58, 167, 0, 4, 10, 105]
abbrev dktX0_slip_3 : List UInt8 := dkwX0_slip_3 ++ dktX0_slip_4
def dkwX0_slip_2 : List UInt8 := [182, 1, 62, 126, 54, 5, 9, 55, 6, 10, 55, 8, 3, 54, 10, 21, 10, 42, 180, 0, 45, 182, 0, 167]
abbrev dktX0_slip_2 : List UInt8 := dkwX0_slip_2 ++ dktX0_slip_3
def dkwX0_slip_1 : List UInt8 := [184, 0, 83, 153, 0, 11, 21, 4, 184, 0, 254, 154, 0, 7, 20, 1, 60, 173, 28, 42, 180, 0, 45]
abbrev dktX0_slip_1 : List UInt8 := dkwX0_slip_1 ++ dktX0_slip_2
def dkwX0_slip_0 : List UInt8 := [42, 27, 182, 0, 178, 153, 0, 31, 42, 28, 182, 0, 181, 153, 0, 23, 29, 133, 9, 20, 1, 58]
abbrev dktX0_slip_0 : List UInt8 := dkwX0_slip_0 ++ dktX0_slip_1
theorem dksX0_slip_0 : cX0_slip.data.toList.drop 0 = dktX0_slip_0 := by decide +kernel
theorem dksX0_slip_1 : cX0_slip.data.toList.drop 22 = dktX0_slip_1 := dk_seg dksX0_slip_0 22 rfl rfl
theorem dksX0_slip_2 : cX0_slip.data.toList.drop 45 = dktX0_slip_2 := dk_seg dksX0_slip_1 23 rfl rfl
theorem dksX0_slip_3 : cX0_slip.data.toList.drop 69 = dktX0_slip_3 := dk_seg dksX0_slip_2 24 rfl rfl
theorem dksX0_slip_4 : cX0_slip.data.toList.drop 92 = dktX0_slip_4 := dk_seg dksX0_slip_3 23 rfl rfl
theorem dksX0_slip_5 : cX0_slip.data.toList.drop 116 = dktX0_slip_5 := dk_seg dksX0_slip_4 24 rfl rfl
theorem dksX0_slip_6 : cX0_slip.data.toList.drop 140 = dktX0_slip_6 := dk_seg dksX0_slip_5 24 rfl rfl
theorem dksX0_slip_7 : cX0_slip.data.toList.drop 164 = dktX0_slip_7 := dk_seg dksX0_slip_6 24 rfl rfl
theorem dksX0_slip_8 : cX0_slip.data.toList.drop 188 = dktX0_slip_8 := dk_seg dksX0_slip_7 24 rfl rfl
theorem dksX0_slip_9 : cX0_slip.data.toList.drop 212 = dktX0_slip_9 := dk_seg dksX0_slip_8 24 rfl rfl
theorem dksX0_slip_10 : cX0_slip.data.toList.drop 235 = dktX0_slip_10 := dk_seg dksX0_slip_9 23 rfl rfl
theorem dX0_slip_0 : decode cX0_slip 0 = .ok (.aload_n 0, 1) := dk_42 (dk_at dksX0_slip_0 0 rfl rfl)
theorem dX0_slip_1 : decode cX0_slip 1 = .ok (.iload_n 1, 1) := dk_27 (dk_at dksX0_slip_0 1 rfl rfl)
theorem dX0_slip_2 : decode cX0_slip 2 = .ok (.invokevirtual 178, 3) := dk_182 0 178 (dk_at dksX0_slip_0 2 rfl rfl)
theorem dX0_slip_5 : decode cX0_slip 5 = .ok (.ifCond .eq 31, 3) := dk_153 0 31 (dk_at dksX0_slip_0 5 rfl rfl)
theorem dX0_slip_8 : decode cX0_slip 8 = .ok (.aload_n 0, 1) := dk_42 (dk_at dksX0_slip_0 8 rfl rfl)
theorem dX0_slip_9 : decode cX0_slip 9 = .ok (.iload_n 2, 1) := dk_28 (dk_at dksX0_slip_0 9 rfl rfl)
theorem dX0_slip_10 : decode cX0_slip 10 = .ok (.invokevirtual 181, 3) := dk_182 0 181 (dk_at dksX0_slip_0 10 rfl rfl)
theorem dX0_slip_13 : decode cX0_slip 13 = .ok (.ifCond .eq 23, 3) := dk_153 0 23 (dk_at dksX0_slip_0 13 rfl rfl)
theorem dX0_slip_16 : decode cX0_slip 16 = .ok (.iload_n 3, 1) := dk_29 (dk_at dksX0_slip_0 16 rfl rfl)
theorem dX0_slip_17 : decode cX0_slip 17 = .ok (.i2l, 1) := dk_133 (dk_at dksX0_slip_0 17 rfl rfl)
theorem dX0_slip_18 : decode cX0_slip 18 = .ok (.lconst 0, 1) := dk_9 (dk_at dksX0_slip_0 18 rfl rfl)
theorem dX0_slip_19 : decode cX0_slip 19 = .ok (.ldc2_w 314, 3) := dk_20 1 58 (dk_at dksX0_slip_0 19 rfl rfl)
theorem dX0_slip_22 : decode cX0_slip 22 = .ok (.invokestatic 83, 3) := dk_184 0 83 (dk_at dksX0_slip_1 0 rfl rfl)
theorem dX0_slip_25 : decode cX0_slip 25 = .ok (.ifCond .eq 11, 3) := dk_153 0 11 (dk_at dksX0_slip_1 3 rfl rfl)
theorem dX0_slip_28 : decode cX0_slip 28 = .ok (.iload 4, 2) := dk_21 4 (dk_at dksX0_slip_1 6 rfl rfl)
theorem dX0_slip_30 : decode cX0_slip 30 = .ok (.invokestatic 254, 3) := dk_184 0 254 (dk_at dksX0_slip_1 8 rfl rfl)
theorem dX0_slip_33 : decode cX0_slip 33 = .ok (.ifCond .ne 7, 3) := dk_154 0 7 (dk_at dksX0_slip_1 11 rfl rfl)
theorem dX0_slip_36 : decode cX0_slip 36 = .ok (.ldc2_w 316, 3) := dk_20 1 60 (dk_at dksX0_slip_1 14 rfl rfl)
theorem dX0_slip_39 : decode cX0_slip 39 = .ok (.lreturn, 1) := dk_173 (dk_at dksX0_slip_1 17 rfl rfl)
theorem dX0_slip_40 : decode cX0_slip 40 = .ok (.iload_n 2, 1) := dk_28 (dk_at dksX0_slip_1 18 rfl rfl)
theorem dX0_slip_41 : decode cX0_slip 41 = .ok (.aload_n 0, 1) := dk_42 (dk_at dksX0_slip_1 19 rfl rfl)
theorem dX0_slip_42 : decode cX0_slip 42 = .ok (.getfield 45, 3) := dk_180 0 45 (dk_at dksX0_slip_1 20 rfl rfl)
theorem dX0_slip_45 : decode cX0_slip 45 = .ok (.invokevirtual 318, 3) := dk_182 1 62 (dk_at dksX0_slip_2 0 rfl rfl)
theorem dX0_slip_48 : decode cX0_slip 48 = .ok (.iand, 1) := dk_126 (dk_at dksX0_slip_2 3 rfl rfl)
theorem dX0_slip_49 : decode cX0_slip 49 = .ok (.istore 5, 2) := dk_54 5 (dk_at dksX0_slip_2 4 rfl rfl)
theorem dX0_slip_51 : decode cX0_slip 51 = .ok (.lconst 0, 1) := dk_9 (dk_at dksX0_slip_2 6 rfl rfl)
theorem dX0_slip_52 : decode cX0_slip 52 = .ok (.lstore 6, 2) := dk_55 6 (dk_at dksX0_slip_2 7 rfl rfl)
theorem dX0_slip_54 : decode cX0_slip 54 = .ok (.lconst 1, 1) := dk_10 (dk_at dksX0_slip_2 9 rfl rfl)
theorem dX0_slip_55 : decode cX0_slip 55 = .ok (.lstore 8, 2) := dk_55 8 (dk_at dksX0_slip_2 10 rfl rfl)
theorem dX0_slip_57 : decode cX0_slip 57 = .ok (.iconst 0, 1) := dk_3 (dk_at dksX0_slip_2 12 rfl rfl)
theorem dX0_slip_58 : decode cX0_slip 58 = .ok (.istore 10, 2) := dk_54 10 (dk_at dksX0_slip_2 13 rfl rfl)
theorem dX0_slip_60 : decode cX0_slip 60 = .ok (.iload 10, 2) := dk_21 10 (dk_at dksX0_slip_2 15 rfl rfl)
theorem dX0_slip_62 : decode cX0_slip 62 = .ok (.aload_n 0, 1) := dk_42 (dk_at dksX0_slip_2 17 rfl rfl)
theorem dX0_slip_63 : decode cX0_slip 63 = .ok (.getfield 45, 3) := dk_180 0 45 (dk_at dksX0_slip_2 18 rfl rfl)
theorem dX0_slip_66 : decode cX0_slip 66 = .ok (.invokevirtual 167, 3) := dk_182 0 167 (dk_at dksX0_slip_2 21 rfl rfl)
theorem dX0_slip_69 : decode cX0_slip 69 = .ok (.if_icmp .ge 31, 3) := dk_162 0 31 (dk_at dksX0_slip_3 0 rfl rfl)
theorem dX0_slip_72 : decode cX0_slip 72 = .ok (.lload 8, 2) := dk_22 8 (dk_at dksX0_slip_3 3 rfl rfl)
theorem dX0_slip_74 : decode cX0_slip 74 = .ok (.iload 5, 2) := dk_21 5 (dk_at dksX0_slip_3 5 rfl rfl)
theorem dX0_slip_76 : decode cX0_slip 76 = .ok (.iload 10, 2) := dk_21 10 (dk_at dksX0_slip_3 7 rfl rfl)
theorem dX0_slip_78 : decode cX0_slip 78 = .ok (.invokestatic 260, 3) := dk_184 1 4 (dk_at dksX0_slip_3 9 rfl rfl)
theorem dX0_slip_81 : decode cX0_slip 81 = .ok (.ifCond .eq 9, 3) := dk_153 0 9 (dk_at dksX0_slip_3 12 rfl rfl)
theorem dX0_slip_84 : decode cX0_slip 84 = .ok (.ldc2_w 314, 3) := dk_20 1 58 (dk_at dksX0_slip_3 15 rfl rfl)
theorem dX0_slip_87 : decode cX0_slip 87 = .ok (.goto 4, 3) := dk_167 0 4 (dk_at dksX0_slip_3 18 rfl rfl)
theorem dX0_slip_90 : decode cX0_slip 90 = .ok (.lconst 1, 1) := dk_10 (dk_at dksX0_slip_3 21 rfl rfl)
theorem dX0_slip_91 : decode cX0_slip 91 = .ok (.lmul, 1) := dk_105 (dk_at dksX0_slip_3 22 rfl rfl)
theorem dX0_slip_92 : decode cX0_slip 92 = .ok (.lstore 8, 2) := dk_55 8 (dk_at dksX0_slip_4 0 rfl rfl)
theorem dX0_slip_94 : decode cX0_slip 94 = .ok (.iinc 10 1, 3) := dk_132 10 1 (dk_at dksX0_slip_4 2 rfl rfl)
theorem dX0_slip_97 : decode cX0_slip 97 = .ok (.goto (-37), 3) := dk_167 255 219 (dk_at dksX0_slip_4 5 rfl rfl)
theorem dX0_slip_100 : decode cX0_slip 100 = .ok (.iconst 0, 1) := dk_3 (dk_at dksX0_slip_4 8 rfl rfl)
theorem dX0_slip_101 : decode cX0_slip 101 = .ok (.istore 10, 2) := dk_54 10 (dk_at dksX0_slip_4 9 rfl rfl)
theorem dX0_slip_103 : decode cX0_slip 103 = .ok (.iload 10, 2) := dk_21 10 (dk_at dksX0_slip_4 11 rfl rfl)
theorem dX0_slip_105 : decode cX0_slip 105 = .ok (.iload 5, 2) := dk_21 5 (dk_at dksX0_slip_4 13 rfl rfl)
theorem dX0_slip_107 : decode cX0_slip 107 = .ok (.if_icmp .gt 121, 3) := dk_163 0 121 (dk_at dksX0_slip_4 15 rfl rfl)
theorem dX0_slip_110 : decode cX0_slip 110 = .ok (.iload 10, 2) := dk_21 10 (dk_at dksX0_slip_4 18 rfl rfl)
theorem dX0_slip_112 : decode cX0_slip 112 = .ok (.iload 5, 2) := dk_21 5 (dk_at dksX0_slip_4 20 rfl rfl)
theorem dX0_slip_114 : decode cX0_slip 114 = .ok (.iconst (-1), 1) := dk_2 (dk_at dksX0_slip_4 22 rfl rfl)
theorem dX0_slip_115 : decode cX0_slip 115 = .ok (.ixor, 1) := dk_130 (dk_at dksX0_slip_4 23 rfl rfl)
theorem dX0_slip_116 : decode cX0_slip 116 = .ok (.iand, 1) := dk_126 (dk_at dksX0_slip_5 0 rfl rfl)
theorem dX0_slip_117 : decode cX0_slip 117 = .ok (.ifCond .ne 105, 3) := dk_154 0 105 (dk_at dksX0_slip_5 1 rfl rfl)
theorem dX0_slip_120 : decode cX0_slip 120 = .ok (.aload_n 0, 1) := dk_42 (dk_at dksX0_slip_5 4 rfl rfl)
theorem dX0_slip_121 : decode cX0_slip 121 = .ok (.getfield 45, 3) := dk_180 0 45 (dk_at dksX0_slip_5 5 rfl rfl)
theorem dX0_slip_124 : decode cX0_slip 124 = .ok (.aload_n 0, 1) := dk_42 (dk_at dksX0_slip_5 8 rfl rfl)
theorem dX0_slip_125 : decode cX0_slip 125 = .ok (.getfield 45, 3) := dk_180 0 45 (dk_at dksX0_slip_5 9 rfl rfl)
theorem dX0_slip_128 : decode cX0_slip 128 = .ok (.iload_n 1, 1) := dk_27 (dk_at dksX0_slip_5 12 rfl rfl)
theorem dX0_slip_129 : decode cX0_slip 129 = .ok (.invokevirtual 236, 3) := dk_182 0 236 (dk_at dksX0_slip_5 13 rfl rfl)
theorem dX0_slip_132 : decode cX0_slip 132 = .ok (.iload 10, 2) := dk_21 10 (dk_at dksX0_slip_5 16 rfl rfl)
theorem dX0_slip_134 : decode cX0_slip 134 = .ok (.ixor, 1) := dk_130 (dk_at dksX0_slip_5 18 rfl rfl)
theorem dX0_slip_135 : decode cX0_slip 135 = .ok (.iload_n 2, 1) := dk_28 (dk_at dksX0_slip_5 19 rfl rfl)
theorem dX0_slip_136 : decode cX0_slip 136 = .ok (.invokevirtual 239, 3) := dk_182 0 239 (dk_at dksX0_slip_5 20 rfl rfl)
theorem dX0_slip_139 : decode cX0_slip 139 = .ok (.aload_n 0, 1) := dk_42 (dk_at dksX0_slip_5 23 rfl rfl)
theorem dX0_slip_140 : decode cX0_slip 140 = .ok (.getfield 45, 3) := dk_180 0 45 (dk_at dksX0_slip_6 0 rfl rfl)
theorem dX0_slip_143 : decode cX0_slip 143 = .ok (.getfield 197, 3) := dk_180 0 197 (dk_at dksX0_slip_6 3 rfl rfl)
theorem dX0_slip_146 : decode cX0_slip 146 = .ok (.if_icmp .le 6, 3) := dk_164 0 6 (dk_at dksX0_slip_6 6 rfl rfl)
theorem dX0_slip_149 : decode cX0_slip 149 = .ok (.goto 73, 3) := dk_167 0 73 (dk_at dksX0_slip_6 9 rfl rfl)
theorem dX0_slip_152 : decode cX0_slip 152 = .ok (.lconst 1, 1) := dk_10 (dk_at dksX0_slip_6 12 rfl rfl)
theorem dX0_slip_153 : decode cX0_slip 153 = .ok (.lstore 11, 2) := dk_55 11 (dk_at dksX0_slip_6 13 rfl rfl)
theorem dX0_slip_155 : decode cX0_slip 155 = .ok (.iconst 0, 1) := dk_3 (dk_at dksX0_slip_6 15 rfl rfl)
theorem dX0_slip_156 : decode cX0_slip 156 = .ok (.istore 13, 2) := dk_54 13 (dk_at dksX0_slip_6 16 rfl rfl)
theorem dX0_slip_158 : decode cX0_slip 158 = .ok (.iload 13, 2) := dk_21 13 (dk_at dksX0_slip_6 18 rfl rfl)
theorem dX0_slip_160 : decode cX0_slip 160 = .ok (.aload_n 0, 1) := dk_42 (dk_at dksX0_slip_6 20 rfl rfl)
theorem dX0_slip_161 : decode cX0_slip 161 = .ok (.getfield 45, 3) := dk_180 0 45 (dk_at dksX0_slip_6 21 rfl rfl)
theorem dX0_slip_164 : decode cX0_slip 164 = .ok (.invokevirtual 167, 3) := dk_182 0 167 (dk_at dksX0_slip_7 0 rfl rfl)
theorem dX0_slip_167 : decode cX0_slip 167 = .ok (.if_icmp .ge 48, 3) := dk_162 0 48 (dk_at dksX0_slip_7 3 rfl rfl)
theorem dX0_slip_170 : decode cX0_slip 170 = .ok (.lload 11, 2) := dk_22 11 (dk_at dksX0_slip_7 6 rfl rfl)
theorem dX0_slip_172 : decode cX0_slip 172 = .ok (.iload 5, 2) := dk_21 5 (dk_at dksX0_slip_7 8 rfl rfl)
theorem dX0_slip_174 : decode cX0_slip 174 = .ok (.iload 13, 2) := dk_21 13 (dk_at dksX0_slip_7 10 rfl rfl)
theorem dX0_slip_176 : decode cX0_slip 176 = .ok (.invokestatic 260, 3) := dk_184 1 4 (dk_at dksX0_slip_7 12 rfl rfl)
theorem dX0_slip_179 : decode cX0_slip 179 = .ok (.ifCond .ne 7, 3) := dk_154 0 7 (dk_at dksX0_slip_7 15 rfl rfl)
theorem dX0_slip_182 : decode cX0_slip 182 = .ok (.lconst 1, 1) := dk_10 (dk_at dksX0_slip_7 18 rfl rfl)
theorem dX0_slip_183 : decode cX0_slip 183 = .ok (.goto 23, 3) := dk_167 0 23 (dk_at dksX0_slip_7 19 rfl rfl)
theorem dX0_slip_186 : decode cX0_slip 186 = .ok (.iload 10, 2) := dk_21 10 (dk_at dksX0_slip_7 22 rfl rfl)
theorem dX0_slip_188 : decode cX0_slip 188 = .ok (.iload 13, 2) := dk_21 13 (dk_at dksX0_slip_8 0 rfl rfl)
theorem dX0_slip_190 : decode cX0_slip 190 = .ok (.invokestatic 260, 3) := dk_184 1 4 (dk_at dksX0_slip_8 2 rfl rfl)
theorem dX0_slip_193 : decode cX0_slip 193 = .ok (.ifCond .eq 8, 3) := dk_153 0 8 (dk_at dksX0_slip_8 5 rfl rfl)
theorem dX0_slip_196 : decode cX0_slip 196 = .ok (.iload_n 3, 1) := dk_29 (dk_at dksX0_slip_8 8 rfl rfl)
theorem dX0_slip_197 : decode cX0_slip 197 = .ok (.i2l, 1) := dk_133 (dk_at dksX0_slip_8 9 rfl rfl)
theorem dX0_slip_198 : decode cX0_slip 198 = .ok (.goto 8, 3) := dk_167 0 8 (dk_at dksX0_slip_8 10 rfl rfl)
theorem dX0_slip_201 : decode cX0_slip 201 = .ok (.bipush 10, 2) := dk_16 10 (dk_at dksX0_slip_8 13 rfl rfl)
theorem dX0_slip_203 : decode cX0_slip 203 = .ok (.iload_n 3, 1) := dk_29 (dk_at dksX0_slip_8 15 rfl rfl)
theorem dX0_slip_204 : decode cX0_slip 204 = .ok (.isub, 1) := dk_100 (dk_at dksX0_slip_8 16 rfl rfl)
theorem dX0_slip_205 : decode cX0_slip 205 = .ok (.i2l, 1) := dk_133 (dk_at dksX0_slip_8 17 rfl rfl)
theorem dX0_slip_206 : decode cX0_slip 206 = .ok (.lmul, 1) := dk_105 (dk_at dksX0_slip_8 18 rfl rfl)
theorem dX0_slip_207 : decode cX0_slip 207 = .ok (.lstore 11, 2) := dk_55 11 (dk_at dksX0_slip_8 19 rfl rfl)
theorem dX0_slip_209 : decode cX0_slip 209 = .ok (.iinc 13 1, 3) := dk_132 13 1 (dk_at dksX0_slip_8 21 rfl rfl)
theorem dX0_slip_212 : decode cX0_slip 212 = .ok (.goto (-54), 3) := dk_167 255 202 (dk_at dksX0_slip_9 0 rfl rfl)
theorem dX0_slip_215 : decode cX0_slip 215 = .ok (.lload 6, 2) := dk_22 6 (dk_at dksX0_slip_9 3 rfl rfl)
theorem dX0_slip_217 : decode cX0_slip 217 = .ok (.lload 11, 2) := dk_22 11 (dk_at dksX0_slip_9 5 rfl rfl)
theorem dX0_slip_219 : decode cX0_slip 219 = .ok (.ladd, 1) := dk_97 (dk_at dksX0_slip_9 7 rfl rfl)
theorem dX0_slip_220 : decode cX0_slip 220 = .ok (.lstore 6, 2) := dk_55 6 (dk_at dksX0_slip_9 8 rfl rfl)
theorem dX0_slip_222 : decode cX0_slip 222 = .ok (.iinc 10 1, 3) := dk_132 10 1 (dk_at dksX0_slip_9 10 rfl rfl)
theorem dX0_slip_225 : decode cX0_slip 225 = .ok (.goto (-122), 3) := dk_167 255 134 (dk_at dksX0_slip_9 13 rfl rfl)
theorem dX0_slip_228 : decode cX0_slip 228 = .ok (.iload 4, 2) := dk_21 4 (dk_at dksX0_slip_9 16 rfl rfl)
theorem dX0_slip_230 : decode cX0_slip 230 = .ok (.ifCond .ne 8, 3) := dk_154 0 8 (dk_at dksX0_slip_9 18 rfl rfl)
theorem dX0_slip_233 : decode cX0_slip 233 = .ok (.lload 6, 2) := dk_22 6 (dk_at dksX0_slip_9 21 rfl rfl)
theorem dX0_slip_235 : decode cX0_slip 235 = .ok (.goto 5, 3) := dk_167 0 5 (dk_at dksX0_slip_10 0 rfl rfl)
theorem dX0_slip_238 : decode cX0_slip 238 = .ok (.lload 8, 2) := dk_22 8 (dk_at dksX0_slip_10 3 rfl rfl)
theorem dX0_slip_240 : decode cX0_slip 240 = .ok (.lload 6, 2) := dk_22 6 (dk_at dksX0_slip_10 5 rfl rfl)
theorem dX0_slip_242 : decode cX0_slip 242 = .ok (.lload 8, 2) := dk_22 8 (dk_at dksX0_slip_10 7 rfl rfl)
theorem dX0_slip_244 : decode cX0_slip 244 = .ok (.invokestatic 321, 3) := dk_184 1 65 (dk_at dksX0_slip_10 9 rfl rfl)
theorem dX0_slip_247 : decode cX0_slip 247 = .ok (.ldiv, 1) := dk_109 (dk_at dksX0_slip_10 12 rfl rfl)
theorem dX0_slip_248 : decode cX0_slip 248 = .ok (.lreturn, 1) := dk_173 (dk_at dksX0_slip_10 13 rfl rfl)
abbrev cX0_common : ByteArray := prog_1_method_51_code
def yX0_common : MethodName := ⟨RX0, "common", "(JJ)J"⟩
def dkwX0_common_1 : List UInt8 := [22, 8, 55, 6, 167, 255, 234, 22, 4, 173]
abbrev dktX0_common_1 : List UInt8 := dkwX0_common_1 ++ []
def dkwX0_common_0 : List UInt8 := [30, 55, 4, 32, 55, 6, 22, 6, 9, 148, 153, 0, 21, 22, 4, 22, 6, 113, 55, 8, 22, 6, 55, 4]
abbrev dktX0_common_0 : List UInt8 := dkwX0_common_0 ++ dktX0_common_1
theorem dksX0_common_0 : cX0_common.data.toList.drop 0 = dktX0_common_0 := by decide +kernel
theorem dksX0_common_1 : cX0_common.data.toList.drop 24 = dktX0_common_1 := dk_seg dksX0_common_0 24 rfl rfl
theorem dX0_common_0 : decode cX0_common 0 = .ok (.lload_n 0, 1) := dk_30 (dk_at dksX0_common_0 0 rfl rfl)
theorem dX0_common_1 : decode cX0_common 1 = .ok (.lstore 4, 2) := dk_55 4 (dk_at dksX0_common_0 1 rfl rfl)
theorem dX0_common_3 : decode cX0_common 3 = .ok (.lload_n 2, 1) := dk_32 (dk_at dksX0_common_0 3 rfl rfl)
theorem dX0_common_4 : decode cX0_common 4 = .ok (.lstore 6, 2) := dk_55 6 (dk_at dksX0_common_0 4 rfl rfl)
theorem dX0_common_6 : decode cX0_common 6 = .ok (.lload 6, 2) := dk_22 6 (dk_at dksX0_common_0 6 rfl rfl)
theorem dX0_common_8 : decode cX0_common 8 = .ok (.lconst 0, 1) := dk_9 (dk_at dksX0_common_0 8 rfl rfl)
theorem dX0_common_9 : decode cX0_common 9 = .ok (.lcmp, 1) := dk_148 (dk_at dksX0_common_0 9 rfl rfl)
theorem dX0_common_10 : decode cX0_common 10 = .ok (.ifCond .eq 21, 3) := dk_153 0 21 (dk_at dksX0_common_0 10 rfl rfl)
theorem dX0_common_13 : decode cX0_common 13 = .ok (.lload 4, 2) := dk_22 4 (dk_at dksX0_common_0 13 rfl rfl)
theorem dX0_common_15 : decode cX0_common 15 = .ok (.lload 6, 2) := dk_22 6 (dk_at dksX0_common_0 15 rfl rfl)
theorem dX0_common_17 : decode cX0_common 17 = .ok (.lrem, 1) := dk_113 (dk_at dksX0_common_0 17 rfl rfl)
theorem dX0_common_18 : decode cX0_common 18 = .ok (.lstore 8, 2) := dk_55 8 (dk_at dksX0_common_0 18 rfl rfl)
theorem dX0_common_20 : decode cX0_common 20 = .ok (.lload 6, 2) := dk_22 6 (dk_at dksX0_common_0 20 rfl rfl)
theorem dX0_common_22 : decode cX0_common 22 = .ok (.lstore 4, 2) := dk_55 4 (dk_at dksX0_common_0 22 rfl rfl)
theorem dX0_common_24 : decode cX0_common 24 = .ok (.lload 8, 2) := dk_22 8 (dk_at dksX0_common_1 0 rfl rfl)
theorem dX0_common_26 : decode cX0_common 26 = .ok (.lstore 6, 2) := dk_55 6 (dk_at dksX0_common_1 2 rfl rfl)
theorem dX0_common_28 : decode cX0_common 28 = .ok (.goto (-22), 3) := dk_167 255 234 (dk_at dksX0_common_1 4 rfl rfl)
theorem dX0_common_31 : decode cX0_common 31 = .ok (.lload 4, 2) := dk_22 4 (dk_at dksX0_common_1 7 rfl rfl)
theorem dX0_common_33 : decode cX0_common 33 = .ok (.lreturn, 1) := dk_173 (dk_at dksX0_common_1 9 rfl rfl)
abbrev cX0_drawn : ByteArray := prog_1_method_53_code
def yX0_drawn : MethodName := ⟨RX0, "drawn", "(III)I"⟩
def dkwX0_drawn_6 : List UInt8 := [154, 0, 8, 21, 6, 167, 0, 10, 42, 180, 0, 49, 182, 1, 79, 172]
abbrev dktX0_drawn_6 : List UInt8 := dkwX0_drawn_6 ++ []
def dkwX0_drawn_5 : List UInt8 := [126, 182, 0, 187, 153, 0, 7, 4, 167, 0, 4, 3, 96, 54, 6, 132, 7, 1, 167, 255, 184, 29]
abbrev dktX0_drawn_5 : List UInt8 := dkwX0_drawn_5 ++ dktX0_drawn_6
def dkwX0_drawn_4 : List UInt8 := [180, 0, 175, 133, 113, 136, 22, 4, 20, 1, 77, 113, 136, 4, 42, 180, 0, 45, 182, 0, 167, 120, 4, 100]
abbrev dktX0_drawn_4 : List UInt8 := dkwX0_drawn_4 ++ dktX0_drawn_5
def dkwX0_drawn_3 : List UInt8 := [22, 4, 20, 1, 73, 105, 20, 1, 75, 113, 55, 4, 21, 6, 42, 180, 0, 49, 22, 4, 42, 180, 0, 45]
abbrev dktX0_drawn_3 : List UInt8 := dkwX0_drawn_3 ++ dktX0_drawn_4
def dkwX0_drawn_2 : List UInt8 := [42, 180, 0, 45, 182, 0, 160, 87, 28, 133, 55, 4, 3, 54, 6, 3, 54, 7, 21, 7, 27, 162, 0, 72]
abbrev dktX0_drawn_2 : List UInt8 := dkwX0_drawn_2 ++ dktX0_drawn_3
def dkwX0_drawn_1 : List UInt8 := [10, 20, 1, 71, 184, 0, 83, 153, 0, 10, 29, 184, 0, 254, 154, 0, 6, 18, 97, 172, 42, 180, 0, 49]
abbrev dktX0_drawn_1 : List UInt8 := dkwX0_drawn_1 ++ dktX0_drawn_2
def dkwX0_drawn_0 : List UInt8 := [42, 182, 0, 191, 154, 0, 6, 18, 171, 172, 27, 133, 9, 20, 1, 69, 184, 0, 83, 153, 0, 22, 28, 133]
abbrev dktX0_drawn_0 : List UInt8 := dkwX0_drawn_0 ++ dktX0_drawn_1
theorem dksX0_drawn_0 : cX0_drawn.data.toList.drop 0 = dktX0_drawn_0 := by decide +kernel
theorem dksX0_drawn_1 : cX0_drawn.data.toList.drop 24 = dktX0_drawn_1 := dk_seg dksX0_drawn_0 24 rfl rfl
theorem dksX0_drawn_2 : cX0_drawn.data.toList.drop 48 = dktX0_drawn_2 := dk_seg dksX0_drawn_1 24 rfl rfl
theorem dksX0_drawn_3 : cX0_drawn.data.toList.drop 72 = dktX0_drawn_3 := dk_seg dksX0_drawn_2 24 rfl rfl
theorem dksX0_drawn_4 : cX0_drawn.data.toList.drop 96 = dktX0_drawn_4 := dk_seg dksX0_drawn_3 24 rfl rfl
theorem dksX0_drawn_5 : cX0_drawn.data.toList.drop 120 = dktX0_drawn_5 := dk_seg dksX0_drawn_4 24 rfl rfl
theorem dksX0_drawn_6 : cX0_drawn.data.toList.drop 142 = dktX0_drawn_6 := dk_seg dksX0_drawn_5 22 rfl rfl
theorem dX0_drawn_0 : decode cX0_drawn 0 = .ok (.aload_n 0, 1) := dk_42 (dk_at dksX0_drawn_0 0 rfl rfl)
theorem dX0_drawn_1 : decode cX0_drawn 1 = .ok (.invokevirtual 191, 3) := dk_182 0 191 (dk_at dksX0_drawn_0 1 rfl rfl)
theorem dX0_drawn_4 : decode cX0_drawn 4 = .ok (.ifCond .ne 6, 3) := dk_154 0 6 (dk_at dksX0_drawn_0 4 rfl rfl)
theorem dX0_drawn_7 : decode cX0_drawn 7 = .ok (.ldc 171, 2) := dk_18 171 (dk_at dksX0_drawn_0 7 rfl rfl)
theorem dX0_drawn_9 : decode cX0_drawn 9 = .ok (.ireturn, 1) := dk_172 (dk_at dksX0_drawn_0 9 rfl rfl)
theorem dX0_drawn_10 : decode cX0_drawn 10 = .ok (.iload_n 1, 1) := dk_27 (dk_at dksX0_drawn_0 10 rfl rfl)
theorem dX0_drawn_11 : decode cX0_drawn 11 = .ok (.i2l, 1) := dk_133 (dk_at dksX0_drawn_0 11 rfl rfl)
theorem dX0_drawn_12 : decode cX0_drawn 12 = .ok (.lconst 0, 1) := dk_9 (dk_at dksX0_drawn_0 12 rfl rfl)
theorem dX0_drawn_13 : decode cX0_drawn 13 = .ok (.ldc2_w 325, 3) := dk_20 1 69 (dk_at dksX0_drawn_0 13 rfl rfl)
theorem dX0_drawn_16 : decode cX0_drawn 16 = .ok (.invokestatic 83, 3) := dk_184 0 83 (dk_at dksX0_drawn_0 16 rfl rfl)
theorem dX0_drawn_19 : decode cX0_drawn 19 = .ok (.ifCond .eq 22, 3) := dk_153 0 22 (dk_at dksX0_drawn_0 19 rfl rfl)
theorem dX0_drawn_22 : decode cX0_drawn 22 = .ok (.iload_n 2, 1) := dk_28 (dk_at dksX0_drawn_0 22 rfl rfl)
theorem dX0_drawn_23 : decode cX0_drawn 23 = .ok (.i2l, 1) := dk_133 (dk_at dksX0_drawn_0 23 rfl rfl)
theorem dX0_drawn_24 : decode cX0_drawn 24 = .ok (.lconst 1, 1) := dk_10 (dk_at dksX0_drawn_1 0 rfl rfl)
theorem dX0_drawn_25 : decode cX0_drawn 25 = .ok (.ldc2_w 327, 3) := dk_20 1 71 (dk_at dksX0_drawn_1 1 rfl rfl)
theorem dX0_drawn_28 : decode cX0_drawn 28 = .ok (.invokestatic 83, 3) := dk_184 0 83 (dk_at dksX0_drawn_1 4 rfl rfl)
theorem dX0_drawn_31 : decode cX0_drawn 31 = .ok (.ifCond .eq 10, 3) := dk_153 0 10 (dk_at dksX0_drawn_1 7 rfl rfl)
theorem dX0_drawn_34 : decode cX0_drawn 34 = .ok (.iload_n 3, 1) := dk_29 (dk_at dksX0_drawn_1 10 rfl rfl)
theorem dX0_drawn_35 : decode cX0_drawn 35 = .ok (.invokestatic 254, 3) := dk_184 0 254 (dk_at dksX0_drawn_1 11 rfl rfl)
theorem dX0_drawn_38 : decode cX0_drawn 38 = .ok (.ifCond .ne 6, 3) := dk_154 0 6 (dk_at dksX0_drawn_1 14 rfl rfl)
theorem dX0_drawn_41 : decode cX0_drawn 41 = .ok (.ldc 97, 2) := dk_18 97 (dk_at dksX0_drawn_1 17 rfl rfl)
theorem dX0_drawn_43 : decode cX0_drawn 43 = .ok (.ireturn, 1) := dk_172 (dk_at dksX0_drawn_1 19 rfl rfl)
theorem dX0_drawn_44 : decode cX0_drawn 44 = .ok (.aload_n 0, 1) := dk_42 (dk_at dksX0_drawn_1 20 rfl rfl)
theorem dX0_drawn_45 : decode cX0_drawn 45 = .ok (.getfield 49, 3) := dk_180 0 49 (dk_at dksX0_drawn_1 21 rfl rfl)
theorem dX0_drawn_48 : decode cX0_drawn 48 = .ok (.aload_n 0, 1) := dk_42 (dk_at dksX0_drawn_2 0 rfl rfl)
theorem dX0_drawn_49 : decode cX0_drawn 49 = .ok (.getfield 45, 3) := dk_180 0 45 (dk_at dksX0_drawn_2 1 rfl rfl)
theorem dX0_drawn_52 : decode cX0_drawn 52 = .ok (.invokevirtual 160, 3) := dk_182 0 160 (dk_at dksX0_drawn_2 4 rfl rfl)
theorem dX0_drawn_55 : decode cX0_drawn 55 = .ok (.pop, 1) := dk_87 (dk_at dksX0_drawn_2 7 rfl rfl)
theorem dX0_drawn_56 : decode cX0_drawn 56 = .ok (.iload_n 2, 1) := dk_28 (dk_at dksX0_drawn_2 8 rfl rfl)
theorem dX0_drawn_57 : decode cX0_drawn 57 = .ok (.i2l, 1) := dk_133 (dk_at dksX0_drawn_2 9 rfl rfl)
theorem dX0_drawn_58 : decode cX0_drawn 58 = .ok (.lstore 4, 2) := dk_55 4 (dk_at dksX0_drawn_2 10 rfl rfl)
theorem dX0_drawn_60 : decode cX0_drawn 60 = .ok (.iconst 0, 1) := dk_3 (dk_at dksX0_drawn_2 12 rfl rfl)
theorem dX0_drawn_61 : decode cX0_drawn 61 = .ok (.istore 6, 2) := dk_54 6 (dk_at dksX0_drawn_2 13 rfl rfl)
theorem dX0_drawn_63 : decode cX0_drawn 63 = .ok (.iconst 0, 1) := dk_3 (dk_at dksX0_drawn_2 15 rfl rfl)
theorem dX0_drawn_64 : decode cX0_drawn 64 = .ok (.istore 7, 2) := dk_54 7 (dk_at dksX0_drawn_2 16 rfl rfl)
theorem dX0_drawn_66 : decode cX0_drawn 66 = .ok (.iload 7, 2) := dk_21 7 (dk_at dksX0_drawn_2 18 rfl rfl)
theorem dX0_drawn_68 : decode cX0_drawn 68 = .ok (.iload_n 1, 1) := dk_27 (dk_at dksX0_drawn_2 20 rfl rfl)
theorem dX0_drawn_69 : decode cX0_drawn 69 = .ok (.if_icmp .ge 72, 3) := dk_162 0 72 (dk_at dksX0_drawn_2 21 rfl rfl)
theorem dX0_drawn_72 : decode cX0_drawn 72 = .ok (.lload 4, 2) := dk_22 4 (dk_at dksX0_drawn_3 0 rfl rfl)
theorem dX0_drawn_74 : decode cX0_drawn 74 = .ok (.ldc2_w 329, 3) := dk_20 1 73 (dk_at dksX0_drawn_3 2 rfl rfl)
theorem dX0_drawn_77 : decode cX0_drawn 77 = .ok (.lmul, 1) := dk_105 (dk_at dksX0_drawn_3 5 rfl rfl)
theorem dX0_drawn_78 : decode cX0_drawn 78 = .ok (.ldc2_w 331, 3) := dk_20 1 75 (dk_at dksX0_drawn_3 6 rfl rfl)
theorem dX0_drawn_81 : decode cX0_drawn 81 = .ok (.lrem, 1) := dk_113 (dk_at dksX0_drawn_3 9 rfl rfl)
theorem dX0_drawn_82 : decode cX0_drawn 82 = .ok (.lstore 4, 2) := dk_55 4 (dk_at dksX0_drawn_3 10 rfl rfl)
theorem dX0_drawn_84 : decode cX0_drawn 84 = .ok (.iload 6, 2) := dk_21 6 (dk_at dksX0_drawn_3 12 rfl rfl)
theorem dX0_drawn_86 : decode cX0_drawn 86 = .ok (.aload_n 0, 1) := dk_42 (dk_at dksX0_drawn_3 14 rfl rfl)
theorem dX0_drawn_87 : decode cX0_drawn 87 = .ok (.getfield 49, 3) := dk_180 0 49 (dk_at dksX0_drawn_3 15 rfl rfl)
theorem dX0_drawn_90 : decode cX0_drawn 90 = .ok (.lload 4, 2) := dk_22 4 (dk_at dksX0_drawn_3 18 rfl rfl)
theorem dX0_drawn_92 : decode cX0_drawn 92 = .ok (.aload_n 0, 1) := dk_42 (dk_at dksX0_drawn_3 20 rfl rfl)
theorem dX0_drawn_93 : decode cX0_drawn 93 = .ok (.getfield 45, 3) := dk_180 0 45 (dk_at dksX0_drawn_3 21 rfl rfl)
theorem dX0_drawn_96 : decode cX0_drawn 96 = .ok (.getfield 175, 3) := dk_180 0 175 (dk_at dksX0_drawn_4 0 rfl rfl)
theorem dX0_drawn_99 : decode cX0_drawn 99 = .ok (.i2l, 1) := dk_133 (dk_at dksX0_drawn_4 3 rfl rfl)
theorem dX0_drawn_100 : decode cX0_drawn 100 = .ok (.lrem, 1) := dk_113 (dk_at dksX0_drawn_4 4 rfl rfl)
theorem dX0_drawn_101 : decode cX0_drawn 101 = .ok (.l2i, 1) := dk_136 (dk_at dksX0_drawn_4 5 rfl rfl)
theorem dX0_drawn_102 : decode cX0_drawn 102 = .ok (.lload 4, 2) := dk_22 4 (dk_at dksX0_drawn_4 6 rfl rfl)
theorem dX0_drawn_104 : decode cX0_drawn 104 = .ok (.ldc2_w 333, 3) := dk_20 1 77 (dk_at dksX0_drawn_4 8 rfl rfl)
theorem dX0_drawn_107 : decode cX0_drawn 107 = .ok (.lrem, 1) := dk_113 (dk_at dksX0_drawn_4 11 rfl rfl)
theorem dX0_drawn_108 : decode cX0_drawn 108 = .ok (.l2i, 1) := dk_136 (dk_at dksX0_drawn_4 12 rfl rfl)
theorem dX0_drawn_109 : decode cX0_drawn 109 = .ok (.iconst 1, 1) := dk_4 (dk_at dksX0_drawn_4 13 rfl rfl)
theorem dX0_drawn_110 : decode cX0_drawn 110 = .ok (.aload_n 0, 1) := dk_42 (dk_at dksX0_drawn_4 14 rfl rfl)
theorem dX0_drawn_111 : decode cX0_drawn 111 = .ok (.getfield 45, 3) := dk_180 0 45 (dk_at dksX0_drawn_4 15 rfl rfl)
theorem dX0_drawn_114 : decode cX0_drawn 114 = .ok (.invokevirtual 167, 3) := dk_182 0 167 (dk_at dksX0_drawn_4 18 rfl rfl)
theorem dX0_drawn_117 : decode cX0_drawn 117 = .ok (.ishl, 1) := dk_120 (dk_at dksX0_drawn_4 21 rfl rfl)
theorem dX0_drawn_118 : decode cX0_drawn 118 = .ok (.iconst 1, 1) := dk_4 (dk_at dksX0_drawn_4 22 rfl rfl)
theorem dX0_drawn_119 : decode cX0_drawn 119 = .ok (.isub, 1) := dk_100 (dk_at dksX0_drawn_4 23 rfl rfl)
theorem dX0_drawn_120 : decode cX0_drawn 120 = .ok (.iand, 1) := dk_126 (dk_at dksX0_drawn_5 0 rfl rfl)
theorem dX0_drawn_121 : decode cX0_drawn 121 = .ok (.invokevirtual 187, 3) := dk_182 0 187 (dk_at dksX0_drawn_5 1 rfl rfl)
theorem dX0_drawn_124 : decode cX0_drawn 124 = .ok (.ifCond .eq 7, 3) := dk_153 0 7 (dk_at dksX0_drawn_5 4 rfl rfl)
theorem dX0_drawn_127 : decode cX0_drawn 127 = .ok (.iconst 1, 1) := dk_4 (dk_at dksX0_drawn_5 7 rfl rfl)
theorem dX0_drawn_128 : decode cX0_drawn 128 = .ok (.goto 4, 3) := dk_167 0 4 (dk_at dksX0_drawn_5 8 rfl rfl)
theorem dX0_drawn_131 : decode cX0_drawn 131 = .ok (.iconst 0, 1) := dk_3 (dk_at dksX0_drawn_5 11 rfl rfl)
theorem dX0_drawn_132 : decode cX0_drawn 132 = .ok (.iadd, 1) := dk_96 (dk_at dksX0_drawn_5 12 rfl rfl)
theorem dX0_drawn_133 : decode cX0_drawn 133 = .ok (.istore 6, 2) := dk_54 6 (dk_at dksX0_drawn_5 13 rfl rfl)
theorem dX0_drawn_135 : decode cX0_drawn 135 = .ok (.iinc 7 1, 3) := dk_132 7 1 (dk_at dksX0_drawn_5 15 rfl rfl)
theorem dX0_drawn_138 : decode cX0_drawn 138 = .ok (.goto (-72), 3) := dk_167 255 184 (dk_at dksX0_drawn_5 18 rfl rfl)
theorem dX0_drawn_141 : decode cX0_drawn 141 = .ok (.iload_n 3, 1) := dk_29 (dk_at dksX0_drawn_5 21 rfl rfl)
theorem dX0_drawn_142 : decode cX0_drawn 142 = .ok (.ifCond .ne 8, 3) := dk_154 0 8 (dk_at dksX0_drawn_6 0 rfl rfl)
theorem dX0_drawn_145 : decode cX0_drawn 145 = .ok (.iload 6, 2) := dk_21 6 (dk_at dksX0_drawn_6 3 rfl rfl)
theorem dX0_drawn_147 : decode cX0_drawn 147 = .ok (.goto 10, 3) := dk_167 0 10 (dk_at dksX0_drawn_6 5 rfl rfl)
theorem dX0_drawn_150 : decode cX0_drawn 150 = .ok (.aload_n 0, 1) := dk_42 (dk_at dksX0_drawn_6 8 rfl rfl)
theorem dX0_drawn_151 : decode cX0_drawn 151 = .ok (.getfield 49, 3) := dk_180 0 49 (dk_at dksX0_drawn_6 9 rfl rfl)
theorem dX0_drawn_154 : decode cX0_drawn 154 = .ok (.invokevirtual 335, 3) := dk_182 1 79 (dk_at dksX0_drawn_6 12 rfl rfl)
theorem dX0_drawn_157 : decode cX0_drawn 157 = .ok (.ireturn, 1) := dk_172 (dk_at dksX0_drawn_6 15 rfl rfl)
abbrev cX0_image : ByteArray := prog_1_method_54_code
def yX0_image : MethodName := ⟨RX0, "image", "(I)I"⟩
def dkwX0_image_2 : List UInt8 := [180, 0, 56, 27, 50, 42, 180, 0, 45, 182, 0, 160, 87, 4, 172]
abbrev dktX0_image_2 : List UInt8 := dkwX0_image_2 ++ []
def dkwX0_image_1 : List UInt8 := [180, 0, 56, 27, 50, 199, 0, 16, 42, 180, 0, 56, 27, 187, 0, 42, 89, 183, 0, 44, 83, 42]
abbrev dktX0_image_1 : List UInt8 := dkwX0_image_1 ++ dktX0_image_2
def dkwX0_image_0 : List UInt8 := [27, 133, 9, 10, 184, 0, 83, 154, 0, 6, 18, 97, 172, 42, 182, 0, 191, 154, 0, 6, 18, 171, 172, 42]
abbrev dktX0_image_0 : List UInt8 := dkwX0_image_0 ++ dktX0_image_1
theorem dksX0_image_0 : cX0_image.data.toList.drop 0 = dktX0_image_0 := by decide +kernel
theorem dksX0_image_1 : cX0_image.data.toList.drop 24 = dktX0_image_1 := dk_seg dksX0_image_0 24 rfl rfl
theorem dksX0_image_2 : cX0_image.data.toList.drop 46 = dktX0_image_2 := dk_seg dksX0_image_1 22 rfl rfl
theorem dX0_image_0 : decode cX0_image 0 = .ok (.iload_n 1, 1) := dk_27 (dk_at dksX0_image_0 0 rfl rfl)
theorem dX0_image_1 : decode cX0_image 1 = .ok (.i2l, 1) := dk_133 (dk_at dksX0_image_0 1 rfl rfl)
theorem dX0_image_2 : decode cX0_image 2 = .ok (.lconst 0, 1) := dk_9 (dk_at dksX0_image_0 2 rfl rfl)
theorem dX0_image_3 : decode cX0_image 3 = .ok (.lconst 1, 1) := dk_10 (dk_at dksX0_image_0 3 rfl rfl)
theorem dX0_image_4 : decode cX0_image 4 = .ok (.invokestatic 83, 3) := dk_184 0 83 (dk_at dksX0_image_0 4 rfl rfl)
theorem dX0_image_7 : decode cX0_image 7 = .ok (.ifCond .ne 6, 3) := dk_154 0 6 (dk_at dksX0_image_0 7 rfl rfl)
theorem dX0_image_10 : decode cX0_image 10 = .ok (.ldc 97, 2) := dk_18 97 (dk_at dksX0_image_0 10 rfl rfl)
theorem dX0_image_12 : decode cX0_image 12 = .ok (.ireturn, 1) := dk_172 (dk_at dksX0_image_0 12 rfl rfl)
theorem dX0_image_13 : decode cX0_image 13 = .ok (.aload_n 0, 1) := dk_42 (dk_at dksX0_image_0 13 rfl rfl)
theorem dX0_image_14 : decode cX0_image 14 = .ok (.invokevirtual 191, 3) := dk_182 0 191 (dk_at dksX0_image_0 14 rfl rfl)
theorem dX0_image_17 : decode cX0_image 17 = .ok (.ifCond .ne 6, 3) := dk_154 0 6 (dk_at dksX0_image_0 17 rfl rfl)
theorem dX0_image_20 : decode cX0_image 20 = .ok (.ldc 171, 2) := dk_18 171 (dk_at dksX0_image_0 20 rfl rfl)
theorem dX0_image_22 : decode cX0_image 22 = .ok (.ireturn, 1) := dk_172 (dk_at dksX0_image_0 22 rfl rfl)
theorem dX0_image_23 : decode cX0_image 23 = .ok (.aload_n 0, 1) := dk_42 (dk_at dksX0_image_0 23 rfl rfl)
theorem dX0_image_24 : decode cX0_image 24 = .ok (.getfield 56, 3) := dk_180 0 56 (dk_at dksX0_image_1 0 rfl rfl)
theorem dX0_image_27 : decode cX0_image 27 = .ok (.iload_n 1, 1) := dk_27 (dk_at dksX0_image_1 3 rfl rfl)
theorem dX0_image_28 : decode cX0_image 28 = .ok (.aaload, 1) := dk_50 (dk_at dksX0_image_1 4 rfl rfl)
theorem dX0_image_29 : decode cX0_image 29 = .ok (.ifnonnull 16, 3) := dk_199 0 16 (dk_at dksX0_image_1 5 rfl rfl)
theorem dX0_image_32 : decode cX0_image 32 = .ok (.aload_n 0, 1) := dk_42 (dk_at dksX0_image_1 8 rfl rfl)
theorem dX0_image_33 : decode cX0_image 33 = .ok (.getfield 56, 3) := dk_180 0 56 (dk_at dksX0_image_1 9 rfl rfl)
theorem dX0_image_36 : decode cX0_image 36 = .ok (.iload_n 1, 1) := dk_27 (dk_at dksX0_image_1 12 rfl rfl)
theorem dX0_image_37 : decode cX0_image 37 = .ok (.new 42, 3) := dk_187 0 42 (dk_at dksX0_image_1 13 rfl rfl)
theorem dX0_image_40 : decode cX0_image 40 = .ok (.dup, 1) := dk_89 (dk_at dksX0_image_1 16 rfl rfl)
theorem dX0_image_41 : decode cX0_image 41 = .ok (.invokespecial 44, 3) := dk_183 0 44 (dk_at dksX0_image_1 17 rfl rfl)
theorem dX0_image_44 : decode cX0_image 44 = .ok (.aastore, 1) := dk_83 (dk_at dksX0_image_1 20 rfl rfl)
theorem dX0_image_45 : decode cX0_image 45 = .ok (.aload_n 0, 1) := dk_42 (dk_at dksX0_image_1 21 rfl rfl)
theorem dX0_image_46 : decode cX0_image 46 = .ok (.getfield 56, 3) := dk_180 0 56 (dk_at dksX0_image_2 0 rfl rfl)
theorem dX0_image_49 : decode cX0_image 49 = .ok (.iload_n 1, 1) := dk_27 (dk_at dksX0_image_2 3 rfl rfl)
theorem dX0_image_50 : decode cX0_image 50 = .ok (.aaload, 1) := dk_50 (dk_at dksX0_image_2 4 rfl rfl)
theorem dX0_image_51 : decode cX0_image 51 = .ok (.aload_n 0, 1) := dk_42 (dk_at dksX0_image_2 5 rfl rfl)
theorem dX0_image_52 : decode cX0_image 52 = .ok (.getfield 45, 3) := dk_180 0 45 (dk_at dksX0_image_2 6 rfl rfl)
theorem dX0_image_55 : decode cX0_image 55 = .ok (.invokevirtual 160, 3) := dk_182 0 160 (dk_at dksX0_image_2 9 rfl rfl)
theorem dX0_image_58 : decode cX0_image 58 = .ok (.pop, 1) := dk_87 (dk_at dksX0_image_2 12 rfl rfl)
theorem dX0_image_59 : decode cX0_image 59 = .ok (.iconst 1, 1) := dk_4 (dk_at dksX0_image_2 13 rfl rfl)
theorem dX0_image_60 : decode cX0_image 60 = .ok (.ireturn, 1) := dk_172 (dk_at dksX0_image_2 14 rfl rfl)
abbrev cX0_restore : ByteArray := prog_1_method_55_code
def yX0_restore : MethodName := ⟨RX0, "restore", "(I)I"⟩
def dkwX0_restore_1 : List UInt8 := [172, 42, 180, 0, 45, 42, 180, 0, 56, 27, 50, 182, 0, 160, 87, 42, 3, 181, 0, 164, 4, 172]
abbrev dktX0_restore_1 : List UInt8 := dkwX0_restore_1 ++ []
def dkwX0_restore_0 : List UInt8 := [27, 133, 9, 10, 184, 0, 83, 154, 0, 6, 18, 97, 172, 42, 180, 0, 56, 27, 50, 199, 0, 6, 18, 171]
abbrev dktX0_restore_0 : List UInt8 := dkwX0_restore_0 ++ dktX0_restore_1
theorem dksX0_restore_0 : cX0_restore.data.toList.drop 0 = dktX0_restore_0 := by decide +kernel
theorem dksX0_restore_1 : cX0_restore.data.toList.drop 24 = dktX0_restore_1 := dk_seg dksX0_restore_0 24 rfl rfl
theorem dX0_restore_0 : decode cX0_restore 0 = .ok (.iload_n 1, 1) := dk_27 (dk_at dksX0_restore_0 0 rfl rfl)
theorem dX0_restore_1 : decode cX0_restore 1 = .ok (.i2l, 1) := dk_133 (dk_at dksX0_restore_0 1 rfl rfl)
theorem dX0_restore_2 : decode cX0_restore 2 = .ok (.lconst 0, 1) := dk_9 (dk_at dksX0_restore_0 2 rfl rfl)
theorem dX0_restore_3 : decode cX0_restore 3 = .ok (.lconst 1, 1) := dk_10 (dk_at dksX0_restore_0 3 rfl rfl)
theorem dX0_restore_4 : decode cX0_restore 4 = .ok (.invokestatic 83, 3) := dk_184 0 83 (dk_at dksX0_restore_0 4 rfl rfl)
theorem dX0_restore_7 : decode cX0_restore 7 = .ok (.ifCond .ne 6, 3) := dk_154 0 6 (dk_at dksX0_restore_0 7 rfl rfl)
theorem dX0_restore_10 : decode cX0_restore 10 = .ok (.ldc 97, 2) := dk_18 97 (dk_at dksX0_restore_0 10 rfl rfl)
theorem dX0_restore_12 : decode cX0_restore 12 = .ok (.ireturn, 1) := dk_172 (dk_at dksX0_restore_0 12 rfl rfl)
theorem dX0_restore_13 : decode cX0_restore 13 = .ok (.aload_n 0, 1) := dk_42 (dk_at dksX0_restore_0 13 rfl rfl)
theorem dX0_restore_14 : decode cX0_restore 14 = .ok (.getfield 56, 3) := dk_180 0 56 (dk_at dksX0_restore_0 14 rfl rfl)
theorem dX0_restore_17 : decode cX0_restore 17 = .ok (.iload_n 1, 1) := dk_27 (dk_at dksX0_restore_0 17 rfl rfl)
theorem dX0_restore_18 : decode cX0_restore 18 = .ok (.aaload, 1) := dk_50 (dk_at dksX0_restore_0 18 rfl rfl)
theorem dX0_restore_19 : decode cX0_restore 19 = .ok (.ifnonnull 6, 3) := dk_199 0 6 (dk_at dksX0_restore_0 19 rfl rfl)
theorem dX0_restore_22 : decode cX0_restore 22 = .ok (.ldc 171, 2) := dk_18 171 (dk_at dksX0_restore_0 22 rfl rfl)
theorem dX0_restore_24 : decode cX0_restore 24 = .ok (.ireturn, 1) := dk_172 (dk_at dksX0_restore_1 0 rfl rfl)
theorem dX0_restore_25 : decode cX0_restore 25 = .ok (.aload_n 0, 1) := dk_42 (dk_at dksX0_restore_1 1 rfl rfl)
theorem dX0_restore_26 : decode cX0_restore 26 = .ok (.getfield 45, 3) := dk_180 0 45 (dk_at dksX0_restore_1 2 rfl rfl)
theorem dX0_restore_29 : decode cX0_restore 29 = .ok (.aload_n 0, 1) := dk_42 (dk_at dksX0_restore_1 5 rfl rfl)
theorem dX0_restore_30 : decode cX0_restore 30 = .ok (.getfield 56, 3) := dk_180 0 56 (dk_at dksX0_restore_1 6 rfl rfl)
theorem dX0_restore_33 : decode cX0_restore 33 = .ok (.iload_n 1, 1) := dk_27 (dk_at dksX0_restore_1 9 rfl rfl)
theorem dX0_restore_34 : decode cX0_restore 34 = .ok (.aaload, 1) := dk_50 (dk_at dksX0_restore_1 10 rfl rfl)
theorem dX0_restore_35 : decode cX0_restore 35 = .ok (.invokevirtual 160, 3) := dk_182 0 160 (dk_at dksX0_restore_1 11 rfl rfl)
theorem dX0_restore_38 : decode cX0_restore 38 = .ok (.pop, 1) := dk_87 (dk_at dksX0_restore_1 14 rfl rfl)
theorem dX0_restore_39 : decode cX0_restore 39 = .ok (.aload_n 0, 1) := dk_42 (dk_at dksX0_restore_1 15 rfl rfl)
theorem dX0_restore_40 : decode cX0_restore 40 = .ok (.iconst 0, 1) := dk_3 (dk_at dksX0_restore_1 16 rfl rfl)
theorem dX0_restore_41 : decode cX0_restore 41 = .ok (.putfield 164, 3) := dk_181 0 164 (dk_at dksX0_restore_1 17 rfl rfl)
theorem dX0_restore_44 : decode cX0_restore 44 = .ok (.iconst 1, 1) := dk_4 (dk_at dksX0_restore_1 20 rfl rfl)
theorem dX0_restore_45 : decode cX0_restore 45 = .ok (.ireturn, 1) := dk_172 (dk_at dksX0_restore_1 21 rfl rfl)
abbrev cX0_kind : ByteArray := prog_1_method_56_code
def yX0_kind : MethodName := ⟨RX0, "kind", "(I)I"⟩
def dkwX0_kind_1 : List UInt8 := [182, 1, 52, 167, 0, 5, 18, 97, 172]
abbrev dktX0_kind_1 : List UInt8 := dkwX0_kind_1 ++ []
def dkwX0_kind_0 : List UInt8 := [42, 27, 182, 0, 200, 153, 0, 25, 42, 180, 0, 45, 180, 1, 38, 27, 185, 1, 42, 2, 0, 192, 0, 20]
abbrev dktX0_kind_0 : List UInt8 := dkwX0_kind_0 ++ dktX0_kind_1
theorem dksX0_kind_0 : cX0_kind.data.toList.drop 0 = dktX0_kind_0 := by decide +kernel
theorem dksX0_kind_1 : cX0_kind.data.toList.drop 24 = dktX0_kind_1 := dk_seg dksX0_kind_0 24 rfl rfl
theorem dX0_kind_0 : decode cX0_kind 0 = .ok (.aload_n 0, 1) := dk_42 (dk_at dksX0_kind_0 0 rfl rfl)
theorem dX0_kind_1 : decode cX0_kind 1 = .ok (.iload_n 1, 1) := dk_27 (dk_at dksX0_kind_0 1 rfl rfl)
theorem dX0_kind_2 : decode cX0_kind 2 = .ok (.invokevirtual 200, 3) := dk_182 0 200 (dk_at dksX0_kind_0 2 rfl rfl)
theorem dX0_kind_5 : decode cX0_kind 5 = .ok (.ifCond .eq 25, 3) := dk_153 0 25 (dk_at dksX0_kind_0 5 rfl rfl)
theorem dX0_kind_8 : decode cX0_kind 8 = .ok (.aload_n 0, 1) := dk_42 (dk_at dksX0_kind_0 8 rfl rfl)
theorem dX0_kind_9 : decode cX0_kind 9 = .ok (.getfield 45, 3) := dk_180 0 45 (dk_at dksX0_kind_0 9 rfl rfl)
theorem dX0_kind_12 : decode cX0_kind 12 = .ok (.getfield 294, 3) := dk_180 1 38 (dk_at dksX0_kind_0 12 rfl rfl)
theorem dX0_kind_15 : decode cX0_kind 15 = .ok (.iload_n 1, 1) := dk_27 (dk_at dksX0_kind_0 15 rfl rfl)
theorem dX0_kind_16 : decode cX0_kind 16 = .ok (.invokeinterface 298 2, 5) := by decide +kernel
theorem dX0_kind_21 : decode cX0_kind 21 = .ok (.checkcast 20, 3) := dk_192 0 20 (dk_at dksX0_kind_0 21 rfl rfl)
theorem dX0_kind_24 : decode cX0_kind 24 = .ok (.invokevirtual 308, 3) := dk_182 1 52 (dk_at dksX0_kind_1 0 rfl rfl)
theorem dX0_kind_27 : decode cX0_kind 27 = .ok (.goto 5, 3) := dk_167 0 5 (dk_at dksX0_kind_1 3 rfl rfl)
theorem dX0_kind_30 : decode cX0_kind 30 = .ok (.ldc 97, 2) := dk_18 97 (dk_at dksX0_kind_1 6 rfl rfl)
theorem dX0_kind_32 : decode cX0_kind 32 = .ok (.ireturn, 1) := dk_172 (dk_at dksX0_kind_1 8 rfl rfl)
abbrev cX0_as : ByteArray := prog_1_method_57_code
def yX0_as : MethodName := ⟨RX0, "as", "(II)I"⟩
def dkwX0_as_5 : List UInt8 := [183, 0, 80, 191, 78, 42, 45, 182, 0, 105, 172]
abbrev dktX0_as_5 : List UInt8 := dkwX0_as_5 ++ []
def dkwX0_as_4 : List UInt8 := [45, 192, 0, 16, 58, 4, 42, 25, 4, 182, 1, 84, 182, 0, 101, 172, 58, 4, 187, 0, 71, 89, 6]
abbrev dktX0_as_4 : List UInt8 := dkwX0_as_4 ++ dktX0_as_5
def dkwX0_as_3 : List UInt8 := [28, 6, 160, 0, 10, 45, 192, 0, 10, 167, 0, 19, 28, 7, 160, 0, 10, 45, 192, 0, 13, 167, 0, 7]
abbrev dktX0_as_3 : List UInt8 := dkwX0_as_3 ++ dktX0_as_4
def dkwX0_as_2 : List UInt8 := [28, 4, 160, 0, 10, 45, 192, 0, 1, 167, 0, 43, 28, 5, 160, 0, 10, 45, 192, 0, 7, 167, 0, 31]
abbrev dktX0_as_2 : List UInt8 := dkwX0_as_2 ++ dktX0_as_3
def dkwX0_as_1 : List UInt8 := [180, 0, 45, 180, 1, 38, 27, 185, 1, 42, 2, 0, 192, 0, 20, 78, 28, 154, 0, 7, 45, 167, 0, 55]
abbrev dktX0_as_1 : List UInt8 := dkwX0_as_1 ++ dktX0_as_2
def dkwX0_as_0 : List UInt8 := [42, 27, 182, 0, 200, 153, 0, 15, 28, 133, 9, 20, 1, 82, 184, 0, 83, 154, 0, 6, 18, 97, 172, 42]
abbrev dktX0_as_0 : List UInt8 := dkwX0_as_0 ++ dktX0_as_1
theorem dksX0_as_0 : cX0_as.data.toList.drop 0 = dktX0_as_0 := by decide +kernel
theorem dksX0_as_1 : cX0_as.data.toList.drop 24 = dktX0_as_1 := dk_seg dksX0_as_0 24 rfl rfl
theorem dksX0_as_2 : cX0_as.data.toList.drop 48 = dktX0_as_2 := dk_seg dksX0_as_1 24 rfl rfl
theorem dksX0_as_3 : cX0_as.data.toList.drop 72 = dktX0_as_3 := dk_seg dksX0_as_2 24 rfl rfl
theorem dksX0_as_4 : cX0_as.data.toList.drop 96 = dktX0_as_4 := dk_seg dksX0_as_3 24 rfl rfl
theorem dksX0_as_5 : cX0_as.data.toList.drop 119 = dktX0_as_5 := dk_seg dksX0_as_4 23 rfl rfl
theorem dX0_as_0 : decode cX0_as 0 = .ok (.aload_n 0, 1) := dk_42 (dk_at dksX0_as_0 0 rfl rfl)
theorem dX0_as_1 : decode cX0_as 1 = .ok (.iload_n 1, 1) := dk_27 (dk_at dksX0_as_0 1 rfl rfl)
theorem dX0_as_2 : decode cX0_as 2 = .ok (.invokevirtual 200, 3) := dk_182 0 200 (dk_at dksX0_as_0 2 rfl rfl)
theorem dX0_as_5 : decode cX0_as 5 = .ok (.ifCond .eq 15, 3) := dk_153 0 15 (dk_at dksX0_as_0 5 rfl rfl)
theorem dX0_as_8 : decode cX0_as 8 = .ok (.iload_n 2, 1) := dk_28 (dk_at dksX0_as_0 8 rfl rfl)
theorem dX0_as_9 : decode cX0_as 9 = .ok (.i2l, 1) := dk_133 (dk_at dksX0_as_0 9 rfl rfl)
theorem dX0_as_10 : decode cX0_as 10 = .ok (.lconst 0, 1) := dk_9 (dk_at dksX0_as_0 10 rfl rfl)
theorem dX0_as_11 : decode cX0_as 11 = .ok (.ldc2_w 338, 3) := dk_20 1 82 (dk_at dksX0_as_0 11 rfl rfl)
theorem dX0_as_14 : decode cX0_as 14 = .ok (.invokestatic 83, 3) := dk_184 0 83 (dk_at dksX0_as_0 14 rfl rfl)
theorem dX0_as_17 : decode cX0_as 17 = .ok (.ifCond .ne 6, 3) := dk_154 0 6 (dk_at dksX0_as_0 17 rfl rfl)
theorem dX0_as_20 : decode cX0_as 20 = .ok (.ldc 97, 2) := dk_18 97 (dk_at dksX0_as_0 20 rfl rfl)
theorem dX0_as_22 : decode cX0_as 22 = .ok (.ireturn, 1) := dk_172 (dk_at dksX0_as_0 22 rfl rfl)
theorem dX0_as_23 : decode cX0_as 23 = .ok (.aload_n 0, 1) := dk_42 (dk_at dksX0_as_0 23 rfl rfl)
theorem dX0_as_24 : decode cX0_as 24 = .ok (.getfield 45, 3) := dk_180 0 45 (dk_at dksX0_as_1 0 rfl rfl)
theorem dX0_as_27 : decode cX0_as 27 = .ok (.getfield 294, 3) := dk_180 1 38 (dk_at dksX0_as_1 3 rfl rfl)
theorem dX0_as_30 : decode cX0_as 30 = .ok (.iload_n 1, 1) := dk_27 (dk_at dksX0_as_1 6 rfl rfl)
theorem dX0_as_31 : decode cX0_as 31 = .ok (.invokeinterface 298 2, 5) := by decide +kernel
theorem dX0_as_36 : decode cX0_as 36 = .ok (.checkcast 20, 3) := dk_192 0 20 (dk_at dksX0_as_1 12 rfl rfl)
theorem dX0_as_39 : decode cX0_as 39 = .ok (.astore_n 3, 1) := dk_78 (dk_at dksX0_as_1 15 rfl rfl)
theorem dX0_as_40 : decode cX0_as 40 = .ok (.iload_n 2, 1) := dk_28 (dk_at dksX0_as_1 16 rfl rfl)
theorem dX0_as_41 : decode cX0_as 41 = .ok (.ifCond .ne 7, 3) := dk_154 0 7 (dk_at dksX0_as_1 17 rfl rfl)
theorem dX0_as_44 : decode cX0_as 44 = .ok (.aload_n 3, 1) := dk_45 (dk_at dksX0_as_1 20 rfl rfl)
theorem dX0_as_45 : decode cX0_as 45 = .ok (.goto 55, 3) := dk_167 0 55 (dk_at dksX0_as_1 21 rfl rfl)
theorem dX0_as_48 : decode cX0_as 48 = .ok (.iload_n 2, 1) := dk_28 (dk_at dksX0_as_2 0 rfl rfl)
theorem dX0_as_49 : decode cX0_as 49 = .ok (.iconst 1, 1) := dk_4 (dk_at dksX0_as_2 1 rfl rfl)
theorem dX0_as_50 : decode cX0_as 50 = .ok (.if_icmp .ne 10, 3) := dk_160 0 10 (dk_at dksX0_as_2 2 rfl rfl)
theorem dX0_as_53 : decode cX0_as 53 = .ok (.aload_n 3, 1) := dk_45 (dk_at dksX0_as_2 5 rfl rfl)
theorem dX0_as_54 : decode cX0_as 54 = .ok (.checkcast 1, 3) := dk_192 0 1 (dk_at dksX0_as_2 6 rfl rfl)
theorem dX0_as_57 : decode cX0_as 57 = .ok (.goto 43, 3) := dk_167 0 43 (dk_at dksX0_as_2 9 rfl rfl)
theorem dX0_as_60 : decode cX0_as 60 = .ok (.iload_n 2, 1) := dk_28 (dk_at dksX0_as_2 12 rfl rfl)
theorem dX0_as_61 : decode cX0_as 61 = .ok (.iconst 2, 1) := dk_5 (dk_at dksX0_as_2 13 rfl rfl)
theorem dX0_as_62 : decode cX0_as 62 = .ok (.if_icmp .ne 10, 3) := dk_160 0 10 (dk_at dksX0_as_2 14 rfl rfl)
theorem dX0_as_65 : decode cX0_as 65 = .ok (.aload_n 3, 1) := dk_45 (dk_at dksX0_as_2 17 rfl rfl)
theorem dX0_as_66 : decode cX0_as 66 = .ok (.checkcast 7, 3) := dk_192 0 7 (dk_at dksX0_as_2 18 rfl rfl)
theorem dX0_as_69 : decode cX0_as 69 = .ok (.goto 31, 3) := dk_167 0 31 (dk_at dksX0_as_2 21 rfl rfl)
theorem dX0_as_72 : decode cX0_as 72 = .ok (.iload_n 2, 1) := dk_28 (dk_at dksX0_as_3 0 rfl rfl)
theorem dX0_as_73 : decode cX0_as 73 = .ok (.iconst 3, 1) := dk_6 (dk_at dksX0_as_3 1 rfl rfl)
theorem dX0_as_74 : decode cX0_as 74 = .ok (.if_icmp .ne 10, 3) := dk_160 0 10 (dk_at dksX0_as_3 2 rfl rfl)
theorem dX0_as_77 : decode cX0_as 77 = .ok (.aload_n 3, 1) := dk_45 (dk_at dksX0_as_3 5 rfl rfl)
theorem dX0_as_78 : decode cX0_as 78 = .ok (.checkcast 10, 3) := dk_192 0 10 (dk_at dksX0_as_3 6 rfl rfl)
theorem dX0_as_81 : decode cX0_as 81 = .ok (.goto 19, 3) := dk_167 0 19 (dk_at dksX0_as_3 9 rfl rfl)
theorem dX0_as_84 : decode cX0_as 84 = .ok (.iload_n 2, 1) := dk_28 (dk_at dksX0_as_3 12 rfl rfl)
theorem dX0_as_85 : decode cX0_as 85 = .ok (.iconst 4, 1) := dk_7 (dk_at dksX0_as_3 13 rfl rfl)
theorem dX0_as_86 : decode cX0_as 86 = .ok (.if_icmp .ne 10, 3) := dk_160 0 10 (dk_at dksX0_as_3 14 rfl rfl)
theorem dX0_as_89 : decode cX0_as 89 = .ok (.aload_n 3, 1) := dk_45 (dk_at dksX0_as_3 17 rfl rfl)
theorem dX0_as_90 : decode cX0_as 90 = .ok (.checkcast 13, 3) := dk_192 0 13 (dk_at dksX0_as_3 18 rfl rfl)
theorem dX0_as_93 : decode cX0_as 93 = .ok (.goto 7, 3) := dk_167 0 7 (dk_at dksX0_as_3 21 rfl rfl)
theorem dX0_as_96 : decode cX0_as 96 = .ok (.aload_n 3, 1) := dk_45 (dk_at dksX0_as_4 0 rfl rfl)
theorem dX0_as_97 : decode cX0_as 97 = .ok (.checkcast 16, 3) := dk_192 0 16 (dk_at dksX0_as_4 1 rfl rfl)
theorem dX0_as_100 : decode cX0_as 100 = .ok (.astore 4, 2) := dk_58 4 (dk_at dksX0_as_4 4 rfl rfl)
theorem dX0_as_102 : decode cX0_as 102 = .ok (.aload_n 0, 1) := dk_42 (dk_at dksX0_as_4 6 rfl rfl)
theorem dX0_as_103 : decode cX0_as 103 = .ok (.aload 4, 2) := dk_25 4 (dk_at dksX0_as_4 7 rfl rfl)
theorem dX0_as_105 : decode cX0_as 105 = .ok (.invokevirtual 340, 3) := dk_182 1 84 (dk_at dksX0_as_4 9 rfl rfl)
theorem dX0_as_108 : decode cX0_as 108 = .ok (.invokevirtual 101, 3) := dk_182 0 101 (dk_at dksX0_as_4 12 rfl rfl)
theorem dX0_as_111 : decode cX0_as 111 = .ok (.ireturn, 1) := dk_172 (dk_at dksX0_as_4 15 rfl rfl)
theorem dX0_as_112 : decode cX0_as 112 = .ok (.astore 4, 2) := dk_58 4 (dk_at dksX0_as_4 16 rfl rfl)
theorem dX0_as_114 : decode cX0_as 114 = .ok (.new 71, 3) := dk_187 0 71 (dk_at dksX0_as_4 18 rfl rfl)
theorem dX0_as_117 : decode cX0_as 117 = .ok (.dup, 1) := dk_89 (dk_at dksX0_as_4 21 rfl rfl)
theorem dX0_as_118 : decode cX0_as 118 = .ok (.iconst 3, 1) := dk_6 (dk_at dksX0_as_4 22 rfl rfl)
theorem dX0_as_119 : decode cX0_as 119 = .ok (.invokespecial 80, 3) := dk_183 0 80 (dk_at dksX0_as_5 0 rfl rfl)
theorem dX0_as_122 : decode cX0_as 122 = .ok (.athrow, 1) := dk_191 (dk_at dksX0_as_5 3 rfl rfl)
theorem dX0_as_123 : decode cX0_as 123 = .ok (.astore_n 3, 1) := dk_78 (dk_at dksX0_as_5 4 rfl rfl)
theorem dX0_as_124 : decode cX0_as 124 = .ok (.aload_n 0, 1) := dk_42 (dk_at dksX0_as_5 5 rfl rfl)
theorem dX0_as_125 : decode cX0_as 125 = .ok (.aload_n 3, 1) := dk_45 (dk_at dksX0_as_5 6 rfl rfl)
theorem dX0_as_126 : decode cX0_as 126 = .ok (.invokevirtual 105, 3) := dk_182 0 105 (dk_at dksX0_as_5 7 rfl rfl)
theorem dX0_as_129 : decode cX0_as 129 = .ok (.ireturn, 1) := dk_172 (dk_at dksX0_as_5 10 rfl rfl)
abbrev cX0_ask : ByteArray := prog_1_method_58_code
def yX0_ask : MethodName := ⟨RX0, "ask", "(II)I"⟩
def dkwX0_ask_3 : List UInt8 := [180, 0, 45, 182, 1, 92, 172]
abbrev dktX0_ask_3 : List UInt8 := dkwX0_ask_3 ++ []
def dkwX0_ask_2 : List UInt8 := [154, 0, 18, 45, 42, 180, 0, 62, 42, 180, 0, 45, 182, 1, 88, 167, 0, 15, 45, 42, 180, 0, 62, 42]
abbrev dktX0_ask_2 : List UInt8 := dkwX0_ask_2 ++ dktX0_ask_3
def dkwX0_ask_1 : List UInt8 := [183, 0, 61, 181, 0, 62, 42, 180, 0, 45, 180, 1, 38, 27, 185, 1, 42, 2, 0, 192, 0, 20, 78, 28]
abbrev dktX0_ask_1 : List UInt8 := dkwX0_ask_1 ++ dktX0_ask_2
def dkwX0_ask_0 : List UInt8 := [42, 27, 182, 0, 200, 153, 0, 10, 28, 184, 0, 254, 154, 0, 6, 18, 97, 172, 42, 187, 0, 59, 89]
abbrev dktX0_ask_0 : List UInt8 := dkwX0_ask_0 ++ dktX0_ask_1
theorem dksX0_ask_0 : cX0_ask.data.toList.drop 0 = dktX0_ask_0 := by decide +kernel
theorem dksX0_ask_1 : cX0_ask.data.toList.drop 23 = dktX0_ask_1 := dk_seg dksX0_ask_0 23 rfl rfl
theorem dksX0_ask_2 : cX0_ask.data.toList.drop 47 = dktX0_ask_2 := dk_seg dksX0_ask_1 24 rfl rfl
theorem dksX0_ask_3 : cX0_ask.data.toList.drop 71 = dktX0_ask_3 := dk_seg dksX0_ask_2 24 rfl rfl
theorem dX0_ask_0 : decode cX0_ask 0 = .ok (.aload_n 0, 1) := dk_42 (dk_at dksX0_ask_0 0 rfl rfl)
theorem dX0_ask_1 : decode cX0_ask 1 = .ok (.iload_n 1, 1) := dk_27 (dk_at dksX0_ask_0 1 rfl rfl)
theorem dX0_ask_2 : decode cX0_ask 2 = .ok (.invokevirtual 200, 3) := dk_182 0 200 (dk_at dksX0_ask_0 2 rfl rfl)
theorem dX0_ask_5 : decode cX0_ask 5 = .ok (.ifCond .eq 10, 3) := dk_153 0 10 (dk_at dksX0_ask_0 5 rfl rfl)
theorem dX0_ask_8 : decode cX0_ask 8 = .ok (.iload_n 2, 1) := dk_28 (dk_at dksX0_ask_0 8 rfl rfl)
theorem dX0_ask_9 : decode cX0_ask 9 = .ok (.invokestatic 254, 3) := dk_184 0 254 (dk_at dksX0_ask_0 9 rfl rfl)
theorem dX0_ask_12 : decode cX0_ask 12 = .ok (.ifCond .ne 6, 3) := dk_154 0 6 (dk_at dksX0_ask_0 12 rfl rfl)
theorem dX0_ask_15 : decode cX0_ask 15 = .ok (.ldc 97, 2) := dk_18 97 (dk_at dksX0_ask_0 15 rfl rfl)
theorem dX0_ask_17 : decode cX0_ask 17 = .ok (.ireturn, 1) := dk_172 (dk_at dksX0_ask_0 17 rfl rfl)
theorem dX0_ask_18 : decode cX0_ask 18 = .ok (.aload_n 0, 1) := dk_42 (dk_at dksX0_ask_0 18 rfl rfl)
theorem dX0_ask_19 : decode cX0_ask 19 = .ok (.new 59, 3) := dk_187 0 59 (dk_at dksX0_ask_0 19 rfl rfl)
theorem dX0_ask_22 : decode cX0_ask 22 = .ok (.dup, 1) := dk_89 (dk_at dksX0_ask_0 22 rfl rfl)
theorem dX0_ask_23 : decode cX0_ask 23 = .ok (.invokespecial 61, 3) := dk_183 0 61 (dk_at dksX0_ask_1 0 rfl rfl)
theorem dX0_ask_26 : decode cX0_ask 26 = .ok (.putfield 62, 3) := dk_181 0 62 (dk_at dksX0_ask_1 3 rfl rfl)
theorem dX0_ask_29 : decode cX0_ask 29 = .ok (.aload_n 0, 1) := dk_42 (dk_at dksX0_ask_1 6 rfl rfl)
theorem dX0_ask_30 : decode cX0_ask 30 = .ok (.getfield 45, 3) := dk_180 0 45 (dk_at dksX0_ask_1 7 rfl rfl)
theorem dX0_ask_33 : decode cX0_ask 33 = .ok (.getfield 294, 3) := dk_180 1 38 (dk_at dksX0_ask_1 10 rfl rfl)
theorem dX0_ask_36 : decode cX0_ask 36 = .ok (.iload_n 1, 1) := dk_27 (dk_at dksX0_ask_1 13 rfl rfl)
theorem dX0_ask_37 : decode cX0_ask 37 = .ok (.invokeinterface 298 2, 5) := by decide +kernel
theorem dX0_ask_42 : decode cX0_ask 42 = .ok (.checkcast 20, 3) := dk_192 0 20 (dk_at dksX0_ask_1 19 rfl rfl)
theorem dX0_ask_45 : decode cX0_ask 45 = .ok (.astore_n 3, 1) := dk_78 (dk_at dksX0_ask_1 22 rfl rfl)
theorem dX0_ask_46 : decode cX0_ask 46 = .ok (.iload_n 2, 1) := dk_28 (dk_at dksX0_ask_1 23 rfl rfl)
theorem dX0_ask_47 : decode cX0_ask 47 = .ok (.ifCond .ne 18, 3) := dk_154 0 18 (dk_at dksX0_ask_2 0 rfl rfl)
theorem dX0_ask_50 : decode cX0_ask 50 = .ok (.aload_n 3, 1) := dk_45 (dk_at dksX0_ask_2 3 rfl rfl)
theorem dX0_ask_51 : decode cX0_ask 51 = .ok (.aload_n 0, 1) := dk_42 (dk_at dksX0_ask_2 4 rfl rfl)
theorem dX0_ask_52 : decode cX0_ask 52 = .ok (.getfield 62, 3) := dk_180 0 62 (dk_at dksX0_ask_2 5 rfl rfl)
theorem dX0_ask_55 : decode cX0_ask 55 = .ok (.aload_n 0, 1) := dk_42 (dk_at dksX0_ask_2 8 rfl rfl)
theorem dX0_ask_56 : decode cX0_ask 56 = .ok (.getfield 45, 3) := dk_180 0 45 (dk_at dksX0_ask_2 9 rfl rfl)
theorem dX0_ask_59 : decode cX0_ask 59 = .ok (.invokevirtual 344, 3) := dk_182 1 88 (dk_at dksX0_ask_2 12 rfl rfl)
theorem dX0_ask_62 : decode cX0_ask 62 = .ok (.goto 15, 3) := dk_167 0 15 (dk_at dksX0_ask_2 15 rfl rfl)
theorem dX0_ask_65 : decode cX0_ask 65 = .ok (.aload_n 3, 1) := dk_45 (dk_at dksX0_ask_2 18 rfl rfl)
theorem dX0_ask_66 : decode cX0_ask 66 = .ok (.aload_n 0, 1) := dk_42 (dk_at dksX0_ask_2 19 rfl rfl)
theorem dX0_ask_67 : decode cX0_ask 67 = .ok (.getfield 62, 3) := dk_180 0 62 (dk_at dksX0_ask_2 20 rfl rfl)
theorem dX0_ask_70 : decode cX0_ask 70 = .ok (.aload_n 0, 1) := dk_42 (dk_at dksX0_ask_2 23 rfl rfl)
theorem dX0_ask_71 : decode cX0_ask 71 = .ok (.getfield 45, 3) := dk_180 0 45 (dk_at dksX0_ask_3 0 rfl rfl)
theorem dX0_ask_74 : decode cX0_ask 74 = .ok (.invokevirtual 348, 3) := dk_182 1 92 (dk_at dksX0_ask_3 3 rfl rfl)
theorem dX0_ask_77 : decode cX0_ask 77 = .ok (.ireturn, 1) := dk_172 (dk_at dksX0_ask_3 6 rfl rfl)
abbrev cX0_trace : ByteArray := prog_1_method_59_code
def yX0_trace : MethodName := ⟨RX0, "trace", "(I)I"⟩
def dkwX0_trace_1 : List UInt8 := [180, 1, 97, 27, 46, 167, 0, 5, 18, 245, 172]
abbrev dktX0_trace_1 : List UInt8 := dkwX0_trace_1 ++ []
def dkwX0_trace_0 : List UInt8 := [27, 133, 9, 42, 180, 0, 62, 180, 1, 95, 4, 100, 133, 184, 0, 83, 153, 0, 15, 42, 180, 0, 62]
abbrev dktX0_trace_0 : List UInt8 := dkwX0_trace_0 ++ dktX0_trace_1
theorem dksX0_trace_0 : cX0_trace.data.toList.drop 0 = dktX0_trace_0 := by decide +kernel
theorem dksX0_trace_1 : cX0_trace.data.toList.drop 23 = dktX0_trace_1 := dk_seg dksX0_trace_0 23 rfl rfl
theorem dX0_trace_0 : decode cX0_trace 0 = .ok (.iload_n 1, 1) := dk_27 (dk_at dksX0_trace_0 0 rfl rfl)
theorem dX0_trace_1 : decode cX0_trace 1 = .ok (.i2l, 1) := dk_133 (dk_at dksX0_trace_0 1 rfl rfl)
theorem dX0_trace_2 : decode cX0_trace 2 = .ok (.lconst 0, 1) := dk_9 (dk_at dksX0_trace_0 2 rfl rfl)
theorem dX0_trace_3 : decode cX0_trace 3 = .ok (.aload_n 0, 1) := dk_42 (dk_at dksX0_trace_0 3 rfl rfl)
theorem dX0_trace_4 : decode cX0_trace 4 = .ok (.getfield 62, 3) := dk_180 0 62 (dk_at dksX0_trace_0 4 rfl rfl)
theorem dX0_trace_7 : decode cX0_trace 7 = .ok (.getfield 351, 3) := dk_180 1 95 (dk_at dksX0_trace_0 7 rfl rfl)
theorem dX0_trace_10 : decode cX0_trace 10 = .ok (.iconst 1, 1) := dk_4 (dk_at dksX0_trace_0 10 rfl rfl)
theorem dX0_trace_11 : decode cX0_trace 11 = .ok (.isub, 1) := dk_100 (dk_at dksX0_trace_0 11 rfl rfl)
theorem dX0_trace_12 : decode cX0_trace 12 = .ok (.i2l, 1) := dk_133 (dk_at dksX0_trace_0 12 rfl rfl)
theorem dX0_trace_13 : decode cX0_trace 13 = .ok (.invokestatic 83, 3) := dk_184 0 83 (dk_at dksX0_trace_0 13 rfl rfl)
theorem dX0_trace_16 : decode cX0_trace 16 = .ok (.ifCond .eq 15, 3) := dk_153 0 15 (dk_at dksX0_trace_0 16 rfl rfl)
theorem dX0_trace_19 : decode cX0_trace 19 = .ok (.aload_n 0, 1) := dk_42 (dk_at dksX0_trace_0 19 rfl rfl)
theorem dX0_trace_20 : decode cX0_trace 20 = .ok (.getfield 62, 3) := dk_180 0 62 (dk_at dksX0_trace_0 20 rfl rfl)
theorem dX0_trace_23 : decode cX0_trace 23 = .ok (.getfield 353, 3) := dk_180 1 97 (dk_at dksX0_trace_1 0 rfl rfl)
theorem dX0_trace_26 : decode cX0_trace 26 = .ok (.iload_n 1, 1) := dk_27 (dk_at dksX0_trace_1 3 rfl rfl)
theorem dX0_trace_27 : decode cX0_trace 27 = .ok (.iaload, 1) := dk_46 (dk_at dksX0_trace_1 4 rfl rfl)
theorem dX0_trace_28 : decode cX0_trace 28 = .ok (.goto 5, 3) := dk_167 0 5 (dk_at dksX0_trace_1 5 rfl rfl)
theorem dX0_trace_31 : decode cX0_trace 31 = .ok (.ldc 245, 2) := dk_18 245 (dk_at dksX0_trace_1 8 rfl rfl)
theorem dX0_trace_33 : decode cX0_trace 33 = .ok (.ireturn, 1) := dk_172 (dk_at dksX0_trace_1 10 rfl rfl)
abbrev cX0_count : ByteArray := prog_1_method_60_code
def yX0_count : MethodName := ⟨RX0, "count", "(I)I"⟩
def dkwX0_count_5 : List UInt8 := [172, 42, 180, 0, 164, 172, 42, 180, 0, 133, 172, 18, 97, 172]
abbrev dktX0_count_5 : List UInt8 := dkwX0_count_5 ++ []
def dkwX0_count_4 : List UInt8 := [172, 42, 180, 0, 45, 180, 0, 197, 172, 42, 180, 0, 45, 182, 1, 62, 172, 42, 180, 0, 45, 182, 1, 79]
abbrev dktX0_count_4 : List UInt8 := dkwX0_count_4 ++ dktX0_count_5
def dkwX0_count_3 : List UInt8 := [61, 132, 3, 1, 167, 255, 230, 28, 172, 42, 180, 0, 45, 182, 0, 167, 172, 42, 180, 0, 45, 180, 0, 175]
abbrev dktX0_count_3 : List UInt8 := dkwX0_count_3 ++ dktX0_count_4
def dkwX0_count_2 : List UInt8 := [3, 62, 29, 16, 8, 162, 0, 26, 28, 42, 180, 0, 34, 29, 50, 199, 0, 7, 3, 167, 0, 4, 4, 96]
abbrev dktX0_count_2 : List UInt8 := dkwX0_count_2 ++ dktX0_count_3
def dkwX0_count_1 : List UInt8 := [170, 0, 0, 0, 128, 0, 0, 0, 0, 0, 0, 0, 7, 0, 0, 0, 45, 0, 0, 0, 78, 0, 0, 0, 86, 0, 0, 0, 94, 0, 0, 0, 102, 0, 0, 0, 110, 0, 0, 0, 118, 0, 0, 0, 123]
abbrev dktX0_count_1 : List UInt8 := dkwX0_count_1 ++ dktX0_count_2
def dkwX0_count_0 : List UInt8 := [3, 61, 27]
abbrev dktX0_count_0 : List UInt8 := dkwX0_count_0 ++ dktX0_count_1
theorem dksX0_count_0 : cX0_count.data.toList.drop 0 = dktX0_count_0 := by decide +kernel
theorem dksX0_count_1 : cX0_count.data.toList.drop 3 = dktX0_count_1 := dk_seg dksX0_count_0 3 rfl rfl
theorem dksX0_count_2 : cX0_count.data.toList.drop 48 = dktX0_count_2 := dk_seg dksX0_count_1 45 rfl rfl
theorem dksX0_count_3 : cX0_count.data.toList.drop 72 = dktX0_count_3 := dk_seg dksX0_count_2 24 rfl rfl
theorem dksX0_count_4 : cX0_count.data.toList.drop 96 = dktX0_count_4 := dk_seg dksX0_count_3 24 rfl rfl
theorem dksX0_count_5 : cX0_count.data.toList.drop 120 = dktX0_count_5 := dk_seg dksX0_count_4 24 rfl rfl
theorem dX0_count_0 : decode cX0_count 0 = .ok (.iconst 0, 1) := dk_3 (dk_at dksX0_count_0 0 rfl rfl)
theorem dX0_count_1 : decode cX0_count 1 = .ok (.istore_n 2, 1) := dk_61 (dk_at dksX0_count_0 1 rfl rfl)
theorem dX0_count_2 : decode cX0_count 2 = .ok (.iload_n 1, 1) := dk_27 (dk_at dksX0_count_0 2 rfl rfl)
theorem dX0_count_3 : decode cX0_count 3 = .ok (.tableswitch 128 0 7 #[45, 78, 86, 94, 102, 110, 118, 123], 45) := by decide +kernel
theorem dX0_count_48 : decode cX0_count 48 = .ok (.iconst 0, 1) := dk_3 (dk_at dksX0_count_2 0 rfl rfl)
theorem dX0_count_49 : decode cX0_count 49 = .ok (.istore_n 3, 1) := dk_62 (dk_at dksX0_count_2 1 rfl rfl)
theorem dX0_count_50 : decode cX0_count 50 = .ok (.iload_n 3, 1) := dk_29 (dk_at dksX0_count_2 2 rfl rfl)
theorem dX0_count_51 : decode cX0_count 51 = .ok (.bipush 8, 2) := dk_16 8 (dk_at dksX0_count_2 3 rfl rfl)
theorem dX0_count_53 : decode cX0_count 53 = .ok (.if_icmp .ge 26, 3) := dk_162 0 26 (dk_at dksX0_count_2 5 rfl rfl)
theorem dX0_count_56 : decode cX0_count 56 = .ok (.iload_n 2, 1) := dk_28 (dk_at dksX0_count_2 8 rfl rfl)
theorem dX0_count_57 : decode cX0_count 57 = .ok (.aload_n 0, 1) := dk_42 (dk_at dksX0_count_2 9 rfl rfl)
theorem dX0_count_58 : decode cX0_count 58 = .ok (.getfield 34, 3) := dk_180 0 34 (dk_at dksX0_count_2 10 rfl rfl)
theorem dX0_count_61 : decode cX0_count 61 = .ok (.iload_n 3, 1) := dk_29 (dk_at dksX0_count_2 13 rfl rfl)
theorem dX0_count_62 : decode cX0_count 62 = .ok (.aaload, 1) := dk_50 (dk_at dksX0_count_2 14 rfl rfl)
theorem dX0_count_63 : decode cX0_count 63 = .ok (.ifnonnull 7, 3) := dk_199 0 7 (dk_at dksX0_count_2 15 rfl rfl)
theorem dX0_count_66 : decode cX0_count 66 = .ok (.iconst 0, 1) := dk_3 (dk_at dksX0_count_2 18 rfl rfl)
theorem dX0_count_67 : decode cX0_count 67 = .ok (.goto 4, 3) := dk_167 0 4 (dk_at dksX0_count_2 19 rfl rfl)
theorem dX0_count_70 : decode cX0_count 70 = .ok (.iconst 1, 1) := dk_4 (dk_at dksX0_count_2 22 rfl rfl)
theorem dX0_count_71 : decode cX0_count 71 = .ok (.iadd, 1) := dk_96 (dk_at dksX0_count_2 23 rfl rfl)
theorem dX0_count_72 : decode cX0_count 72 = .ok (.istore_n 2, 1) := dk_61 (dk_at dksX0_count_3 0 rfl rfl)
theorem dX0_count_73 : decode cX0_count 73 = .ok (.iinc 3 1, 3) := dk_132 3 1 (dk_at dksX0_count_3 1 rfl rfl)
theorem dX0_count_76 : decode cX0_count 76 = .ok (.goto (-26), 3) := dk_167 255 230 (dk_at dksX0_count_3 4 rfl rfl)
theorem dX0_count_79 : decode cX0_count 79 = .ok (.iload_n 2, 1) := dk_28 (dk_at dksX0_count_3 7 rfl rfl)
theorem dX0_count_80 : decode cX0_count 80 = .ok (.ireturn, 1) := dk_172 (dk_at dksX0_count_3 8 rfl rfl)
theorem dX0_count_81 : decode cX0_count 81 = .ok (.aload_n 0, 1) := dk_42 (dk_at dksX0_count_3 9 rfl rfl)
theorem dX0_count_82 : decode cX0_count 82 = .ok (.getfield 45, 3) := dk_180 0 45 (dk_at dksX0_count_3 10 rfl rfl)
theorem dX0_count_85 : decode cX0_count 85 = .ok (.invokevirtual 167, 3) := dk_182 0 167 (dk_at dksX0_count_3 13 rfl rfl)
theorem dX0_count_88 : decode cX0_count 88 = .ok (.ireturn, 1) := dk_172 (dk_at dksX0_count_3 16 rfl rfl)
theorem dX0_count_89 : decode cX0_count 89 = .ok (.aload_n 0, 1) := dk_42 (dk_at dksX0_count_3 17 rfl rfl)
theorem dX0_count_90 : decode cX0_count 90 = .ok (.getfield 45, 3) := dk_180 0 45 (dk_at dksX0_count_3 18 rfl rfl)
theorem dX0_count_93 : decode cX0_count 93 = .ok (.getfield 175, 3) := dk_180 0 175 (dk_at dksX0_count_3 21 rfl rfl)
theorem dX0_count_96 : decode cX0_count 96 = .ok (.ireturn, 1) := dk_172 (dk_at dksX0_count_4 0 rfl rfl)
theorem dX0_count_97 : decode cX0_count 97 = .ok (.aload_n 0, 1) := dk_42 (dk_at dksX0_count_4 1 rfl rfl)
theorem dX0_count_98 : decode cX0_count 98 = .ok (.getfield 45, 3) := dk_180 0 45 (dk_at dksX0_count_4 2 rfl rfl)
theorem dX0_count_101 : decode cX0_count 101 = .ok (.getfield 197, 3) := dk_180 0 197 (dk_at dksX0_count_4 5 rfl rfl)
theorem dX0_count_104 : decode cX0_count 104 = .ok (.ireturn, 1) := dk_172 (dk_at dksX0_count_4 8 rfl rfl)
theorem dX0_count_105 : decode cX0_count 105 = .ok (.aload_n 0, 1) := dk_42 (dk_at dksX0_count_4 9 rfl rfl)
theorem dX0_count_106 : decode cX0_count 106 = .ok (.getfield 45, 3) := dk_180 0 45 (dk_at dksX0_count_4 10 rfl rfl)
theorem dX0_count_109 : decode cX0_count 109 = .ok (.invokevirtual 318, 3) := dk_182 1 62 (dk_at dksX0_count_4 13 rfl rfl)
theorem dX0_count_112 : decode cX0_count 112 = .ok (.ireturn, 1) := dk_172 (dk_at dksX0_count_4 16 rfl rfl)
theorem dX0_count_113 : decode cX0_count 113 = .ok (.aload_n 0, 1) := dk_42 (dk_at dksX0_count_4 17 rfl rfl)
theorem dX0_count_114 : decode cX0_count 114 = .ok (.getfield 45, 3) := dk_180 0 45 (dk_at dksX0_count_4 18 rfl rfl)
theorem dX0_count_117 : decode cX0_count 117 = .ok (.invokevirtual 335, 3) := dk_182 1 79 (dk_at dksX0_count_4 21 rfl rfl)
theorem dX0_count_120 : decode cX0_count 120 = .ok (.ireturn, 1) := dk_172 (dk_at dksX0_count_5 0 rfl rfl)
theorem dX0_count_121 : decode cX0_count 121 = .ok (.aload_n 0, 1) := dk_42 (dk_at dksX0_count_5 1 rfl rfl)
theorem dX0_count_122 : decode cX0_count 122 = .ok (.getfield 164, 3) := dk_180 0 164 (dk_at dksX0_count_5 2 rfl rfl)
theorem dX0_count_125 : decode cX0_count 125 = .ok (.ireturn, 1) := dk_172 (dk_at dksX0_count_5 5 rfl rfl)
theorem dX0_count_126 : decode cX0_count 126 = .ok (.aload_n 0, 1) := dk_42 (dk_at dksX0_count_5 6 rfl rfl)
theorem dX0_count_127 : decode cX0_count 127 = .ok (.getfield 133, 3) := dk_180 0 133 (dk_at dksX0_count_5 7 rfl rfl)
theorem dX0_count_130 : decode cX0_count 130 = .ok (.ireturn, 1) := dk_172 (dk_at dksX0_count_5 10 rfl rfl)
theorem dX0_count_131 : decode cX0_count 131 = .ok (.ldc 97, 2) := dk_18 97 (dk_at dksX0_count_5 11 rfl rfl)
theorem dX0_count_133 : decode cX0_count 133 = .ok (.ireturn, 1) := dk_172 (dk_at dksX0_count_5 13 rfl rfl)
abbrev cX0_status : ByteArray := prog_1_method_61_code
def yX0_status : MethodName := ⟨RX0, "status", "()I"⟩
theorem dX0_status_0 : decode cX0_status 0 = .ok (.aload_n 0, 1) := by decide +kernel
theorem dX0_status_1 : decode cX0_status 1 = .ok (.getfield 76, 3) := by decide +kernel
theorem dX0_status_4 : decode cX0_status 4 = .ok (.ireturn, 1) := by decide +kernel
theorem q58 : (Jvm.Cond.initialized "LampSquares") ∈ lw_all := lw_g (lw_at lw_m1 1 rfl) rfl
theorem q92 : (Jvm.Cond.instantiable "LampSquares" (12 : Nat)) ∈ lw_all := lw_g (lw_at lw_m1 35 rfl) rfl
theorem q94 : (Jvm.Cond.instanceMethod ({ cls := "LampSquares", name := "<init>", desc := "()V" } : Jvm.MethodName)) ∈ lw_all := lw_g (lw_at lw_m1 37 rfl) rfl
theorem q95 : (Jvm.Cond.code ({ cls := "LampSquares", name := "<init>", desc := "()V" } : Jvm.MethodName) prog_1_method_5_code (1 : Nat) (Option.none : Option Jvm.ClassFile.FieldType)) ∈ lw_all := lw_g (lw_at lw_m1 38 rfl) rfl
theorem q96 : (Jvm.Cond.methodLink "LampSquares" (27 : Nat) ({ cls := "java/lang/Object", name := "<init>", desc := "()V" } : Jvm.MethodName)) ∈ lw_all := lw_g (lw_at lw_m1 39 rfl) rfl
theorem q99 : (Jvm.Cond.classLink "LampSquares" (32 : Nat) "LampSquares$Row") ∈ lw_all := lw_g (lw_at lw_m1 42 rfl) rfl
theorem q101 : (Jvm.Cond.classLink "LampSquares" (42 : Nat) "LampSquares$Door") ∈ lw_all := lw_g (lw_at lw_m1 44 rfl) rfl
theorem q103 : (Jvm.Cond.methodLinkNest "LampSquares" (44 : Nat) ({ cls := "LampSquares$Door", name := "<init>", desc := "()V" } : Jvm.MethodName) "LampSquares") ∈ lw_tbl := lw_at lw_m1 46 rfl
theorem q136 : (Jvm.Cond.fieldLink "LampSquares" (172 : Nat) "LampSquares$Door" "edge" "I") ∈ lw_all := lw_g (lw_at lw_m1 79 rfl) rfl
theorem q139 : (Jvm.Cond.fieldLink "LampSquares" (197 : Nat) "LampSquares$Door" "strict" "I") ∈ lw_all := lw_g (lw_at lw_m1 82 rfl) rfl
theorem q142 : (Jvm.Cond.fieldLink "LampSquares" (294 : Nat) "LampSquares$Door" "squares" "Ljava/util/List;") ∈ lw_all := lw_g (lw_at lw_m1 85 rfl) rfl
theorem q146 : (Jvm.Cond.fieldLink "LampSquares" (205 : Nat) "LampSquares$Door" "share" "[I") ∈ lw_all := lw_g (lw_at lw_m1 89 rfl) rfl
theorem q148 : (Jvm.Cond.fieldLink "LampSquares" (214 : Nat) "LampSquares$Door" "yes" "[I") ∈ lw_all := lw_g (lw_at lw_m1 91 rfl) rfl
theorem q150 : (Jvm.Cond.fieldLink "LampSquares" (217 : Nat) "LampSquares$Door" "no" "[I") ∈ lw_all := lw_g (lw_at lw_m1 93 rfl) rfl
theorem q153 : (Jvm.Cond.fieldLink "LampSquares" (211 : Nat) "LampSquares$Door" "settled" "[I") ∈ lw_all := lw_g (lw_at lw_m1 96 rfl) rfl
theorem q156 : (Jvm.Cond.fieldLink "LampSquares" (175 : Nat) "LampSquares$Door" "visitors" "I") ∈ lw_all := lw_g (lw_at lw_m1 99 rfl) rfl
theorem q159 : (Jvm.Cond.fieldLink "LampSquares" (220 : Nat) "LampSquares$Door" "care" "[I") ∈ lw_all := lw_g (lw_at lw_m1 102 rfl) rfl
theorem q162 : (Jvm.Cond.fieldLink "LampSquares" (223 : Nat) "LampSquares$Door" "ear" "[I") ∈ lw_all := lw_g (lw_at lw_m1 105 rfl) rfl
theorem q164 : (Jvm.Cond.fieldLink "LampSquares" (226 : Nat) "LampSquares$Door" "posed" "[I") ∈ lw_all := lw_g (lw_at lw_m1 107 rfl) rfl
theorem q166 : (Jvm.Cond.fieldLink "LampSquares" (229 : Nat) "LampSquares$Door" "let" "[I") ∈ lw_all := lw_g (lw_at lw_m1 109 rfl) rfl
theorem q194 : (Jvm.Cond.classLink "LampSquares" (59 : Nat) "LampSquares$Trail") ∈ lw_all := lw_g (lw_at lw_m1 137 rfl) rfl
theorem q196 : (Jvm.Cond.methodLinkNest "LampSquares" (61 : Nat) ({ cls := "LampSquares$Trail", name := "<init>", desc := "()V" } : Jvm.MethodName) "LampSquares") ∈ lw_tbl := lw_at lw_m1 139 rfl
theorem q201 : (Jvm.Cond.fieldLinkNest "LampSquares" (353 : Nat) "LampSquares$Trail" "body" "[I" "LampSquares") ∈ lw_tbl := lw_at lw_m1 144 rfl
theorem q203 : (Jvm.Cond.fieldLinkNest "LampSquares" (351 : Nat) "LampSquares$Trail" "many" "I" "LampSquares") ∈ lw_tbl := lw_at lw_m1 146 rfl
theorem q209 : (Jvm.Cond.classLink "LampSquares" (20 : Nat) "LampSquares$Square") ∈ lw_all := lw_g (lw_at lw_m1 152 rfl) rfl
theorem q211 : (Jvm.Cond.classLink "LampSquares" (1 : Nat) "LampSquares$Known") ∈ lw_all := lw_g (lw_at lw_m1 154 rfl) rfl
theorem q213 : (Jvm.Cond.methodLink "LampSquares" (3 : Nat) ({ cls := "LampSquares$Known", name := "<init>", desc := "(I)V" } : Jvm.MethodName)) ∈ lw_all := lw_g (lw_at lw_m1 156 rfl) rfl
theorem q224 : (Jvm.Cond.classLink "LampSquares" (7 : Nat) "LampSquares$Edged") ∈ lw_all := lw_g (lw_at lw_m1 167 rfl) rfl
theorem q226 : (Jvm.Cond.methodLink "LampSquares" (9 : Nat) ({ cls := "LampSquares$Edged", name := "<init>", desc := "(I)V" } : Jvm.MethodName)) ∈ lw_all := lw_g (lw_at lw_m1 169 rfl) rfl
theorem q232 : (Jvm.Cond.classLink "LampSquares" (10 : Nat) "LampSquares$Crooked") ∈ lw_all := lw_g (lw_at lw_m1 175 rfl) rfl
theorem q234 : (Jvm.Cond.methodLink "LampSquares" (12 : Nat) ({ cls := "LampSquares$Crooked", name := "<init>", desc := "(I)V" } : Jvm.MethodName)) ∈ lw_all := lw_g (lw_at lw_m1 177 rfl) rfl
theorem q240 : (Jvm.Cond.classLink "LampSquares" (13 : Nat) "LampSquares$Unknown") ∈ lw_all := lw_g (lw_at lw_m1 183 rfl) rfl
theorem q242 : (Jvm.Cond.methodLink "LampSquares" (15 : Nat) ({ cls := "LampSquares$Unknown", name := "<init>", desc := "(I)V" } : Jvm.MethodName)) ∈ lw_all := lw_g (lw_at lw_m1 185 rfl) rfl
theorem q248 : (Jvm.Cond.classLink "LampSquares" (16 : Nat) "LampSquares$Heard") ∈ lw_all := lw_g (lw_at lw_m1 191 rfl) rfl
theorem q250 : (Jvm.Cond.methodLink "LampSquares" (18 : Nat) ({ cls := "LampSquares$Heard", name := "<init>", desc := "(I)V" } : Jvm.MethodName)) ∈ lw_all := lw_g (lw_at lw_m1 193 rfl) rfl
theorem q256 : (Jvm.Cond.fieldLink "LampSquares" (34 : Nat) "LampSquares" "rows" "[LLampSquares$Row;") ∈ lw_all := lw_g (lw_at lw_m1 199 rfl) rfl
theorem q257 : (Jvm.Cond.fieldLink "LampSquares" (38 : Nat) "LampSquares" "tape" "[B") ∈ lw_all := lw_g (lw_at lw_m1 200 rfl) rfl
theorem q258 : (Jvm.Cond.fieldLink "LampSquares" (133 : Nat) "LampSquares" "taped" "I") ∈ lw_all := lw_g (lw_at lw_m1 201 rfl) rfl
theorem q259 : (Jvm.Cond.fieldLink "LampSquares" (150 : Nat) "LampSquares" "faultKind" "I") ∈ lw_all := lw_g (lw_at lw_m1 202 rfl) rfl
theorem q260 : (Jvm.Cond.fieldLink "LampSquares" (45 : Nat) "LampSquares" "door" "LLampSquares$Door;") ∈ lw_all := lw_g (lw_at lw_m1 203 rfl) rfl
theorem q261 : (Jvm.Cond.fieldLink "LampSquares" (49 : Nat) "LampSquares" "trial" "LLampSquares$Door;") ∈ lw_all := lw_g (lw_at lw_m1 204 rfl) rfl
theorem q262 : (Jvm.Cond.fieldLink "LampSquares" (52 : Nat) "LampSquares" "past" "[LLampSquares$Door;") ∈ lw_all := lw_g (lw_at lw_m1 205 rfl) rfl
theorem q263 : (Jvm.Cond.fieldLink "LampSquares" (164 : Nat) "LampSquares" "acts" "I") ∈ lw_all := lw_g (lw_at lw_m1 206 rfl) rfl
theorem q264 : (Jvm.Cond.fieldLink "LampSquares" (56 : Nat) "LampSquares" "images" "[LLampSquares$Door;") ∈ lw_all := lw_g (lw_at lw_m1 207 rfl) rfl
theorem q265 : (Jvm.Cond.fieldLink "LampSquares" (62 : Nat) "LampSquares" "trail" "LLampSquares$Trail;") ∈ lw_all := lw_g (lw_at lw_m1 208 rfl) rfl
theorem q266 : (Jvm.Cond.fieldLink "LampSquares" (76 : Nat) "LampSquares" "status" "I") ∈ lw_all := lw_g (lw_at lw_m1 209 rfl) rfl
theorem q267 : (Jvm.Cond.fieldLink "LampSquares" (66 : Nat) "LampSquares" "takens" "[LLampSquares$Square;") ∈ lw_all := lw_g (lw_at lw_m1 210 rfl) rfl
theorem q268 : (Jvm.Cond.laysFinal "LampSquares" "LampSquares" "rows" "[LLampSquares$Row;") ∈ lw_all := lw_g (lw_at lw_m1 211 rfl) rfl
theorem q269 : (Jvm.Cond.soleField "LampSquares" "rows") ∈ lw_all := lw_g (lw_at lw_m1 212 rfl) rfl
theorem q270 : (Jvm.Cond.laysFinal "LampSquares" "LampSquares" "tape" "[B") ∈ lw_all := lw_g (lw_at lw_m1 213 rfl) rfl
theorem q271 : (Jvm.Cond.soleField "LampSquares" "tape") ∈ lw_all := lw_g (lw_at lw_m1 214 rfl) rfl
theorem q272 : (Jvm.Cond.lays "LampSquares" "LampSquares" "taped" "I") ∈ lw_all := lw_g (lw_at lw_m1 215 rfl) rfl
theorem q273 : (Jvm.Cond.soleField "LampSquares" "taped") ∈ lw_all := lw_g (lw_at lw_m1 216 rfl) rfl
theorem q274 : (Jvm.Cond.lays "LampSquares" "LampSquares" "faultKind" "I") ∈ lw_all := lw_g (lw_at lw_m1 217 rfl) rfl
theorem q275 : (Jvm.Cond.soleField "LampSquares" "faultKind") ∈ lw_all := lw_g (lw_at lw_m1 218 rfl) rfl
theorem q276 : (Jvm.Cond.laysFinal "LampSquares" "LampSquares" "door" "LLampSquares$Door;") ∈ lw_all := lw_g (lw_at lw_m1 219 rfl) rfl
theorem q277 : (Jvm.Cond.soleField "LampSquares" "door") ∈ lw_all := lw_g (lw_at lw_m1 220 rfl) rfl
theorem q278 : (Jvm.Cond.laysFinal "LampSquares" "LampSquares" "trial" "LLampSquares$Door;") ∈ lw_all := lw_g (lw_at lw_m1 221 rfl) rfl
theorem q279 : (Jvm.Cond.soleField "LampSquares" "trial") ∈ lw_all := lw_g (lw_at lw_m1 222 rfl) rfl
theorem q280 : (Jvm.Cond.laysFinal "LampSquares" "LampSquares" "past" "[LLampSquares$Door;") ∈ lw_all := lw_g (lw_at lw_m1 223 rfl) rfl
theorem q281 : (Jvm.Cond.soleField "LampSquares" "past") ∈ lw_all := lw_g (lw_at lw_m1 224 rfl) rfl
theorem q282 : (Jvm.Cond.lays "LampSquares" "LampSquares" "acts" "I") ∈ lw_all := lw_g (lw_at lw_m1 225 rfl) rfl
theorem q283 : (Jvm.Cond.soleField "LampSquares" "acts") ∈ lw_all := lw_g (lw_at lw_m1 226 rfl) rfl
theorem q284 : (Jvm.Cond.laysFinal "LampSquares" "LampSquares" "images" "[LLampSquares$Door;") ∈ lw_all := lw_g (lw_at lw_m1 227 rfl) rfl
theorem q285 : (Jvm.Cond.soleField "LampSquares" "images") ∈ lw_all := lw_g (lw_at lw_m1 228 rfl) rfl
theorem q286 : (Jvm.Cond.lays "LampSquares" "LampSquares" "trail" "LLampSquares$Trail;") ∈ lw_all := lw_g (lw_at lw_m1 229 rfl) rfl
theorem q287 : (Jvm.Cond.soleField "LampSquares" "trail") ∈ lw_all := lw_g (lw_at lw_m1 230 rfl) rfl
theorem q288 : (Jvm.Cond.lays "LampSquares" "LampSquares" "status" "I") ∈ lw_all := lw_g (lw_at lw_m1 231 rfl) rfl
theorem q289 : (Jvm.Cond.soleField "LampSquares" "status") ∈ lw_all := lw_g (lw_at lw_m1 232 rfl) rfl
theorem q290 : (Jvm.Cond.laysFinal "LampSquares" "LampSquares" "takens" "[LLampSquares$Square;") ∈ lw_all := lw_g (lw_at lw_m1 233 rfl) rfl
theorem q291 : (Jvm.Cond.soleField "LampSquares" "takens") ∈ lw_all := lw_g (lw_at lw_m1 234 rfl) rfl
theorem q292 : (Jvm.Cond.superclass "LampSquares" "java/lang/Object") ∈ lw_all := lw_g (lw_at lw_m1 235 rfl) rfl
theorem q294 : (Jvm.Cond.instanceMethod ({ cls := "LampSquares", name := "row", desc := "(III)I" } : Jvm.MethodName)) ∈ lw_all := lw_g (lw_at lw_m1 237 rfl) rfl
theorem q295 : (Jvm.Cond.selects "LampSquares" ({ cls := "LampSquares", name := "row", desc := "(III)I" } : Jvm.MethodName) ({ cls := "LampSquares", name := "row", desc := "(III)I" } : Jvm.MethodName)) ∈ lw_all := lw_g (lw_at lw_m1 238 rfl) rfl
theorem q296 : (Jvm.Cond.codeWith ({ cls := "LampSquares", name := "row", desc := "(III)I" } : Jvm.MethodName) prog_1_method_11_code (5 : Nat) (Option.some Jvm.ClassFile.FieldType.int) [((28 : Nat), (61 : Nat), (62 : Nat), (71 : Nat))]) ∈ lw_all := lw_g (lw_at lw_m1 239 rfl) rfl
theorem q297 : (Jvm.Cond.classLink "LampSquares" (71 : Nat) "LampSquares$Finding") ∈ lw_all := lw_g (lw_at lw_m2 0 rfl) rfl
theorem q298 : (Jvm.Cond.methodLink "LampSquares" (91 : Nat) ({ cls := "LampSquares", name := "isRow", desc := "(I)Z" } : Jvm.MethodName)) ∈ lw_all := lw_g (lw_at lw_m2 1 rfl) rfl
theorem q299 : (Jvm.Cond.static ({ cls := "LampSquares", name := "isRow", desc := "(I)Z" } : Jvm.MethodName)) ∈ lw_all := lw_g (lw_at lw_m2 2 rfl) rfl
theorem q300 : (Jvm.Cond.code ({ cls := "LampSquares", name := "isRow", desc := "(I)Z" } : Jvm.MethodName) prog_1_method_9_code (1 : Nat) (Option.some Jvm.ClassFile.FieldType.boolean)) ∈ lw_all := lw_g (lw_at lw_m2 3 rfl) rfl
theorem q301 : (Jvm.Cond.constantLong "LampSquares" (81 : Nat) (7 : Int64)) ∈ lw_all := lw_g (lw_at lw_m2 4 rfl) rfl
theorem q302 : (Jvm.Cond.methodLink "LampSquares" (83 : Nat) ({ cls := "LampSquares", name := "isIn", desc := "(JJJ)Z" } : Jvm.MethodName)) ∈ lw_all := lw_g (lw_at lw_m2 5 rfl) rfl
theorem q303 : (Jvm.Cond.static ({ cls := "LampSquares", name := "isIn", desc := "(JJJ)Z" } : Jvm.MethodName)) ∈ lw_all := lw_g (lw_at lw_m2 6 rfl) rfl
theorem q304 : (Jvm.Cond.code ({ cls := "LampSquares", name := "isIn", desc := "(JJJ)Z" } : Jvm.MethodName) prog_1_method_1_code (6 : Nat) (Option.some Jvm.ClassFile.FieldType.boolean)) ∈ lw_all := lw_g (lw_at lw_m2 7 rfl) rfl
theorem q305 : (Jvm.Cond.constantLong "LampSquares" (95 : Nat) (2 : Int64)) ∈ lw_all := lw_g (lw_at lw_m2 8 rfl) rfl
theorem q306 : (Jvm.Cond.constant "LampSquares" (97 : Nat) (-1000001 : Int32)) ∈ lw_all := lw_g (lw_at lw_m2 9 rfl) rfl
theorem q307 : (Jvm.Cond.methodLink "LampSquares" (87 : Nat) ({ cls := "LampSquares", name := "must", desc := "(ZI)V" } : Jvm.MethodName)) ∈ lw_all := lw_g (lw_at lw_m2 10 rfl) rfl
theorem q308 : (Jvm.Cond.static ({ cls := "LampSquares", name := "must", desc := "(ZI)V" } : Jvm.MethodName)) ∈ lw_all := lw_g (lw_at lw_m2 11 rfl) rfl
theorem q309 : (Jvm.Cond.code ({ cls := "LampSquares", name := "must", desc := "(ZI)V" } : Jvm.MethodName) prog_1_method_8_code (2 : Nat) (Option.none : Option Jvm.ClassFile.FieldType)) ∈ lw_all := lw_g (lw_at lw_m2 12 rfl) rfl
theorem q349 : (Jvm.Cond.methodLink "LampSquares" (80 : Nat) ({ cls := "LampSquares$Finding", name := "<init>", desc := "(I)V" } : Jvm.MethodName)) ∈ lw_all := lw_g (lw_at lw_m2 52 rfl) rfl
theorem q359 : (Jvm.Cond.fieldLink "LampSquares" (70 : Nat) "LampSquares$Finding" "number" "I") ∈ lw_all := lw_g (lw_at lw_m2 62 rfl) rfl
theorem q376 : (Jvm.Cond.methodLink "LampSquares" (98 : Nat) ({ cls := "LampSquares$Row", name := "<init>", desc := "(II)V" } : Jvm.MethodName)) ∈ lw_all := lw_g (lw_at lw_m2 79 rfl) rfl
theorem q381 : (Jvm.Cond.fieldLink "LampSquares" (120 : Nat) "LampSquares$Row" "lane" "I") ∈ lw_all := lw_g (lw_at lw_m2 84 rfl) rfl
theorem q383 : (Jvm.Cond.fieldLink "LampSquares" (113 : Nat) "LampSquares$Row" "items" "[I") ∈ lw_all := lw_g (lw_at lw_m2 86 rfl) rfl
theorem q389 : (Jvm.Cond.methodLink "LampSquares" (101 : Nat) ({ cls := "LampSquares", name := "well", desc := "(I)I" } : Jvm.MethodName)) ∈ lw_all := lw_g (lw_at lw_m2 92 rfl) rfl
theorem q390 : (Jvm.Cond.privateMethod ({ cls := "LampSquares", name := "well", desc := "(I)I" } : Jvm.MethodName)) ∈ lw_tbl := lw_at lw_m2 93 rfl
theorem q391 : (Jvm.Cond.instanceMethod ({ cls := "LampSquares", name := "well", desc := "(I)I" } : Jvm.MethodName)) ∈ lw_all := lw_g (lw_at lw_m2 94 rfl) rfl
theorem q392 : (Jvm.Cond.code ({ cls := "LampSquares", name := "well", desc := "(I)I" } : Jvm.MethodName) prog_1_method_7_code (2 : Nat) (Option.some Jvm.ClassFile.FieldType.int)) ∈ lw_all := lw_g (lw_at lw_m2 95 rfl) rfl
theorem q393 : (Jvm.Cond.methodLink "LampSquares" (105 : Nat) ({ cls := "LampSquares", name := "found", desc := "(LLampSquares$Finding;)I" } : Jvm.MethodName)) ∈ lw_all := lw_g (lw_at lw_m2 96 rfl) rfl
theorem q394 : (Jvm.Cond.privateMethod ({ cls := "LampSquares", name := "found", desc := "(LLampSquares$Finding;)I" } : Jvm.MethodName)) ∈ lw_tbl := lw_at lw_m2 97 rfl
theorem q395 : (Jvm.Cond.instanceMethod ({ cls := "LampSquares", name := "found", desc := "(LLampSquares$Finding;)I" } : Jvm.MethodName)) ∈ lw_all := lw_g (lw_at lw_m2 98 rfl) rfl
theorem q396 : (Jvm.Cond.code ({ cls := "LampSquares", name := "found", desc := "(LLampSquares$Finding;)I" } : Jvm.MethodName) prog_1_method_6_code (2 : Nat) (Option.some Jvm.ClassFile.FieldType.int)) ∈ lw_all := lw_g (lw_at lw_m2 99 rfl) rfl
theorem q397 : (Jvm.Cond.constant "LampSquares" (79 : Nat) (-1000010 : Int32)) ∈ lw_all := lw_g (lw_at lw_m2 100 rfl) rfl
theorem q399 : (Jvm.Cond.instanceMethod ({ cls := "LampSquares", name := "set", desc := "(III)I" } : Jvm.MethodName)) ∈ lw_all := lw_g (lw_at lw_m2 102 rfl) rfl
theorem q400 : (Jvm.Cond.selects "LampSquares" ({ cls := "LampSquares", name := "set", desc := "(III)I" } : Jvm.MethodName) ({ cls := "LampSquares", name := "set", desc := "(III)I" } : Jvm.MethodName)) ∈ lw_all := lw_g (lw_at lw_m2 103 rfl) rfl
theorem q401 : (Jvm.Cond.codeWith ({ cls := "LampSquares", name := "set", desc := "(III)I" } : Jvm.MethodName) prog_1_method_12_code (5 : Nat) (Option.some Jvm.ClassFile.FieldType.int) [((10 : Nat), (60 : Nat), (61 : Nat), (71 : Nat))]) ∈ lw_all := lw_g (lw_at lw_m2 104 rfl) rfl
theorem q402 : (Jvm.Cond.methodLink "LampSquares" (109 : Nat) ({ cls := "LampSquares", name := "rowAt", desc := "(I)LLampSquares$Row;" } : Jvm.MethodName)) ∈ lw_all := lw_g (lw_at lw_m2 105 rfl) rfl
theorem q403 : (Jvm.Cond.privateMethod ({ cls := "LampSquares", name := "rowAt", desc := "(I)LLampSquares$Row;" } : Jvm.MethodName)) ∈ lw_tbl := lw_at lw_m2 106 rfl
theorem q404 : (Jvm.Cond.instanceMethod ({ cls := "LampSquares", name := "rowAt", desc := "(I)LLampSquares$Row;" } : Jvm.MethodName)) ∈ lw_all := lw_g (lw_at lw_m2 107 rfl) rfl
theorem q405 : (Jvm.Cond.code ({ cls := "LampSquares", name := "rowAt", desc := "(I)LLampSquares$Row;" } : Jvm.MethodName) prog_1_method_10_code (2 : Nat) (Option.some (Jvm.ClassFile.FieldType.object "LampSquares$Row"))) ∈ lw_all := lw_g (lw_at lw_m2 108 rfl) rfl
theorem q406 : (Jvm.Cond.methodLink "LampSquares" (117 : Nat) ({ cls := "LampSquares$Row", name := "cut", desc := "(I)I" } : Jvm.MethodName)) ∈ lw_all := lw_g (lw_at lw_m2 109 rfl) rfl
theorem q411 : (Jvm.Cond.instanceMethod ({ cls := "LampSquares", name := "copy", desc := "(IIIII)I" } : Jvm.MethodName)) ∈ lw_all := lw_g (lw_at lw_m2 114 rfl) rfl
theorem q412 : (Jvm.Cond.selects "LampSquares" ({ cls := "LampSquares", name := "copy", desc := "(IIIII)I" } : Jvm.MethodName) ({ cls := "LampSquares", name := "copy", desc := "(IIIII)I" } : Jvm.MethodName)) ∈ lw_all := lw_g (lw_at lw_m2 115 rfl) rfl
theorem q413 : (Jvm.Cond.codeWith ({ cls := "LampSquares", name := "copy", desc := "(IIIII)I" } : Jvm.MethodName) prog_1_method_13_code (9 : Nat) (Option.some Jvm.ClassFile.FieldType.int) [((53 : Nat), (71 : Nat), (74 : Nat), (129 : Nat)), ((17 : Nat), (91 : Nat), (92 : Nat), (71 : Nat))]) ∈ lw_all := lw_g (lw_at lw_m2 116 rfl) rfl
theorem q414 : (Jvm.Cond.classLink "LampSquares" (129 : Nat) "java/lang/IndexOutOfBoundsException") ∈ lw_all := lw_g (lw_at lw_m2 117 rfl) rfl
theorem q448 : (Jvm.Cond.methodLink "LampSquares" (123 : Nat) ({ cls := "java/lang/System", name := "arraycopy", desc := "(Ljava/lang/Object;ILjava/lang/Object;II)V" } : Jvm.MethodName)) ∈ lw_all := lw_g (lw_at lw_m2 151 rfl) rfl
theorem q452 : (Jvm.Cond.instanceMethod ({ cls := "LampSquares", name := "drop", desc := "(I)I" } : Jvm.MethodName)) ∈ lw_all := lw_g (lw_at lw_m2 155 rfl) rfl
theorem q453 : (Jvm.Cond.selects "LampSquares" ({ cls := "LampSquares", name := "drop", desc := "(I)I" } : Jvm.MethodName) ({ cls := "LampSquares", name := "drop", desc := "(I)I" } : Jvm.MethodName)) ∈ lw_all := lw_g (lw_at lw_m2 156 rfl) rfl
theorem q454 : (Jvm.Cond.codeWith ({ cls := "LampSquares", name := "drop", desc := "(I)I" } : Jvm.MethodName) prog_1_method_14_code (3 : Nat) (Option.some Jvm.ClassFile.FieldType.int) [((10 : Nat), (32 : Nat), (33 : Nat), (71 : Nat))]) ∈ lw_all := lw_g (lw_at lw_m2 157 rfl) rfl
theorem q456 : (Jvm.Cond.instanceMethod ({ cls := "LampSquares", name := "feed", desc := "(I)I" } : Jvm.MethodName)) ∈ lw_all := lw_g (lw_at lw_m2 159 rfl) rfl
theorem q457 : (Jvm.Cond.selects "LampSquares" ({ cls := "LampSquares", name := "feed", desc := "(I)I" } : Jvm.MethodName) ({ cls := "LampSquares", name := "feed", desc := "(I)I" } : Jvm.MethodName)) ∈ lw_all := lw_g (lw_at lw_m2 160 rfl) rfl
theorem q458 : (Jvm.Cond.code ({ cls := "LampSquares", name := "feed", desc := "(I)I" } : Jvm.MethodName) prog_1_method_15_code (2 : Nat) (Option.some Jvm.ClassFile.FieldType.int)) ∈ lw_all := lw_g (lw_at lw_m2 161 rfl) rfl
theorem q459 : (Jvm.Cond.constantLong "LampSquares" (131 : Nat) (255 : Int64)) ∈ lw_all := lw_g (lw_at lw_m2 162 rfl) rfl
theorem q460 : (Jvm.Cond.constant "LampSquares" (136 : Nat) (-1000003 : Int32)) ∈ lw_all := lw_g (lw_at lw_m2 163 rfl) rfl
theorem q462 : (Jvm.Cond.instanceMethod ({ cls := "LampSquares", name := "door", desc := "()I" } : Jvm.MethodName)) ∈ lw_all := lw_g (lw_at lw_m2 165 rfl) rfl
theorem q463 : (Jvm.Cond.selects "LampSquares" ({ cls := "LampSquares", name := "door", desc := "()I" } : Jvm.MethodName) ({ cls := "LampSquares", name := "door", desc := "()I" } : Jvm.MethodName)) ∈ lw_all := lw_g (lw_at lw_m2 166 rfl) rfl
theorem q464 : (Jvm.Cond.codeWith ({ cls := "LampSquares", name := "door", desc := "()I" } : Jvm.MethodName) prog_1_method_16_code (3 : Nat) (Option.some Jvm.ClassFile.FieldType.int) [((21 : Nat), (25 : Nat), (28 : Nat), (145 : Nat))]) ∈ lw_all := lw_g (lw_at lw_m2 167 rfl) rfl
theorem q465 : (Jvm.Cond.classLink "LampSquares" (145 : Nat) "LampSquares$Fault") ∈ lw_all := lw_g (lw_at lw_m2 168 rfl) rfl
theorem q466 : (Jvm.Cond.classLink "LampSquares" (137 : Nat) "LampSquares$Reader") ∈ lw_all := lw_g (lw_at lw_m2 169 rfl) rfl
theorem q468 : (Jvm.Cond.methodLink "LampSquares" (139 : Nat) ({ cls := "LampSquares$Reader", name := "<init>", desc := "([BI)V" } : Jvm.MethodName)) ∈ lw_all := lw_g (lw_at lw_m2 171 rfl) rfl
theorem q481 : (Jvm.Cond.fieldLink "LampSquares" (157 : Nat) "LampSquares$Reader" "made" "LLampSquares$Door;") ∈ lw_all := lw_g (lw_at lw_m2 184 rfl) rfl
theorem q497 : (Jvm.Cond.methodLink "LampSquares" (142 : Nat) ({ cls := "LampSquares$Reader", name := "all", desc := "()V" } : Jvm.MethodName)) ∈ lw_all := lw_g (lw_at lw_m2 200 rfl) rfl
theorem q537 : (Jvm.Cond.fieldLink "LampSquares" (147 : Nat) "LampSquares$Fault" "kind" "I") ∈ lw_all := lw_g (lw_at lw_m3 0 rfl) rfl
theorem q539 : (Jvm.Cond.fieldLink "LampSquares" (154 : Nat) "LampSquares$Fault" "place" "I") ∈ lw_all := lw_g (lw_at lw_m3 2 rfl) rfl
theorem q637 : (Jvm.Cond.static ({ cls := "LampSquares", name := "squareBy", desc := "(II)LLampSquares$Square;" } : Jvm.MethodName)) ∈ lw_all := lw_g (lw_at lw_m3 100 rfl) rfl
theorem q638 : (Jvm.Cond.code ({ cls := "LampSquares", name := "squareBy", desc := "(II)LLampSquares$Square;" } : Jvm.MethodName) prog_1_method_3_code (2 : Nat) (Option.some (Jvm.ClassFile.FieldType.object "LampSquares$Square"))) ∈ lw_all := lw_g (lw_at lw_m3 101 rfl) rfl
theorem q676 : (Jvm.Cond.selects "LampSquares" ({ cls := "java/lang/Object", name := "getClass", desc := "()Ljava/lang/Class;" } : Jvm.MethodName) ({ cls := "java/lang/Object", name := "getClass", desc := "()Ljava/lang/Class;" } : Jvm.MethodName)) ∈ lw_all := lw_g (lw_at lw_m3 139 rfl) rfl
theorem q709 : (Jvm.Cond.constant "LampSquares" (153 : Nat) (-1000100 : Int32)) ∈ lw_all := lw_g (lw_at lw_m3 172 rfl) rfl
theorem q710 : (Jvm.Cond.methodLink "LampSquares" (160 : Nat) ({ cls := "LampSquares$Door", name := "become", desc := "(LLampSquares$Door;)LLampSquares$Door;" } : Jvm.MethodName)) ∈ lw_all := lw_g (lw_at lw_m3 173 rfl) rfl
theorem q715 : (Jvm.Cond.methodLink "LampSquares" (167 : Nat) ({ cls := "LampSquares$Door", name := "many", desc := "()I" } : Jvm.MethodName)) ∈ lw_all := lw_g (lw_at lw_m3 178 rfl) rfl
theorem q717 : (Jvm.Cond.instanceMethod ({ cls := "LampSquares", name := "fault", desc := "()I" } : Jvm.MethodName)) ∈ lw_all := lw_g (lw_at lw_m3 180 rfl) rfl
theorem q718 : (Jvm.Cond.selects "LampSquares" ({ cls := "LampSquares", name := "fault", desc := "()I" } : Jvm.MethodName) ({ cls := "LampSquares", name := "fault", desc := "()I" } : Jvm.MethodName)) ∈ lw_all := lw_g (lw_at lw_m3 181 rfl) rfl
theorem q719 : (Jvm.Cond.code ({ cls := "LampSquares", name := "fault", desc := "()I" } : Jvm.MethodName) prog_1_method_17_code (1 : Nat) (Option.some Jvm.ClassFile.FieldType.int)) ∈ lw_all := lw_g (lw_at lw_m3 182 rfl) rfl
theorem q721 : (Jvm.Cond.instanceMethod ({ cls := "LampSquares", name := "undo", desc := "()I" } : Jvm.MethodName)) ∈ lw_all := lw_g (lw_at lw_m3 184 rfl) rfl
theorem q722 : (Jvm.Cond.selects "LampSquares" ({ cls := "LampSquares", name := "undo", desc := "()I" } : Jvm.MethodName) ({ cls := "LampSquares", name := "undo", desc := "()I" } : Jvm.MethodName)) ∈ lw_all := lw_g (lw_at lw_m3 185 rfl) rfl
theorem q723 : (Jvm.Cond.code ({ cls := "LampSquares", name := "undo", desc := "()I" } : Jvm.MethodName) prog_1_method_20_code (1 : Nat) (Option.some Jvm.ClassFile.FieldType.int)) ∈ lw_all := lw_g (lw_at lw_m3 186 rfl) rfl
theorem q724 : (Jvm.Cond.constant "LampSquares" (171 : Nat) (-1000002 : Int32)) ∈ lw_all := lw_g (lw_at lw_m3 187 rfl) rfl
theorem q726 : (Jvm.Cond.instanceMethod ({ cls := "LampSquares", name := "pose", desc := "(II)I" } : Jvm.MethodName)) ∈ lw_all := lw_g (lw_at lw_m3 189 rfl) rfl
theorem q727 : (Jvm.Cond.selects "LampSquares" ({ cls := "LampSquares", name := "pose", desc := "(II)I" } : Jvm.MethodName) ({ cls := "LampSquares", name := "pose", desc := "(II)I" } : Jvm.MethodName)) ∈ lw_all := lw_g (lw_at lw_m3 190 rfl) rfl
theorem q728 : (Jvm.Cond.code ({ cls := "LampSquares", name := "pose", desc := "(II)I" } : Jvm.MethodName) prog_1_method_26_code (3 : Nat) (Option.some Jvm.ClassFile.FieldType.int)) ∈ lw_all := lw_g (lw_at lw_m3 191 rfl) rfl
theorem q729 : (Jvm.Cond.methodLink "LampSquares" (178 : Nat) ({ cls := "LampSquares", name := "isVisitor", desc := "(I)Z" } : Jvm.MethodName)) ∈ lw_all := lw_g (lw_at lw_m3 192 rfl) rfl
theorem q730 : (Jvm.Cond.privateMethod ({ cls := "LampSquares", name := "isVisitor", desc := "(I)Z" } : Jvm.MethodName)) ∈ lw_tbl := lw_at lw_m3 193 rfl
theorem q731 : (Jvm.Cond.instanceMethod ({ cls := "LampSquares", name := "isVisitor", desc := "(I)Z" } : Jvm.MethodName)) ∈ lw_all := lw_g (lw_at lw_m3 194 rfl) rfl
theorem q732 : (Jvm.Cond.code ({ cls := "LampSquares", name := "isVisitor", desc := "(I)Z" } : Jvm.MethodName) prog_1_method_23_code (2 : Nat) (Option.some Jvm.ClassFile.FieldType.boolean)) ∈ lw_all := lw_g (lw_at lw_m3 195 rfl) rfl
theorem q733 : (Jvm.Cond.methodLink "LampSquares" (181 : Nat) ({ cls := "LampSquares", name := "areSquares", desc := "(I)Z" } : Jvm.MethodName)) ∈ lw_all := lw_g (lw_at lw_m3 196 rfl) rfl
theorem q734 : (Jvm.Cond.privateMethod ({ cls := "LampSquares", name := "areSquares", desc := "(I)Z" } : Jvm.MethodName)) ∈ lw_tbl := lw_at lw_m3 197 rfl
theorem q735 : (Jvm.Cond.instanceMethod ({ cls := "LampSquares", name := "areSquares", desc := "(I)Z" } : Jvm.MethodName)) ∈ lw_all := lw_g (lw_at lw_m3 198 rfl) rfl
theorem q736 : (Jvm.Cond.code ({ cls := "LampSquares", name := "areSquares", desc := "(I)Z" } : Jvm.MethodName) prog_1_method_24_code (2 : Nat) (Option.some Jvm.ClassFile.FieldType.boolean)) ∈ lw_all := lw_g (lw_at lw_m3 199 rfl) rfl
theorem q737 : (Jvm.Cond.methodLink "LampSquares" (184 : Nat) ({ cls := "LampSquares", name := "keep", desc := "()V" } : Jvm.MethodName)) ∈ lw_all := lw_g (lw_at lw_m3 200 rfl) rfl
theorem q738 : (Jvm.Cond.privateMethod ({ cls := "LampSquares", name := "keep", desc := "()V" } : Jvm.MethodName)) ∈ lw_tbl := lw_at lw_m3 201 rfl
theorem q739 : (Jvm.Cond.instanceMethod ({ cls := "LampSquares", name := "keep", desc := "()V" } : Jvm.MethodName)) ∈ lw_all := lw_g (lw_at lw_m3 202 rfl) rfl
theorem q740 : (Jvm.Cond.code ({ cls := "LampSquares", name := "keep", desc := "()V" } : Jvm.MethodName) prog_1_method_19_code (3 : Nat) (Option.none : Option Jvm.ClassFile.FieldType)) ∈ lw_all := lw_g (lw_at lw_m3 203 rfl) rfl
theorem q741 : (Jvm.Cond.methodLink "LampSquares" (187 : Nat) ({ cls := "LampSquares$Door", name := "pose", desc := "(II)Z" } : Jvm.MethodName)) ∈ lw_all := lw_g (lw_at lw_m3 204 rfl) rfl
theorem q777 : (Jvm.Cond.static ({ cls := "LampSquares", name := "clicksBy", desc := "(LLampSquares$Square;III)Z" } : Jvm.MethodName)) ∈ lw_all := lw_g (lw_at lw_m4 0 rfl) rfl
theorem q778 : (Jvm.Cond.code ({ cls := "LampSquares", name := "clicksBy", desc := "(LLampSquares$Square;III)Z" } : Jvm.MethodName) prog_1_method_4_code (4 : Nat) (Option.some Jvm.ClassFile.FieldType.boolean)) ∈ lw_all := lw_g (lw_at lw_m4 1 rfl) rfl
theorem q779 : (Jvm.Cond.methodLink "LampSquares" (19 : Nat) ({ cls := "LampSquares$Square", name := "seen", desc := "(III)I" } : Jvm.MethodName)) ∈ lw_all := lw_g (lw_at lw_m4 2 rfl) rfl
theorem q841 : (Jvm.Cond.instanceMethod ({ cls := "LampSquares", name := "strict", desc := "(I)I" } : Jvm.MethodName)) ∈ lw_all := lw_g (lw_at lw_m4 64 rfl) rfl
theorem q842 : (Jvm.Cond.selects "LampSquares" ({ cls := "LampSquares", name := "strict", desc := "(I)I" } : Jvm.MethodName) ({ cls := "LampSquares", name := "strict", desc := "(I)I" } : Jvm.MethodName)) ∈ lw_all := lw_g (lw_at lw_m4 65 rfl) rfl
theorem q843 : (Jvm.Cond.code ({ cls := "LampSquares", name := "strict", desc := "(I)I" } : Jvm.MethodName) prog_1_method_27_code (3 : Nat) (Option.some Jvm.ClassFile.FieldType.int)) ∈ lw_all := lw_g (lw_at lw_m4 66 rfl) rfl
theorem q844 : (Jvm.Cond.methodLink "LampSquares" (191 : Nat) ({ cls := "LampSquares", name := "isDoor", desc := "()Z" } : Jvm.MethodName)) ∈ lw_all := lw_g (lw_at lw_m4 67 rfl) rfl
theorem q845 : (Jvm.Cond.privateMethod ({ cls := "LampSquares", name := "isDoor", desc := "()Z" } : Jvm.MethodName)) ∈ lw_tbl := lw_at lw_m4 68 rfl
theorem q846 : (Jvm.Cond.instanceMethod ({ cls := "LampSquares", name := "isDoor", desc := "()Z" } : Jvm.MethodName)) ∈ lw_all := lw_g (lw_at lw_m4 69 rfl) rfl
theorem q847 : (Jvm.Cond.code ({ cls := "LampSquares", name := "isDoor", desc := "()Z" } : Jvm.MethodName) prog_1_method_21_code (1 : Nat) (Option.some Jvm.ClassFile.FieldType.boolean)) ∈ lw_all := lw_g (lw_at lw_m4 70 rfl) rfl
theorem q848 : (Jvm.Cond.constantLong "LampSquares" (195 : Nat) (8 : Int64)) ∈ lw_all := lw_g (lw_at lw_m4 71 rfl) rfl
theorem q850 : (Jvm.Cond.instanceMethod ({ cls := "LampSquares", name := "share", desc := "(II)I" } : Jvm.MethodName)) ∈ lw_all := lw_g (lw_at lw_m4 73 rfl) rfl
theorem q851 : (Jvm.Cond.selects "LampSquares" ({ cls := "LampSquares", name := "share", desc := "(II)I" } : Jvm.MethodName) ({ cls := "LampSquares", name := "share", desc := "(II)I" } : Jvm.MethodName)) ∈ lw_all := lw_g (lw_at lw_m4 74 rfl) rfl
theorem q852 : (Jvm.Cond.code ({ cls := "LampSquares", name := "share", desc := "(II)I" } : Jvm.MethodName) prog_1_method_28_code (4 : Nat) (Option.some Jvm.ClassFile.FieldType.int)) ∈ lw_all := lw_g (lw_at lw_m4 75 rfl) rfl
theorem q853 : (Jvm.Cond.methodLink "LampSquares" (200 : Nat) ({ cls := "LampSquares", name := "isSquare", desc := "(I)Z" } : Jvm.MethodName)) ∈ lw_all := lw_g (lw_at lw_m4 76 rfl) rfl
theorem q854 : (Jvm.Cond.privateMethod ({ cls := "LampSquares", name := "isSquare", desc := "(I)Z" } : Jvm.MethodName)) ∈ lw_tbl := lw_at lw_m4 77 rfl
theorem q855 : (Jvm.Cond.instanceMethod ({ cls := "LampSquares", name := "isSquare", desc := "(I)Z" } : Jvm.MethodName)) ∈ lw_all := lw_g (lw_at lw_m4 78 rfl) rfl
theorem q856 : (Jvm.Cond.code ({ cls := "LampSquares", name := "isSquare", desc := "(I)Z" } : Jvm.MethodName) prog_1_method_22_code (2 : Nat) (Option.some Jvm.ClassFile.FieldType.boolean)) ∈ lw_all := lw_g (lw_at lw_m4 79 rfl) rfl
theorem q857 : (Jvm.Cond.constantLong "LampSquares" (203 : Nat) (9 : Int64)) ∈ lw_all := lw_g (lw_at lw_m4 80 rfl) rfl
theorem q859 : (Jvm.Cond.instanceMethod ({ cls := "LampSquares", name := "settle", desc := "(I)I" } : Jvm.MethodName)) ∈ lw_all := lw_g (lw_at lw_m4 82 rfl) rfl
theorem q860 : (Jvm.Cond.selects "LampSquares" ({ cls := "LampSquares", name := "settle", desc := "(I)I" } : Jvm.MethodName) ({ cls := "LampSquares", name := "settle", desc := "(I)I" } : Jvm.MethodName)) ∈ lw_all := lw_g (lw_at lw_m4 83 rfl) rfl
theorem q861 : (Jvm.Cond.code ({ cls := "LampSquares", name := "settle", desc := "(I)I" } : Jvm.MethodName) prog_1_method_29_code (2 : Nat) (Option.some Jvm.ClassFile.FieldType.int)) ∈ lw_all := lw_g (lw_at lw_m4 84 rfl) rfl
theorem q862 : (Jvm.Cond.methodLink "LampSquares" (208 : Nat) ({ cls := "LampSquares$Door", name := "counts", desc := "(I)Z" } : Jvm.MethodName)) ∈ lw_all := lw_g (lw_at lw_m4 85 rfl) rfl
theorem q864 : (Jvm.Cond.instanceMethod ({ cls := "LampSquares", name := "square", desc := "(II)I" } : Jvm.MethodName)) ∈ lw_all := lw_g (lw_at lw_m4 87 rfl) rfl
theorem q865 : (Jvm.Cond.selects "LampSquares" ({ cls := "LampSquares", name := "square", desc := "(II)I" } : Jvm.MethodName) ({ cls := "LampSquares", name := "square", desc := "(II)I" } : Jvm.MethodName)) ∈ lw_all := lw_g (lw_at lw_m4 88 rfl) rfl
theorem q866 : (Jvm.Cond.code ({ cls := "LampSquares", name := "square", desc := "(II)I" } : Jvm.MethodName) prog_1_method_30_code (3 : Nat) (Option.some Jvm.ClassFile.FieldType.int)) ∈ lw_all := lw_g (lw_at lw_m4 89 rfl) rfl
theorem q868 : (Jvm.Cond.instanceMethod ({ cls := "LampSquares", name := "visitor", desc := "(II)I" } : Jvm.MethodName)) ∈ lw_all := lw_g (lw_at lw_m4 91 rfl) rfl
theorem q869 : (Jvm.Cond.selects "LampSquares" ({ cls := "LampSquares", name := "visitor", desc := "(II)I" } : Jvm.MethodName) ({ cls := "LampSquares", name := "visitor", desc := "(II)I" } : Jvm.MethodName)) ∈ lw_all := lw_g (lw_at lw_m4 92 rfl) rfl
theorem q870 : (Jvm.Cond.code ({ cls := "LampSquares", name := "visitor", desc := "(II)I" } : Jvm.MethodName) prog_1_method_31_code (3 : Nat) (Option.some Jvm.ClassFile.FieldType.int)) ∈ lw_all := lw_g (lw_at lw_m4 93 rfl) rfl
theorem q872 : (Jvm.Cond.instanceMethod ({ cls := "LampSquares", name := "sees", desc := "(II)I" } : Jvm.MethodName)) ∈ lw_all := lw_g (lw_at lw_m4 95 rfl) rfl
theorem q873 : (Jvm.Cond.selects "LampSquares" ({ cls := "LampSquares", name := "sees", desc := "(II)I" } : Jvm.MethodName) ({ cls := "LampSquares", name := "sees", desc := "(II)I" } : Jvm.MethodName)) ∈ lw_all := lw_g (lw_at lw_m4 96 rfl) rfl
theorem q874 : (Jvm.Cond.code ({ cls := "LampSquares", name := "sees", desc := "(II)I" } : Jvm.MethodName) prog_1_method_32_code (3 : Nat) (Option.some Jvm.ClassFile.FieldType.int)) ∈ lw_all := lw_g (lw_at lw_m4 97 rfl) rfl
theorem q875 : (Jvm.Cond.methodLink "LampSquares" (232 : Nat) ({ cls := "LampSquares$Door", name := "sees", desc := "(II)I" } : Jvm.MethodName)) ∈ lw_all := lw_g (lw_at lw_m4 98 rfl) rfl
theorem q881 : (Jvm.Cond.instanceMethod ({ cls := "LampSquares", name := "clicks", desc := "(I)I" } : Jvm.MethodName)) ∈ lw_all := lw_g (lw_at lw_m4 104 rfl) rfl
theorem q882 : (Jvm.Cond.selects "LampSquares" ({ cls := "LampSquares", name := "clicks", desc := "(I)I" } : Jvm.MethodName) ({ cls := "LampSquares", name := "clicks", desc := "(I)I" } : Jvm.MethodName)) ∈ lw_all := lw_g (lw_at lw_m4 105 rfl) rfl
theorem q883 : (Jvm.Cond.code ({ cls := "LampSquares", name := "clicks", desc := "(I)I" } : Jvm.MethodName) prog_1_method_33_code (2 : Nat) (Option.some Jvm.ClassFile.FieldType.int)) ∈ lw_all := lw_g (lw_at lw_m4 106 rfl) rfl
theorem q884 : (Jvm.Cond.methodLink "LampSquares" (236 : Nat) ({ cls := "LampSquares$Door", name := "clicked", desc := "(I)I" } : Jvm.MethodName)) ∈ lw_all := lw_g (lw_at lw_m4 107 rfl) rfl
theorem q886 : (Jvm.Cond.instanceMethod ({ cls := "LampSquares", name := "wrong", desc := "(II)I" } : Jvm.MethodName)) ∈ lw_all := lw_g (lw_at lw_m4 109 rfl) rfl
theorem q887 : (Jvm.Cond.selects "LampSquares" ({ cls := "LampSquares", name := "wrong", desc := "(II)I" } : Jvm.MethodName) ({ cls := "LampSquares", name := "wrong", desc := "(II)I" } : Jvm.MethodName)) ∈ lw_all := lw_g (lw_at lw_m4 110 rfl) rfl
theorem q888 : (Jvm.Cond.code ({ cls := "LampSquares", name := "wrong", desc := "(II)I" } : Jvm.MethodName) prog_1_method_34_code (3 : Nat) (Option.some Jvm.ClassFile.FieldType.int)) ∈ lw_all := lw_g (lw_at lw_m4 111 rfl) rfl
theorem q889 : (Jvm.Cond.methodLink "LampSquares" (239 : Nat) ({ cls := "LampSquares$Door", name := "wrongIn", desc := "(II)I" } : Jvm.MethodName)) ∈ lw_all := lw_g (lw_at lw_m4 112 rfl) rfl
theorem q891 : (Jvm.Cond.instanceMethod ({ cls := "LampSquares", name := "guests", desc := "(I)I" } : Jvm.MethodName)) ∈ lw_all := lw_g (lw_at lw_m4 114 rfl) rfl
theorem q892 : (Jvm.Cond.selects "LampSquares" ({ cls := "LampSquares", name := "guests", desc := "(I)I" } : Jvm.MethodName) ({ cls := "LampSquares", name := "guests", desc := "(I)I" } : Jvm.MethodName)) ∈ lw_all := lw_g (lw_at lw_m4 115 rfl) rfl
theorem q893 : (Jvm.Cond.code ({ cls := "LampSquares", name := "guests", desc := "(I)I" } : Jvm.MethodName) prog_1_method_35_code (2 : Nat) (Option.some Jvm.ClassFile.FieldType.int)) ∈ lw_all := lw_g (lw_at lw_m4 116 rfl) rfl
theorem q894 : (Jvm.Cond.methodLink "LampSquares" (242 : Nat) ({ cls := "LampSquares$Door", name := "guests", desc := "(I)I" } : Jvm.MethodName)) ∈ lw_all := lw_g (lw_at lw_m4 117 rfl) rfl
theorem q899 : (Jvm.Cond.instanceMethod ({ cls := "LampSquares", name := "fewest", desc := "(II)I" } : Jvm.MethodName)) ∈ lw_all := lw_g (lw_at lw_m4 122 rfl) rfl
theorem q900 : (Jvm.Cond.selects "LampSquares" ({ cls := "LampSquares", name := "fewest", desc := "(II)I" } : Jvm.MethodName) ({ cls := "LampSquares", name := "fewest", desc := "(II)I" } : Jvm.MethodName)) ∈ lw_all := lw_g (lw_at lw_m4 123 rfl) rfl
theorem q901 : (Jvm.Cond.code ({ cls := "LampSquares", name := "fewest", desc := "(II)I" } : Jvm.MethodName) prog_1_method_37_code (4 : Nat) (Option.some Jvm.ClassFile.FieldType.int)) ∈ lw_all := lw_g (lw_at lw_m4 124 rfl) rfl
theorem q902 : (Jvm.Cond.methodLink "LampSquares" (251 : Nat) ({ cls := "LampSquares", name := "areVisitors", desc := "(I)Z" } : Jvm.MethodName)) ∈ lw_all := lw_g (lw_at lw_m4 125 rfl) rfl
theorem q903 : (Jvm.Cond.privateMethod ({ cls := "LampSquares", name := "areVisitors", desc := "(I)Z" } : Jvm.MethodName)) ∈ lw_tbl := lw_at lw_m4 126 rfl
theorem q904 : (Jvm.Cond.instanceMethod ({ cls := "LampSquares", name := "areVisitors", desc := "(I)Z" } : Jvm.MethodName)) ∈ lw_all := lw_g (lw_at lw_m4 127 rfl) rfl
theorem q905 : (Jvm.Cond.code ({ cls := "LampSquares", name := "areVisitors", desc := "(I)Z" } : Jvm.MethodName) prog_1_method_25_code (2 : Nat) (Option.some Jvm.ClassFile.FieldType.boolean)) ∈ lw_all := lw_g (lw_at lw_m4 128 rfl) rfl
theorem q906 : (Jvm.Cond.methodLink "LampSquares" (254 : Nat) ({ cls := "LampSquares", name := "isHalf", desc := "(I)Z" } : Jvm.MethodName)) ∈ lw_all := lw_g (lw_at lw_m4 129 rfl) rfl
theorem q907 : (Jvm.Cond.static ({ cls := "LampSquares", name := "isHalf", desc := "(I)Z" } : Jvm.MethodName)) ∈ lw_all := lw_g (lw_at lw_m4 130 rfl) rfl
theorem q908 : (Jvm.Cond.code ({ cls := "LampSquares", name := "isHalf", desc := "(I)Z" } : Jvm.MethodName) prog_1_method_18_code (1 : Nat) (Option.some Jvm.ClassFile.FieldType.boolean)) ∈ lw_all := lw_g (lw_at lw_m4 131 rfl) rfl
theorem q909 : (Jvm.Cond.methodLink "LampSquares" (257 : Nat) ({ cls := "LampSquares", name := "fewestOf", desc := "(II)I" } : Jvm.MethodName)) ∈ lw_all := lw_g (lw_at lw_m4 132 rfl) rfl
theorem q910 : (Jvm.Cond.privateMethod ({ cls := "LampSquares", name := "fewestOf", desc := "(II)I" } : Jvm.MethodName)) ∈ lw_tbl := lw_at lw_m4 133 rfl
theorem q911 : (Jvm.Cond.instanceMethod ({ cls := "LampSquares", name := "fewestOf", desc := "(II)I" } : Jvm.MethodName)) ∈ lw_all := lw_g (lw_at lw_m4 134 rfl) rfl
theorem q912 : (Jvm.Cond.code ({ cls := "LampSquares", name := "fewestOf", desc := "(II)I" } : Jvm.MethodName) prog_1_method_36_code (5 : Nat) (Option.some Jvm.ClassFile.FieldType.int)) ∈ lw_all := lw_g (lw_at lw_m4 135 rfl) rfl
theorem q913 : (Jvm.Cond.constant "LampSquares" (245 : Nat) (-1000000 : Int32)) ∈ lw_all := lw_g (lw_at lw_m4 136 rfl) rfl
theorem q914 : (Jvm.Cond.methodLink "LampSquares" (246 : Nat) ({ cls := "java/lang/Integer", name := "bitCount", desc := "(I)I" } : Jvm.MethodName)) ∈ lw_all := lw_g (lw_at lw_m4 137 rfl) rfl
theorem q916 : (Jvm.Cond.instanceMethod ({ cls := "LampSquares", name := "harsh", desc := "(II)I" } : Jvm.MethodName)) ∈ lw_all := lw_g (lw_at lw_m4 139 rfl) rfl
theorem q917 : (Jvm.Cond.selects "LampSquares" ({ cls := "LampSquares", name := "harsh", desc := "(II)I" } : Jvm.MethodName) ({ cls := "LampSquares", name := "harsh", desc := "(II)I" } : Jvm.MethodName)) ∈ lw_all := lw_g (lw_at lw_m4 140 rfl) rfl
theorem q918 : (Jvm.Cond.code ({ cls := "LampSquares", name := "harsh", desc := "(II)I" } : Jvm.MethodName) prog_1_method_38_code (5 : Nat) (Option.some Jvm.ClassFile.FieldType.int)) ∈ lw_all := lw_g (lw_at lw_m4 141 rfl) rfl
theorem q919 : (Jvm.Cond.methodLink "LampSquares" (260 : Nat) ({ cls := "LampSquares", name := "has", desc := "(II)Z" } : Jvm.MethodName)) ∈ lw_all := lw_g (lw_at lw_m4 142 rfl) rfl
theorem q920 : (Jvm.Cond.static ({ cls := "LampSquares", name := "has", desc := "(II)Z" } : Jvm.MethodName)) ∈ lw_all := lw_g (lw_at lw_m4 143 rfl) rfl
theorem q921 : (Jvm.Cond.code ({ cls := "LampSquares", name := "has", desc := "(II)Z" } : Jvm.MethodName) prog_1_method_2_code (2 : Nat) (Option.some Jvm.ClassFile.FieldType.boolean)) ∈ lw_all := lw_g (lw_at lw_m4 144 rfl) rfl
theorem q922 : (Jvm.Cond.methodLink "LampSquares" (263 : Nat) ({ cls := "LampSquares", name := "wrong", desc := "(II)I" } : Jvm.MethodName)) ∈ lw_all := lw_g (lw_at lw_m4 145 rfl) rfl
theorem q923 : (Jvm.Cond.methodLink "LampSquares" (266 : Nat) ({ cls := "java/lang/Math", name := "max", desc := "(II)I" } : Jvm.MethodName)) ∈ lw_all := lw_g (lw_at lw_m4 146 rfl) rfl
theorem q925 : (Jvm.Cond.instanceMethod ({ cls := "LampSquares", name := "keen", desc := "(I)I" } : Jvm.MethodName)) ∈ lw_all := lw_g (lw_at lw_m4 148 rfl) rfl
theorem q926 : (Jvm.Cond.selects "LampSquares" ({ cls := "LampSquares", name := "keen", desc := "(I)I" } : Jvm.MethodName) ({ cls := "LampSquares", name := "keen", desc := "(I)I" } : Jvm.MethodName)) ∈ lw_all := lw_g (lw_at lw_m4 149 rfl) rfl
theorem q927 : (Jvm.Cond.code ({ cls := "LampSquares", name := "keen", desc := "(I)I" } : Jvm.MethodName) prog_1_method_40_code (4 : Nat) (Option.some Jvm.ClassFile.FieldType.int)) ∈ lw_all := lw_g (lw_at lw_m4 150 rfl) rfl
theorem q928 : (Jvm.Cond.methodLink "LampSquares" (280 : Nat) ({ cls := "LampSquares", name := "dullness", desc := "(I)I" } : Jvm.MethodName)) ∈ lw_all := lw_g (lw_at lw_m4 151 rfl) rfl
theorem q929 : (Jvm.Cond.privateMethod ({ cls := "LampSquares", name := "dullness", desc := "(I)I" } : Jvm.MethodName)) ∈ lw_tbl := lw_at lw_m4 152 rfl
theorem q930 : (Jvm.Cond.instanceMethod ({ cls := "LampSquares", name := "dullness", desc := "(I)I" } : Jvm.MethodName)) ∈ lw_all := lw_g (lw_at lw_m4 153 rfl) rfl
theorem q931 : (Jvm.Cond.code ({ cls := "LampSquares", name := "dullness", desc := "(I)I" } : Jvm.MethodName) prog_1_method_39_code (4 : Nat) (Option.some Jvm.ClassFile.FieldType.int)) ∈ lw_all := lw_g (lw_at lw_m4 154 rfl) rfl
theorem q932 : (Jvm.Cond.methodLink "LampSquares" (271 : Nat) ({ cls := "LampSquares$Door", name := "clicks", desc := "(II)Z" } : Jvm.MethodName)) ∈ lw_all := lw_g (lw_at lw_m4 155 rfl) rfl
theorem q933 : (Jvm.Cond.methodLink "LampSquares" (274 : Nat) ({ cls := "LampSquares$Door", name := "isLamp", desc := "(I)Z" } : Jvm.MethodName)) ∈ lw_all := lw_g (lw_at lw_m4 156 rfl) rfl
theorem q934 : (Jvm.Cond.methodLink "LampSquares" (277 : Nat) ({ cls := "java/lang/Math", name := "abs", desc := "(I)I" } : Jvm.MethodName)) ∈ lw_all := lw_g (lw_at lw_m4 157 rfl) rfl
theorem q938 : (Jvm.Cond.instanceMethod ({ cls := "LampSquares", name := "tells", desc := "(II)I" } : Jvm.MethodName)) ∈ lw_all := lw_g (lw_at lw_m4 161 rfl) rfl
theorem q939 : (Jvm.Cond.selects "LampSquares" ({ cls := "LampSquares", name := "tells", desc := "(II)I" } : Jvm.MethodName) ({ cls := "LampSquares", name := "tells", desc := "(II)I" } : Jvm.MethodName)) ∈ lw_all := lw_g (lw_at lw_m4 162 rfl) rfl
theorem q940 : (Jvm.Cond.code ({ cls := "LampSquares", name := "tells", desc := "(II)I" } : Jvm.MethodName) prog_1_method_41_code (8 : Nat) (Option.some Jvm.ClassFile.FieldType.int)) ∈ lw_all := lw_g (lw_at lw_m4 163 rfl) rfl
theorem q942 : (Jvm.Cond.instanceMethod ({ cls := "LampSquares", name := "learned", desc := "(I)I" } : Jvm.MethodName)) ∈ lw_all := lw_g (lw_at lw_m4 165 rfl) rfl
theorem q943 : (Jvm.Cond.selects "LampSquares" ({ cls := "LampSquares", name := "learned", desc := "(I)I" } : Jvm.MethodName) ({ cls := "LampSquares", name := "learned", desc := "(I)I" } : Jvm.MethodName)) ∈ lw_all := lw_g (lw_at lw_m4 166 rfl) rfl
theorem q944 : (Jvm.Cond.code ({ cls := "LampSquares", name := "learned", desc := "(I)I" } : Jvm.MethodName) prog_1_method_42_code (2 : Nat) (Option.some Jvm.ClassFile.FieldType.int)) ∈ lw_all := lw_g (lw_at lw_m4 167 rfl) rfl
theorem q945 : (Jvm.Cond.methodLink "LampSquares" (283 : Nat) ({ cls := "java/lang/Integer", name := "signum", desc := "(I)I" } : Jvm.MethodName)) ∈ lw_all := lw_g (lw_at lw_m4 168 rfl) rfl
theorem q949 : (Jvm.Cond.instanceMethod ({ cls := "LampSquares", name := "needs", desc := "(I)I" } : Jvm.MethodName)) ∈ lw_all := lw_g (lw_at lw_m4 172 rfl) rfl
theorem q950 : (Jvm.Cond.selects "LampSquares" ({ cls := "LampSquares", name := "needs", desc := "(I)I" } : Jvm.MethodName) ({ cls := "LampSquares", name := "needs", desc := "(I)I" } : Jvm.MethodName)) ∈ lw_all := lw_g (lw_at lw_m4 173 rfl) rfl
theorem q951 : (Jvm.Cond.code ({ cls := "LampSquares", name := "needs", desc := "(I)I" } : Jvm.MethodName) prog_1_method_43_code (3 : Nat) (Option.some Jvm.ClassFile.FieldType.int)) ∈ lw_all := lw_g (lw_at lw_m4 174 rfl) rfl
theorem q953 : (Jvm.Cond.instanceMethod ({ cls := "LampSquares", name := "save", desc := "(II)I" } : Jvm.MethodName)) ∈ lw_all := lw_g (lw_at lw_m4 176 rfl) rfl
theorem q954 : (Jvm.Cond.selects "LampSquares" ({ cls := "LampSquares", name := "save", desc := "(II)I" } : Jvm.MethodName) ({ cls := "LampSquares", name := "save", desc := "(II)I" } : Jvm.MethodName)) ∈ lw_all := lw_g (lw_at lw_m4 177 rfl) rfl
theorem q955 : (Jvm.Cond.code ({ cls := "LampSquares", name := "save", desc := "(II)I" } : Jvm.MethodName) prog_1_method_44_code (4 : Nat) (Option.some Jvm.ClassFile.FieldType.int)) ∈ lw_all := lw_g (lw_at lw_m4 178 rfl) rfl
theorem q957 : (Jvm.Cond.instanceMethod ({ cls := "LampSquares", name := "shares", desc := "(III)I" } : Jvm.MethodName)) ∈ lw_all := lw_g (lw_at lw_m4 180 rfl) rfl
theorem q958 : (Jvm.Cond.selects "LampSquares" ({ cls := "LampSquares", name := "shares", desc := "(III)I" } : Jvm.MethodName) ({ cls := "LampSquares", name := "shares", desc := "(III)I" } : Jvm.MethodName)) ∈ lw_all := lw_g (lw_at lw_m4 181 rfl) rfl
theorem q959 : (Jvm.Cond.codeWith ({ cls := "LampSquares", name := "shares", desc := "(III)I" } : Jvm.MethodName) prog_1_method_46_code (7 : Nat) (Option.some Jvm.ClassFile.FieldType.int) [((18 : Nat), (101 : Nat), (102 : Nat), (71 : Nat))]) ∈ lw_all := lw_g (lw_at lw_m4 182 rfl) rfl
theorem q960 : (Jvm.Cond.methodLink "LampSquares" (290 : Nat) ({ cls := "LampSquares$Row", name := "row", desc := "(II)[I" } : Jvm.MethodName)) ∈ lw_all := lw_g (lw_at lw_m4 183 rfl) rfl
theorem q966 : (Jvm.Cond.interfaceEntry "LampSquares" (298 : Nat)) ∈ lw_tbl := lw_at lw_m4 189 rfl
theorem q967 : (Jvm.Cond.methodLink "LampSquares" (298 : Nat) ({ cls := "java/util/List", name := "get", desc := "(I)Ljava/lang/Object;" } : Jvm.MethodName)) ∈ lw_all := lw_g (lw_at lw_m4 190 rfl) rfl
theorem q968 : (Jvm.Cond.methodLink "LampSquares" (304 : Nat) ({ cls := "LampSquares", name := "isClickedSo", desc := "(LLampSquares$Square;I[I)Z" } : Jvm.MethodName)) ∈ lw_all := lw_g (lw_at lw_m4 191 rfl) rfl
theorem q969 : (Jvm.Cond.privateMethod ({ cls := "LampSquares", name := "isClickedSo", desc := "(LLampSquares$Square;I[I)Z" } : Jvm.MethodName)) ∈ lw_tbl := lw_at lw_m4 192 rfl
theorem q970 : (Jvm.Cond.instanceMethod ({ cls := "LampSquares", name := "isClickedSo", desc := "(LLampSquares$Square;I[I)Z" } : Jvm.MethodName)) ∈ lw_all := lw_g (lw_at lw_m4 193 rfl) rfl
theorem q971 : (Jvm.Cond.code ({ cls := "LampSquares", name := "isClickedSo", desc := "(LLampSquares$Square;I[I)Z" } : Jvm.MethodName) prog_1_method_45_code (6 : Nat) (Option.some Jvm.ClassFile.FieldType.boolean)) ∈ lw_all := lw_g (lw_at lw_m4 194 rfl) rfl
theorem q972 : (Jvm.Cond.methodLink "LampSquares" (286 : Nat) ({ cls := "LampSquares", name := "clicksBy", desc := "(LLampSquares$Square;III)Z" } : Jvm.MethodName)) ∈ lw_all := lw_g (lw_at lw_m4 195 rfl) rfl
theorem q974 : (Jvm.Cond.instanceMethod ({ cls := "LampSquares", name := "kinds", desc := "(III)I" } : Jvm.MethodName)) ∈ lw_all := lw_g (lw_at lw_m4 197 rfl) rfl
theorem q975 : (Jvm.Cond.selects "LampSquares" ({ cls := "LampSquares", name := "kinds", desc := "(III)I" } : Jvm.MethodName) ({ cls := "LampSquares", name := "kinds", desc := "(III)I" } : Jvm.MethodName)) ∈ lw_all := lw_g (lw_at lw_m4 198 rfl) rfl
theorem q976 : (Jvm.Cond.codeWith ({ cls := "LampSquares", name := "kinds", desc := "(III)I" } : Jvm.MethodName) prog_1_method_47_code (7 : Nat) (Option.some Jvm.ClassFile.FieldType.int) [((18 : Nat), (110 : Nat), (111 : Nat), (71 : Nat))]) ∈ lw_all := lw_g (lw_at lw_m4 199 rfl) rfl
theorem q977 : (Jvm.Cond.methodLink "LampSquares" (308 : Nat) ({ cls := "LampSquares$Square", name := "kind", desc := "()I" } : Jvm.MethodName)) ∈ lw_all := lw_g (lw_at lw_m4 200 rfl) rfl
theorem q996 : (Jvm.Cond.instanceMethod ({ cls := "LampSquares", name := "who", desc := "(II)I" } : Jvm.MethodName)) ∈ lw_all := lw_g (lw_at lw_m4 219 rfl) rfl
theorem q997 : (Jvm.Cond.selects "LampSquares" ({ cls := "LampSquares", name := "who", desc := "(II)I" } : Jvm.MethodName) ({ cls := "LampSquares", name := "who", desc := "(II)I" } : Jvm.MethodName)) ∈ lw_all := lw_g (lw_at lw_m4 220 rfl) rfl
theorem q998 : (Jvm.Cond.codeWith ({ cls := "LampSquares", name := "who", desc := "(II)I" } : Jvm.MethodName) prog_1_method_49_code (6 : Nat) (Option.some Jvm.ClassFile.FieldType.int) [((20 : Nat), (108 : Nat), (109 : Nat), (71 : Nat))]) ∈ lw_all := lw_g (lw_at lw_m4 221 rfl) rfl
theorem q999 : (Jvm.Cond.methodLink "LampSquares" (310 : Nat) ({ cls := "LampSquares", name := "clicksSo", desc := "(II[I)Z" } : Jvm.MethodName)) ∈ lw_all := lw_g (lw_at lw_m4 222 rfl) rfl
theorem q1000 : (Jvm.Cond.privateMethod ({ cls := "LampSquares", name := "clicksSo", desc := "(II[I)Z" } : Jvm.MethodName)) ∈ lw_tbl := lw_at lw_m4 223 rfl
theorem q1001 : (Jvm.Cond.instanceMethod ({ cls := "LampSquares", name := "clicksSo", desc := "(II[I)Z" } : Jvm.MethodName)) ∈ lw_all := lw_g (lw_at lw_m4 224 rfl) rfl
theorem q1002 : (Jvm.Cond.code ({ cls := "LampSquares", name := "clicksSo", desc := "(II[I)Z" } : Jvm.MethodName) prog_1_method_48_code (6 : Nat) (Option.some Jvm.ClassFile.FieldType.boolean)) ∈ lw_all := lw_g (lw_at lw_m4 225 rfl) rfl
theorem q1004 : (Jvm.Cond.instanceMethod ({ cls := "LampSquares", name := "cares", desc := "(III)I" } : Jvm.MethodName)) ∈ lw_all := lw_g (lw_at lw_m4 227 rfl) rfl
theorem q1005 : (Jvm.Cond.selects "LampSquares" ({ cls := "LampSquares", name := "cares", desc := "(III)I" } : Jvm.MethodName) ({ cls := "LampSquares", name := "cares", desc := "(III)I" } : Jvm.MethodName)) ∈ lw_all := lw_g (lw_at lw_m4 228 rfl) rfl
theorem q1006 : (Jvm.Cond.codeWith ({ cls := "LampSquares", name := "cares", desc := "(III)I" } : Jvm.MethodName) prog_1_method_50_code (7 : Nat) (Option.some Jvm.ClassFile.FieldType.int) [((32 : Nat), (100 : Nat), (101 : Nat), (71 : Nat))]) ∈ lw_all := lw_g (lw_at lw_m4 229 rfl) rfl
theorem q1008 : (Jvm.Cond.instanceMethod ({ cls := "LampSquares", name := "slip", desc := "(IIII)J" } : Jvm.MethodName)) ∈ lw_all := lw_g (lw_at lw_m4 231 rfl) rfl
theorem q1009 : (Jvm.Cond.selects "LampSquares" ({ cls := "LampSquares", name := "slip", desc := "(IIII)J" } : Jvm.MethodName) ({ cls := "LampSquares", name := "slip", desc := "(IIII)J" } : Jvm.MethodName)) ∈ lw_all := lw_g (lw_at lw_m4 232 rfl) rfl
theorem q1010 : (Jvm.Cond.code ({ cls := "LampSquares", name := "slip", desc := "(IIII)J" } : Jvm.MethodName) prog_1_method_52_code (14 : Nat) (Option.some Jvm.ClassFile.FieldType.long)) ∈ lw_all := lw_g (lw_at lw_m4 233 rfl) rfl
theorem q1011 : (Jvm.Cond.constantLong "LampSquares" (314 : Nat) (10 : Int64)) ∈ lw_all := lw_g (lw_at lw_m4 234 rfl) rfl
theorem q1012 : (Jvm.Cond.constantLong "LampSquares" (316 : Nat) (-1000001 : Int64)) ∈ lw_all := lw_g (lw_at lw_m4 235 rfl) rfl
theorem q1013 : (Jvm.Cond.methodLink "LampSquares" (318 : Nat) ({ cls := "LampSquares$Door", name := "counting", desc := "()I" } : Jvm.MethodName)) ∈ lw_all := lw_g (lw_at lw_m4 236 rfl) rfl
theorem q1014 : (Jvm.Cond.methodLink "LampSquares" (321 : Nat) ({ cls := "LampSquares", name := "common", desc := "(JJ)J" } : Jvm.MethodName)) ∈ lw_all := lw_g (lw_at lw_m4 237 rfl) rfl
theorem q1015 : (Jvm.Cond.static ({ cls := "LampSquares", name := "common", desc := "(JJ)J" } : Jvm.MethodName)) ∈ lw_all := lw_g (lw_at lw_m4 238 rfl) rfl
theorem q1016 : (Jvm.Cond.code ({ cls := "LampSquares", name := "common", desc := "(JJ)J" } : Jvm.MethodName) prog_1_method_51_code (10 : Nat) (Option.some Jvm.ClassFile.FieldType.long)) ∈ lw_all := lw_g (lw_at lw_m4 239 rfl) rfl
theorem q1018 : (Jvm.Cond.instanceMethod ({ cls := "LampSquares", name := "drawn", desc := "(III)I" } : Jvm.MethodName)) ∈ lw_all := lw_g (lw_at lw_m5 1 rfl) rfl
theorem q1019 : (Jvm.Cond.selects "LampSquares" ({ cls := "LampSquares", name := "drawn", desc := "(III)I" } : Jvm.MethodName) ({ cls := "LampSquares", name := "drawn", desc := "(III)I" } : Jvm.MethodName)) ∈ lw_all := lw_g (lw_at lw_m5 2 rfl) rfl
theorem q1020 : (Jvm.Cond.code ({ cls := "LampSquares", name := "drawn", desc := "(III)I" } : Jvm.MethodName) prog_1_method_53_code (8 : Nat) (Option.some Jvm.ClassFile.FieldType.int)) ∈ lw_all := lw_g (lw_at lw_m5 3 rfl) rfl
theorem q1021 : (Jvm.Cond.constantLong "LampSquares" (325 : Nat) (60 : Int64)) ∈ lw_all := lw_g (lw_at lw_m5 4 rfl) rfl
theorem q1022 : (Jvm.Cond.constantLong "LampSquares" (327 : Nat) (999999 : Int64)) ∈ lw_all := lw_g (lw_at lw_m5 5 rfl) rfl
theorem q1023 : (Jvm.Cond.constantLong "LampSquares" (329 : Nat) (16807 : Int64)) ∈ lw_all := lw_g (lw_at lw_m5 6 rfl) rfl
theorem q1024 : (Jvm.Cond.constantLong "LampSquares" (331 : Nat) (2147483647 : Int64)) ∈ lw_all := lw_g (lw_at lw_m5 7 rfl) rfl
theorem q1025 : (Jvm.Cond.constantLong "LampSquares" (333 : Nat) (256 : Int64)) ∈ lw_all := lw_g (lw_at lw_m5 8 rfl) rfl
theorem q1026 : (Jvm.Cond.methodLink "LampSquares" (335 : Nat) ({ cls := "LampSquares$Door", name := "allVotes", desc := "()I" } : Jvm.MethodName)) ∈ lw_all := lw_g (lw_at lw_m5 9 rfl) rfl
theorem q1031 : (Jvm.Cond.instanceMethod ({ cls := "LampSquares", name := "image", desc := "(I)I" } : Jvm.MethodName)) ∈ lw_all := lw_g (lw_at lw_m5 14 rfl) rfl
theorem q1032 : (Jvm.Cond.selects "LampSquares" ({ cls := "LampSquares", name := "image", desc := "(I)I" } : Jvm.MethodName) ({ cls := "LampSquares", name := "image", desc := "(I)I" } : Jvm.MethodName)) ∈ lw_all := lw_g (lw_at lw_m5 15 rfl) rfl
theorem q1033 : (Jvm.Cond.code ({ cls := "LampSquares", name := "image", desc := "(I)I" } : Jvm.MethodName) prog_1_method_54_code (2 : Nat) (Option.some Jvm.ClassFile.FieldType.int)) ∈ lw_all := lw_g (lw_at lw_m5 16 rfl) rfl
theorem q1035 : (Jvm.Cond.instanceMethod ({ cls := "LampSquares", name := "restore", desc := "(I)I" } : Jvm.MethodName)) ∈ lw_all := lw_g (lw_at lw_m5 18 rfl) rfl
theorem q1036 : (Jvm.Cond.selects "LampSquares" ({ cls := "LampSquares", name := "restore", desc := "(I)I" } : Jvm.MethodName) ({ cls := "LampSquares", name := "restore", desc := "(I)I" } : Jvm.MethodName)) ∈ lw_all := lw_g (lw_at lw_m5 19 rfl) rfl
theorem q1037 : (Jvm.Cond.code ({ cls := "LampSquares", name := "restore", desc := "(I)I" } : Jvm.MethodName) prog_1_method_55_code (2 : Nat) (Option.some Jvm.ClassFile.FieldType.int)) ∈ lw_all := lw_g (lw_at lw_m5 20 rfl) rfl
theorem q1039 : (Jvm.Cond.instanceMethod ({ cls := "LampSquares", name := "kind", desc := "(I)I" } : Jvm.MethodName)) ∈ lw_all := lw_g (lw_at lw_m5 22 rfl) rfl
theorem q1040 : (Jvm.Cond.selects "LampSquares" ({ cls := "LampSquares", name := "kind", desc := "(I)I" } : Jvm.MethodName) ({ cls := "LampSquares", name := "kind", desc := "(I)I" } : Jvm.MethodName)) ∈ lw_all := lw_g (lw_at lw_m5 23 rfl) rfl
theorem q1041 : (Jvm.Cond.code ({ cls := "LampSquares", name := "kind", desc := "(I)I" } : Jvm.MethodName) prog_1_method_56_code (2 : Nat) (Option.some Jvm.ClassFile.FieldType.int)) ∈ lw_all := lw_g (lw_at lw_m5 24 rfl) rfl
theorem q1043 : (Jvm.Cond.instanceMethod ({ cls := "LampSquares", name := "as", desc := "(II)I" } : Jvm.MethodName)) ∈ lw_all := lw_g (lw_at lw_m5 26 rfl) rfl
theorem q1044 : (Jvm.Cond.selects "LampSquares" ({ cls := "LampSquares", name := "as", desc := "(II)I" } : Jvm.MethodName) ({ cls := "LampSquares", name := "as", desc := "(II)I" } : Jvm.MethodName)) ∈ lw_all := lw_g (lw_at lw_m5 27 rfl) rfl
theorem q1045 : (Jvm.Cond.codeWith ({ cls := "LampSquares", name := "as", desc := "(II)I" } : Jvm.MethodName) prog_1_method_57_code (5 : Nat) (Option.some Jvm.ClassFile.FieldType.int) [((40 : Nat), (111 : Nat), (112 : Nat), (342 : Nat)), ((23 : Nat), (111 : Nat), (123 : Nat), (71 : Nat)), ((112 : Nat), (123 : Nat), (123 : Nat), (71 : Nat))]) ∈ lw_all := lw_g (lw_at lw_m5 28 rfl) rfl
theorem q1046 : (Jvm.Cond.classLink "LampSquares" (342 : Nat) "java/lang/ClassCastException") ∈ lw_all := lw_g (lw_at lw_m5 29 rfl) rfl
theorem q1060 : (Jvm.Cond.constantLong "LampSquares" (338 : Nat) (5 : Int64)) ∈ lw_all := lw_g (lw_at lw_m5 43 rfl) rfl
theorem q1061 : (Jvm.Cond.methodLink "LampSquares" (340 : Nat) ({ cls := "LampSquares$Square", name := "number", desc := "()I" } : Jvm.MethodName)) ∈ lw_all := lw_g (lw_at lw_m5 44 rfl) rfl
theorem q1071 : (Jvm.Cond.instanceMethod ({ cls := "LampSquares", name := "ask", desc := "(II)I" } : Jvm.MethodName)) ∈ lw_all := lw_g (lw_at lw_m5 54 rfl) rfl
theorem q1072 : (Jvm.Cond.selects "LampSquares" ({ cls := "LampSquares", name := "ask", desc := "(II)I" } : Jvm.MethodName) ({ cls := "LampSquares", name := "ask", desc := "(II)I" } : Jvm.MethodName)) ∈ lw_all := lw_g (lw_at lw_m5 55 rfl) rfl
theorem q1073 : (Jvm.Cond.code ({ cls := "LampSquares", name := "ask", desc := "(II)I" } : Jvm.MethodName) prog_1_method_58_code (4 : Nat) (Option.some Jvm.ClassFile.FieldType.int)) ∈ lw_all := lw_g (lw_at lw_m5 56 rfl) rfl
theorem q1074 : (Jvm.Cond.methodLink "LampSquares" (344 : Nat) ({ cls := "LampSquares$Square", name := "size", desc := "(LLampSquares$Trail;LLampSquares$Door;)I" } : Jvm.MethodName)) ∈ lw_all := lw_g (lw_at lw_m5 57 rfl) rfl
theorem q1162 : (Jvm.Cond.instanceMethod ({ cls := "LampSquares", name := "trace", desc := "(I)I" } : Jvm.MethodName)) ∈ lw_all := lw_g (lw_at lw_m5 145 rfl) rfl
theorem q1163 : (Jvm.Cond.selects "LampSquares" ({ cls := "LampSquares", name := "trace", desc := "(I)I" } : Jvm.MethodName) ({ cls := "LampSquares", name := "trace", desc := "(I)I" } : Jvm.MethodName)) ∈ lw_all := lw_g (lw_at lw_m5 146 rfl) rfl
theorem q1164 : (Jvm.Cond.code ({ cls := "LampSquares", name := "trace", desc := "(I)I" } : Jvm.MethodName) prog_1_method_59_code (2 : Nat) (Option.some Jvm.ClassFile.FieldType.int)) ∈ lw_all := lw_g (lw_at lw_m5 147 rfl) rfl
theorem q1166 : (Jvm.Cond.instanceMethod ({ cls := "LampSquares", name := "count", desc := "(I)I" } : Jvm.MethodName)) ∈ lw_all := lw_g (lw_at lw_m5 149 rfl) rfl
theorem q1167 : (Jvm.Cond.selects "LampSquares" ({ cls := "LampSquares", name := "count", desc := "(I)I" } : Jvm.MethodName) ({ cls := "LampSquares", name := "count", desc := "(I)I" } : Jvm.MethodName)) ∈ lw_all := lw_g (lw_at lw_m5 150 rfl) rfl
theorem q1168 : (Jvm.Cond.code ({ cls := "LampSquares", name := "count", desc := "(I)I" } : Jvm.MethodName) prog_1_method_60_code (4 : Nat) (Option.some Jvm.ClassFile.FieldType.int)) ∈ lw_all := lw_g (lw_at lw_m5 151 rfl) rfl
theorem q1170 : (Jvm.Cond.instanceMethod ({ cls := "LampSquares", name := "status", desc := "()I" } : Jvm.MethodName)) ∈ lw_all := lw_g (lw_at lw_m5 153 rfl) rfl
theorem q1171 : (Jvm.Cond.selects "LampSquares" ({ cls := "LampSquares", name := "status", desc := "()I" } : Jvm.MethodName) ({ cls := "LampSquares", name := "status", desc := "()I" } : Jvm.MethodName)) ∈ lw_all := lw_g (lw_at lw_m5 154 rfl) rfl
theorem q1172 : (Jvm.Cond.code ({ cls := "LampSquares", name := "status", desc := "()I" } : Jvm.MethodName) prog_1_method_61_code (1 : Nat) (Option.some Jvm.ClassFile.FieldType.int)) ∈ lw_all := lw_g (lw_at lw_m5 155 rfl) rfl
theorem q1618 : (Jvm.Cond.castable "LampSquares" "java/lang/Object") ∈ lw_tbl := lw_at lw_m7 121 rfl
theorem in_X0 : ∀ w ∈ wsX00, w ∈ lw_all := lw_in wsX00 [268, 270, 272, 274, 276, 278, 280, 282, 284, 286, 288, 290] (by decide +kernel) (by decide +kernel)
