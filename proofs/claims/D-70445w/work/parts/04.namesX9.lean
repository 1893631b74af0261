/-! LampSquaresModel -/
set_option maxRecDepth 100000
def RX9 : String := "LampSquaresModel"
def TX9 : u_T := fun k => match k with
  | 0 => ("LampSquaresModel", "thrown", "I", false)
  | 1 => ("LampSquaresModel", "status", "I", false)
  | 2 => ("LampSquaresModel", "lane", "[I", true)
  | 3 => ("LampSquaresModel", "many", "[I", true)
  | 4 => ("LampSquaresModel", "item", "[I", true)
  | 5 => ("LampSquaresModel", "door", "[I", true)
  | 6 => ("LampSquaresModel", "fresh", "[I", true)
  | 7 => ("LampSquaresModel", "then", "[I", true)
  | 8 => ("LampSquaresModel", "was", "[I", true)
  | 9 => ("LampSquaresModel", "acts", "I", false)
  | 10 => ("LampSquaresModel", "tape", "[I", true)
  | 11 => ("LampSquaresModel", "taped", "I", false)
  | 12 => ("LampSquaresModel", "cursor", "I", false)
  | 13 => ("LampSquaresModel", "start", "I", false)
  | 14 => ("LampSquaresModel", "token", "I", false)
  | 15 => ("LampSquaresModel", "value", "I", false)
  | 16 => ("LampSquaresModel", "fault", "I", false)
  | 17 => ("LampSquaresModel", "faultAt", "I", false)
  | 18 => ("LampSquaresModel", "latest", "I", false)
  | 19 => ("LampSquaresModel", "ways", "[J", true)
  | 20 => ("LampSquaresModel", "isKept", "[Z", true)
  | 21 => ("LampSquaresModel", "kept", "[I", true)
  | 22 => ("LampSquaresModel", "trace", "[I", true)
  | _ => ("LampSquaresModel", "traced", "I", false)
def tyX9 : Nat → FieldType := fun k => match k with
  | 0 => .int
  | 1 => .int
  | 2 => .array .int
  | 3 => .array .int
  | 4 => .array .int
  | 5 => .array .int
  | 6 => .array .int
  | 7 => .array .int
  | 8 => .array .int
  | 9 => .int
  | 10 => .array .int
  | 11 => .int
  | 12 => .int
  | 13 => .int
  | 14 => .int
  | 15 => .int
  | 16 => .int
  | 17 => .int
  | 18 => .int
  | 19 => .array .long
  | 20 => .array .boolean
  | 21 => .array .int
  | 22 => .array .int
  | _ => .int
abbrev wsX90 : List Cond := u_ws RX9 TX9 24
set_option maxRecDepth 100000 in
theorem nmX9 : ∀ a, a < 24 → ∀ b, b < 24 → a ≠ b → (TX9 a).2.1 ≠ (TX9 b).2.1 := by decide +kernel
set_option maxRecDepth 100000 in
theorem tyX9_ok : ∀ k, k < 24 → parseFieldDescriptor (TX9 k).2.2.1 = some (tyX9 k) := by decide +kernel
abbrev cX9_init : ByteArray := prog_16_method_1_code
def yX9_init : MethodName := ⟨RX9, "<init>", "()V"⟩
def dkwX9_init_5 : List UInt8 := [181, 0, 38, 42, 17, 0, 128, 188, 10, 181, 0, 42, 42, 16, 16, 188, 10, 181, 0, 45, 177]
abbrev dktX9_init_5 : List UInt8 := dkwX9_init_5 ++ []
def dkwX9_init_4 : List UInt8 := [181, 0, 28, 42, 16, 120, 188, 10, 181, 0, 31, 42, 16, 9, 188, 11, 181, 0, 34, 42, 5, 188, 4]
abbrev dktX9_init_4 : List UInt8 := dkwX9_init_4 ++ dktX9_init_5
def dkwX9_init_3 : List UInt8 := [42, 16, 64, 188, 10, 181, 0, 22, 42, 16, 64, 188, 10, 181, 0, 25, 42, 17, 6, 0, 188, 10]
abbrev dktX9_init_3 : List UInt8 := dkwX9_init_3 ++ dktX9_init_4
def dkwX9_init_2 : List UInt8 := [16, 8, 188, 10, 181, 0, 13, 42, 17, 1, 64, 188, 10, 181, 0, 16, 42, 16, 64, 188, 10, 181, 0, 19]
abbrev dktX9_init_2 : List UInt8 := dkwX9_init_2 ++ dktX9_init_3
def dkwX9_init_1 : List UInt8 := [79, 89, 7, 2, 79, 89, 8, 2, 79, 89, 16, 6, 2, 79, 89, 16, 7, 2, 79, 181, 0, 7, 42]
abbrev dktX9_init_1 : List UInt8 := dkwX9_init_1 ++ dktX9_init_2
def dkwX9_init_0 : List UInt8 := [42, 183, 0, 1, 42, 16, 8, 188, 10, 89, 3, 2, 79, 89, 4, 2, 79, 89, 5, 2, 79, 89, 6, 2]
abbrev dktX9_init_0 : List UInt8 := dkwX9_init_0 ++ dktX9_init_1
theorem dksX9_init_0 : cX9_init.data.toList.drop 0 = dktX9_init_0 := by decide +kernel
theorem dksX9_init_1 : cX9_init.data.toList.drop 24 = dktX9_init_1 := dk_seg dksX9_init_0 24 rfl rfl
theorem dksX9_init_2 : cX9_init.data.toList.drop 47 = dktX9_init_2 := dk_seg dksX9_init_1 23 rfl rfl
theorem dksX9_init_3 : cX9_init.data.toList.drop 71 = dktX9_init_3 := dk_seg dksX9_init_2 24 rfl rfl
theorem dksX9_init_4 : cX9_init.data.toList.drop 93 = dktX9_init_4 := dk_seg dksX9_init_3 22 rfl rfl
theorem dksX9_init_5 : cX9_init.data.toList.drop 116 = dktX9_init_5 := dk_seg dksX9_init_4 23 rfl rfl
theorem dX9_init_0 : decode cX9_init 0 = .ok (.aload_n 0, 1) := dk_42 (dk_at dksX9_init_0 0 rfl rfl)
theorem dX9_init_1 : decode cX9_init 1 = .ok (.invokespecial 1, 3) := dk_183 0 1 (dk_at dksX9_init_0 1 rfl rfl)
theorem dX9_init_4 : decode cX9_init 4 = .ok (.aload_n 0, 1) := dk_42 (dk_at dksX9_init_0 4 rfl rfl)
theorem dX9_init_5 : decode cX9_init 5 = .ok (.bipush 8, 2) := dk_16 8 (dk_at dksX9_init_0 5 rfl rfl)
theorem dX9_init_7 : decode cX9_init 7 = .ok (.newarray .int, 2) := dk_188_10 (dk_at dksX9_init_0 7 rfl rfl)
theorem dX9_init_9 : decode cX9_init 9 = .ok (.dup, 1) := dk_89 (dk_at dksX9_init_0 9 rfl rfl)
theorem dX9_init_10 : decode cX9_init 10 = .ok (.iconst 0, 1) := dk_3 (dk_at dksX9_init_0 10 rfl rfl)
theorem dX9_init_11 : decode cX9_init 11 = .ok (.iconst (-1), 1) := dk_2 (dk_at dksX9_init_0 11 rfl rfl)
theorem dX9_init_12 : decode cX9_init 12 = .ok (.iastore, 1) := dk_79 (dk_at dksX9_init_0 12 rfl rfl)
theorem dX9_init_13 : decode cX9_init 13 = .ok (.dup, 1) := dk_89 (dk_at dksX9_init_0 13 rfl rfl)
theorem dX9_init_14 : decode cX9_init 14 = .ok (.iconst 1, 1) := dk_4 (dk_at dksX9_init_0 14 rfl rfl)
theorem dX9_init_15 : decode cX9_init 15 = .ok (.iconst (-1), 1) := dk_2 (dk_at dksX9_init_0 15 rfl rfl)
theorem dX9_init_16 : decode cX9_init 16 = .ok (.iastore, 1) := dk_79 (dk_at dksX9_init_0 16 rfl rfl)
theorem dX9_init_17 : decode cX9_init 17 = .ok (.dup, 1) := dk_89 (dk_at dksX9_init_0 17 rfl rfl)
theorem dX9_init_18 : decode cX9_init 18 = .ok (.iconst 2, 1) := dk_5 (dk_at dksX9_init_0 18 rfl rfl)
theorem dX9_init_19 : decode cX9_init 19 = .ok (.iconst (-1), 1) := dk_2 (dk_at dksX9_init_0 19 rfl rfl)
theorem dX9_init_20 : decode cX9_init 20 = .ok (.iastore, 1) := dk_79 (dk_at dksX9_init_0 20 rfl rfl)
theorem dX9_init_21 : decode cX9_init 21 = .ok (.dup, 1) := dk_89 (dk_at dksX9_init_0 21 rfl rfl)
theorem dX9_init_22 : decode cX9_init 22 = .ok (.iconst 3, 1) := dk_6 (dk_at dksX9_init_0 22 rfl rfl)
theorem dX9_init_23 : decode cX9_init 23 = .ok (.iconst (-1), 1) := dk_2 (dk_at dksX9_init_0 23 rfl rfl)
theorem dX9_init_24 : decode cX9_init 24 = .ok (.iastore, 1) := dk_79 (dk_at dksX9_init_1 0 rfl rfl)
theorem dX9_init_25 : decode cX9_init 25 = .ok (.dup, 1) := dk_89 (dk_at dksX9_init_1 1 rfl rfl)
theorem dX9_init_26 : decode cX9_init 26 = .ok (.iconst 4, 1) := dk_7 (dk_at dksX9_init_1 2 rfl rfl)
theorem dX9_init_27 : decode cX9_init 27 = .ok (.iconst (-1), 1) := dk_2 (dk_at dksX9_init_1 3 rfl rfl)
theorem dX9_init_28 : decode cX9_init 28 = .ok (.iastore, 1) := dk_79 (dk_at dksX9_init_1 4 rfl rfl)
theorem dX9_init_29 : decode cX9_init 29 = .ok (.dup, 1) := dk_89 (dk_at dksX9_init_1 5 rfl rfl)
theorem dX9_init_30 : decode cX9_init 30 = .ok (.iconst 5, 1) := dk_8 (dk_at dksX9_init_1 6 rfl rfl)
theorem dX9_init_31 : decode cX9_init 31 = .ok (.iconst (-1), 1) := dk_2 (dk_at dksX9_init_1 7 rfl rfl)
theorem dX9_init_32 : decode cX9_init 32 = .ok (.iastore, 1) := dk_79 (dk_at dksX9_init_1 8 rfl rfl)
theorem dX9_init_33 : decode cX9_init 33 = .ok (.dup, 1) := dk_89 (dk_at dksX9_init_1 9 rfl rfl)
theorem dX9_init_34 : decode cX9_init 34 = .ok (.bipush 6, 2) := dk_16 6 (dk_at dksX9_init_1 10 rfl rfl)
theorem dX9_init_36 : decode cX9_init 36 = .ok (.iconst (-1), 1) := dk_2 (dk_at dksX9_init_1 12 rfl rfl)
theorem dX9_init_37 : decode cX9_init 37 = .ok (.iastore, 1) := dk_79 (dk_at dksX9_init_1 13 rfl rfl)
theorem dX9_init_38 : decode cX9_init 38 = .ok (.dup, 1) := dk_89 (dk_at dksX9_init_1 14 rfl rfl)
theorem dX9_init_39 : decode cX9_init 39 = .ok (.bipush 7, 2) := dk_16 7 (dk_at dksX9_init_1 15 rfl rfl)
theorem dX9_init_41 : decode cX9_init 41 = .ok (.iconst (-1), 1) := dk_2 (dk_at dksX9_init_1 17 rfl rfl)
theorem dX9_init_42 : decode cX9_init 42 = .ok (.iastore, 1) := dk_79 (dk_at dksX9_init_1 18 rfl rfl)
theorem dX9_init_43 : decode cX9_init 43 = .ok (.putfield 7, 3) := dk_181 0 7 (dk_at dksX9_init_1 19 rfl rfl)
theorem dX9_init_46 : decode cX9_init 46 = .ok (.aload_n 0, 1) := dk_42 (dk_at dksX9_init_1 22 rfl rfl)
theorem dX9_init_47 : decode cX9_init 47 = .ok (.bipush 8, 2) := dk_16 8 (dk_at dksX9_init_2 0 rfl rfl)
theorem dX9_init_49 : decode cX9_init 49 = .ok (.newarray .int, 2) := dk_188_10 (dk_at dksX9_init_2 2 rfl rfl)
theorem dX9_init_51 : decode cX9_init 51 = .ok (.putfield 13, 3) := dk_181 0 13 (dk_at dksX9_init_2 4 rfl rfl)
theorem dX9_init_54 : decode cX9_init 54 = .ok (.aload_n 0, 1) := dk_42 (dk_at dksX9_init_2 7 rfl rfl)
theorem dX9_init_55 : decode cX9_init 55 = .ok (.sipush 320, 3) := dk_17 1 64 (dk_at dksX9_init_2 8 rfl rfl)
theorem dX9_init_58 : decode cX9_init 58 = .ok (.newarray .int, 2) := dk_188_10 (dk_at dksX9_init_2 11 rfl rfl)
theorem dX9_init_60 : decode cX9_init 60 = .ok (.putfield 16, 3) := dk_181 0 16 (dk_at dksX9_init_2 13 rfl rfl)
theorem dX9_init_63 : decode cX9_init 63 = .ok (.aload_n 0, 1) := dk_42 (dk_at dksX9_init_2 16 rfl rfl)
theorem dX9_init_64 : decode cX9_init 64 = .ok (.bipush 64, 2) := dk_16 64 (dk_at dksX9_init_2 17 rfl rfl)
theorem dX9_init_66 : decode cX9_init 66 = .ok (.newarray .int, 2) := dk_188_10 (dk_at dksX9_init_2 19 rfl rfl)
theorem dX9_init_68 : decode cX9_init 68 = .ok (.putfield 19, 3) := dk_181 0 19 (dk_at dksX9_init_2 21 rfl rfl)
theorem dX9_init_71 : decode cX9_init 71 = .ok (.aload_n 0, 1) := dk_42 (dk_at dksX9_init_3 0 rfl rfl)
theorem dX9_init_72 : decode cX9_init 72 = .ok (.bipush 64, 2) := dk_16 64 (dk_at dksX9_init_3 1 rfl rfl)
theorem dX9_init_74 : decode cX9_init 74 = .ok (.newarray .int, 2) := dk_188_10 (dk_at dksX9_init_3 3 rfl rfl)
theorem dX9_init_76 : decode cX9_init 76 = .ok (.putfield 22, 3) := dk_181 0 22 (dk_at dksX9_init_3 5 rfl rfl)
theorem dX9_init_79 : decode cX9_init 79 = .ok (.aload_n 0, 1) := dk_42 (dk_at dksX9_init_3 8 rfl rfl)
theorem dX9_init_80 : decode cX9_init 80 = .ok (.bipush 64, 2) := dk_16 64 (dk_at dksX9_init_3 9 rfl rfl)
theorem dX9_init_82 : decode cX9_init 82 = .ok (.newarray .int, 2) := dk_188_10 (dk_at dksX9_init_3 11 rfl rfl)
theorem dX9_init_84 : decode cX9_init 84 = .ok (.putfield 25, 3) := dk_181 0 25 (dk_at dksX9_init_3 13 rfl rfl)
theorem dX9_init_87 : decode cX9_init 87 = .ok (.aload_n 0, 1) := dk_42 (dk_at dksX9_init_3 16 rfl rfl)
theorem dX9_init_88 : decode cX9_init 88 = .ok (.sipush 1536, 3) := dk_17 6 0 (dk_at dksX9_init_3 17 rfl rfl)
theorem dX9_init_91 : decode cX9_init 91 = .ok (.newarray .int, 2) := dk_188_10 (dk_at dksX9_init_3 20 rfl rfl)
theorem dX9_init_93 : decode cX9_init 93 = .ok (.putfield 28, 3) := dk_181 0 28 (dk_at dksX9_init_4 0 rfl rfl)
theorem dX9_init_96 : decode cX9_init 96 = .ok (.aload_n 0, 1) := dk_42 (dk_at dksX9_init_4 3 rfl rfl)
theorem dX9_init_97 : decode cX9_init 97 = .ok (.bipush 120, 2) := dk_16 120 (dk_at dksX9_init_4 4 rfl rfl)
theorem dX9_init_99 : decode cX9_init 99 = .ok (.newarray .int, 2) := dk_188_10 (dk_at dksX9_init_4 6 rfl rfl)
theorem dX9_init_101 : decode cX9_init 101 = .ok (.putfield 31, 3) := dk_181 0 31 (dk_at dksX9_init_4 8 rfl rfl)
theorem dX9_init_104 : decode cX9_init 104 = .ok (.aload_n 0, 1) := dk_42 (dk_at dksX9_init_4 11 rfl rfl)
theorem dX9_init_105 : decode cX9_init 105 = .ok (.bipush 9, 2) := dk_16 9 (dk_at dksX9_init_4 12 rfl rfl)
theorem dX9_init_107 : decode cX9_init 107 = .ok (.newarray .long, 2) := dk_188_11 (dk_at dksX9_init_4 14 rfl rfl)
theorem dX9_init_109 : decode cX9_init 109 = .ok (.putfield 34, 3) := dk_181 0 34 (dk_at dksX9_init_4 16 rfl rfl)
theorem dX9_init_112 : decode cX9_init 112 = .ok (.aload_n 0, 1) := dk_42 (dk_at dksX9_init_4 19 rfl rfl)
theorem dX9_init_113 : decode cX9_init 113 = .ok (.iconst 2, 1) := dk_5 (dk_at dksX9_init_4 20 rfl rfl)
theorem dX9_init_114 : decode cX9_init 114 = .ok (.newarray .boolean, 2) := dk_188_4 (dk_at dksX9_init_4 21 rfl rfl)
theorem dX9_init_116 : decode cX9_init 116 = .ok (.putfield 38, 3) := dk_181 0 38 (dk_at dksX9_init_5 0 rfl rfl)
theorem dX9_init_119 : decode cX9_init 119 = .ok (.aload_n 0, 1) := dk_42 (dk_at dksX9_init_5 3 rfl rfl)
theorem dX9_init_120 : decode cX9_init 120 = .ok (.sipush 128, 3) := dk_17 0 128 (dk_at dksX9_init_5 4 rfl rfl)
theorem dX9_init_123 : decode cX9_init 123 = .ok (.newarray .int, 2) := dk_188_10 (dk_at dksX9_init_5 7 rfl rfl)
theorem dX9_init_125 : decode cX9_init 125 = .ok (.putfield 42, 3) := dk_181 0 42 (dk_at dksX9_init_5 9 rfl rfl)
theorem dX9_init_128 : decode cX9_init 128 = .ok (.aload_n 0, 1) := dk_42 (dk_at dksX9_init_5 12 rfl rfl)
theorem dX9_init_129 : decode cX9_init 129 = .ok (.bipush 16, 2) := dk_16 16 (dk_at dksX9_init_5 13 rfl rfl)
theorem dX9_init_131 : decode cX9_init 131 = .ok (.newarray .int, 2) := dk_188_10 (dk_at dksX9_init_5 15 rfl rfl)
theorem dX9_init_133 : decode cX9_init 133 = .ok (.putfield 45, 3) := dk_181 0 45 (dk_at dksX9_init_5 17 rfl rfl)
theorem dX9_init_136 : decode cX9_init 136 = .ok (.return_, 1) := dk_177 (dk_at dksX9_init_5 20 rfl rfl)
abbrev cX9_row : ByteArray := prog_16_method_6_code
def yX9_row : MethodName := ⟨RX9, "row", "(III)I"⟩
def dkwX9_row_3 : List UInt8 := [42, 180, 0, 16, 16, 40, 27, 104, 21, 4, 96, 3, 79, 132, 4, 1, 167, 255, 233, 29, 172]
abbrev dktX9_row_3 : List UInt8 := dkwX9_row_3 ++ []
def dkwX9_row_2 : List UInt8 := [42, 180, 0, 7, 27, 28, 79, 42, 180, 0, 13, 27, 29, 79, 3, 54, 4, 21, 4, 16, 40, 162, 0, 22]
abbrev dktX9_row_2 : List UInt8 := dkwX9_row_2 ++ dktX9_row_3
def dkwX9_row_1 : List UInt8 := [29, 16, 40, 164, 0, 6, 18, 68, 172, 42, 3, 181, 0, 52, 29, 156, 0, 9, 42, 7, 182, 0, 69, 172]
abbrev dktX9_row_1 : List UInt8 := dkwX9_row_1 ++ dktX9_row_2
def dkwX9_row_0 : List UInt8 := [42, 3, 181, 0, 48, 27, 184, 0, 62, 153, 0, 21, 28, 133, 9, 20, 0, 66, 184, 0, 58, 153, 0, 9]
abbrev dktX9_row_0 : List UInt8 := dkwX9_row_0 ++ dktX9_row_1
theorem dksX9_row_0 : cX9_row.data.toList.drop 0 = dktX9_row_0 := by decide +kernel
theorem dksX9_row_1 : cX9_row.data.toList.drop 24 = dktX9_row_1 := dk_seg dksX9_row_0 24 rfl rfl
theorem dksX9_row_2 : cX9_row.data.toList.drop 48 = dktX9_row_2 := dk_seg dksX9_row_1 24 rfl rfl
theorem dksX9_row_3 : cX9_row.data.toList.drop 72 = dktX9_row_3 := dk_seg dksX9_row_2 24 rfl rfl
theorem dX9_row_0 : decode cX9_row 0 = .ok (.aload_n 0, 1) := dk_42 (dk_at dksX9_row_0 0 rfl rfl)
theorem dX9_row_1 : decode cX9_row 1 = .ok (.iconst 0, 1) := dk_3 (dk_at dksX9_row_0 1 rfl rfl)
theorem dX9_row_2 : decode cX9_row 2 = .ok (.putfield 48, 3) := dk_181 0 48 (dk_at dksX9_row_0 2 rfl rfl)
theorem dX9_row_5 : decode cX9_row 5 = .ok (.iload_n 1, 1) := dk_27 (dk_at dksX9_row_0 5 rfl rfl)
theorem dX9_row_6 : decode cX9_row 6 = .ok (.invokestatic 62, 3) := dk_184 0 62 (dk_at dksX9_row_0 6 rfl rfl)
theorem dX9_row_9 : decode cX9_row 9 = .ok (.ifCond .eq 21, 3) := dk_153 0 21 (dk_at dksX9_row_0 9 rfl rfl)
theorem dX9_row_12 : decode cX9_row 12 = .ok (.iload_n 2, 1) := dk_28 (dk_at dksX9_row_0 12 rfl rfl)
theorem dX9_row_13 : decode cX9_row 13 = .ok (.i2l, 1) := dk_133 (dk_at dksX9_row_0 13 rfl rfl)
theorem dX9_row_14 : decode cX9_row 14 = .ok (.lconst 0, 1) := dk_9 (dk_at dksX9_row_0 14 rfl rfl)
theorem dX9_row_15 : decode cX9_row 15 = .ok (.ldc2_w 66, 3) := dk_20 0 66 (dk_at dksX9_row_0 15 rfl rfl)
theorem dX9_row_18 : decode cX9_row 18 = .ok (.invokestatic 58, 3) := dk_184 0 58 (dk_at dksX9_row_0 18 rfl rfl)
theorem dX9_row_21 : decode cX9_row 21 = .ok (.ifCond .eq 9, 3) := dk_153 0 9 (dk_at dksX9_row_0 21 rfl rfl)
theorem dX9_row_24 : decode cX9_row 24 = .ok (.iload_n 3, 1) := dk_29 (dk_at dksX9_row_1 0 rfl rfl)
theorem dX9_row_25 : decode cX9_row 25 = .ok (.bipush 40, 2) := dk_16 40 (dk_at dksX9_row_1 1 rfl rfl)
theorem dX9_row_27 : decode cX9_row 27 = .ok (.if_icmp .le 6, 3) := dk_164 0 6 (dk_at dksX9_row_1 3 rfl rfl)
theorem dX9_row_30 : decode cX9_row 30 = .ok (.ldc 68, 2) := dk_18 68 (dk_at dksX9_row_1 6 rfl rfl)
theorem dX9_row_32 : decode cX9_row 32 = .ok (.ireturn, 1) := dk_172 (dk_at dksX9_row_1 8 rfl rfl)
theorem dX9_row_33 : decode cX9_row 33 = .ok (.aload_n 0, 1) := dk_42 (dk_at dksX9_row_1 9 rfl rfl)
theorem dX9_row_34 : decode cX9_row 34 = .ok (.iconst 0, 1) := dk_3 (dk_at dksX9_row_1 10 rfl rfl)
theorem dX9_row_35 : decode cX9_row 35 = .ok (.putfield 52, 3) := dk_181 0 52 (dk_at dksX9_row_1 11 rfl rfl)
theorem dX9_row_38 : decode cX9_row 38 = .ok (.iload_n 3, 1) := dk_29 (dk_at dksX9_row_1 14 rfl rfl)
theorem dX9_row_39 : decode cX9_row 39 = .ok (.ifCond .ge 9, 3) := dk_156 0 9 (dk_at dksX9_row_1 15 rfl rfl)
theorem dX9_row_42 : decode cX9_row 42 = .ok (.aload_n 0, 1) := dk_42 (dk_at dksX9_row_1 18 rfl rfl)
theorem dX9_row_43 : decode cX9_row 43 = .ok (.iconst 4, 1) := dk_7 (dk_at dksX9_row_1 19 rfl rfl)
theorem dX9_row_44 : decode cX9_row 44 = .ok (.invokevirtual 69, 3) := dk_182 0 69 (dk_at dksX9_row_1 20 rfl rfl)
theorem dX9_row_47 : decode cX9_row 47 = .ok (.ireturn, 1) := dk_172 (dk_at dksX9_row_1 23 rfl rfl)
theorem dX9_row_48 : decode cX9_row 48 = .ok (.aload_n 0, 1) := dk_42 (dk_at dksX9_row_2 0 rfl rfl)
theorem dX9_row_49 : decode cX9_row 49 = .ok (.getfield 7, 3) := dk_180 0 7 (dk_at dksX9_row_2 1 rfl rfl)
theorem dX9_row_52 : decode cX9_row 52 = .ok (.iload_n 1, 1) := dk_27 (dk_at dksX9_row_2 4 rfl rfl)
theorem dX9_row_53 : decode cX9_row 53 = .ok (.iload_n 2, 1) := dk_28 (dk_at dksX9_row_2 5 rfl rfl)
theorem dX9_row_54 : decode cX9_row 54 = .ok (.iastore, 1) := dk_79 (dk_at dksX9_row_2 6 rfl rfl)
theorem dX9_row_55 : decode cX9_row 55 = .ok (.aload_n 0, 1) := dk_42 (dk_at dksX9_row_2 7 rfl rfl)
theorem dX9_row_56 : decode cX9_row 56 = .ok (.getfield 13, 3) := dk_180 0 13 (dk_at dksX9_row_2 8 rfl rfl)
theorem dX9_row_59 : decode cX9_row 59 = .ok (.iload_n 1, 1) := dk_27 (dk_at dksX9_row_2 11 rfl rfl)
theorem dX9_row_60 : decode cX9_row 60 = .ok (.iload_n 3, 1) := dk_29 (dk_at dksX9_row_2 12 rfl rfl)
theorem dX9_row_61 : decode cX9_row 61 = .ok (.iastore, 1) := dk_79 (dk_at dksX9_row_2 13 rfl rfl)
theorem dX9_row_62 : decode cX9_row 62 = .ok (.iconst 0, 1) := dk_3 (dk_at dksX9_row_2 14 rfl rfl)
theorem dX9_row_63 : decode cX9_row 63 = .ok (.istore 4, 2) := dk_54 4 (dk_at dksX9_row_2 15 rfl rfl)
theorem dX9_row_65 : decode cX9_row 65 = .ok (.iload 4, 2) := dk_21 4 (dk_at dksX9_row_2 17 rfl rfl)
theorem dX9_row_67 : decode cX9_row 67 = .ok (.bipush 40, 2) := dk_16 40 (dk_at dksX9_row_2 19 rfl rfl)
theorem dX9_row_69 : decode cX9_row 69 = .ok (.if_icmp .ge 22, 3) := dk_162 0 22 (dk_at dksX9_row_2 21 rfl rfl)
theorem dX9_row_72 : decode cX9_row 72 = .ok (.aload_n 0, 1) := dk_42 (dk_at dksX9_row_3 0 rfl rfl)
theorem dX9_row_73 : decode cX9_row 73 = .ok (.getfield 16, 3) := dk_180 0 16 (dk_at dksX9_row_3 1 rfl rfl)
theorem dX9_row_76 : decode cX9_row 76 = .ok (.bipush 40, 2) := dk_16 40 (dk_at dksX9_row_3 4 rfl rfl)
theorem dX9_row_78 : decode cX9_row 78 = .ok (.iload_n 1, 1) := dk_27 (dk_at dksX9_row_3 6 rfl rfl)
theorem dX9_row_79 : decode cX9_row 79 = .ok (.imul, 1) := dk_104 (dk_at dksX9_row_3 7 rfl rfl)
theorem dX9_row_80 : decode cX9_row 80 = .ok (.iload 4, 2) := dk_21 4 (dk_at dksX9_row_3 8 rfl rfl)
theorem dX9_row_82 : decode cX9_row 82 = .ok (.iadd, 1) := dk_96 (dk_at dksX9_row_3 10 rfl rfl)
theorem dX9_row_83 : decode cX9_row 83 = .ok (.iconst 0, 1) := dk_3 (dk_at dksX9_row_3 11 rfl rfl)
theorem dX9_row_84 : decode cX9_row 84 = .ok (.iastore, 1) := dk_79 (dk_at dksX9_row_3 12 rfl rfl)
theorem dX9_row_85 : decode cX9_row 85 = .ok (.iinc 4 1, 3) := dk_132 4 1 (dk_at dksX9_row_3 13 rfl rfl)
theorem dX9_row_88 : decode cX9_row 88 = .ok (.goto (-23), 3) := dk_167 255 233 (dk_at dksX9_row_3 16 rfl rfl)
theorem dX9_row_91 : decode cX9_row 91 = .ok (.iload_n 3, 1) := dk_29 (dk_at dksX9_row_3 19 rfl rfl)
theorem dX9_row_92 : decode cX9_row 92 = .ok (.ireturn, 1) := dk_172 (dk_at dksX9_row_3 20 rfl rfl)
abbrev cX9_isRow : ByteArray := prog_16_method_5_code
def yX9_isRow : MethodName := ⟨RX9, "isRow", "(I)Z"⟩
def dkwX9_isRow_0 : List UInt8 := [26, 133, 9, 20, 0, 56, 184, 0, 58, 172]
abbrev dktX9_isRow_0 : List UInt8 := dkwX9_isRow_0 ++ []
theorem dksX9_isRow_0 : cX9_isRow.data.toList.drop 0 = dktX9_isRow_0 := by decide +kernel
theorem dX9_isRow_0 : decode cX9_isRow 0 = .ok (.iload_n 0, 1) := dk_26 (dk_at dksX9_isRow_0 0 rfl rfl)
theorem dX9_isRow_1 : decode cX9_isRow 1 = .ok (.i2l, 1) := dk_133 (dk_at dksX9_isRow_0 1 rfl rfl)
theorem dX9_isRow_2 : decode cX9_isRow 2 = .ok (.lconst 0, 1) := dk_9 (dk_at dksX9_isRow_0 2 rfl rfl)
theorem dX9_isRow_3 : decode cX9_isRow 3 = .ok (.ldc2_w 56, 3) := dk_20 0 56 (dk_at dksX9_isRow_0 3 rfl rfl)
theorem dX9_isRow_6 : decode cX9_isRow 6 = .ok (.invokestatic 58, 3) := dk_184 0 58 (dk_at dksX9_isRow_0 6 rfl rfl)
theorem dX9_isRow_9 : decode cX9_isRow 9 = .ok (.ireturn, 1) := dk_172 (dk_at dksX9_isRow_0 9 rfl rfl)
abbrev cX9_in : ByteArray := prog_16_method_3_code
def yX9_in : MethodName := ⟨RX9, "in", "(JJJ)Z"⟩
def dkwX9_in_0 : List UInt8 := [30, 32, 148, 155, 0, 14, 30, 22, 4, 148, 157, 0, 7, 4, 167, 0, 4, 3, 172]
abbrev dktX9_in_0 : List UInt8 := dkwX9_in_0 ++ []
theorem dksX9_in_0 : cX9_in.data.toList.drop 0 = dktX9_in_0 := by decide +kernel
theorem dX9_in_0 : decode cX9_in 0 = .ok (.lload_n 0, 1) := dk_30 (dk_at dksX9_in_0 0 rfl rfl)
theorem dX9_in_1 : decode cX9_in 1 = .ok (.lload_n 2, 1) := dk_32 (dk_at dksX9_in_0 1 rfl rfl)
theorem dX9_in_2 : decode cX9_in 2 = .ok (.lcmp, 1) := dk_148 (dk_at dksX9_in_0 2 rfl rfl)
theorem dX9_in_3 : decode cX9_in 3 = .ok (.ifCond .lt 14, 3) := dk_155 0 14 (dk_at dksX9_in_0 3 rfl rfl)
theorem dX9_in_6 : decode cX9_in 6 = .ok (.lload_n 0, 1) := dk_30 (dk_at dksX9_in_0 6 rfl rfl)
theorem dX9_in_7 : decode cX9_in 7 = .ok (.lload 4, 2) := dk_22 4 (dk_at dksX9_in_0 7 rfl rfl)
theorem dX9_in_9 : decode cX9_in 9 = .ok (.lcmp, 1) := dk_148 (dk_at dksX9_in_0 9 rfl rfl)
theorem dX9_in_10 : decode cX9_in 10 = .ok (.ifCond .gt 7, 3) := dk_157 0 7 (dk_at dksX9_in_0 10 rfl rfl)
theorem dX9_in_13 : decode cX9_in 13 = .ok (.iconst 1, 1) := dk_4 (dk_at dksX9_in_0 13 rfl rfl)
theorem dX9_in_14 : decode cX9_in 14 = .ok (.goto 4, 3) := dk_167 0 4 (dk_at dksX9_in_0 14 rfl rfl)
theorem dX9_in_17 : decode cX9_in 17 = .ok (.iconst 0, 1) := dk_3 (dk_at dksX9_in_0 17 rfl rfl)
theorem dX9_in_18 : decode cX9_in 18 = .ok (.ireturn, 1) := dk_172 (dk_at dksX9_in_0 18 rfl rfl)
abbrev cX9_finding : ByteArray := prog_16_method_4_code
def yX9_finding : MethodName := ⟨RX9, "finding", "(I)I"⟩
def dkwX9_finding_0 : List UInt8 := [42, 27, 181, 0, 52, 18, 55, 27, 100, 172]
abbrev dktX9_finding_0 : List UInt8 := dkwX9_finding_0 ++ []
theorem dksX9_finding_0 : cX9_finding.data.toList.drop 0 = dktX9_finding_0 := by decide +kernel
theorem dX9_finding_0 : decode cX9_finding 0 = .ok (.aload_n 0, 1) := dk_42 (dk_at dksX9_finding_0 0 rfl rfl)
theorem dX9_finding_1 : decode cX9_finding 1 = .ok (.iload_n 1, 1) := dk_27 (dk_at dksX9_finding_0 1 rfl rfl)
theorem dX9_finding_2 : decode cX9_finding 2 = .ok (.putfield 52, 3) := dk_181 0 52 (dk_at dksX9_finding_0 2 rfl rfl)
theorem dX9_finding_5 : decode cX9_finding 5 = .ok (.ldc 55, 2) := dk_18 55 (dk_at dksX9_finding_0 5 rfl rfl)
theorem dX9_finding_7 : decode cX9_finding 7 = .ok (.iload_n 1, 1) := dk_27 (dk_at dksX9_finding_0 7 rfl rfl)
theorem dX9_finding_8 : decode cX9_finding 8 = .ok (.isub, 1) := dk_100 (dk_at dksX9_finding_0 8 rfl rfl)
theorem dX9_finding_9 : decode cX9_finding 9 = .ok (.ireturn, 1) := dk_172 (dk_at dksX9_finding_0 9 rfl rfl)
abbrev cX9_set : ByteArray := prog_16_method_7_code
def yX9_set : MethodName := ⟨RX9, "set", "(III)I"⟩
def dkwX9_set_4 : List UInt8 := [147, 167, 0, 4, 29, 79, 42, 180, 0, 16, 16, 40, 27, 104, 28, 96, 46, 172]
abbrev dktX9_set_4 : List UInt8 := dkwX9_set_4 ++ []
def dkwX9_set_3 : List UInt8 := [180, 0, 7, 27, 46, 154, 0, 8, 29, 145, 167, 0, 19, 42, 180, 0, 7, 27, 46, 4, 160, 0, 8, 29]
abbrev dktX9_set_3 : List UInt8 := dkwX9_set_3 ++ dktX9_set_4
def dkwX9_set_2 : List UInt8 := [184, 0, 58, 154, 0, 9, 42, 5, 182, 0, 69, 172, 42, 180, 0, 16, 16, 40, 27, 104, 28, 96, 42]
abbrev dktX9_set_2 : List UInt8 := dkwX9_set_2 ++ dktX9_set_3
def dkwX9_set_1 : List UInt8 := [27, 46, 156, 0, 9, 42, 4, 182, 0, 69, 172, 28, 133, 9, 42, 180, 0, 13, 27, 46, 4, 100, 133]
abbrev dktX9_set_1 : List UInt8 := dkwX9_set_1 ++ dktX9_set_2
def dkwX9_set_0 : List UInt8 := [42, 3, 181, 0, 48, 27, 184, 0, 62, 154, 0, 6, 18, 68, 172, 42, 3, 181, 0, 52, 42, 180, 0, 7]
abbrev dktX9_set_0 : List UInt8 := dkwX9_set_0 ++ dktX9_set_1
theorem dksX9_set_0 : cX9_set.data.toList.drop 0 = dktX9_set_0 := by decide +kernel
theorem dksX9_set_1 : cX9_set.data.toList.drop 24 = dktX9_set_1 := dk_seg dksX9_set_0 24 rfl rfl
theorem dksX9_set_2 : cX9_set.data.toList.drop 47 = dktX9_set_2 := dk_seg dksX9_set_1 23 rfl rfl
theorem dksX9_set_3 : cX9_set.data.toList.drop 70 = dktX9_set_3 := dk_seg dksX9_set_2 23 rfl rfl
theorem dksX9_set_4 : cX9_set.data.toList.drop 94 = dktX9_set_4 := dk_seg dksX9_set_3 24 rfl rfl
theorem dX9_set_0 : decode cX9_set 0 = .ok (.aload_n 0, 1) := dk_42 (dk_at dksX9_set_0 0 rfl rfl)
theorem dX9_set_1 : decode cX9_set 1 = .ok (.iconst 0, 1) := dk_3 (dk_at dksX9_set_0 1 rfl rfl)
theorem dX9_set_2 : decode cX9_set 2 = .ok (.putfield 48, 3) := dk_181 0 48 (dk_at dksX9_set_0 2 rfl rfl)
theorem dX9_set_5 : decode cX9_set 5 = .ok (.iload_n 1, 1) := dk_27 (dk_at dksX9_set_0 5 rfl rfl)
theorem dX9_set_6 : decode cX9_set 6 = .ok (.invokestatic 62, 3) := dk_184 0 62 (dk_at dksX9_set_0 6 rfl rfl)
theorem dX9_set_9 : decode cX9_set 9 = .ok (.ifCond .ne 6, 3) := dk_154 0 6 (dk_at dksX9_set_0 9 rfl rfl)
theorem dX9_set_12 : decode cX9_set 12 = .ok (.ldc 68, 2) := dk_18 68 (dk_at dksX9_set_0 12 rfl rfl)
theorem dX9_set_14 : decode cX9_set 14 = .ok (.ireturn, 1) := dk_172 (dk_at dksX9_set_0 14 rfl rfl)
theorem dX9_set_15 : decode cX9_set 15 = .ok (.aload_n 0, 1) := dk_42 (dk_at dksX9_set_0 15 rfl rfl)
theorem dX9_set_16 : decode cX9_set 16 = .ok (.iconst 0, 1) := dk_3 (dk_at dksX9_set_0 16 rfl rfl)
theorem dX9_set_17 : decode cX9_set 17 = .ok (.putfield 52, 3) := dk_181 0 52 (dk_at dksX9_set_0 17 rfl rfl)
theorem dX9_set_20 : decode cX9_set 20 = .ok (.aload_n 0, 1) := dk_42 (dk_at dksX9_set_0 20 rfl rfl)
theorem dX9_set_21 : decode cX9_set 21 = .ok (.getfield 7, 3) := dk_180 0 7 (dk_at dksX9_set_0 21 rfl rfl)
theorem dX9_set_24 : decode cX9_set 24 = .ok (.iload_n 1, 1) := dk_27 (dk_at dksX9_set_1 0 rfl rfl)
theorem dX9_set_25 : decode cX9_set 25 = .ok (.iaload, 1) := dk_46 (dk_at dksX9_set_1 1 rfl rfl)
theorem dX9_set_26 : decode cX9_set 26 = .ok (.ifCond .ge 9, 3) := dk_156 0 9 (dk_at dksX9_set_1 2 rfl rfl)
theorem dX9_set_29 : decode cX9_set 29 = .ok (.aload_n 0, 1) := dk_42 (dk_at dksX9_set_1 5 rfl rfl)
theorem dX9_set_30 : decode cX9_set 30 = .ok (.iconst 1, 1) := dk_4 (dk_at dksX9_set_1 6 rfl rfl)
theorem dX9_set_31 : decode cX9_set 31 = .ok (.invokevirtual 69, 3) := dk_182 0 69 (dk_at dksX9_set_1 7 rfl rfl)
theorem dX9_set_34 : decode cX9_set 34 = .ok (.ireturn, 1) := dk_172 (dk_at dksX9_set_1 10 rfl rfl)
theorem dX9_set_35 : decode cX9_set 35 = .ok (.iload_n 2, 1) := dk_28 (dk_at dksX9_set_1 11 rfl rfl)
theorem dX9_set_36 : decode cX9_set 36 = .ok (.i2l, 1) := dk_133 (dk_at dksX9_set_1 12 rfl rfl)
theorem dX9_set_37 : decode cX9_set 37 = .ok (.lconst 0, 1) := dk_9 (dk_at dksX9_set_1 13 rfl rfl)
theorem dX9_set_38 : decode cX9_set 38 = .ok (.aload_n 0, 1) := dk_42 (dk_at dksX9_set_1 14 rfl rfl)
theorem dX9_set_39 : decode cX9_set 39 = .ok (.getfield 13, 3) := dk_180 0 13 (dk_at dksX9_set_1 15 rfl rfl)
theorem dX9_set_42 : decode cX9_set 42 = .ok (.iload_n 1, 1) := dk_27 (dk_at dksX9_set_1 18 rfl rfl)
theorem dX9_set_43 : decode cX9_set 43 = .ok (.iaload, 1) := dk_46 (dk_at dksX9_set_1 19 rfl rfl)
theorem dX9_set_44 : decode cX9_set 44 = .ok (.iconst 1, 1) := dk_4 (dk_at dksX9_set_1 20 rfl rfl)
theorem dX9_set_45 : decode cX9_set 45 = .ok (.isub, 1) := dk_100 (dk_at dksX9_set_1 21 rfl rfl)
theorem dX9_set_46 : decode cX9_set 46 = .ok (.i2l, 1) := dk_133 (dk_at dksX9_set_1 22 rfl rfl)
theorem dX9_set_47 : decode cX9_set 47 = .ok (.invokestatic 58, 3) := dk_184 0 58 (dk_at dksX9_set_2 0 rfl rfl)
theorem dX9_set_50 : decode cX9_set 50 = .ok (.ifCond .ne 9, 3) := dk_154 0 9 (dk_at dksX9_set_2 3 rfl rfl)
theorem dX9_set_53 : decode cX9_set 53 = .ok (.aload_n 0, 1) := dk_42 (dk_at dksX9_set_2 6 rfl rfl)
theorem dX9_set_54 : decode cX9_set 54 = .ok (.iconst 2, 1) := dk_5 (dk_at dksX9_set_2 7 rfl rfl)
theorem dX9_set_55 : decode cX9_set 55 = .ok (.invokevirtual 69, 3) := dk_182 0 69 (dk_at dksX9_set_2 8 rfl rfl)
theorem dX9_set_58 : decode cX9_set 58 = .ok (.ireturn, 1) := dk_172 (dk_at dksX9_set_2 11 rfl rfl)
theorem dX9_set_59 : decode cX9_set 59 = .ok (.aload_n 0, 1) := dk_42 (dk_at dksX9_set_2 12 rfl rfl)
theorem dX9_set_60 : decode cX9_set 60 = .ok (.getfield 16, 3) := dk_180 0 16 (dk_at dksX9_set_2 13 rfl rfl)
theorem dX9_set_63 : decode cX9_set 63 = .ok (.bipush 40, 2) := dk_16 40 (dk_at dksX9_set_2 16 rfl rfl)
theorem dX9_set_65 : decode cX9_set 65 = .ok (.iload_n 1, 1) := dk_27 (dk_at dksX9_set_2 18 rfl rfl)
theorem dX9_set_66 : decode cX9_set 66 = .ok (.imul, 1) := dk_104 (dk_at dksX9_set_2 19 rfl rfl)
theorem dX9_set_67 : decode cX9_set 67 = .ok (.iload_n 2, 1) := dk_28 (dk_at dksX9_set_2 20 rfl rfl)
theorem dX9_set_68 : decode cX9_set 68 = .ok (.iadd, 1) := dk_96 (dk_at dksX9_set_2 21 rfl rfl)
theorem dX9_set_69 : decode cX9_set 69 = .ok (.aload_n 0, 1) := dk_42 (dk_at dksX9_set_2 22 rfl rfl)
theorem dX9_set_70 : decode cX9_set 70 = .ok (.getfield 7, 3) := dk_180 0 7 (dk_at dksX9_set_3 0 rfl rfl)
theorem dX9_set_73 : decode cX9_set 73 = .ok (.iload_n 1, 1) := dk_27 (dk_at dksX9_set_3 3 rfl rfl)
theorem dX9_set_74 : decode cX9_set 74 = .ok (.iaload, 1) := dk_46 (dk_at dksX9_set_3 4 rfl rfl)
theorem dX9_set_75 : decode cX9_set 75 = .ok (.ifCond .ne 8, 3) := dk_154 0 8 (dk_at dksX9_set_3 5 rfl rfl)
theorem dX9_set_78 : decode cX9_set 78 = .ok (.iload_n 3, 1) := dk_29 (dk_at dksX9_set_3 8 rfl rfl)
theorem dX9_set_79 : decode cX9_set 79 = .ok (.i2b, 1) := dk_145 (dk_at dksX9_set_3 9 rfl rfl)
theorem dX9_set_80 : decode cX9_set 80 = .ok (.goto 19, 3) := dk_167 0 19 (dk_at dksX9_set_3 10 rfl rfl)
theorem dX9_set_83 : decode cX9_set 83 = .ok (.aload_n 0, 1) := dk_42 (dk_at dksX9_set_3 13 rfl rfl)
theorem dX9_set_84 : decode cX9_set 84 = .ok (.getfield 7, 3) := dk_180 0 7 (dk_at dksX9_set_3 14 rfl rfl)
theorem dX9_set_87 : decode cX9_set 87 = .ok (.iload_n 1, 1) := dk_27 (dk_at dksX9_set_3 17 rfl rfl)
theorem dX9_set_88 : decode cX9_set 88 = .ok (.iaload, 1) := dk_46 (dk_at dksX9_set_3 18 rfl rfl)
theorem dX9_set_89 : decode cX9_set 89 = .ok (.iconst 1, 1) := dk_4 (dk_at dksX9_set_3 19 rfl rfl)
theorem dX9_set_90 : decode cX9_set 90 = .ok (.if_icmp .ne 8, 3) := dk_160 0 8 (dk_at dksX9_set_3 20 rfl rfl)
theorem dX9_set_93 : decode cX9_set 93 = .ok (.iload_n 3, 1) := dk_29 (dk_at dksX9_set_3 23 rfl rfl)
theorem dX9_set_94 : decode cX9_set 94 = .ok (.i2s, 1) := dk_147 (dk_at dksX9_set_4 0 rfl rfl)
theorem dX9_set_95 : decode cX9_set 95 = .ok (.goto 4, 3) := dk_167 0 4 (dk_at dksX9_set_4 1 rfl rfl)
theorem dX9_set_98 : decode cX9_set 98 = .ok (.iload_n 3, 1) := dk_29 (dk_at dksX9_set_4 4 rfl rfl)
theorem dX9_set_99 : decode cX9_set 99 = .ok (.iastore, 1) := dk_79 (dk_at dksX9_set_4 5 rfl rfl)
theorem dX9_set_100 : decode cX9_set 100 = .ok (.aload_n 0, 1) := dk_42 (dk_at dksX9_set_4 6 rfl rfl)
theorem dX9_set_101 : decode cX9_set 101 = .ok (.getfield 16, 3) := dk_180 0 16 (dk_at dksX9_set_4 7 rfl rfl)
theorem dX9_set_104 : decode cX9_set 104 = .ok (.bipush 40, 2) := dk_16 40 (dk_at dksX9_set_4 10 rfl rfl)
theorem dX9_set_106 : decode cX9_set 106 = .ok (.iload_n 1, 1) := dk_27 (dk_at dksX9_set_4 12 rfl rfl)
theorem dX9_set_107 : decode cX9_set 107 = .ok (.imul, 1) := dk_104 (dk_at dksX9_set_4 13 rfl rfl)
theorem dX9_set_108 : decode cX9_set 108 = .ok (.iload_n 2, 1) := dk_28 (dk_at dksX9_set_4 14 rfl rfl)
theorem dX9_set_109 : decode cX9_set 109 = .ok (.iadd, 1) := dk_96 (dk_at dksX9_set_4 15 rfl rfl)
theorem dX9_set_110 : decode cX9_set 110 = .ok (.iaload, 1) := dk_46 (dk_at dksX9_set_4 16 rfl rfl)
theorem dX9_set_111 : decode cX9_set 111 = .ok (.ireturn, 1) := dk_172 (dk_at dksX9_set_4 17 rfl rfl)
abbrev cX9_copy : ByteArray := prog_16_method_8_code
def yX9_copy : MethodName := ⟨RX9, "copy", "(IIIII)I"⟩
def dkwX9_copy_8 : List UInt8 := [16, 40, 27, 104, 28, 96, 21, 8, 96, 46, 79, 132, 7, 1, 167, 255, 198, 21, 5, 172]
abbrev dktX9_copy_8 : List UInt8 := dkwX9_copy_8 ++ []
def dkwX9_copy_7 : List UInt8 := [21, 7, 100, 54, 8, 42, 180, 0, 16, 16, 40, 29, 104, 21, 4, 96, 21, 8, 96, 42, 180, 0, 16]
abbrev dktX9_copy_7 : List UInt8 := dkwX9_copy_7 ++ dktX9_copy_8
def dkwX9_copy_6 : List UInt8 := [54, 7, 21, 7, 21, 5, 162, 0, 57, 21, 6, 153, 0, 8, 21, 7, 167, 0, 10, 21, 5, 4, 100]
abbrev dktX9_copy_6 : List UInt8 := dkwX9_copy_6 ++ dktX9_copy_7
def dkwX9_copy_5 : List UInt8 := [148, 158, 0, 9, 42, 5, 182, 0, 69, 172, 28, 21, 4, 161, 0, 7, 4, 167, 0, 4, 3, 54, 6, 3]
abbrev dktX9_copy_5 : List UInt8 := dkwX9_copy_5 ++ dktX9_copy_6
def dkwX9_copy_4 : List UInt8 := [180, 0, 13, 27, 46, 133, 148, 157, 0, 21, 21, 4, 133, 21, 5, 133, 97, 42, 180, 0, 13, 29, 46, 133]
abbrev dktX9_copy_4 : List UInt8 := dkwX9_copy_4 ++ dktX9_copy_5
def dkwX9_copy_3 : List UInt8 := [172, 28, 155, 0, 48, 21, 4, 155, 0, 43, 21, 5, 155, 0, 38, 28, 133, 21, 5, 133, 97, 42]
abbrev dktX9_copy_3 : List UInt8 := dkwX9_copy_3 ++ dktX9_copy_4
def dkwX9_copy_2 : List UInt8 := [182, 0, 69, 172, 42, 180, 0, 7, 27, 46, 42, 180, 0, 7, 29, 46, 159, 0, 9, 42, 8, 182, 0, 69]
abbrev dktX9_copy_2 : List UInt8 := dkwX9_copy_2 ++ dktX9_copy_3
def dkwX9_copy_1 : List UInt8 := [181, 0, 52, 42, 180, 0, 7, 27, 46, 155, 0, 12, 42, 180, 0, 7, 29, 46, 156, 0, 9, 42, 4]
abbrev dktX9_copy_1 : List UInt8 := dkwX9_copy_1 ++ dktX9_copy_2
def dkwX9_copy_0 : List UInt8 := [42, 3, 181, 0, 48, 27, 184, 0, 62, 153, 0, 10, 29, 184, 0, 62, 154, 0, 6, 18, 68, 172, 42, 3]
abbrev dktX9_copy_0 : List UInt8 := dkwX9_copy_0 ++ dktX9_copy_1
theorem dksX9_copy_0 : cX9_copy.data.toList.drop 0 = dktX9_copy_0 := by decide +kernel
theorem dksX9_copy_1 : cX9_copy.data.toList.drop 24 = dktX9_copy_1 := dk_seg dksX9_copy_0 24 rfl rfl
theorem dksX9_copy_2 : cX9_copy.data.toList.drop 47 = dktX9_copy_2 := dk_seg dksX9_copy_1 23 rfl rfl
theorem dksX9_copy_3 : cX9_copy.data.toList.drop 71 = dktX9_copy_3 := dk_seg dksX9_copy_2 24 rfl rfl
theorem dksX9_copy_4 : cX9_copy.data.toList.drop 93 = dktX9_copy_4 := dk_seg dksX9_copy_3 22 rfl rfl
theorem dksX9_copy_5 : cX9_copy.data.toList.drop 117 = dktX9_copy_5 := dk_seg dksX9_copy_4 24 rfl rfl
theorem dksX9_copy_6 : cX9_copy.data.toList.drop 141 = dktX9_copy_6 := dk_seg dksX9_copy_5 24 rfl rfl
theorem dksX9_copy_7 : cX9_copy.data.toList.drop 164 = dktX9_copy_7 := dk_seg dksX9_copy_6 23 rfl rfl
theorem dksX9_copy_8 : cX9_copy.data.toList.drop 187 = dktX9_copy_8 := dk_seg dksX9_copy_7 23 rfl rfl
theorem dX9_copy_0 : decode cX9_copy 0 = .ok (.aload_n 0, 1) := dk_42 (dk_at dksX9_copy_0 0 rfl rfl)
theorem dX9_copy_1 : decode cX9_copy 1 = .ok (.iconst 0, 1) := dk_3 (dk_at dksX9_copy_0 1 rfl rfl)
theorem dX9_copy_2 : decode cX9_copy 2 = .ok (.putfield 48, 3) := dk_181 0 48 (dk_at dksX9_copy_0 2 rfl rfl)
theorem dX9_copy_5 : decode cX9_copy 5 = .ok (.iload_n 1, 1) := dk_27 (dk_at dksX9_copy_0 5 rfl rfl)
theorem dX9_copy_6 : decode cX9_copy 6 = .ok (.invokestatic 62, 3) := dk_184 0 62 (dk_at dksX9_copy_0 6 rfl rfl)
theorem dX9_copy_9 : decode cX9_copy 9 = .ok (.ifCond .eq 10, 3) := dk_153 0 10 (dk_at dksX9_copy_0 9 rfl rfl)
theorem dX9_copy_12 : decode cX9_copy 12 = .ok (.iload_n 3, 1) := dk_29 (dk_at dksX9_copy_0 12 rfl rfl)
theorem dX9_copy_13 : decode cX9_copy 13 = .ok (.invokestatic 62, 3) := dk_184 0 62 (dk_at dksX9_copy_0 13 rfl rfl)
theorem dX9_copy_16 : decode cX9_copy 16 = .ok (.ifCond .ne 6, 3) := dk_154 0 6 (dk_at dksX9_copy_0 16 rfl rfl)
theorem dX9_copy_19 : decode cX9_copy 19 = .ok (.ldc 68, 2) := dk_18 68 (dk_at dksX9_copy_0 19 rfl rfl)
theorem dX9_copy_21 : decode cX9_copy 21 = .ok (.ireturn, 1) := dk_172 (dk_at dksX9_copy_0 21 rfl rfl)
theorem dX9_copy_22 : decode cX9_copy 22 = .ok (.aload_n 0, 1) := dk_42 (dk_at dksX9_copy_0 22 rfl rfl)
theorem dX9_copy_23 : decode cX9_copy 23 = .ok (.iconst 0, 1) := dk_3 (dk_at dksX9_copy_0 23 rfl rfl)
theorem dX9_copy_24 : decode cX9_copy 24 = .ok (.putfield 52, 3) := dk_181 0 52 (dk_at dksX9_copy_1 0 rfl rfl)
theorem dX9_copy_27 : decode cX9_copy 27 = .ok (.aload_n 0, 1) := dk_42 (dk_at dksX9_copy_1 3 rfl rfl)
theorem dX9_copy_28 : decode cX9_copy 28 = .ok (.getfield 7, 3) := dk_180 0 7 (dk_at dksX9_copy_1 4 rfl rfl)
theorem dX9_copy_31 : decode cX9_copy 31 = .ok (.iload_n 1, 1) := dk_27 (dk_at dksX9_copy_1 7 rfl rfl)
theorem dX9_copy_32 : decode cX9_copy 32 = .ok (.iaload, 1) := dk_46 (dk_at dksX9_copy_1 8 rfl rfl)
theorem dX9_copy_33 : decode cX9_copy 33 = .ok (.ifCond .lt 12, 3) := dk_155 0 12 (dk_at dksX9_copy_1 9 rfl rfl)
theorem dX9_copy_36 : decode cX9_copy 36 = .ok (.aload_n 0, 1) := dk_42 (dk_at dksX9_copy_1 12 rfl rfl)
theorem dX9_copy_37 : decode cX9_copy 37 = .ok (.getfield 7, 3) := dk_180 0 7 (dk_at dksX9_copy_1 13 rfl rfl)
theorem dX9_copy_40 : decode cX9_copy 40 = .ok (.iload_n 3, 1) := dk_29 (dk_at dksX9_copy_1 16 rfl rfl)
theorem dX9_copy_41 : decode cX9_copy 41 = .ok (.iaload, 1) := dk_46 (dk_at dksX9_copy_1 17 rfl rfl)
theorem dX9_copy_42 : decode cX9_copy 42 = .ok (.ifCond .ge 9, 3) := dk_156 0 9 (dk_at dksX9_copy_1 18 rfl rfl)
theorem dX9_copy_45 : decode cX9_copy 45 = .ok (.aload_n 0, 1) := dk_42 (dk_at dksX9_copy_1 21 rfl rfl)
theorem dX9_copy_46 : decode cX9_copy 46 = .ok (.iconst 1, 1) := dk_4 (dk_at dksX9_copy_1 22 rfl rfl)
theorem dX9_copy_47 : decode cX9_copy 47 = .ok (.invokevirtual 69, 3) := dk_182 0 69 (dk_at dksX9_copy_2 0 rfl rfl)
theorem dX9_copy_50 : decode cX9_copy 50 = .ok (.ireturn, 1) := dk_172 (dk_at dksX9_copy_2 3 rfl rfl)
theorem dX9_copy_51 : decode cX9_copy 51 = .ok (.aload_n 0, 1) := dk_42 (dk_at dksX9_copy_2 4 rfl rfl)
theorem dX9_copy_52 : decode cX9_copy 52 = .ok (.getfield 7, 3) := dk_180 0 7 (dk_at dksX9_copy_2 5 rfl rfl)
theorem dX9_copy_55 : decode cX9_copy 55 = .ok (.iload_n 1, 1) := dk_27 (dk_at dksX9_copy_2 8 rfl rfl)
theorem dX9_copy_56 : decode cX9_copy 56 = .ok (.iaload, 1) := dk_46 (dk_at dksX9_copy_2 9 rfl rfl)
theorem dX9_copy_57 : decode cX9_copy 57 = .ok (.aload_n 0, 1) := dk_42 (dk_at dksX9_copy_2 10 rfl rfl)
theorem dX9_copy_58 : decode cX9_copy 58 = .ok (.getfield 7, 3) := dk_180 0 7 (dk_at dksX9_copy_2 11 rfl rfl)
theorem dX9_copy_61 : decode cX9_copy 61 = .ok (.iload_n 3, 1) := dk_29 (dk_at dksX9_copy_2 14 rfl rfl)
theorem dX9_copy_62 : decode cX9_copy 62 = .ok (.iaload, 1) := dk_46 (dk_at dksX9_copy_2 15 rfl rfl)
theorem dX9_copy_63 : decode cX9_copy 63 = .ok (.if_icmp .eq 9, 3) := dk_159 0 9 (dk_at dksX9_copy_2 16 rfl rfl)
theorem dX9_copy_66 : decode cX9_copy 66 = .ok (.aload_n 0, 1) := dk_42 (dk_at dksX9_copy_2 19 rfl rfl)
theorem dX9_copy_67 : decode cX9_copy 67 = .ok (.iconst 5, 1) := dk_8 (dk_at dksX9_copy_2 20 rfl rfl)
theorem dX9_copy_68 : decode cX9_copy 68 = .ok (.invokevirtual 69, 3) := dk_182 0 69 (dk_at dksX9_copy_2 21 rfl rfl)
theorem dX9_copy_71 : decode cX9_copy 71 = .ok (.ireturn, 1) := dk_172 (dk_at dksX9_copy_3 0 rfl rfl)
theorem dX9_copy_72 : decode cX9_copy 72 = .ok (.iload_n 2, 1) := dk_28 (dk_at dksX9_copy_3 1 rfl rfl)
theorem dX9_copy_73 : decode cX9_copy 73 = .ok (.ifCond .lt 48, 3) := dk_155 0 48 (dk_at dksX9_copy_3 2 rfl rfl)
theorem dX9_copy_76 : decode cX9_copy 76 = .ok (.iload 4, 2) := dk_21 4 (dk_at dksX9_copy_3 5 rfl rfl)
theorem dX9_copy_78 : decode cX9_copy 78 = .ok (.ifCond .lt 43, 3) := dk_155 0 43 (dk_at dksX9_copy_3 7 rfl rfl)
theorem dX9_copy_81 : decode cX9_copy 81 = .ok (.iload 5, 2) := dk_21 5 (dk_at dksX9_copy_3 10 rfl rfl)
theorem dX9_copy_83 : decode cX9_copy 83 = .ok (.ifCond .lt 38, 3) := dk_155 0 38 (dk_at dksX9_copy_3 12 rfl rfl)
theorem dX9_copy_86 : decode cX9_copy 86 = .ok (.iload_n 2, 1) := dk_28 (dk_at dksX9_copy_3 15 rfl rfl)
theorem dX9_copy_87 : decode cX9_copy 87 = .ok (.i2l, 1) := dk_133 (dk_at dksX9_copy_3 16 rfl rfl)
theorem dX9_copy_88 : decode cX9_copy 88 = .ok (.iload 5, 2) := dk_21 5 (dk_at dksX9_copy_3 17 rfl rfl)
theorem dX9_copy_90 : decode cX9_copy 90 = .ok (.i2l, 1) := dk_133 (dk_at dksX9_copy_3 19 rfl rfl)
theorem dX9_copy_91 : decode cX9_copy 91 = .ok (.ladd, 1) := dk_97 (dk_at dksX9_copy_3 20 rfl rfl)
theorem dX9_copy_92 : decode cX9_copy 92 = .ok (.aload_n 0, 1) := dk_42 (dk_at dksX9_copy_3 21 rfl rfl)
theorem dX9_copy_93 : decode cX9_copy 93 = .ok (.getfield 13, 3) := dk_180 0 13 (dk_at dksX9_copy_4 0 rfl rfl)
theorem dX9_copy_96 : decode cX9_copy 96 = .ok (.iload_n 1, 1) := dk_27 (dk_at dksX9_copy_4 3 rfl rfl)
theorem dX9_copy_97 : decode cX9_copy 97 = .ok (.iaload, 1) := dk_46 (dk_at dksX9_copy_4 4 rfl rfl)
theorem dX9_copy_98 : decode cX9_copy 98 = .ok (.i2l, 1) := dk_133 (dk_at dksX9_copy_4 5 rfl rfl)
theorem dX9_copy_99 : decode cX9_copy 99 = .ok (.lcmp, 1) := dk_148 (dk_at dksX9_copy_4 6 rfl rfl)
theorem dX9_copy_100 : decode cX9_copy 100 = .ok (.ifCond .gt 21, 3) := dk_157 0 21 (dk_at dksX9_copy_4 7 rfl rfl)
theorem dX9_copy_103 : decode cX9_copy 103 = .ok (.iload 4, 2) := dk_21 4 (dk_at dksX9_copy_4 10 rfl rfl)
theorem dX9_copy_105 : decode cX9_copy 105 = .ok (.i2l, 1) := dk_133 (dk_at dksX9_copy_4 12 rfl rfl)
theorem dX9_copy_106 : decode cX9_copy 106 = .ok (.iload 5, 2) := dk_21 5 (dk_at dksX9_copy_4 13 rfl rfl)
theorem dX9_copy_108 : decode cX9_copy 108 = .ok (.i2l, 1) := dk_133 (dk_at dksX9_copy_4 15 rfl rfl)
theorem dX9_copy_109 : decode cX9_copy 109 = .ok (.ladd, 1) := dk_97 (dk_at dksX9_copy_4 16 rfl rfl)
theorem dX9_copy_110 : decode cX9_copy 110 = .ok (.aload_n 0, 1) := dk_42 (dk_at dksX9_copy_4 17 rfl rfl)
theorem dX9_copy_111 : decode cX9_copy 111 = .ok (.getfield 13, 3) := dk_180 0 13 (dk_at dksX9_copy_4 18 rfl rfl)
theorem dX9_copy_114 : decode cX9_copy 114 = .ok (.iload_n 3, 1) := dk_29 (dk_at dksX9_copy_4 21 rfl rfl)
theorem dX9_copy_115 : decode cX9_copy 115 = .ok (.iaload, 1) := dk_46 (dk_at dksX9_copy_4 22 rfl rfl)
theorem dX9_copy_116 : decode cX9_copy 116 = .ok (.i2l, 1) := dk_133 (dk_at dksX9_copy_4 23 rfl rfl)
theorem dX9_copy_117 : decode cX9_copy 117 = .ok (.lcmp, 1) := dk_148 (dk_at dksX9_copy_5 0 rfl rfl)
theorem dX9_copy_118 : decode cX9_copy 118 = .ok (.ifCond .le 9, 3) := dk_158 0 9 (dk_at dksX9_copy_5 1 rfl rfl)
theorem dX9_copy_121 : decode cX9_copy 121 = .ok (.aload_n 0, 1) := dk_42 (dk_at dksX9_copy_5 4 rfl rfl)
theorem dX9_copy_122 : decode cX9_copy 122 = .ok (.iconst 2, 1) := dk_5 (dk_at dksX9_copy_5 5 rfl rfl)
theorem dX9_copy_123 : decode cX9_copy 123 = .ok (.invokevirtual 69, 3) := dk_182 0 69 (dk_at dksX9_copy_5 6 rfl rfl)
theorem dX9_copy_126 : decode cX9_copy 126 = .ok (.ireturn, 1) := dk_172 (dk_at dksX9_copy_5 9 rfl rfl)
theorem dX9_copy_127 : decode cX9_copy 127 = .ok (.iload_n 2, 1) := dk_28 (dk_at dksX9_copy_5 10 rfl rfl)
theorem dX9_copy_128 : decode cX9_copy 128 = .ok (.iload 4, 2) := dk_21 4 (dk_at dksX9_copy_5 11 rfl rfl)
theorem dX9_copy_130 : decode cX9_copy 130 = .ok (.if_icmp .lt 7, 3) := dk_161 0 7 (dk_at dksX9_copy_5 13 rfl rfl)
theorem dX9_copy_133 : decode cX9_copy 133 = .ok (.iconst 1, 1) := dk_4 (dk_at dksX9_copy_5 16 rfl rfl)
theorem dX9_copy_134 : decode cX9_copy 134 = .ok (.goto 4, 3) := dk_167 0 4 (dk_at dksX9_copy_5 17 rfl rfl)
theorem dX9_copy_137 : decode cX9_copy 137 = .ok (.iconst 0, 1) := dk_3 (dk_at dksX9_copy_5 20 rfl rfl)
theorem dX9_copy_138 : decode cX9_copy 138 = .ok (.istore 6, 2) := dk_54 6 (dk_at dksX9_copy_5 21 rfl rfl)
theorem dX9_copy_140 : decode cX9_copy 140 = .ok (.iconst 0, 1) := dk_3 (dk_at dksX9_copy_5 23 rfl rfl)
theorem dX9_copy_141 : decode cX9_copy 141 = .ok (.istore 7, 2) := dk_54 7 (dk_at dksX9_copy_6 0 rfl rfl)
theorem dX9_copy_143 : decode cX9_copy 143 = .ok (.iload 7, 2) := dk_21 7 (dk_at dksX9_copy_6 2 rfl rfl)
theorem dX9_copy_145 : decode cX9_copy 145 = .ok (.iload 5, 2) := dk_21 5 (dk_at dksX9_copy_6 4 rfl rfl)
theorem dX9_copy_147 : decode cX9_copy 147 = .ok (.if_icmp .ge 57, 3) := dk_162 0 57 (dk_at dksX9_copy_6 6 rfl rfl)
theorem dX9_copy_150 : decode cX9_copy 150 = .ok (.iload 6, 2) := dk_21 6 (dk_at dksX9_copy_6 9 rfl rfl)
theorem dX9_copy_152 : decode cX9_copy 152 = .ok (.ifCond .eq 8, 3) := dk_153 0 8 (dk_at dksX9_copy_6 11 rfl rfl)
theorem dX9_copy_155 : decode cX9_copy 155 = .ok (.iload 7, 2) := dk_21 7 (dk_at dksX9_copy_6 14 rfl rfl)
theorem dX9_copy_157 : decode cX9_copy 157 = .ok (.goto 10, 3) := dk_167 0 10 (dk_at dksX9_copy_6 16 rfl rfl)
theorem dX9_copy_160 : decode cX9_copy 160 = .ok (.iload 5, 2) := dk_21 5 (dk_at dksX9_copy_6 19 rfl rfl)
theorem dX9_copy_162 : decode cX9_copy 162 = .ok (.iconst 1, 1) := dk_4 (dk_at dksX9_copy_6 21 rfl rfl)
theorem dX9_copy_163 : decode cX9_copy 163 = .ok (.isub, 1) := dk_100 (dk_at dksX9_copy_6 22 rfl rfl)
theorem dX9_copy_164 : decode cX9_copy 164 = .ok (.iload 7, 2) := dk_21 7 (dk_at dksX9_copy_7 0 rfl rfl)
theorem dX9_copy_166 : decode cX9_copy 166 = .ok (.isub, 1) := dk_100 (dk_at dksX9_copy_7 2 rfl rfl)
theorem dX9_copy_167 : decode cX9_copy 167 = .ok (.istore 8, 2) := dk_54 8 (dk_at dksX9_copy_7 3 rfl rfl)
theorem dX9_copy_169 : decode cX9_copy 169 = .ok (.aload_n 0, 1) := dk_42 (dk_at dksX9_copy_7 5 rfl rfl)
theorem dX9_copy_170 : decode cX9_copy 170 = .ok (.getfield 16, 3) := dk_180 0 16 (dk_at dksX9_copy_7 6 rfl rfl)
theorem dX9_copy_173 : decode cX9_copy 173 = .ok (.bipush 40, 2) := dk_16 40 (dk_at dksX9_copy_7 9 rfl rfl)
theorem dX9_copy_175 : decode cX9_copy 175 = .ok (.iload_n 3, 1) := dk_29 (dk_at dksX9_copy_7 11 rfl rfl)
theorem dX9_copy_176 : decode cX9_copy 176 = .ok (.imul, 1) := dk_104 (dk_at dksX9_copy_7 12 rfl rfl)
theorem dX9_copy_177 : decode cX9_copy 177 = .ok (.iload 4, 2) := dk_21 4 (dk_at dksX9_copy_7 13 rfl rfl)
theorem dX9_copy_179 : decode cX9_copy 179 = .ok (.iadd, 1) := dk_96 (dk_at dksX9_copy_7 15 rfl rfl)
theorem dX9_copy_180 : decode cX9_copy 180 = .ok (.iload 8, 2) := dk_21 8 (dk_at dksX9_copy_7 16 rfl rfl)
theorem dX9_copy_182 : decode cX9_copy 182 = .ok (.iadd, 1) := dk_96 (dk_at dksX9_copy_7 18 rfl rfl)
theorem dX9_copy_183 : decode cX9_copy 183 = .ok (.aload_n 0, 1) := dk_42 (dk_at dksX9_copy_7 19 rfl rfl)
theorem dX9_copy_184 : decode cX9_copy 184 = .ok (.getfield 16, 3) := dk_180 0 16 (dk_at dksX9_copy_7 20 rfl rfl)
theorem dX9_copy_187 : decode cX9_copy 187 = .ok (.bipush 40, 2) := dk_16 40 (dk_at dksX9_copy_8 0 rfl rfl)
theorem dX9_copy_189 : decode cX9_copy 189 = .ok (.iload_n 1, 1) := dk_27 (dk_at dksX9_copy_8 2 rfl rfl)
theorem dX9_copy_190 : decode cX9_copy 190 = .ok (.imul, 1) := dk_104 (dk_at dksX9_copy_8 3 rfl rfl)
theorem dX9_copy_191 : decode cX9_copy 191 = .ok (.iload_n 2, 1) := dk_28 (dk_at dksX9_copy_8 4 rfl rfl)
theorem dX9_copy_192 : decode cX9_copy 192 = .ok (.iadd, 1) := dk_96 (dk_at dksX9_copy_8 5 rfl rfl)
theorem dX9_copy_193 : decode cX9_copy 193 = .ok (.iload 8, 2) := dk_21 8 (dk_at dksX9_copy_8 6 rfl rfl)
theorem dX9_copy_195 : decode cX9_copy 195 = .ok (.iadd, 1) := dk_96 (dk_at dksX9_copy_8 8 rfl rfl)
theorem dX9_copy_196 : decode cX9_copy 196 = .ok (.iaload, 1) := dk_46 (dk_at dksX9_copy_8 9 rfl rfl)
theorem dX9_copy_197 : decode cX9_copy 197 = .ok (.iastore, 1) := dk_79 (dk_at dksX9_copy_8 10 rfl rfl)
theorem dX9_copy_198 : decode cX9_copy 198 = .ok (.iinc 7 1, 3) := dk_132 7 1 (dk_at dksX9_copy_8 11 rfl rfl)
theorem dX9_copy_201 : decode cX9_copy 201 = .ok (.goto (-58), 3) := dk_167 255 198 (dk_at dksX9_copy_8 14 rfl rfl)
theorem dX9_copy_204 : decode cX9_copy 204 = .ok (.iload 5, 2) := dk_21 5 (dk_at dksX9_copy_8 17 rfl rfl)
theorem dX9_copy_206 : decode cX9_copy 206 = .ok (.ireturn, 1) := dk_172 (dk_at dksX9_copy_8 19 rfl rfl)
abbrev cX9_drop : ByteArray := prog_16_method_9_code
def yX9_drop : MethodName := ⟨RX9, "drop", "(I)I"⟩
def dkwX9_drop_2 : List UInt8 := [172]
abbrev dktX9_drop_2 : List UInt8 := dkwX9_drop_2 ++ []
def dkwX9_drop_1 : List UInt8 := [27, 46, 156, 0, 9, 42, 4, 182, 0, 69, 172, 42, 180, 0, 7, 27, 2, 79, 42, 180, 0, 13, 27, 46]
abbrev dktX9_drop_1 : List UInt8 := dkwX9_drop_1 ++ dktX9_drop_2
def dkwX9_drop_0 : List UInt8 := [42, 3, 181, 0, 48, 27, 184, 0, 62, 154, 0, 6, 18, 68, 172, 42, 3, 181, 0, 52, 42, 180, 0, 7]
abbrev dktX9_drop_0 : List UInt8 := dkwX9_drop_0 ++ dktX9_drop_1
theorem dksX9_drop_0 : cX9_drop.data.toList.drop 0 = dktX9_drop_0 := by decide +kernel
theorem dksX9_drop_1 : cX9_drop.data.toList.drop 24 = dktX9_drop_1 := dk_seg dksX9_drop_0 24 rfl rfl
theorem dksX9_drop_2 : cX9_drop.data.toList.drop 48 = dktX9_drop_2 := dk_seg dksX9_drop_1 24 rfl rfl
theorem dX9_drop_0 : decode cX9_drop 0 = .ok (.aload_n 0, 1) := dk_42 (dk_at dksX9_drop_0 0 rfl rfl)
theorem dX9_drop_1 : decode cX9_drop 1 = .ok (.iconst 0, 1) := dk_3 (dk_at dksX9_drop_0 1 rfl rfl)
theorem dX9_drop_2 : decode cX9_drop 2 = .ok (.putfield 48, 3) := dk_181 0 48 (dk_at dksX9_drop_0 2 rfl rfl)
theorem dX9_drop_5 : decode cX9_drop 5 = .ok (.iload_n 1, 1) := dk_27 (dk_at dksX9_drop_0 5 rfl rfl)
theorem dX9_drop_6 : decode cX9_drop 6 = .ok (.invokestatic 62, 3) := dk_184 0 62 (dk_at dksX9_drop_0 6 rfl rfl)
theorem dX9_drop_9 : decode cX9_drop 9 = .ok (.ifCond .ne 6, 3) := dk_154 0 6 (dk_at dksX9_drop_0 9 rfl rfl)
theorem dX9_drop_12 : decode cX9_drop 12 = .ok (.ldc 68, 2) := dk_18 68 (dk_at dksX9_drop_0 12 rfl rfl)
theorem dX9_drop_14 : decode cX9_drop 14 = .ok (.ireturn, 1) := dk_172 (dk_at dksX9_drop_0 14 rfl rfl)
theorem dX9_drop_15 : decode cX9_drop 15 = .ok (.aload_n 0, 1) := dk_42 (dk_at dksX9_drop_0 15 rfl rfl)
theorem dX9_drop_16 : decode cX9_drop 16 = .ok (.iconst 0, 1) := dk_3 (dk_at dksX9_drop_0 16 rfl rfl)
theorem dX9_drop_17 : decode cX9_drop 17 = .ok (.putfield 52, 3) := dk_181 0 52 (dk_at dksX9_drop_0 17 rfl rfl)
theorem dX9_drop_20 : decode cX9_drop 20 = .ok (.aload_n 0, 1) := dk_42 (dk_at dksX9_drop_0 20 rfl rfl)
theorem dX9_drop_21 : decode cX9_drop 21 = .ok (.getfield 7, 3) := dk_180 0 7 (dk_at dksX9_drop_0 21 rfl rfl)
theorem dX9_drop_24 : decode cX9_drop 24 = .ok (.iload_n 1, 1) := dk_27 (dk_at dksX9_drop_1 0 rfl rfl)
theorem dX9_drop_25 : decode cX9_drop 25 = .ok (.iaload, 1) := dk_46 (dk_at dksX9_drop_1 1 rfl rfl)
theorem dX9_drop_26 : decode cX9_drop 26 = .ok (.ifCond .ge 9, 3) := dk_156 0 9 (dk_at dksX9_drop_1 2 rfl rfl)
theorem dX9_drop_29 : decode cX9_drop 29 = .ok (.aload_n 0, 1) := dk_42 (dk_at dksX9_drop_1 5 rfl rfl)
theorem dX9_drop_30 : decode cX9_drop 30 = .ok (.iconst 1, 1) := dk_4 (dk_at dksX9_drop_1 6 rfl rfl)
theorem dX9_drop_31 : decode cX9_drop 31 = .ok (.invokevirtual 69, 3) := dk_182 0 69 (dk_at dksX9_drop_1 7 rfl rfl)
theorem dX9_drop_34 : decode cX9_drop 34 = .ok (.ireturn, 1) := dk_172 (dk_at dksX9_drop_1 10 rfl rfl)
theorem dX9_drop_35 : decode cX9_drop 35 = .ok (.aload_n 0, 1) := dk_42 (dk_at dksX9_drop_1 11 rfl rfl)
theorem dX9_drop_36 : decode cX9_drop 36 = .ok (.getfield 7, 3) := dk_180 0 7 (dk_at dksX9_drop_1 12 rfl rfl)
theorem dX9_drop_39 : decode cX9_drop 39 = .ok (.iload_n 1, 1) := dk_27 (dk_at dksX9_drop_1 15 rfl rfl)
theorem dX9_drop_40 : decode cX9_drop 40 = .ok (.iconst (-1), 1) := dk_2 (dk_at dksX9_drop_1 16 rfl rfl)
theorem dX9_drop_41 : decode cX9_drop 41 = .ok (.iastore, 1) := dk_79 (dk_at dksX9_drop_1 17 rfl rfl)
theorem dX9_drop_42 : decode cX9_drop 42 = .ok (.aload_n 0, 1) := dk_42 (dk_at dksX9_drop_1 18 rfl rfl)
theorem dX9_drop_43 : decode cX9_drop 43 = .ok (.getfield 13, 3) := dk_180 0 13 (dk_at dksX9_drop_1 19 rfl rfl)
theorem dX9_drop_46 : decode cX9_drop 46 = .ok (.iload_n 1, 1) := dk_27 (dk_at dksX9_drop_1 22 rfl rfl)
theorem dX9_drop_47 : decode cX9_drop 47 = .ok (.iaload, 1) := dk_46 (dk_at dksX9_drop_1 23 rfl rfl)
theorem dX9_drop_48 : decode cX9_drop 48 = .ok (.ireturn, 1) := dk_172 (dk_at dksX9_drop_2 0 rfl rfl)
abbrev cX9_feed : ByteArray := prog_16_method_10_code
def yX9_feed : MethodName := ⟨RX9, "feed", "(I)I"⟩
def dkwX9_feed_2 : List UInt8 := [96, 181, 0, 75, 42, 180, 0, 75, 172]
abbrev dktX9_feed_2 : List UInt8 := dkwX9_feed_2 ++ []
def dkwX9_feed_1 : List UInt8 := [16, 120, 160, 0, 6, 18, 78, 172, 42, 180, 0, 31, 42, 180, 0, 75, 27, 79, 42, 89, 180, 0, 75, 4]
abbrev dktX9_feed_1 : List UInt8 := dkwX9_feed_1 ++ dktX9_feed_2
def dkwX9_feed_0 : List UInt8 := [42, 3, 181, 0, 48, 27, 133, 9, 20, 0, 73, 184, 0, 58, 154, 0, 6, 18, 68, 172, 42, 180, 0, 75]
abbrev dktX9_feed_0 : List UInt8 := dkwX9_feed_0 ++ dktX9_feed_1
theorem dksX9_feed_0 : cX9_feed.data.toList.drop 0 = dktX9_feed_0 := by decide +kernel
theorem dksX9_feed_1 : cX9_feed.data.toList.drop 24 = dktX9_feed_1 := dk_seg dksX9_feed_0 24 rfl rfl
theorem dksX9_feed_2 : cX9_feed.data.toList.drop 48 = dktX9_feed_2 := dk_seg dksX9_feed_1 24 rfl rfl
theorem dX9_feed_0 : decode cX9_feed 0 = .ok (.aload_n 0, 1) := dk_42 (dk_at dksX9_feed_0 0 rfl rfl)
theorem dX9_feed_1 : decode cX9_feed 1 = .ok (.iconst 0, 1) := dk_3 (dk_at dksX9_feed_0 1 rfl rfl)
theorem dX9_feed_2 : decode cX9_feed 2 = .ok (.putfield 48, 3) := dk_181 0 48 (dk_at dksX9_feed_0 2 rfl rfl)
theorem dX9_feed_5 : decode cX9_feed 5 = .ok (.iload_n 1, 1) := dk_27 (dk_at dksX9_feed_0 5 rfl rfl)
theorem dX9_feed_6 : decode cX9_feed 6 = .ok (.i2l, 1) := dk_133 (dk_at dksX9_feed_0 6 rfl rfl)
theorem dX9_feed_7 : decode cX9_feed 7 = .ok (.lconst 0, 1) := dk_9 (dk_at dksX9_feed_0 7 rfl rfl)
theorem dX9_feed_8 : decode cX9_feed 8 = .ok (.ldc2_w 73, 3) := dk_20 0 73 (dk_at dksX9_feed_0 8 rfl rfl)
theorem dX9_feed_11 : decode cX9_feed 11 = .ok (.invokestatic 58, 3) := dk_184 0 58 (dk_at dksX9_feed_0 11 rfl rfl)
theorem dX9_feed_14 : decode cX9_feed 14 = .ok (.ifCond .ne 6, 3) := dk_154 0 6 (dk_at dksX9_feed_0 14 rfl rfl)
theorem dX9_feed_17 : decode cX9_feed 17 = .ok (.ldc 68, 2) := dk_18 68 (dk_at dksX9_feed_0 17 rfl rfl)
theorem dX9_feed_19 : decode cX9_feed 19 = .ok (.ireturn, 1) := dk_172 (dk_at dksX9_feed_0 19 rfl rfl)
theorem dX9_feed_20 : decode cX9_feed 20 = .ok (.aload_n 0, 1) := dk_42 (dk_at dksX9_feed_0 20 rfl rfl)
theorem dX9_feed_21 : decode cX9_feed 21 = .ok (.getfield 75, 3) := dk_180 0 75 (dk_at dksX9_feed_0 21 rfl rfl)
theorem dX9_feed_24 : decode cX9_feed 24 = .ok (.bipush 120, 2) := dk_16 120 (dk_at dksX9_feed_1 0 rfl rfl)
theorem dX9_feed_26 : decode cX9_feed 26 = .ok (.if_icmp .ne 6, 3) := dk_160 0 6 (dk_at dksX9_feed_1 2 rfl rfl)
theorem dX9_feed_29 : decode cX9_feed 29 = .ok (.ldc 78, 2) := dk_18 78 (dk_at dksX9_feed_1 5 rfl rfl)
theorem dX9_feed_31 : decode cX9_feed 31 = .ok (.ireturn, 1) := dk_172 (dk_at dksX9_feed_1 7 rfl rfl)
theorem dX9_feed_32 : decode cX9_feed 32 = .ok (.aload_n 0, 1) := dk_42 (dk_at dksX9_feed_1 8 rfl rfl)
theorem dX9_feed_33 : decode cX9_feed 33 = .ok (.getfield 31, 3) := dk_180 0 31 (dk_at dksX9_feed_1 9 rfl rfl)
theorem dX9_feed_36 : decode cX9_feed 36 = .ok (.aload_n 0, 1) := dk_42 (dk_at dksX9_feed_1 12 rfl rfl)
theorem dX9_feed_37 : decode cX9_feed 37 = .ok (.getfield 75, 3) := dk_180 0 75 (dk_at dksX9_feed_1 13 rfl rfl)
theorem dX9_feed_40 : decode cX9_feed 40 = .ok (.iload_n 1, 1) := dk_27 (dk_at dksX9_feed_1 16 rfl rfl)
theorem dX9_feed_41 : decode cX9_feed 41 = .ok (.iastore, 1) := dk_79 (dk_at dksX9_feed_1 17 rfl rfl)
theorem dX9_feed_42 : decode cX9_feed 42 = .ok (.aload_n 0, 1) := dk_42 (dk_at dksX9_feed_1 18 rfl rfl)
theorem dX9_feed_43 : decode cX9_feed 43 = .ok (.dup, 1) := dk_89 (dk_at dksX9_feed_1 19 rfl rfl)
theorem dX9_feed_44 : decode cX9_feed 44 = .ok (.getfield 75, 3) := dk_180 0 75 (dk_at dksX9_feed_1 20 rfl rfl)
theorem dX9_feed_47 : decode cX9_feed 47 = .ok (.iconst 1, 1) := dk_4 (dk_at dksX9_feed_1 23 rfl rfl)
theorem dX9_feed_48 : decode cX9_feed 48 = .ok (.iadd, 1) := dk_96 (dk_at dksX9_feed_2 0 rfl rfl)
theorem dX9_feed_49 : decode cX9_feed 49 = .ok (.putfield 75, 3) := dk_181 0 75 (dk_at dksX9_feed_2 1 rfl rfl)
theorem dX9_feed_52 : decode cX9_feed 52 = .ok (.aload_n 0, 1) := dk_42 (dk_at dksX9_feed_2 4 rfl rfl)
theorem dX9_feed_53 : decode cX9_feed 53 = .ok (.getfield 75, 3) := dk_180 0 75 (dk_at dksX9_feed_2 5 rfl rfl)
theorem dX9_feed_56 : decode cX9_feed 56 = .ok (.ireturn, 1) := dk_172 (dk_at dksX9_feed_2 8 rfl rfl)
abbrev cX9_fault : ByteArray := prog_16_method_19_code
def yX9_fault : MethodName := ⟨RX9, "fault", "()I"⟩
def dkwX9_fault_0 : List UInt8 := [42, 3, 181, 0, 48, 42, 180, 0, 117, 172]
abbrev dktX9_fault_0 : List UInt8 := dkwX9_fault_0 ++ []
theorem dksX9_fault_0 : cX9_fault.data.toList.drop 0 = dktX9_fault_0 := by decide +kernel
theorem dX9_fault_0 : decode cX9_fault 0 = .ok (.aload_n 0, 1) := dk_42 (dk_at dksX9_fault_0 0 rfl rfl)
theorem dX9_fault_1 : decode cX9_fault 1 = .ok (.iconst 0, 1) := dk_3 (dk_at dksX9_fault_0 1 rfl rfl)
theorem dX9_fault_2 : decode cX9_fault 2 = .ok (.putfield 48, 3) := dk_181 0 48 (dk_at dksX9_fault_0 2 rfl rfl)
theorem dX9_fault_5 : decode cX9_fault 5 = .ok (.aload_n 0, 1) := dk_42 (dk_at dksX9_fault_0 5 rfl rfl)
theorem dX9_fault_6 : decode cX9_fault 6 = .ok (.getfield 117, 3) := dk_180 0 117 (dk_at dksX9_fault_0 6 rfl rfl)
theorem dX9_fault_9 : decode cX9_fault 9 = .ok (.ireturn, 1) := dk_172 (dk_at dksX9_fault_0 9 rfl rfl)
abbrev cX9_door : ByteArray := prog_16_method_24_code
def yX9_door : MethodName := ⟨RX9, "door", "()I"⟩
def dkwX9_door_7 : List UInt8 := [180, 0, 19, 27, 42, 180, 0, 22, 27, 46, 79, 132, 1, 1, 167, 255, 235, 42, 180, 0, 19, 5, 46, 172]
abbrev dktX9_door_7 : List UInt8 := dkwX9_door_7 ++ []
def dkwX9_door_6 : List UInt8 := [18, 149, 42, 180, 0, 85, 100, 172, 42, 3, 181, 0, 150, 3, 60, 27, 16, 64, 162, 0, 21, 42]
abbrev dktX9_door_6 : List UInt8 := dkwX9_door_6 ++ dktX9_door_7
def dkwX9_door_5 : List UInt8 := [42, 16, 118, 182, 0, 130, 153, 0, 10, 42, 182, 0, 143, 167, 255, 243, 42, 182, 0, 146, 153, 0, 11]
abbrev dktX9_door_5 : List UInt8 := dkwX9_door_5 ++ dktX9_door_6
def dkwX9_door_4 : List UInt8 := [153, 0, 10, 42, 182, 0, 140, 167, 255, 245, 42, 16, 118, 182, 0, 130, 154, 0, 8, 42, 4, 182, 0, 106]
abbrev dktX9_door_4 : List UInt8 := dkwX9_door_4 ++ dktX9_door_5
def dkwX9_door_3 : List UInt8 := [79, 42, 16, 59, 182, 0, 127, 42, 182, 0, 136, 154, 0, 8, 42, 4, 182, 0, 106, 42, 182, 0, 136]
abbrev dktX9_door_3 : List UInt8 := dkwX9_door_3 ++ dktX9_door_4
def dkwX9_door_2 : List UInt8 := [16, 9, 182, 0, 123, 79, 42, 16, 44, 182, 0, 127, 42, 180, 0, 22, 4, 42, 3, 16, 8, 182, 0, 123]
abbrev dktX9_door_2 : List UInt8 := dkwX9_door_2 ++ dktX9_door_3
def dkwX9_door_1 : List UInt8 := [132, 1, 1, 167, 255, 240, 42, 42, 16, 100, 182, 0, 130, 182, 0, 113, 42, 180, 0, 22, 3, 42, 4]
abbrev dktX9_door_1 : List UInt8 := dkwX9_door_1 ++ dktX9_door_2
def dkwX9_door_0 : List UInt8 := [42, 3, 181, 0, 48, 42, 182, 0, 133, 3, 60, 27, 16, 64, 162, 0, 16, 42, 180, 0, 22, 27, 3, 79]
abbrev dktX9_door_0 : List UInt8 := dkwX9_door_0 ++ dktX9_door_1
theorem dksX9_door_0 : cX9_door.data.toList.drop 0 = dktX9_door_0 := by decide +kernel
theorem dksX9_door_1 : cX9_door.data.toList.drop 24 = dktX9_door_1 := dk_seg dksX9_door_0 24 rfl rfl
theorem dksX9_door_2 : cX9_door.data.toList.drop 47 = dktX9_door_2 := dk_seg dksX9_door_1 23 rfl rfl
theorem dksX9_door_3 : cX9_door.data.toList.drop 71 = dktX9_door_3 := dk_seg dksX9_door_2 24 rfl rfl
theorem dksX9_door_4 : cX9_door.data.toList.drop 94 = dktX9_door_4 := dk_seg dksX9_door_3 23 rfl rfl
theorem dksX9_door_5 : cX9_door.data.toList.drop 118 = dktX9_door_5 := dk_seg dksX9_door_4 24 rfl rfl
theorem dksX9_door_6 : cX9_door.data.toList.drop 141 = dktX9_door_6 := dk_seg dksX9_door_5 23 rfl rfl
theorem dksX9_door_7 : cX9_door.data.toList.drop 163 = dktX9_door_7 := dk_seg dksX9_door_6 22 rfl rfl
theorem dX9_door_0 : decode cX9_door 0 = .ok (.aload_n 0, 1) := dk_42 (dk_at dksX9_door_0 0 rfl rfl)
theorem dX9_door_1 : decode cX9_door 1 = .ok (.iconst 0, 1) := dk_3 (dk_at dksX9_door_0 1 rfl rfl)
theorem dX9_door_2 : decode cX9_door 2 = .ok (.putfield 48, 3) := dk_181 0 48 (dk_at dksX9_door_0 2 rfl rfl)
theorem dX9_door_5 : decode cX9_door 5 = .ok (.aload_n 0, 1) := dk_42 (dk_at dksX9_door_0 5 rfl rfl)
theorem dX9_door_6 : decode cX9_door 6 = .ok (.invokevirtual 133, 3) := dk_182 0 133 (dk_at dksX9_door_0 6 rfl rfl)
theorem dX9_door_9 : decode cX9_door 9 = .ok (.iconst 0, 1) := dk_3 (dk_at dksX9_door_0 9 rfl rfl)
theorem dX9_door_10 : decode cX9_door 10 = .ok (.istore_n 1, 1) := dk_60 (dk_at dksX9_door_0 10 rfl rfl)
theorem dX9_door_11 : decode cX9_door 11 = .ok (.iload_n 1, 1) := dk_27 (dk_at dksX9_door_0 11 rfl rfl)
theorem dX9_door_12 : decode cX9_door 12 = .ok (.bipush 64, 2) := dk_16 64 (dk_at dksX9_door_0 12 rfl rfl)
theorem dX9_door_14 : decode cX9_door 14 = .ok (.if_icmp .ge 16, 3) := dk_162 0 16 (dk_at dksX9_door_0 14 rfl rfl)
theorem dX9_door_17 : decode cX9_door 17 = .ok (.aload_n 0, 1) := dk_42 (dk_at dksX9_door_0 17 rfl rfl)
theorem dX9_door_18 : decode cX9_door 18 = .ok (.getfield 22, 3) := dk_180 0 22 (dk_at dksX9_door_0 18 rfl rfl)
theorem dX9_door_21 : decode cX9_door 21 = .ok (.iload_n 1, 1) := dk_27 (dk_at dksX9_door_0 21 rfl rfl)
theorem dX9_door_22 : decode cX9_door 22 = .ok (.iconst 0, 1) := dk_3 (dk_at dksX9_door_0 22 rfl rfl)
theorem dX9_door_23 : decode cX9_door 23 = .ok (.iastore, 1) := dk_79 (dk_at dksX9_door_0 23 rfl rfl)
theorem dX9_door_24 : decode cX9_door 24 = .ok (.iinc 1 1, 3) := dk_132 1 1 (dk_at dksX9_door_1 0 rfl rfl)
theorem dX9_door_27 : decode cX9_door 27 = .ok (.goto (-16), 3) := dk_167 255 240 (dk_at dksX9_door_1 3 rfl rfl)
theorem dX9_door_30 : decode cX9_door 30 = .ok (.aload_n 0, 1) := dk_42 (dk_at dksX9_door_1 6 rfl rfl)
theorem dX9_door_31 : decode cX9_door 31 = .ok (.aload_n 0, 1) := dk_42 (dk_at dksX9_door_1 7 rfl rfl)
theorem dX9_door_32 : decode cX9_door 32 = .ok (.bipush 100, 2) := dk_16 100 (dk_at dksX9_door_1 8 rfl rfl)
theorem dX9_door_34 : decode cX9_door 34 = .ok (.invokevirtual 130, 3) := dk_182 0 130 (dk_at dksX9_door_1 10 rfl rfl)
theorem dX9_door_37 : decode cX9_door 37 = .ok (.invokevirtual 113, 3) := dk_182 0 113 (dk_at dksX9_door_1 13 rfl rfl)
theorem dX9_door_40 : decode cX9_door 40 = .ok (.aload_n 0, 1) := dk_42 (dk_at dksX9_door_1 16 rfl rfl)
theorem dX9_door_41 : decode cX9_door 41 = .ok (.getfield 22, 3) := dk_180 0 22 (dk_at dksX9_door_1 17 rfl rfl)
theorem dX9_door_44 : decode cX9_door 44 = .ok (.iconst 0, 1) := dk_3 (dk_at dksX9_door_1 20 rfl rfl)
theorem dX9_door_45 : decode cX9_door 45 = .ok (.aload_n 0, 1) := dk_42 (dk_at dksX9_door_1 21 rfl rfl)
theorem dX9_door_46 : decode cX9_door 46 = .ok (.iconst 1, 1) := dk_4 (dk_at dksX9_door_1 22 rfl rfl)
theorem dX9_door_47 : decode cX9_door 47 = .ok (.bipush 9, 2) := dk_16 9 (dk_at dksX9_door_2 0 rfl rfl)
theorem dX9_door_49 : decode cX9_door 49 = .ok (.invokevirtual 123, 3) := dk_182 0 123 (dk_at dksX9_door_2 2 rfl rfl)
theorem dX9_door_52 : decode cX9_door 52 = .ok (.iastore, 1) := dk_79 (dk_at dksX9_door_2 5 rfl rfl)
theorem dX9_door_53 : decode cX9_door 53 = .ok (.aload_n 0, 1) := dk_42 (dk_at dksX9_door_2 6 rfl rfl)
theorem dX9_door_54 : decode cX9_door 54 = .ok (.bipush 44, 2) := dk_16 44 (dk_at dksX9_door_2 7 rfl rfl)
theorem dX9_door_56 : decode cX9_door 56 = .ok (.invokevirtual 127, 3) := dk_182 0 127 (dk_at dksX9_door_2 9 rfl rfl)
theorem dX9_door_59 : decode cX9_door 59 = .ok (.aload_n 0, 1) := dk_42 (dk_at dksX9_door_2 12 rfl rfl)
theorem dX9_door_60 : decode cX9_door 60 = .ok (.getfield 22, 3) := dk_180 0 22 (dk_at dksX9_door_2 13 rfl rfl)
theorem dX9_door_63 : decode cX9_door 63 = .ok (.iconst 1, 1) := dk_4 (dk_at dksX9_door_2 16 rfl rfl)
theorem dX9_door_64 : decode cX9_door 64 = .ok (.aload_n 0, 1) := dk_42 (dk_at dksX9_door_2 17 rfl rfl)
theorem dX9_door_65 : decode cX9_door 65 = .ok (.iconst 0, 1) := dk_3 (dk_at dksX9_door_2 18 rfl rfl)
theorem dX9_door_66 : decode cX9_door 66 = .ok (.bipush 8, 2) := dk_16 8 (dk_at dksX9_door_2 19 rfl rfl)
theorem dX9_door_68 : decode cX9_door 68 = .ok (.invokevirtual 123, 3) := dk_182 0 123 (dk_at dksX9_door_2 21 rfl rfl)
theorem dX9_door_71 : decode cX9_door 71 = .ok (.iastore, 1) := dk_79 (dk_at dksX9_door_3 0 rfl rfl)
theorem dX9_door_72 : decode cX9_door 72 = .ok (.aload_n 0, 1) := dk_42 (dk_at dksX9_door_3 1 rfl rfl)
theorem dX9_door_73 : decode cX9_door 73 = .ok (.bipush 59, 2) := dk_16 59 (dk_at dksX9_door_3 2 rfl rfl)
theorem dX9_door_75 : decode cX9_door 75 = .ok (.invokevirtual 127, 3) := dk_182 0 127 (dk_at dksX9_door_3 4 rfl rfl)
theorem dX9_door_78 : decode cX9_door 78 = .ok (.aload_n 0, 1) := dk_42 (dk_at dksX9_door_3 7 rfl rfl)
theorem dX9_door_79 : decode cX9_door 79 = .ok (.invokevirtual 136, 3) := dk_182 0 136 (dk_at dksX9_door_3 8 rfl rfl)
theorem dX9_door_82 : decode cX9_door 82 = .ok (.ifCond .ne 8, 3) := dk_154 0 8 (dk_at dksX9_door_3 11 rfl rfl)
theorem dX9_door_85 : decode cX9_door 85 = .ok (.aload_n 0, 1) := dk_42 (dk_at dksX9_door_3 14 rfl rfl)
theorem dX9_door_86 : decode cX9_door 86 = .ok (.iconst 1, 1) := dk_4 (dk_at dksX9_door_3 15 rfl rfl)
theorem dX9_door_87 : decode cX9_door 87 = .ok (.invokevirtual 106, 3) := dk_182 0 106 (dk_at dksX9_door_3 16 rfl rfl)
theorem dX9_door_90 : decode cX9_door 90 = .ok (.aload_n 0, 1) := dk_42 (dk_at dksX9_door_3 19 rfl rfl)
theorem dX9_door_91 : decode cX9_door 91 = .ok (.invokevirtual 136, 3) := dk_182 0 136 (dk_at dksX9_door_3 20 rfl rfl)
theorem dX9_door_94 : decode cX9_door 94 = .ok (.ifCond .eq 10, 3) := dk_153 0 10 (dk_at dksX9_door_4 0 rfl rfl)
theorem dX9_door_97 : decode cX9_door 97 = .ok (.aload_n 0, 1) := dk_42 (dk_at dksX9_door_4 3 rfl rfl)
theorem dX9_door_98 : decode cX9_door 98 = .ok (.invokevirtual 140, 3) := dk_182 0 140 (dk_at dksX9_door_4 4 rfl rfl)
theorem dX9_door_101 : decode cX9_door 101 = .ok (.goto (-11), 3) := dk_167 255 245 (dk_at dksX9_door_4 7 rfl rfl)
theorem dX9_door_104 : decode cX9_door 104 = .ok (.aload_n 0, 1) := dk_42 (dk_at dksX9_door_4 10 rfl rfl)
theorem dX9_door_105 : decode cX9_door 105 = .ok (.bipush 118, 2) := dk_16 118 (dk_at dksX9_door_4 11 rfl rfl)
theorem dX9_door_107 : decode cX9_door 107 = .ok (.invokevirtual 130, 3) := dk_182 0 130 (dk_at dksX9_door_4 13 rfl rfl)
theorem dX9_door_110 : decode cX9_door 110 = .ok (.ifCond .ne 8, 3) := dk_154 0 8 (dk_at dksX9_door_4 16 rfl rfl)
theorem dX9_door_113 : decode cX9_door 113 = .ok (.aload_n 0, 1) := dk_42 (dk_at dksX9_door_4 19 rfl rfl)
theorem dX9_door_114 : decode cX9_door 114 = .ok (.iconst 1, 1) := dk_4 (dk_at dksX9_door_4 20 rfl rfl)
theorem dX9_door_115 : decode cX9_door 115 = .ok (.invokevirtual 106, 3) := dk_182 0 106 (dk_at dksX9_door_4 21 rfl rfl)
theorem dX9_door_118 : decode cX9_door 118 = .ok (.aload_n 0, 1) := dk_42 (dk_at dksX9_door_5 0 rfl rfl)
theorem dX9_door_119 : decode cX9_door 119 = .ok (.bipush 118, 2) := dk_16 118 (dk_at dksX9_door_5 1 rfl rfl)
theorem dX9_door_121 : decode cX9_door 121 = .ok (.invokevirtual 130, 3) := dk_182 0 130 (dk_at dksX9_door_5 3 rfl rfl)
theorem dX9_door_124 : decode cX9_door 124 = .ok (.ifCond .eq 10, 3) := dk_153 0 10 (dk_at dksX9_door_5 6 rfl rfl)
theorem dX9_door_127 : decode cX9_door 127 = .ok (.aload_n 0, 1) := dk_42 (dk_at dksX9_door_5 9 rfl rfl)
theorem dX9_door_128 : decode cX9_door 128 = .ok (.invokevirtual 143, 3) := dk_182 0 143 (dk_at dksX9_door_5 10 rfl rfl)
theorem dX9_door_131 : decode cX9_door 131 = .ok (.goto (-13), 3) := dk_167 255 243 (dk_at dksX9_door_5 13 rfl rfl)
theorem dX9_door_134 : decode cX9_door 134 = .ok (.aload_n 0, 1) := dk_42 (dk_at dksX9_door_5 16 rfl rfl)
theorem dX9_door_135 : decode cX9_door 135 = .ok (.invokevirtual 146, 3) := dk_182 0 146 (dk_at dksX9_door_5 17 rfl rfl)
theorem dX9_door_138 : decode cX9_door 138 = .ok (.ifCond .eq 11, 3) := dk_153 0 11 (dk_at dksX9_door_5 20 rfl rfl)
theorem dX9_door_141 : decode cX9_door 141 = .ok (.ldc 149, 2) := dk_18 149 (dk_at dksX9_door_6 0 rfl rfl)
theorem dX9_door_143 : decode cX9_door 143 = .ok (.aload_n 0, 1) := dk_42 (dk_at dksX9_door_6 2 rfl rfl)
theorem dX9_door_144 : decode cX9_door 144 = .ok (.getfield 85, 3) := dk_180 0 85 (dk_at dksX9_door_6 3 rfl rfl)
theorem dX9_door_147 : decode cX9_door 147 = .ok (.isub, 1) := dk_100 (dk_at dksX9_door_6 6 rfl rfl)
theorem dX9_door_148 : decode cX9_door 148 = .ok (.ireturn, 1) := dk_172 (dk_at dksX9_door_6 7 rfl rfl)
theorem dX9_door_149 : decode cX9_door 149 = .ok (.aload_n 0, 1) := dk_42 (dk_at dksX9_door_6 8 rfl rfl)
theorem dX9_door_150 : decode cX9_door 150 = .ok (.iconst 0, 1) := dk_3 (dk_at dksX9_door_6 9 rfl rfl)
theorem dX9_door_151 : decode cX9_door 151 = .ok (.putfield 150, 3) := dk_181 0 150 (dk_at dksX9_door_6 10 rfl rfl)
theorem dX9_door_154 : decode cX9_door 154 = .ok (.iconst 0, 1) := dk_3 (dk_at dksX9_door_6 13 rfl rfl)
theorem dX9_door_155 : decode cX9_door 155 = .ok (.istore_n 1, 1) := dk_60 (dk_at dksX9_door_6 14 rfl rfl)
theorem dX9_door_156 : decode cX9_door 156 = .ok (.iload_n 1, 1) := dk_27 (dk_at dksX9_door_6 15 rfl rfl)
theorem dX9_door_157 : decode cX9_door 157 = .ok (.bipush 64, 2) := dk_16 64 (dk_at dksX9_door_6 16 rfl rfl)
theorem dX9_door_159 : decode cX9_door 159 = .ok (.if_icmp .ge 21, 3) := dk_162 0 21 (dk_at dksX9_door_6 18 rfl rfl)
theorem dX9_door_162 : decode cX9_door 162 = .ok (.aload_n 0, 1) := dk_42 (dk_at dksX9_door_6 21 rfl rfl)
theorem dX9_door_163 : decode cX9_door 163 = .ok (.getfield 19, 3) := dk_180 0 19 (dk_at dksX9_door_7 0 rfl rfl)
theorem dX9_door_166 : decode cX9_door 166 = .ok (.iload_n 1, 1) := dk_27 (dk_at dksX9_door_7 3 rfl rfl)
theorem dX9_door_167 : decode cX9_door 167 = .ok (.aload_n 0, 1) := dk_42 (dk_at dksX9_door_7 4 rfl rfl)
theorem dX9_door_168 : decode cX9_door 168 = .ok (.getfield 22, 3) := dk_180 0 22 (dk_at dksX9_door_7 5 rfl rfl)
theorem dX9_door_171 : decode cX9_door 171 = .ok (.iload_n 1, 1) := dk_27 (dk_at dksX9_door_7 8 rfl rfl)
theorem dX9_door_172 : decode cX9_door 172 = .ok (.iaload, 1) := dk_46 (dk_at dksX9_door_7 9 rfl rfl)
theorem dX9_door_173 : decode cX9_door 173 = .ok (.iastore, 1) := dk_79 (dk_at dksX9_door_7 10 rfl rfl)
theorem dX9_door_174 : decode cX9_door 174 = .ok (.iinc 1 1, 3) := dk_132 1 1 (dk_at dksX9_door_7 11 rfl rfl)
theorem dX9_door_177 : decode cX9_door 177 = .ok (.goto (-21), 3) := dk_167 255 235 (dk_at dksX9_door_7 14 rfl rfl)
theorem dX9_door_180 : decode cX9_door 180 = .ok (.aload_n 0, 1) := dk_42 (dk_at dksX9_door_7 17 rfl rfl)
theorem dX9_door_181 : decode cX9_door 181 = .ok (.getfield 19, 3) := dk_180 0 19 (dk_at dksX9_door_7 18 rfl rfl)
theorem dX9_door_184 : decode cX9_door 184 = .ok (.iconst 2, 1) := dk_5 (dk_at dksX9_door_7 21 rfl rfl)
theorem dX9_door_185 : decode cX9_door 185 = .ok (.iaload, 1) := dk_46 (dk_at dksX9_door_7 22 rfl rfl)
theorem dX9_door_186 : decode cX9_door 186 = .ok (.ireturn, 1) := dk_172 (dk_at dksX9_door_7 23 rfl rfl)
abbrev cX9_begin : ByteArray := prog_16_method_17_code
def yX9_begin : MethodName := ⟨RX9, "begin", "()V"⟩
def dkwX9_begin_0 : List UInt8 := [42, 3, 181, 0, 88, 42, 3, 181, 0, 79, 42, 182, 0, 110, 177]
abbrev dktX9_begin_0 : List UInt8 := dkwX9_begin_0 ++ []
theorem dksX9_begin_0 : cX9_begin.data.toList.drop 0 = dktX9_begin_0 := by decide +kernel
theorem dX9_begin_0 : decode cX9_begin 0 = .ok (.aload_n 0, 1) := dk_42 (dk_at dksX9_begin_0 0 rfl rfl)
theorem dX9_begin_1 : decode cX9_begin 1 = .ok (.iconst 0, 1) := dk_3 (dk_at dksX9_begin_0 1 rfl rfl)
theorem dX9_begin_2 : decode cX9_begin 2 = .ok (.putfield 88, 3) := dk_181 0 88 (dk_at dksX9_begin_0 2 rfl rfl)
theorem dX9_begin_5 : decode cX9_begin 5 = .ok (.aload_n 0, 1) := dk_42 (dk_at dksX9_begin_0 5 rfl rfl)
theorem dX9_begin_6 : decode cX9_begin 6 = .ok (.iconst 0, 1) := dk_3 (dk_at dksX9_begin_0 6 rfl rfl)
theorem dX9_begin_7 : decode cX9_begin 7 = .ok (.putfield 79, 3) := dk_181 0 79 (dk_at dksX9_begin_0 7 rfl rfl)
theorem dX9_begin_10 : decode cX9_begin 10 = .ok (.aload_n 0, 1) := dk_42 (dk_at dksX9_begin_0 10 rfl rfl)
theorem dX9_begin_11 : decode cX9_begin 11 = .ok (.invokevirtual 110, 3) := dk_182 0 110 (dk_at dksX9_begin_0 11 rfl rfl)
theorem dX9_begin_14 : decode cX9_begin 14 = .ok (.return_, 1) := dk_177 (dk_at dksX9_begin_0 14 rfl rfl)
abbrev cX9_nextToken : ByteArray := prog_16_method_12_code
def yX9_nextToken : MethodName := ⟨RX9, "nextToken", "()V"⟩
def dkwX9_nextToken_11 : List UInt8 := [42, 180, 0, 88, 42, 180, 0, 82, 100, 5, 164, 0, 7, 3, 167, 0, 4, 6, 181, 0, 103, 177]
abbrev dktX9_nextToken_11 : List UInt8 := dkwX9_nextToken_11 ++ []
def dkwX9_nextToken_10 : List UInt8 := [167, 0, 7, 42, 180, 0, 92, 181, 0, 92, 42, 89, 180, 0, 88, 4, 96, 181, 0, 88, 167, 255, 169, 42]
abbrev dktX9_nextToken_10 : List UInt8 := dkwX9_nextToken_10 ++ dktX9_nextToken_11
def dkwX9_nextToken_9 : List UInt8 := [162, 0, 26, 16, 10, 42, 180, 0, 92, 104, 42, 180, 0, 31, 42, 180, 0, 88, 46, 96, 16, 48, 100]
abbrev dktX9_nextToken_9 : List UInt8 := dkwX9_nextToken_9 ++ dktX9_nextToken_10
def dkwX9_nextToken_8 : List UInt8 := [20, 0, 99, 20, 0, 101, 184, 0, 58, 153, 0, 60, 42, 42, 180, 0, 88, 42, 180, 0, 82, 100, 5]
abbrev dktX9_nextToken_8 : List UInt8 := dkwX9_nextToken_8 ++ dktX9_nextToken_9
def dkwX9_nextToken_7 : List UInt8 := [181, 0, 92, 42, 180, 0, 88, 42, 180, 0, 75, 162, 0, 82, 42, 180, 0, 31, 42, 180, 0, 88, 46, 133]
abbrev dktX9_nextToken_7 : List UInt8 := dkwX9_nextToken_7 ++ dktX9_nextToken_8
def dkwX9_nextToken_6 : List UInt8 := [167, 0, 4, 3, 96, 181, 0, 88, 42, 180, 0, 103, 6, 160, 0, 126, 42, 89, 180, 0, 92, 16, 48, 100]
abbrev dktX9_nextToken_6 : List UInt8 := dkwX9_nextToken_6 ++ dktX9_nextToken_7
def dkwX9_nextToken_5 : List UInt8 := [167, 0, 4, 3, 181, 0, 103, 42, 89, 180, 0, 88, 42, 180, 0, 88, 42, 180, 0, 75, 162, 0, 7, 4]
abbrev dktX9_nextToken_5 : List UInt8 := dkwX9_nextToken_5 ++ dktX9_nextToken_6
def dkwX9_nextToken_4 : List UInt8 := [167, 0, 26, 42, 180, 0, 92, 16, 44, 159, 0, 12, 42, 180, 0, 92, 16, 59, 160, 0, 7, 7]
abbrev dktX9_nextToken_4 : List UInt8 := dkwX9_nextToken_4 ++ dktX9_nextToken_5
def dkwX9_nextToken_3 : List UInt8 := [5, 167, 0, 47, 42, 180, 0, 92, 133, 20, 0, 99, 20, 0, 101, 184, 0, 58, 153, 0, 7, 6]
abbrev dktX9_nextToken_3 : List UInt8 := dkwX9_nextToken_3 ++ dktX9_nextToken_4
def dkwX9_nextToken_2 : List UInt8 := [160, 0, 7, 4, 167, 0, 68, 42, 180, 0, 92, 133, 20, 0, 95, 20, 0, 97, 184, 0, 58, 153, 0, 7]
abbrev dktX9_nextToken_2 : List UInt8 := dkwX9_nextToken_2 ++ dktX9_nextToken_3
def dkwX9_nextToken_1 : List UInt8 := [42, 180, 0, 88, 46, 167, 0, 5, 18, 91, 181, 0, 92, 42, 42, 180, 0, 88, 42, 180, 0, 75]
abbrev dktX9_nextToken_1 : List UInt8 := dkwX9_nextToken_1 ++ dktX9_nextToken_2
def dkwX9_nextToken_0 : List UInt8 := [42, 42, 180, 0, 88, 181, 0, 82, 42, 42, 180, 0, 88, 42, 180, 0, 75, 162, 0, 15, 42, 180, 0, 31]
abbrev dktX9_nextToken_0 : List UInt8 := dkwX9_nextToken_0 ++ dktX9_nextToken_1
theorem dksX9_nextToken_0 : cX9_nextToken.data.toList.drop 0 = dktX9_nextToken_0 := by decide +kernel
theorem dksX9_nextToken_1 : cX9_nextToken.data.toList.drop 24 = dktX9_nextToken_1 := dk_seg dksX9_nextToken_0 24 rfl rfl
theorem dksX9_nextToken_2 : cX9_nextToken.data.toList.drop 46 = dktX9_nextToken_2 := dk_seg dksX9_nextToken_1 22 rfl rfl
theorem dksX9_nextToken_3 : cX9_nextToken.data.toList.drop 70 = dktX9_nextToken_3 := dk_seg dksX9_nextToken_2 24 rfl rfl
theorem dksX9_nextToken_4 : cX9_nextToken.data.toList.drop 92 = dktX9_nextToken_4 := dk_seg dksX9_nextToken_3 22 rfl rfl
theorem dksX9_nextToken_5 : cX9_nextToken.data.toList.drop 114 = dktX9_nextToken_5 := dk_seg dksX9_nextToken_4 22 rfl rfl
theorem dksX9_nextToken_6 : cX9_nextToken.data.toList.drop 138 = dktX9_nextToken_6 := dk_seg dksX9_nextToken_5 24 rfl rfl
theorem dksX9_nextToken_7 : cX9_nextToken.data.toList.drop 162 = dktX9_nextToken_7 := dk_seg dksX9_nextToken_6 24 rfl rfl
theorem dksX9_nextToken_8 : cX9_nextToken.data.toList.drop 186 = dktX9_nextToken_8 := dk_seg dksX9_nextToken_7 24 rfl rfl
theorem dksX9_nextToken_9 : cX9_nextToken.data.toList.drop 209 = dktX9_nextToken_9 := dk_seg dksX9_nextToken_8 23 rfl rfl
theorem dksX9_nextToken_10 : cX9_nextToken.data.toList.drop 232 = dktX9_nextToken_10 := dk_seg dksX9_nextToken_9 23 rfl rfl
theorem dksX9_nextToken_11 : cX9_nextToken.data.toList.drop 256 = dktX9_nextToken_11 := dk_seg dksX9_nextToken_10 24 rfl rfl
theorem dX9_nextToken_0 : decode cX9_nextToken 0 = .ok (.aload_n 0, 1) := dk_42 (dk_at dksX9_nextToken_0 0 rfl rfl)
theorem dX9_nextToken_1 : decode cX9_nextToken 1 = .ok (.aload_n 0, 1) := dk_42 (dk_at dksX9_nextToken_0 1 rfl rfl)
theorem dX9_nextToken_2 : decode cX9_nextToken 2 = .ok (.getfield 88, 3) := dk_180 0 88 (dk_at dksX9_nextToken_0 2 rfl rfl)
theorem dX9_nextToken_5 : decode cX9_nextToken 5 = .ok (.putfield 82, 3) := dk_181 0 82 (dk_at dksX9_nextToken_0 5 rfl rfl)
theorem dX9_nextToken_8 : decode cX9_nextToken 8 = .ok (.aload_n 0, 1) := dk_42 (dk_at dksX9_nextToken_0 8 rfl rfl)
theorem dX9_nextToken_9 : decode cX9_nextToken 9 = .ok (.aload_n 0, 1) := dk_42 (dk_at dksX9_nextToken_0 9 rfl rfl)
theorem dX9_nextToken_10 : decode cX9_nextToken 10 = .ok (.getfield 88, 3) := dk_180 0 88 (dk_at dksX9_nextToken_0 10 rfl rfl)
theorem dX9_nextToken_13 : decode cX9_nextToken 13 = .ok (.aload_n 0, 1) := dk_42 (dk_at dksX9_nextToken_0 13 rfl rfl)
theorem dX9_nextToken_14 : decode cX9_nextToken 14 = .ok (.getfield 75, 3) := dk_180 0 75 (dk_at dksX9_nextToken_0 14 rfl rfl)
theorem dX9_nextToken_17 : decode cX9_nextToken 17 = .ok (.if_icmp .ge 15, 3) := dk_162 0 15 (dk_at dksX9_nextToken_0 17 rfl rfl)
theorem dX9_nextToken_20 : decode cX9_nextToken 20 = .ok (.aload_n 0, 1) := dk_42 (dk_at dksX9_nextToken_0 20 rfl rfl)
theorem dX9_nextToken_21 : decode cX9_nextToken 21 = .ok (.getfield 31, 3) := dk_180 0 31 (dk_at dksX9_nextToken_0 21 rfl rfl)
theorem dX9_nextToken_24 : decode cX9_nextToken 24 = .ok (.aload_n 0, 1) := dk_42 (dk_at dksX9_nextToken_1 0 rfl rfl)
theorem dX9_nextToken_25 : decode cX9_nextToken 25 = .ok (.getfield 88, 3) := dk_180 0 88 (dk_at dksX9_nextToken_1 1 rfl rfl)
theorem dX9_nextToken_28 : decode cX9_nextToken 28 = .ok (.iaload, 1) := dk_46 (dk_at dksX9_nextToken_1 4 rfl rfl)
theorem dX9_nextToken_29 : decode cX9_nextToken 29 = .ok (.goto 5, 3) := dk_167 0 5 (dk_at dksX9_nextToken_1 5 rfl rfl)
theorem dX9_nextToken_32 : decode cX9_nextToken 32 = .ok (.ldc 91, 2) := dk_18 91 (dk_at dksX9_nextToken_1 8 rfl rfl)
theorem dX9_nextToken_34 : decode cX9_nextToken 34 = .ok (.putfield 92, 3) := dk_181 0 92 (dk_at dksX9_nextToken_1 10 rfl rfl)
theorem dX9_nextToken_37 : decode cX9_nextToken 37 = .ok (.aload_n 0, 1) := dk_42 (dk_at dksX9_nextToken_1 13 rfl rfl)
theorem dX9_nextToken_38 : decode cX9_nextToken 38 = .ok (.aload_n 0, 1) := dk_42 (dk_at dksX9_nextToken_1 14 rfl rfl)
theorem dX9_nextToken_39 : decode cX9_nextToken 39 = .ok (.getfield 88, 3) := dk_180 0 88 (dk_at dksX9_nextToken_1 15 rfl rfl)
theorem dX9_nextToken_42 : decode cX9_nextToken 42 = .ok (.aload_n 0, 1) := dk_42 (dk_at dksX9_nextToken_1 18 rfl rfl)
theorem dX9_nextToken_43 : decode cX9_nextToken 43 = .ok (.getfield 75, 3) := dk_180 0 75 (dk_at dksX9_nextToken_1 19 rfl rfl)
theorem dX9_nextToken_46 : decode cX9_nextToken 46 = .ok (.if_icmp .ne 7, 3) := dk_160 0 7 (dk_at dksX9_nextToken_2 0 rfl rfl)
theorem dX9_nextToken_49 : decode cX9_nextToken 49 = .ok (.iconst 1, 1) := dk_4 (dk_at dksX9_nextToken_2 3 rfl rfl)
theorem dX9_nextToken_50 : decode cX9_nextToken 50 = .ok (.goto 68, 3) := dk_167 0 68 (dk_at dksX9_nextToken_2 4 rfl rfl)
theorem dX9_nextToken_53 : decode cX9_nextToken 53 = .ok (.aload_n 0, 1) := dk_42 (dk_at dksX9_nextToken_2 7 rfl rfl)
theorem dX9_nextToken_54 : decode cX9_nextToken 54 = .ok (.getfield 92, 3) := dk_180 0 92 (dk_at dksX9_nextToken_2 8 rfl rfl)
theorem dX9_nextToken_57 : decode cX9_nextToken 57 = .ok (.i2l, 1) := dk_133 (dk_at dksX9_nextToken_2 11 rfl rfl)
theorem dX9_nextToken_58 : decode cX9_nextToken 58 = .ok (.ldc2_w 95, 3) := dk_20 0 95 (dk_at dksX9_nextToken_2 12 rfl rfl)
theorem dX9_nextToken_61 : decode cX9_nextToken 61 = .ok (.ldc2_w 97, 3) := dk_20 0 97 (dk_at dksX9_nextToken_2 15 rfl rfl)
theorem dX9_nextToken_64 : decode cX9_nextToken 64 = .ok (.invokestatic 58, 3) := dk_184 0 58 (dk_at dksX9_nextToken_2 18 rfl rfl)
theorem dX9_nextToken_67 : decode cX9_nextToken 67 = .ok (.ifCond .eq 7, 3) := dk_153 0 7 (dk_at dksX9_nextToken_2 21 rfl rfl)
theorem dX9_nextToken_70 : decode cX9_nextToken 70 = .ok (.iconst 2, 1) := dk_5 (dk_at dksX9_nextToken_3 0 rfl rfl)
theorem dX9_nextToken_71 : decode cX9_nextToken 71 = .ok (.goto 47, 3) := dk_167 0 47 (dk_at dksX9_nextToken_3 1 rfl rfl)
theorem dX9_nextToken_74 : decode cX9_nextToken 74 = .ok (.aload_n 0, 1) := dk_42 (dk_at dksX9_nextToken_3 4 rfl rfl)
theorem dX9_nextToken_75 : decode cX9_nextToken 75 = .ok (.getfield 92, 3) := dk_180 0 92 (dk_at dksX9_nextToken_3 5 rfl rfl)
theorem dX9_nextToken_78 : decode cX9_nextToken 78 = .ok (.i2l, 1) := dk_133 (dk_at dksX9_nextToken_3 8 rfl rfl)
theorem dX9_nextToken_79 : decode cX9_nextToken 79 = .ok (.ldc2_w 99, 3) := dk_20 0 99 (dk_at dksX9_nextToken_3 9 rfl rfl)
theorem dX9_nextToken_82 : decode cX9_nextToken 82 = .ok (.ldc2_w 101, 3) := dk_20 0 101 (dk_at dksX9_nextToken_3 12 rfl rfl)
theorem dX9_nextToken_85 : decode cX9_nextToken 85 = .ok (.invokestatic 58, 3) := dk_184 0 58 (dk_at dksX9_nextToken_3 15 rfl rfl)
theorem dX9_nextToken_88 : decode cX9_nextToken 88 = .ok (.ifCond .eq 7, 3) := dk_153 0 7 (dk_at dksX9_nextToken_3 18 rfl rfl)
theorem dX9_nextToken_91 : decode cX9_nextToken 91 = .ok (.iconst 3, 1) := dk_6 (dk_at dksX9_nextToken_3 21 rfl rfl)
theorem dX9_nextToken_92 : decode cX9_nextToken 92 = .ok (.goto 26, 3) := dk_167 0 26 (dk_at dksX9_nextToken_4 0 rfl rfl)
theorem dX9_nextToken_95 : decode cX9_nextToken 95 = .ok (.aload_n 0, 1) := dk_42 (dk_at dksX9_nextToken_4 3 rfl rfl)
theorem dX9_nextToken_96 : decode cX9_nextToken 96 = .ok (.getfield 92, 3) := dk_180 0 92 (dk_at dksX9_nextToken_4 4 rfl rfl)
theorem dX9_nextToken_99 : decode cX9_nextToken 99 = .ok (.bipush 44, 2) := dk_16 44 (dk_at dksX9_nextToken_4 7 rfl rfl)
theorem dX9_nextToken_101 : decode cX9_nextToken 101 = .ok (.if_icmp .eq 12, 3) := dk_159 0 12 (dk_at dksX9_nextToken_4 9 rfl rfl)
theorem dX9_nextToken_104 : decode cX9_nextToken 104 = .ok (.aload_n 0, 1) := dk_42 (dk_at dksX9_nextToken_4 12 rfl rfl)
theorem dX9_nextToken_105 : decode cX9_nextToken 105 = .ok (.getfield 92, 3) := dk_180 0 92 (dk_at dksX9_nextToken_4 13 rfl rfl)
theorem dX9_nextToken_108 : decode cX9_nextToken 108 = .ok (.bipush 59, 2) := dk_16 59 (dk_at dksX9_nextToken_4 16 rfl rfl)
theorem dX9_nextToken_110 : decode cX9_nextToken 110 = .ok (.if_icmp .ne 7, 3) := dk_160 0 7 (dk_at dksX9_nextToken_4 18 rfl rfl)
theorem dX9_nextToken_113 : decode cX9_nextToken 113 = .ok (.iconst 4, 1) := dk_7 (dk_at dksX9_nextToken_4 21 rfl rfl)
theorem dX9_nextToken_114 : decode cX9_nextToken 114 = .ok (.goto 4, 3) := dk_167 0 4 (dk_at dksX9_nextToken_5 0 rfl rfl)
theorem dX9_nextToken_117 : decode cX9_nextToken 117 = .ok (.iconst 0, 1) := dk_3 (dk_at dksX9_nextToken_5 3 rfl rfl)
theorem dX9_nextToken_118 : decode cX9_nextToken 118 = .ok (.putfield 103, 3) := dk_181 0 103 (dk_at dksX9_nextToken_5 4 rfl rfl)
theorem dX9_nextToken_121 : decode cX9_nextToken 121 = .ok (.aload_n 0, 1) := dk_42 (dk_at dksX9_nextToken_5 7 rfl rfl)
theorem dX9_nextToken_122 : decode cX9_nextToken 122 = .ok (.dup, 1) := dk_89 (dk_at dksX9_nextToken_5 8 rfl rfl)
theorem dX9_nextToken_123 : decode cX9_nextToken 123 = .ok (.getfield 88, 3) := dk_180 0 88 (dk_at dksX9_nextToken_5 9 rfl rfl)
theorem dX9_nextToken_126 : decode cX9_nextToken 126 = .ok (.aload_n 0, 1) := dk_42 (dk_at dksX9_nextToken_5 12 rfl rfl)
theorem dX9_nextToken_127 : decode cX9_nextToken 127 = .ok (.getfield 88, 3) := dk_180 0 88 (dk_at dksX9_nextToken_5 13 rfl rfl)
theorem dX9_nextToken_130 : decode cX9_nextToken 130 = .ok (.aload_n 0, 1) := dk_42 (dk_at dksX9_nextToken_5 16 rfl rfl)
theorem dX9_nextToken_131 : decode cX9_nextToken 131 = .ok (.getfield 75, 3) := dk_180 0 75 (dk_at dksX9_nextToken_5 17 rfl rfl)
theorem dX9_nextToken_134 : decode cX9_nextToken 134 = .ok (.if_icmp .ge 7, 3) := dk_162 0 7 (dk_at dksX9_nextToken_5 20 rfl rfl)
theorem dX9_nextToken_137 : decode cX9_nextToken 137 = .ok (.iconst 1, 1) := dk_4 (dk_at dksX9_nextToken_5 23 rfl rfl)
theorem dX9_nextToken_138 : decode cX9_nextToken 138 = .ok (.goto 4, 3) := dk_167 0 4 (dk_at dksX9_nextToken_6 0 rfl rfl)
theorem dX9_nextToken_141 : decode cX9_nextToken 141 = .ok (.iconst 0, 1) := dk_3 (dk_at dksX9_nextToken_6 3 rfl rfl)
theorem dX9_nextToken_142 : decode cX9_nextToken 142 = .ok (.iadd, 1) := dk_96 (dk_at dksX9_nextToken_6 4 rfl rfl)
theorem dX9_nextToken_143 : decode cX9_nextToken 143 = .ok (.putfield 88, 3) := dk_181 0 88 (dk_at dksX9_nextToken_6 5 rfl rfl)
theorem dX9_nextToken_146 : decode cX9_nextToken 146 = .ok (.aload_n 0, 1) := dk_42 (dk_at dksX9_nextToken_6 8 rfl rfl)
theorem dX9_nextToken_147 : decode cX9_nextToken 147 = .ok (.getfield 103, 3) := dk_180 0 103 (dk_at dksX9_nextToken_6 9 rfl rfl)
theorem dX9_nextToken_150 : decode cX9_nextToken 150 = .ok (.iconst 3, 1) := dk_6 (dk_at dksX9_nextToken_6 12 rfl rfl)
theorem dX9_nextToken_151 : decode cX9_nextToken 151 = .ok (.if_icmp .ne 126, 3) := dk_160 0 126 (dk_at dksX9_nextToken_6 13 rfl rfl)
theorem dX9_nextToken_154 : decode cX9_nextToken 154 = .ok (.aload_n 0, 1) := dk_42 (dk_at dksX9_nextToken_6 16 rfl rfl)
theorem dX9_nextToken_155 : decode cX9_nextToken 155 = .ok (.dup, 1) := dk_89 (dk_at dksX9_nextToken_6 17 rfl rfl)
theorem dX9_nextToken_156 : decode cX9_nextToken 156 = .ok (.getfield 92, 3) := dk_180 0 92 (dk_at dksX9_nextToken_6 18 rfl rfl)
theorem dX9_nextToken_159 : decode cX9_nextToken 159 = .ok (.bipush 48, 2) := dk_16 48 (dk_at dksX9_nextToken_6 21 rfl rfl)
theorem dX9_nextToken_161 : decode cX9_nextToken 161 = .ok (.isub, 1) := dk_100 (dk_at dksX9_nextToken_6 23 rfl rfl)
theorem dX9_nextToken_162 : decode cX9_nextToken 162 = .ok (.putfield 92, 3) := dk_181 0 92 (dk_at dksX9_nextToken_7 0 rfl rfl)
theorem dX9_nextToken_165 : decode cX9_nextToken 165 = .ok (.aload_n 0, 1) := dk_42 (dk_at dksX9_nextToken_7 3 rfl rfl)
theorem dX9_nextToken_166 : decode cX9_nextToken 166 = .ok (.getfield 88, 3) := dk_180 0 88 (dk_at dksX9_nextToken_7 4 rfl rfl)
theorem dX9_nextToken_169 : decode cX9_nextToken 169 = .ok (.aload_n 0, 1) := dk_42 (dk_at dksX9_nextToken_7 7 rfl rfl)
theorem dX9_nextToken_170 : decode cX9_nextToken 170 = .ok (.getfield 75, 3) := dk_180 0 75 (dk_at dksX9_nextToken_7 8 rfl rfl)
theorem dX9_nextToken_173 : decode cX9_nextToken 173 = .ok (.if_icmp .ge 82, 3) := dk_162 0 82 (dk_at dksX9_nextToken_7 11 rfl rfl)
theorem dX9_nextToken_176 : decode cX9_nextToken 176 = .ok (.aload_n 0, 1) := dk_42 (dk_at dksX9_nextToken_7 14 rfl rfl)
theorem dX9_nextToken_177 : decode cX9_nextToken 177 = .ok (.getfield 31, 3) := dk_180 0 31 (dk_at dksX9_nextToken_7 15 rfl rfl)
theorem dX9_nextToken_180 : decode cX9_nextToken 180 = .ok (.aload_n 0, 1) := dk_42 (dk_at dksX9_nextToken_7 18 rfl rfl)
theorem dX9_nextToken_181 : decode cX9_nextToken 181 = .ok (.getfield 88, 3) := dk_180 0 88 (dk_at dksX9_nextToken_7 19 rfl rfl)
theorem dX9_nextToken_184 : decode cX9_nextToken 184 = .ok (.iaload, 1) := dk_46 (dk_at dksX9_nextToken_7 22 rfl rfl)
theorem dX9_nextToken_185 : decode cX9_nextToken 185 = .ok (.i2l, 1) := dk_133 (dk_at dksX9_nextToken_7 23 rfl rfl)
theorem dX9_nextToken_186 : decode cX9_nextToken 186 = .ok (.ldc2_w 99, 3) := dk_20 0 99 (dk_at dksX9_nextToken_8 0 rfl rfl)
theorem dX9_nextToken_189 : decode cX9_nextToken 189 = .ok (.ldc2_w 101, 3) := dk_20 0 101 (dk_at dksX9_nextToken_8 3 rfl rfl)
theorem dX9_nextToken_192 : decode cX9_nextToken 192 = .ok (.invokestatic 58, 3) := dk_184 0 58 (dk_at dksX9_nextToken_8 6 rfl rfl)
theorem dX9_nextToken_195 : decode cX9_nextToken 195 = .ok (.ifCond .eq 60, 3) := dk_153 0 60 (dk_at dksX9_nextToken_8 9 rfl rfl)
theorem dX9_nextToken_198 : decode cX9_nextToken 198 = .ok (.aload_n 0, 1) := dk_42 (dk_at dksX9_nextToken_8 12 rfl rfl)
theorem dX9_nextToken_199 : decode cX9_nextToken 199 = .ok (.aload_n 0, 1) := dk_42 (dk_at dksX9_nextToken_8 13 rfl rfl)
theorem dX9_nextToken_200 : decode cX9_nextToken 200 = .ok (.getfield 88, 3) := dk_180 0 88 (dk_at dksX9_nextToken_8 14 rfl rfl)
theorem dX9_nextToken_203 : decode cX9_nextToken 203 = .ok (.aload_n 0, 1) := dk_42 (dk_at dksX9_nextToken_8 17 rfl rfl)
theorem dX9_nextToken_204 : decode cX9_nextToken 204 = .ok (.getfield 82, 3) := dk_180 0 82 (dk_at dksX9_nextToken_8 18 rfl rfl)
theorem dX9_nextToken_207 : decode cX9_nextToken 207 = .ok (.isub, 1) := dk_100 (dk_at dksX9_nextToken_8 21 rfl rfl)
theorem dX9_nextToken_208 : decode cX9_nextToken 208 = .ok (.iconst 2, 1) := dk_5 (dk_at dksX9_nextToken_8 22 rfl rfl)
theorem dX9_nextToken_209 : decode cX9_nextToken 209 = .ok (.if_icmp .ge 26, 3) := dk_162 0 26 (dk_at dksX9_nextToken_9 0 rfl rfl)
theorem dX9_nextToken_212 : decode cX9_nextToken 212 = .ok (.bipush 10, 2) := dk_16 10 (dk_at dksX9_nextToken_9 3 rfl rfl)
theorem dX9_nextToken_214 : decode cX9_nextToken 214 = .ok (.aload_n 0, 1) := dk_42 (dk_at dksX9_nextToken_9 5 rfl rfl)
theorem dX9_nextToken_215 : decode cX9_nextToken 215 = .ok (.getfield 92, 3) := dk_180 0 92 (dk_at dksX9_nextToken_9 6 rfl rfl)
theorem dX9_nextToken_218 : decode cX9_nextToken 218 = .ok (.imul, 1) := dk_104 (dk_at dksX9_nextToken_9 9 rfl rfl)
theorem dX9_nextToken_219 : decode cX9_nextToken 219 = .ok (.aload_n 0, 1) := dk_42 (dk_at dksX9_nextToken_9 10 rfl rfl)
theorem dX9_nextToken_220 : decode cX9_nextToken 220 = .ok (.getfield 31, 3) := dk_180 0 31 (dk_at dksX9_nextToken_9 11 rfl rfl)
theorem dX9_nextToken_223 : decode cX9_nextToken 223 = .ok (.aload_n 0, 1) := dk_42 (dk_at dksX9_nextToken_9 14 rfl rfl)
theorem dX9_nextToken_224 : decode cX9_nextToken 224 = .ok (.getfield 88, 3) := dk_180 0 88 (dk_at dksX9_nextToken_9 15 rfl rfl)
theorem dX9_nextToken_227 : decode cX9_nextToken 227 = .ok (.iaload, 1) := dk_46 (dk_at dksX9_nextToken_9 18 rfl rfl)
theorem dX9_nextToken_228 : decode cX9_nextToken 228 = .ok (.iadd, 1) := dk_96 (dk_at dksX9_nextToken_9 19 rfl rfl)
theorem dX9_nextToken_229 : decode cX9_nextToken 229 = .ok (.bipush 48, 2) := dk_16 48 (dk_at dksX9_nextToken_9 20 rfl rfl)
theorem dX9_nextToken_231 : decode cX9_nextToken 231 = .ok (.isub, 1) := dk_100 (dk_at dksX9_nextToken_9 22 rfl rfl)
theorem dX9_nextToken_232 : decode cX9_nextToken 232 = .ok (.goto 7, 3) := dk_167 0 7 (dk_at dksX9_nextToken_10 0 rfl rfl)
theorem dX9_nextToken_235 : decode cX9_nextToken 235 = .ok (.aload_n 0, 1) := dk_42 (dk_at dksX9_nextToken_10 3 rfl rfl)
theorem dX9_nextToken_236 : decode cX9_nextToken 236 = .ok (.getfield 92, 3) := dk_180 0 92 (dk_at dksX9_nextToken_10 4 rfl rfl)
theorem dX9_nextToken_239 : decode cX9_nextToken 239 = .ok (.putfield 92, 3) := dk_181 0 92 (dk_at dksX9_nextToken_10 7 rfl rfl)
theorem dX9_nextToken_242 : decode cX9_nextToken 242 = .ok (.aload_n 0, 1) := dk_42 (dk_at dksX9_nextToken_10 10 rfl rfl)
theorem dX9_nextToken_243 : decode cX9_nextToken 243 = .ok (.dup, 1) := dk_89 (dk_at dksX9_nextToken_10 11 rfl rfl)
theorem dX9_nextToken_244 : decode cX9_nextToken 244 = .ok (.getfield 88, 3) := dk_180 0 88 (dk_at dksX9_nextToken_10 12 rfl rfl)
theorem dX9_nextToken_247 : decode cX9_nextToken 247 = .ok (.iconst 1, 1) := dk_4 (dk_at dksX9_nextToken_10 15 rfl rfl)
theorem dX9_nextToken_248 : decode cX9_nextToken 248 = .ok (.iadd, 1) := dk_96 (dk_at dksX9_nextToken_10 16 rfl rfl)
theorem dX9_nextToken_249 : decode cX9_nextToken 249 = .ok (.putfield 88, 3) := dk_181 0 88 (dk_at dksX9_nextToken_10 17 rfl rfl)
theorem dX9_nextToken_252 : decode cX9_nextToken 252 = .ok (.goto (-87), 3) := dk_167 255 169 (dk_at dksX9_nextToken_10 20 rfl rfl)
theorem dX9_nextToken_255 : decode cX9_nextToken 255 = .ok (.aload_n 0, 1) := dk_42 (dk_at dksX9_nextToken_10 23 rfl rfl)
theorem dX9_nextToken_256 : decode cX9_nextToken 256 = .ok (.aload_n 0, 1) := dk_42 (dk_at dksX9_nextToken_11 0 rfl rfl)
theorem dX9_nextToken_257 : decode cX9_nextToken 257 = .ok (.getfield 88, 3) := dk_180 0 88 (dk_at dksX9_nextToken_11 1 rfl rfl)
theorem dX9_nextToken_260 : decode cX9_nextToken 260 = .ok (.aload_n 0, 1) := dk_42 (dk_at dksX9_nextToken_11 4 rfl rfl)
theorem dX9_nextToken_261 : decode cX9_nextToken 261 = .ok (.getfield 82, 3) := dk_180 0 82 (dk_at dksX9_nextToken_11 5 rfl rfl)
theorem dX9_nextToken_264 : decode cX9_nextToken 264 = .ok (.isub, 1) := dk_100 (dk_at dksX9_nextToken_11 8 rfl rfl)
theorem dX9_nextToken_265 : decode cX9_nextToken 265 = .ok (.iconst 2, 1) := dk_5 (dk_at dksX9_nextToken_11 9 rfl rfl)
theorem dX9_nextToken_266 : decode cX9_nextToken 266 = .ok (.if_icmp .le 7, 3) := dk_164 0 7 (dk_at dksX9_nextToken_11 10 rfl rfl)
theorem dX9_nextToken_269 : decode cX9_nextToken 269 = .ok (.iconst 0, 1) := dk_3 (dk_at dksX9_nextToken_11 13 rfl rfl)
theorem dX9_nextToken_270 : decode cX9_nextToken 270 = .ok (.goto 4, 3) := dk_167 0 4 (dk_at dksX9_nextToken_11 14 rfl rfl)
theorem dX9_nextToken_273 : decode cX9_nextToken 273 = .ok (.iconst 3, 1) := dk_6 (dk_at dksX9_nextToken_11 17 rfl rfl)
theorem dX9_nextToken_274 : decode cX9_nextToken 274 = .ok (.putfield 103, 3) := dk_181 0 103 (dk_at dksX9_nextToken_11 18 rfl rfl)
theorem dX9_nextToken_277 : decode cX9_nextToken 277 = .ok (.return_, 1) := dk_177 (dk_at dksX9_nextToken_11 21 rfl rfl)
abbrev cX9_isLetter : ByteArray := prog_16_method_14_code
def yX9_isLetter : MethodName := ⟨RX9, "isLetter", "(I)Z"⟩
def dkwX9_isLetter_1 : List UInt8 := [167, 0, 4, 3, 172]
abbrev dktX9_isLetter_1 : List UInt8 := dkwX9_isLetter_1 ++ []
def dkwX9_isLetter_0 : List UInt8 := [42, 180, 0, 79, 154, 0, 23, 42, 180, 0, 103, 5, 160, 0, 15, 42, 180, 0, 92, 27, 160, 0, 7, 4]
abbrev dktX9_isLetter_0 : List UInt8 := dkwX9_isLetter_0 ++ dktX9_isLetter_1
theorem dksX9_isLetter_0 : cX9_isLetter.data.toList.drop 0 = dktX9_isLetter_0 := by decide +kernel
theorem dksX9_isLetter_1 : cX9_isLetter.data.toList.drop 24 = dktX9_isLetter_1 := dk_seg dksX9_isLetter_0 24 rfl rfl
theorem dX9_isLetter_0 : decode cX9_isLetter 0 = .ok (.aload_n 0, 1) := dk_42 (dk_at dksX9_isLetter_0 0 rfl rfl)
theorem dX9_isLetter_1 : decode cX9_isLetter 1 = .ok (.getfield 79, 3) := dk_180 0 79 (dk_at dksX9_isLetter_0 1 rfl rfl)
theorem dX9_isLetter_4 : decode cX9_isLetter 4 = .ok (.ifCond .ne 23, 3) := dk_154 0 23 (dk_at dksX9_isLetter_0 4 rfl rfl)
theorem dX9_isLetter_7 : decode cX9_isLetter 7 = .ok (.aload_n 0, 1) := dk_42 (dk_at dksX9_isLetter_0 7 rfl rfl)
theorem dX9_isLetter_8 : decode cX9_isLetter 8 = .ok (.getfield 103, 3) := dk_180 0 103 (dk_at dksX9_isLetter_0 8 rfl rfl)
theorem dX9_isLetter_11 : decode cX9_isLetter 11 = .ok (.iconst 2, 1) := dk_5 (dk_at dksX9_isLetter_0 11 rfl rfl)
theorem dX9_isLetter_12 : decode cX9_isLetter 12 = .ok (.if_icmp .ne 15, 3) := dk_160 0 15 (dk_at dksX9_isLetter_0 12 rfl rfl)
theorem dX9_isLetter_15 : decode cX9_isLetter 15 = .ok (.aload_n 0, 1) := dk_42 (dk_at dksX9_isLetter_0 15 rfl rfl)
theorem dX9_isLetter_16 : decode cX9_isLetter 16 = .ok (.getfield 92, 3) := dk_180 0 92 (dk_at dksX9_isLetter_0 16 rfl rfl)
theorem dX9_isLetter_19 : decode cX9_isLetter 19 = .ok (.iload_n 1, 1) := dk_27 (dk_at dksX9_isLetter_0 19 rfl rfl)
theorem dX9_isLetter_20 : decode cX9_isLetter 20 = .ok (.if_icmp .ne 7, 3) := dk_160 0 7 (dk_at dksX9_isLetter_0 20 rfl rfl)
theorem dX9_isLetter_23 : decode cX9_isLetter 23 = .ok (.iconst 1, 1) := dk_4 (dk_at dksX9_isLetter_0 23 rfl rfl)
theorem dX9_isLetter_24 : decode cX9_isLetter 24 = .ok (.goto 4, 3) := dk_167 0 4 (dk_at dksX9_isLetter_1 0 rfl rfl)
theorem dX9_isLetter_27 : decode cX9_isLetter 27 = .ok (.iconst 0, 1) := dk_3 (dk_at dksX9_isLetter_1 3 rfl rfl)
theorem dX9_isLetter_28 : decode cX9_isLetter 28 = .ok (.ireturn, 1) := dk_172 (dk_at dksX9_isLetter_1 4 rfl rfl)
abbrev cX9_must : ByteArray := prog_16_method_13_code
def yX9_must : MethodName := ⟨RX9, "must", "(Z)V"⟩
def dkwX9_must_0 : List UInt8 := [27, 154, 0, 8, 42, 4, 182, 0, 106, 42, 180, 0, 79, 154, 0, 7, 42, 182, 0, 110, 177]
abbrev dktX9_must_0 : List UInt8 := dkwX9_must_0 ++ []
theorem dksX9_must_0 : cX9_must.data.toList.drop 0 = dktX9_must_0 := by decide +kernel
theorem dX9_must_0 : decode cX9_must 0 = .ok (.iload_n 1, 1) := dk_27 (dk_at dksX9_must_0 0 rfl rfl)
theorem dX9_must_1 : decode cX9_must 1 = .ok (.ifCond .ne 8, 3) := dk_154 0 8 (dk_at dksX9_must_0 1 rfl rfl)
theorem dX9_must_4 : decode cX9_must 4 = .ok (.aload_n 0, 1) := dk_42 (dk_at dksX9_must_0 4 rfl rfl)
theorem dX9_must_5 : decode cX9_must 5 = .ok (.iconst 1, 1) := dk_4 (dk_at dksX9_must_0 5 rfl rfl)
theorem dX9_must_6 : decode cX9_must 6 = .ok (.invokevirtual 106, 3) := dk_182 0 106 (dk_at dksX9_must_0 6 rfl rfl)
theorem dX9_must_9 : decode cX9_must 9 = .ok (.aload_n 0, 1) := dk_42 (dk_at dksX9_must_0 9 rfl rfl)
theorem dX9_must_10 : decode cX9_must 10 = .ok (.getfield 79, 3) := dk_180 0 79 (dk_at dksX9_must_0 10 rfl rfl)
theorem dX9_must_13 : decode cX9_must 13 = .ok (.ifCond .ne 7, 3) := dk_154 0 7 (dk_at dksX9_must_0 13 rfl rfl)
theorem dX9_must_16 : decode cX9_must 16 = .ok (.aload_n 0, 1) := dk_42 (dk_at dksX9_must_0 16 rfl rfl)
theorem dX9_must_17 : decode cX9_must 17 = .ok (.invokevirtual 110, 3) := dk_182 0 110 (dk_at dksX9_must_0 17 rfl rfl)
theorem dX9_must_20 : decode cX9_must 20 = .ok (.return_, 1) := dk_177 (dk_at dksX9_must_0 20 rfl rfl)
abbrev cX9_bad : ByteArray := prog_16_method_11_code
def yX9_bad : MethodName := ⟨RX9, "bad", "(I)V"⟩
def dkwX9_bad_0 : List UInt8 := [42, 180, 0, 79, 154, 0, 16, 42, 27, 181, 0, 79, 42, 42, 180, 0, 82, 181, 0, 85, 177]
abbrev dktX9_bad_0 : List UInt8 := dkwX9_bad_0 ++ []
theorem dksX9_bad_0 : cX9_bad.data.toList.drop 0 = dktX9_bad_0 := by decide +kernel
theorem dX9_bad_0 : decode cX9_bad 0 = .ok (.aload_n 0, 1) := dk_42 (dk_at dksX9_bad_0 0 rfl rfl)
theorem dX9_bad_1 : decode cX9_bad 1 = .ok (.getfield 79, 3) := dk_180 0 79 (dk_at dksX9_bad_0 1 rfl rfl)
theorem dX9_bad_4 : decode cX9_bad 4 = .ok (.ifCond .ne 16, 3) := dk_154 0 16 (dk_at dksX9_bad_0 4 rfl rfl)
theorem dX9_bad_7 : decode cX9_bad 7 = .ok (.aload_n 0, 1) := dk_42 (dk_at dksX9_bad_0 7 rfl rfl)
theorem dX9_bad_8 : decode cX9_bad 8 = .ok (.iload_n 1, 1) := dk_27 (dk_at dksX9_bad_0 8 rfl rfl)
theorem dX9_bad_9 : decode cX9_bad 9 = .ok (.putfield 79, 3) := dk_181 0 79 (dk_at dksX9_bad_0 9 rfl rfl)
theorem dX9_bad_12 : decode cX9_bad 12 = .ok (.aload_n 0, 1) := dk_42 (dk_at dksX9_bad_0 12 rfl rfl)
theorem dX9_bad_13 : decode cX9_bad 13 = .ok (.aload_n 0, 1) := dk_42 (dk_at dksX9_bad_0 13 rfl rfl)
theorem dX9_bad_14 : decode cX9_bad 14 = .ok (.getfield 82, 3) := dk_180 0 82 (dk_at dksX9_bad_0 14 rfl rfl)
theorem dX9_bad_17 : decode cX9_bad 17 = .ok (.putfield 85, 3) := dk_181 0 85 (dk_at dksX9_bad_0 17 rfl rfl)
theorem dX9_bad_20 : decode cX9_bad 20 = .ok (.return_, 1) := dk_177 (dk_at dksX9_bad_0 20 rfl rfl)
abbrev cX9_number : ByteArray := prog_16_method_15_code
def yX9_number : MethodName := ⟨RX9, "number", "(II)I"⟩
def dkwX9_number_2 : List UInt8 := [180, 0, 79, 154, 0, 10, 42, 180, 0, 92, 167, 0, 4, 27, 62, 42, 4, 182, 0, 113, 29, 172]
abbrev dktX9_number_2 : List UInt8 := dkwX9_number_2 ++ []
def dkwX9_number_1 : List UInt8 := [154, 0, 23, 42, 180, 0, 92, 133, 27, 133, 28, 133, 184, 0, 58, 154, 0, 8, 42, 5, 182, 0, 106, 42]
abbrev dktX9_number_1 : List UInt8 := dkwX9_number_1 ++ dktX9_number_2
def dkwX9_number_0 : List UInt8 := [42, 180, 0, 79, 154, 0, 16, 42, 180, 0, 103, 6, 159, 0, 8, 42, 4, 182, 0, 106, 42, 180, 0, 79]
abbrev dktX9_number_0 : List UInt8 := dkwX9_number_0 ++ dktX9_number_1
theorem dksX9_number_0 : cX9_number.data.toList.drop 0 = dktX9_number_0 := by decide +kernel
theorem dksX9_number_1 : cX9_number.data.toList.drop 24 = dktX9_number_1 := dk_seg dksX9_number_0 24 rfl rfl
theorem dksX9_number_2 : cX9_number.data.toList.drop 48 = dktX9_number_2 := dk_seg dksX9_number_1 24 rfl rfl
theorem dX9_number_0 : decode cX9_number 0 = .ok (.aload_n 0, 1) := dk_42 (dk_at dksX9_number_0 0 rfl rfl)
theorem dX9_number_1 : decode cX9_number 1 = .ok (.getfield 79, 3) := dk_180 0 79 (dk_at dksX9_number_0 1 rfl rfl)
theorem dX9_number_4 : decode cX9_number 4 = .ok (.ifCond .ne 16, 3) := dk_154 0 16 (dk_at dksX9_number_0 4 rfl rfl)
theorem dX9_number_7 : decode cX9_number 7 = .ok (.aload_n 0, 1) := dk_42 (dk_at dksX9_number_0 7 rfl rfl)
theorem dX9_number_8 : decode cX9_number 8 = .ok (.getfield 103, 3) := dk_180 0 103 (dk_at dksX9_number_0 8 rfl rfl)
theorem dX9_number_11 : decode cX9_number 11 = .ok (.iconst 3, 1) := dk_6 (dk_at dksX9_number_0 11 rfl rfl)
theorem dX9_number_12 : decode cX9_number 12 = .ok (.if_icmp .eq 8, 3) := dk_159 0 8 (dk_at dksX9_number_0 12 rfl rfl)
theorem dX9_number_15 : decode cX9_number 15 = .ok (.aload_n 0, 1) := dk_42 (dk_at dksX9_number_0 15 rfl rfl)
theorem dX9_number_16 : decode cX9_number 16 = .ok (.iconst 1, 1) := dk_4 (dk_at dksX9_number_0 16 rfl rfl)
theorem dX9_number_17 : decode cX9_number 17 = .ok (.invokevirtual 106, 3) := dk_182 0 106 (dk_at dksX9_number_0 17 rfl rfl)
theorem dX9_number_20 : decode cX9_number 20 = .ok (.aload_n 0, 1) := dk_42 (dk_at dksX9_number_0 20 rfl rfl)
theorem dX9_number_21 : decode cX9_number 21 = .ok (.getfield 79, 3) := dk_180 0 79 (dk_at dksX9_number_0 21 rfl rfl)
theorem dX9_number_24 : decode cX9_number 24 = .ok (.ifCond .ne 23, 3) := dk_154 0 23 (dk_at dksX9_number_1 0 rfl rfl)
theorem dX9_number_27 : decode cX9_number 27 = .ok (.aload_n 0, 1) := dk_42 (dk_at dksX9_number_1 3 rfl rfl)
theorem dX9_number_28 : decode cX9_number 28 = .ok (.getfield 92, 3) := dk_180 0 92 (dk_at dksX9_number_1 4 rfl rfl)
theorem dX9_number_31 : decode cX9_number 31 = .ok (.i2l, 1) := dk_133 (dk_at dksX9_number_1 7 rfl rfl)
theorem dX9_number_32 : decode cX9_number 32 = .ok (.iload_n 1, 1) := dk_27 (dk_at dksX9_number_1 8 rfl rfl)
theorem dX9_number_33 : decode cX9_number 33 = .ok (.i2l, 1) := dk_133 (dk_at dksX9_number_1 9 rfl rfl)
theorem dX9_number_34 : decode cX9_number 34 = .ok (.iload_n 2, 1) := dk_28 (dk_at dksX9_number_1 10 rfl rfl)
theorem dX9_number_35 : decode cX9_number 35 = .ok (.i2l, 1) := dk_133 (dk_at dksX9_number_1 11 rfl rfl)
theorem dX9_number_36 : decode cX9_number 36 = .ok (.invokestatic 58, 3) := dk_184 0 58 (dk_at dksX9_number_1 12 rfl rfl)
theorem dX9_number_39 : decode cX9_number 39 = .ok (.ifCond .ne 8, 3) := dk_154 0 8 (dk_at dksX9_number_1 15 rfl rfl)
theorem dX9_number_42 : decode cX9_number 42 = .ok (.aload_n 0, 1) := dk_42 (dk_at dksX9_number_1 18 rfl rfl)
theorem dX9_number_43 : decode cX9_number 43 = .ok (.iconst 2, 1) := dk_5 (dk_at dksX9_number_1 19 rfl rfl)
theorem dX9_number_44 : decode cX9_number 44 = .ok (.invokevirtual 106, 3) := dk_182 0 106 (dk_at dksX9_number_1 20 rfl rfl)
theorem dX9_number_47 : decode cX9_number 47 = .ok (.aload_n 0, 1) := dk_42 (dk_at dksX9_number_1 23 rfl rfl)
theorem dX9_number_48 : decode cX9_number 48 = .ok (.getfield 79, 3) := dk_180 0 79 (dk_at dksX9_number_2 0 rfl rfl)
theorem dX9_number_51 : decode cX9_number 51 = .ok (.ifCond .ne 10, 3) := dk_154 0 10 (dk_at dksX9_number_2 3 rfl rfl)
theorem dX9_number_54 : decode cX9_number 54 = .ok (.aload_n 0, 1) := dk_42 (dk_at dksX9_number_2 6 rfl rfl)
theorem dX9_number_55 : decode cX9_number 55 = .ok (.getfield 92, 3) := dk_180 0 92 (dk_at dksX9_number_2 7 rfl rfl)
theorem dX9_number_58 : decode cX9_number 58 = .ok (.goto 4, 3) := dk_167 0 4 (dk_at dksX9_number_2 10 rfl rfl)
theorem dX9_number_61 : decode cX9_number 61 = .ok (.iload_n 1, 1) := dk_27 (dk_at dksX9_number_2 13 rfl rfl)
theorem dX9_number_62 : decode cX9_number 62 = .ok (.istore_n 3, 1) := dk_62 (dk_at dksX9_number_2 14 rfl rfl)
theorem dX9_number_63 : decode cX9_number 63 = .ok (.aload_n 0, 1) := dk_42 (dk_at dksX9_number_2 15 rfl rfl)
theorem dX9_number_64 : decode cX9_number 64 = .ok (.iconst 1, 1) := dk_4 (dk_at dksX9_number_2 16 rfl rfl)
theorem dX9_number_65 : decode cX9_number 65 = .ok (.invokevirtual 113, 3) := dk_182 0 113 (dk_at dksX9_number_2 17 rfl rfl)
theorem dX9_number_68 : decode cX9_number 68 = .ok (.iload_n 3, 1) := dk_29 (dk_at dksX9_number_2 20 rfl rfl)
theorem dX9_number_69 : decode cX9_number 69 = .ok (.ireturn, 1) := dk_172 (dk_at dksX9_number_2 21 rfl rfl)
abbrev cX9_mustSign : ByteArray := prog_16_method_16_code
def yX9_mustSign : MethodName := ⟨RX9, "mustSign", "(I)V"⟩
def dkwX9_mustSign_1 : List UInt8 := [182, 0, 113, 177]
abbrev dktX9_mustSign_1 : List UInt8 := dkwX9_mustSign_1 ++ []
def dkwX9_mustSign_0 : List UInt8 := [42, 42, 180, 0, 103, 7, 160, 0, 15, 42, 180, 0, 92, 27, 160, 0, 7, 4, 167, 0, 4, 3]
abbrev dktX9_mustSign_0 : List UInt8 := dkwX9_mustSign_0 ++ dktX9_mustSign_1
theorem dksX9_mustSign_0 : cX9_mustSign.data.toList.drop 0 = dktX9_mustSign_0 := by decide +kernel
theorem dksX9_mustSign_1 : cX9_mustSign.data.toList.drop 22 = dktX9_mustSign_1 := dk_seg dksX9_mustSign_0 22 rfl rfl
theorem dX9_mustSign_0 : decode cX9_mustSign 0 = .ok (.aload_n 0, 1) := dk_42 (dk_at dksX9_mustSign_0 0 rfl rfl)
theorem dX9_mustSign_1 : decode cX9_mustSign 1 = .ok (.aload_n 0, 1) := dk_42 (dk_at dksX9_mustSign_0 1 rfl rfl)
theorem dX9_mustSign_2 : decode cX9_mustSign 2 = .ok (.getfield 103, 3) := dk_180 0 103 (dk_at dksX9_mustSign_0 2 rfl rfl)
theorem dX9_mustSign_5 : decode cX9_mustSign 5 = .ok (.iconst 4, 1) := dk_7 (dk_at dksX9_mustSign_0 5 rfl rfl)
theorem dX9_mustSign_6 : decode cX9_mustSign 6 = .ok (.if_icmp .ne 15, 3) := dk_160 0 15 (dk_at dksX9_mustSign_0 6 rfl rfl)
theorem dX9_mustSign_9 : decode cX9_mustSign 9 = .ok (.aload_n 0, 1) := dk_42 (dk_at dksX9_mustSign_0 9 rfl rfl)
theorem dX9_mustSign_10 : decode cX9_mustSign 10 = .ok (.getfield 92, 3) := dk_180 0 92 (dk_at dksX9_mustSign_0 10 rfl rfl)
theorem dX9_mustSign_13 : decode cX9_mustSign 13 = .ok (.iload_n 1, 1) := dk_27 (dk_at dksX9_mustSign_0 13 rfl rfl)
theorem dX9_mustSign_14 : decode cX9_mustSign 14 = .ok (.if_icmp .ne 7, 3) := dk_160 0 7 (dk_at dksX9_mustSign_0 14 rfl rfl)
theorem dX9_mustSign_17 : decode cX9_mustSign 17 = .ok (.iconst 1, 1) := dk_4 (dk_at dksX9_mustSign_0 17 rfl rfl)
theorem dX9_mustSign_18 : decode cX9_mustSign 18 = .ok (.goto 4, 3) := dk_167 0 4 (dk_at dksX9_mustSign_0 18 rfl rfl)
theorem dX9_mustSign_21 : decode cX9_mustSign 21 = .ok (.iconst 0, 1) := dk_3 (dk_at dksX9_mustSign_0 21 rfl rfl)
theorem dX9_mustSign_22 : decode cX9_mustSign 22 = .ok (.invokevirtual 113, 3) := dk_182 0 113 (dk_at dksX9_mustSign_1 0 rfl rfl)
theorem dX9_mustSign_25 : decode cX9_mustSign 25 = .ok (.return_, 1) := dk_177 (dk_at dksX9_mustSign_1 3 rfl rfl)
abbrev cX9_isSort : ByteArray := prog_16_method_21_code
def yX9_isSort : MethodName := ⟨RX9, "isSort", "()Z"⟩
def dkwX9_isSort_1 : List UInt8 := [159, 0, 7, 4, 167, 0, 4, 3, 172]
abbrev dktX9_isSort_1 : List UInt8 := dkwX9_isSort_1 ++ []
def dkwX9_isSort_0 : List UInt8 := [42, 180, 0, 79, 154, 0, 27, 42, 180, 0, 103, 5, 160, 0, 19, 42, 180, 0, 92, 184, 0, 120, 18, 91]
abbrev dktX9_isSort_0 : List UInt8 := dkwX9_isSort_0 ++ dktX9_isSort_1
theorem dksX9_isSort_0 : cX9_isSort.data.toList.drop 0 = dktX9_isSort_0 := by decide +kernel
theorem dksX9_isSort_1 : cX9_isSort.data.toList.drop 24 = dktX9_isSort_1 := dk_seg dksX9_isSort_0 24 rfl rfl
theorem dX9_isSort_0 : decode cX9_isSort 0 = .ok (.aload_n 0, 1) := dk_42 (dk_at dksX9_isSort_0 0 rfl rfl)
theorem dX9_isSort_1 : decode cX9_isSort 1 = .ok (.getfield 79, 3) := dk_180 0 79 (dk_at dksX9_isSort_0 1 rfl rfl)
theorem dX9_isSort_4 : decode cX9_isSort 4 = .ok (.ifCond .ne 27, 3) := dk_154 0 27 (dk_at dksX9_isSort_0 4 rfl rfl)
theorem dX9_isSort_7 : decode cX9_isSort 7 = .ok (.aload_n 0, 1) := dk_42 (dk_at dksX9_isSort_0 7 rfl rfl)
theorem dX9_isSort_8 : decode cX9_isSort 8 = .ok (.getfield 103, 3) := dk_180 0 103 (dk_at dksX9_isSort_0 8 rfl rfl)
theorem dX9_isSort_11 : decode cX9_isSort 11 = .ok (.iconst 2, 1) := dk_5 (dk_at dksX9_isSort_0 11 rfl rfl)
theorem dX9_isSort_12 : decode cX9_isSort 12 = .ok (.if_icmp .ne 19, 3) := dk_160 0 19 (dk_at dksX9_isSort_0 12 rfl rfl)
theorem dX9_isSort_15 : decode cX9_isSort 15 = .ok (.aload_n 0, 1) := dk_42 (dk_at dksX9_isSort_0 15 rfl rfl)
theorem dX9_isSort_16 : decode cX9_isSort 16 = .ok (.getfield 92, 3) := dk_180 0 92 (dk_at dksX9_isSort_0 16 rfl rfl)
theorem dX9_isSort_19 : decode cX9_isSort 19 = .ok (.invokestatic 120, 3) := dk_184 0 120 (dk_at dksX9_isSort_0 19 rfl rfl)
theorem dX9_isSort_22 : decode cX9_isSort 22 = .ok (.ldc 91, 2) := dk_18 91 (dk_at dksX9_isSort_0 22 rfl rfl)
theorem dX9_isSort_24 : decode cX9_isSort 24 = .ok (.if_icmp .eq 7, 3) := dk_159 0 7 (dk_at dksX9_isSort_1 0 rfl rfl)
theorem dX9_isSort_27 : decode cX9_isSort 27 = .ok (.iconst 1, 1) := dk_4 (dk_at dksX9_isSort_1 3 rfl rfl)
theorem dX9_isSort_28 : decode cX9_isSort 28 = .ok (.goto 4, 3) := dk_167 0 4 (dk_at dksX9_isSort_1 4 rfl rfl)
theorem dX9_isSort_31 : decode cX9_isSort 31 = .ok (.iconst 0, 1) := dk_3 (dk_at dksX9_isSort_1 7 rfl rfl)
theorem dX9_isSort_32 : decode cX9_isSort 32 = .ok (.ireturn, 1) := dk_172 (dk_at dksX9_isSort_1 8 rfl rfl)
abbrev cX9_kindBy : ByteArray := prog_16_method_20_code
def yX9_kindBy : MethodName := ⟨RX9, "kindBy", "(I)I"⟩
def dkwX9_kindBy_2 : List UInt8 := [167, 0, 5, 18, 91, 172]
abbrev dktX9_kindBy_2 : List UInt8 := dkwX9_kindBy_2 ++ []
def dkwX9_kindBy_1 : List UInt8 := [160, 0, 7, 6, 167, 0, 25, 26, 16, 117, 160, 0, 7, 7, 167, 0, 15, 26, 16, 104, 160, 0, 7, 8]
abbrev dktX9_kindBy_1 : List UInt8 := dkwX9_kindBy_1 ++ dktX9_kindBy_2
def dkwX9_kindBy_0 : List UInt8 := [26, 16, 107, 160, 0, 7, 4, 167, 0, 45, 26, 16, 101, 160, 0, 7, 5, 167, 0, 35, 26, 16, 99]
abbrev dktX9_kindBy_0 : List UInt8 := dkwX9_kindBy_0 ++ dktX9_kindBy_1
theorem dksX9_kindBy_0 : cX9_kindBy.data.toList.drop 0 = dktX9_kindBy_0 := by decide +kernel
theorem dksX9_kindBy_1 : cX9_kindBy.data.toList.drop 23 = dktX9_kindBy_1 := dk_seg dksX9_kindBy_0 23 rfl rfl
theorem dksX9_kindBy_2 : cX9_kindBy.data.toList.drop 47 = dktX9_kindBy_2 := dk_seg dksX9_kindBy_1 24 rfl rfl
theorem dX9_kindBy_0 : decode cX9_kindBy 0 = .ok (.iload_n 0, 1) := dk_26 (dk_at dksX9_kindBy_0 0 rfl rfl)
theorem dX9_kindBy_1 : decode cX9_kindBy 1 = .ok (.bipush 107, 2) := dk_16 107 (dk_at dksX9_kindBy_0 1 rfl rfl)
theorem dX9_kindBy_3 : decode cX9_kindBy 3 = .ok (.if_icmp .ne 7, 3) := dk_160 0 7 (dk_at dksX9_kindBy_0 3 rfl rfl)
theorem dX9_kindBy_6 : decode cX9_kindBy 6 = .ok (.iconst 1, 1) := dk_4 (dk_at dksX9_kindBy_0 6 rfl rfl)
theorem dX9_kindBy_7 : decode cX9_kindBy 7 = .ok (.goto 45, 3) := dk_167 0 45 (dk_at dksX9_kindBy_0 7 rfl rfl)
theorem dX9_kindBy_10 : decode cX9_kindBy 10 = .ok (.iload_n 0, 1) := dk_26 (dk_at dksX9_kindBy_0 10 rfl rfl)
theorem dX9_kindBy_11 : decode cX9_kindBy 11 = .ok (.bipush 101, 2) := dk_16 101 (dk_at dksX9_kindBy_0 11 rfl rfl)
theorem dX9_kindBy_13 : decode cX9_kindBy 13 = .ok (.if_icmp .ne 7, 3) := dk_160 0 7 (dk_at dksX9_kindBy_0 13 rfl rfl)
theorem dX9_kindBy_16 : decode cX9_kindBy 16 = .ok (.iconst 2, 1) := dk_5 (dk_at dksX9_kindBy_0 16 rfl rfl)
theorem dX9_kindBy_17 : decode cX9_kindBy 17 = .ok (.goto 35, 3) := dk_167 0 35 (dk_at dksX9_kindBy_0 17 rfl rfl)
theorem dX9_kindBy_20 : decode cX9_kindBy 20 = .ok (.iload_n 0, 1) := dk_26 (dk_at dksX9_kindBy_0 20 rfl rfl)
theorem dX9_kindBy_21 : decode cX9_kindBy 21 = .ok (.bipush 99, 2) := dk_16 99 (dk_at dksX9_kindBy_0 21 rfl rfl)
theorem dX9_kindBy_23 : decode cX9_kindBy 23 = .ok (.if_icmp .ne 7, 3) := dk_160 0 7 (dk_at dksX9_kindBy_1 0 rfl rfl)
theorem dX9_kindBy_26 : decode cX9_kindBy 26 = .ok (.iconst 3, 1) := dk_6 (dk_at dksX9_kindBy_1 3 rfl rfl)
theorem dX9_kindBy_27 : decode cX9_kindBy 27 = .ok (.goto 25, 3) := dk_167 0 25 (dk_at dksX9_kindBy_1 4 rfl rfl)
theorem dX9_kindBy_30 : decode cX9_kindBy 30 = .ok (.iload_n 0, 1) := dk_26 (dk_at dksX9_kindBy_1 7 rfl rfl)
theorem dX9_kindBy_31 : decode cX9_kindBy 31 = .ok (.bipush 117, 2) := dk_16 117 (dk_at dksX9_kindBy_1 8 rfl rfl)
theorem dX9_kindBy_33 : decode cX9_kindBy 33 = .ok (.if_icmp .ne 7, 3) := dk_160 0 7 (dk_at dksX9_kindBy_1 10 rfl rfl)
theorem dX9_kindBy_36 : decode cX9_kindBy 36 = .ok (.iconst 4, 1) := dk_7 (dk_at dksX9_kindBy_1 13 rfl rfl)
theorem dX9_kindBy_37 : decode cX9_kindBy 37 = .ok (.goto 15, 3) := dk_167 0 15 (dk_at dksX9_kindBy_1 14 rfl rfl)
theorem dX9_kindBy_40 : decode cX9_kindBy 40 = .ok (.iload_n 0, 1) := dk_26 (dk_at dksX9_kindBy_1 17 rfl rfl)
theorem dX9_kindBy_41 : decode cX9_kindBy 41 = .ok (.bipush 104, 2) := dk_16 104 (dk_at dksX9_kindBy_1 18 rfl rfl)
theorem dX9_kindBy_43 : decode cX9_kindBy 43 = .ok (.if_icmp .ne 7, 3) := dk_160 0 7 (dk_at dksX9_kindBy_1 20 rfl rfl)
theorem dX9_kindBy_46 : decode cX9_kindBy 46 = .ok (.iconst 5, 1) := dk_8 (dk_at dksX9_kindBy_1 23 rfl rfl)
theorem dX9_kindBy_47 : decode cX9_kindBy 47 = .ok (.goto 5, 3) := dk_167 0 5 (dk_at dksX9_kindBy_2 0 rfl rfl)
theorem dX9_kindBy_50 : decode cX9_kindBy 50 = .ok (.ldc 91, 2) := dk_18 91 (dk_at dksX9_kindBy_2 3 rfl rfl)
theorem dX9_kindBy_52 : decode cX9_kindBy 52 = .ok (.ireturn, 1) := dk_172 (dk_at dksX9_kindBy_2 5 rfl rfl)
abbrev cX9_readSquare : ByteArray := prog_16_method_22_code
def yX9_readSquare : MethodName := ⟨RX9, "readSquare", "()V"⟩
def dkwX9_readSquare_3 : List UInt8 := [8, 42, 180, 0, 22, 5, 46, 104, 96, 4, 96, 28, 79, 42, 180, 0, 22, 5, 92, 46, 4, 96, 79, 177]
abbrev dktX9_readSquare_3 : List UInt8 := dkwX9_readSquare_3 ++ []
def dkwX9_readSquare_2 : List UInt8 := [154, 0, 47, 42, 180, 0, 22, 7, 8, 42, 180, 0, 22, 5, 46, 104, 96, 27, 79, 42, 180, 0, 22, 7]
abbrev dktX9_readSquare_2 : List UInt8 := dkwX9_readSquare_2 ++ dktX9_readSquare_3
def dkwX9_readSquare_1 : List UInt8 := [42, 4, 182, 0, 113, 42, 3, 16, 9, 182, 0, 123, 61, 42, 16, 59, 182, 0, 127, 42, 180, 0, 79]
abbrev dktX9_readSquare_1 : List UInt8 := dkwX9_readSquare_1 ++ dktX9_readSquare_2
def dkwX9_readSquare_0 : List UInt8 := [42, 180, 0, 92, 184, 0, 120, 60, 42, 180, 0, 22, 5, 46, 16, 8, 160, 0, 8, 42, 6, 182, 0, 106]
abbrev dktX9_readSquare_0 : List UInt8 := dkwX9_readSquare_0 ++ dktX9_readSquare_1
theorem dksX9_readSquare_0 : cX9_readSquare.data.toList.drop 0 = dktX9_readSquare_0 := by decide +kernel
theorem dksX9_readSquare_1 : cX9_readSquare.data.toList.drop 24 = dktX9_readSquare_1 := dk_seg dksX9_readSquare_0 24 rfl rfl
theorem dksX9_readSquare_2 : cX9_readSquare.data.toList.drop 47 = dktX9_readSquare_2 := dk_seg dksX9_readSquare_1 23 rfl rfl
theorem dksX9_readSquare_3 : cX9_readSquare.data.toList.drop 71 = dktX9_readSquare_3 := dk_seg dksX9_readSquare_2 24 rfl rfl
theorem dX9_readSquare_0 : decode cX9_readSquare 0 = .ok (.aload_n 0, 1) := dk_42 (dk_at dksX9_readSquare_0 0 rfl rfl)
theorem dX9_readSquare_1 : decode cX9_readSquare 1 = .ok (.getfield 92, 3) := dk_180 0 92 (dk_at dksX9_readSquare_0 1 rfl rfl)
theorem dX9_readSquare_4 : decode cX9_readSquare 4 = .ok (.invokestatic 120, 3) := dk_184 0 120 (dk_at dksX9_readSquare_0 4 rfl rfl)
theorem dX9_readSquare_7 : decode cX9_readSquare 7 = .ok (.istore_n 1, 1) := dk_60 (dk_at dksX9_readSquare_0 7 rfl rfl)
theorem dX9_readSquare_8 : decode cX9_readSquare 8 = .ok (.aload_n 0, 1) := dk_42 (dk_at dksX9_readSquare_0 8 rfl rfl)
theorem dX9_readSquare_9 : decode cX9_readSquare 9 = .ok (.getfield 22, 3) := dk_180 0 22 (dk_at dksX9_readSquare_0 9 rfl rfl)
theorem dX9_readSquare_12 : decode cX9_readSquare 12 = .ok (.iconst 2, 1) := dk_5 (dk_at dksX9_readSquare_0 12 rfl rfl)
theorem dX9_readSquare_13 : decode cX9_readSquare 13 = .ok (.iaload, 1) := dk_46 (dk_at dksX9_readSquare_0 13 rfl rfl)
theorem dX9_readSquare_14 : decode cX9_readSquare 14 = .ok (.bipush 8, 2) := dk_16 8 (dk_at dksX9_readSquare_0 14 rfl rfl)
theorem dX9_readSquare_16 : decode cX9_readSquare 16 = .ok (.if_icmp .ne 8, 3) := dk_160 0 8 (dk_at dksX9_readSquare_0 16 rfl rfl)
theorem dX9_readSquare_19 : decode cX9_readSquare 19 = .ok (.aload_n 0, 1) := dk_42 (dk_at dksX9_readSquare_0 19 rfl rfl)
theorem dX9_readSquare_20 : decode cX9_readSquare 20 = .ok (.iconst 3, 1) := dk_6 (dk_at dksX9_readSquare_0 20 rfl rfl)
theorem dX9_readSquare_21 : decode cX9_readSquare 21 = .ok (.invokevirtual 106, 3) := dk_182 0 106 (dk_at dksX9_readSquare_0 21 rfl rfl)
theorem dX9_readSquare_24 : decode cX9_readSquare 24 = .ok (.aload_n 0, 1) := dk_42 (dk_at dksX9_readSquare_1 0 rfl rfl)
theorem dX9_readSquare_25 : decode cX9_readSquare 25 = .ok (.iconst 1, 1) := dk_4 (dk_at dksX9_readSquare_1 1 rfl rfl)
theorem dX9_readSquare_26 : decode cX9_readSquare 26 = .ok (.invokevirtual 113, 3) := dk_182 0 113 (dk_at dksX9_readSquare_1 2 rfl rfl)
theorem dX9_readSquare_29 : decode cX9_readSquare 29 = .ok (.aload_n 0, 1) := dk_42 (dk_at dksX9_readSquare_1 5 rfl rfl)
theorem dX9_readSquare_30 : decode cX9_readSquare 30 = .ok (.iconst 0, 1) := dk_3 (dk_at dksX9_readSquare_1 6 rfl rfl)
theorem dX9_readSquare_31 : decode cX9_readSquare 31 = .ok (.bipush 9, 2) := dk_16 9 (dk_at dksX9_readSquare_1 7 rfl rfl)
theorem dX9_readSquare_33 : decode cX9_readSquare 33 = .ok (.invokevirtual 123, 3) := dk_182 0 123 (dk_at dksX9_readSquare_1 9 rfl rfl)
theorem dX9_readSquare_36 : decode cX9_readSquare 36 = .ok (.istore_n 2, 1) := dk_61 (dk_at dksX9_readSquare_1 12 rfl rfl)
theorem dX9_readSquare_37 : decode cX9_readSquare 37 = .ok (.aload_n 0, 1) := dk_42 (dk_at dksX9_readSquare_1 13 rfl rfl)
theorem dX9_readSquare_38 : decode cX9_readSquare 38 = .ok (.bipush 59, 2) := dk_16 59 (dk_at dksX9_readSquare_1 14 rfl rfl)
theorem dX9_readSquare_40 : decode cX9_readSquare 40 = .ok (.invokevirtual 127, 3) := dk_182 0 127 (dk_at dksX9_readSquare_1 16 rfl rfl)
theorem dX9_readSquare_43 : decode cX9_readSquare 43 = .ok (.aload_n 0, 1) := dk_42 (dk_at dksX9_readSquare_1 19 rfl rfl)
theorem dX9_readSquare_44 : decode cX9_readSquare 44 = .ok (.getfield 79, 3) := dk_180 0 79 (dk_at dksX9_readSquare_1 20 rfl rfl)
theorem dX9_readSquare_47 : decode cX9_readSquare 47 = .ok (.ifCond .ne 47, 3) := dk_154 0 47 (dk_at dksX9_readSquare_2 0 rfl rfl)
theorem dX9_readSquare_50 : decode cX9_readSquare 50 = .ok (.aload_n 0, 1) := dk_42 (dk_at dksX9_readSquare_2 3 rfl rfl)
theorem dX9_readSquare_51 : decode cX9_readSquare 51 = .ok (.getfield 22, 3) := dk_180 0 22 (dk_at dksX9_readSquare_2 4 rfl rfl)
theorem dX9_readSquare_54 : decode cX9_readSquare 54 = .ok (.iconst 4, 1) := dk_7 (dk_at dksX9_readSquare_2 7 rfl rfl)
theorem dX9_readSquare_55 : decode cX9_readSquare 55 = .ok (.iconst 5, 1) := dk_8 (dk_at dksX9_readSquare_2 8 rfl rfl)
theorem dX9_readSquare_56 : decode cX9_readSquare 56 = .ok (.aload_n 0, 1) := dk_42 (dk_at dksX9_readSquare_2 9 rfl rfl)
theorem dX9_readSquare_57 : decode cX9_readSquare 57 = .ok (.getfield 22, 3) := dk_180 0 22 (dk_at dksX9_readSquare_2 10 rfl rfl)
theorem dX9_readSquare_60 : decode cX9_readSquare 60 = .ok (.iconst 2, 1) := dk_5 (dk_at dksX9_readSquare_2 13 rfl rfl)
theorem dX9_readSquare_61 : decode cX9_readSquare 61 = .ok (.iaload, 1) := dk_46 (dk_at dksX9_readSquare_2 14 rfl rfl)
theorem dX9_readSquare_62 : decode cX9_readSquare 62 = .ok (.imul, 1) := dk_104 (dk_at dksX9_readSquare_2 15 rfl rfl)
theorem dX9_readSquare_63 : decode cX9_readSquare 63 = .ok (.iadd, 1) := dk_96 (dk_at dksX9_readSquare_2 16 rfl rfl)
theorem dX9_readSquare_64 : decode cX9_readSquare 64 = .ok (.iload_n 1, 1) := dk_27 (dk_at dksX9_readSquare_2 17 rfl rfl)
theorem dX9_readSquare_65 : decode cX9_readSquare 65 = .ok (.iastore, 1) := dk_79 (dk_at dksX9_readSquare_2 18 rfl rfl)
theorem dX9_readSquare_66 : decode cX9_readSquare 66 = .ok (.aload_n 0, 1) := dk_42 (dk_at dksX9_readSquare_2 19 rfl rfl)
theorem dX9_readSquare_67 : decode cX9_readSquare 67 = .ok (.getfield 22, 3) := dk_180 0 22 (dk_at dksX9_readSquare_2 20 rfl rfl)
theorem dX9_readSquare_70 : decode cX9_readSquare 70 = .ok (.iconst 4, 1) := dk_7 (dk_at dksX9_readSquare_2 23 rfl rfl)
theorem dX9_readSquare_71 : decode cX9_readSquare 71 = .ok (.iconst 5, 1) := dk_8 (dk_at dksX9_readSquare_3 0 rfl rfl)
theorem dX9_readSquare_72 : decode cX9_readSquare 72 = .ok (.aload_n 0, 1) := dk_42 (dk_at dksX9_readSquare_3 1 rfl rfl)
theorem dX9_readSquare_73 : decode cX9_readSquare 73 = .ok (.getfield 22, 3) := dk_180 0 22 (dk_at dksX9_readSquare_3 2 rfl rfl)
theorem dX9_readSquare_76 : decode cX9_readSquare 76 = .ok (.iconst 2, 1) := dk_5 (dk_at dksX9_readSquare_3 5 rfl rfl)
theorem dX9_readSquare_77 : decode cX9_readSquare 77 = .ok (.iaload, 1) := dk_46 (dk_at dksX9_readSquare_3 6 rfl rfl)
theorem dX9_readSquare_78 : decode cX9_readSquare 78 = .ok (.imul, 1) := dk_104 (dk_at dksX9_readSquare_3 7 rfl rfl)
theorem dX9_readSquare_79 : decode cX9_readSquare 79 = .ok (.iadd, 1) := dk_96 (dk_at dksX9_readSquare_3 8 rfl rfl)
theorem dX9_readSquare_80 : decode cX9_readSquare 80 = .ok (.iconst 1, 1) := dk_4 (dk_at dksX9_readSquare_3 9 rfl rfl)
theorem dX9_readSquare_81 : decode cX9_readSquare 81 = .ok (.iadd, 1) := dk_96 (dk_at dksX9_readSquare_3 10 rfl rfl)
theorem dX9_readSquare_82 : decode cX9_readSquare 82 = .ok (.iload_n 2, 1) := dk_28 (dk_at dksX9_readSquare_3 11 rfl rfl)
theorem dX9_readSquare_83 : decode cX9_readSquare 83 = .ok (.iastore, 1) := dk_79 (dk_at dksX9_readSquare_3 12 rfl rfl)
theorem dX9_readSquare_84 : decode cX9_readSquare 84 = .ok (.aload_n 0, 1) := dk_42 (dk_at dksX9_readSquare_3 13 rfl rfl)
theorem dX9_readSquare_85 : decode cX9_readSquare 85 = .ok (.getfield 22, 3) := dk_180 0 22 (dk_at dksX9_readSquare_3 14 rfl rfl)
theorem dX9_readSquare_88 : decode cX9_readSquare 88 = .ok (.iconst 2, 1) := dk_5 (dk_at dksX9_readSquare_3 17 rfl rfl)
theorem dX9_readSquare_89 : decode cX9_readSquare 89 = .ok (.dup2, 1) := dk_92 (dk_at dksX9_readSquare_3 18 rfl rfl)
theorem dX9_readSquare_90 : decode cX9_readSquare 90 = .ok (.iaload, 1) := dk_46 (dk_at dksX9_readSquare_3 19 rfl rfl)
theorem dX9_readSquare_91 : decode cX9_readSquare 91 = .ok (.iconst 1, 1) := dk_4 (dk_at dksX9_readSquare_3 20 rfl rfl)
theorem dX9_readSquare_92 : decode cX9_readSquare 92 = .ok (.iadd, 1) := dk_96 (dk_at dksX9_readSquare_3 21 rfl rfl)
theorem dX9_readSquare_93 : decode cX9_readSquare 93 = .ok (.iastore, 1) := dk_79 (dk_at dksX9_readSquare_3 22 rfl rfl)
theorem dX9_readSquare_94 : decode cX9_readSquare 94 = .ok (.return_, 1) := dk_177 (dk_at dksX9_readSquare_3 23 rfl rfl)
abbrev cX9_readVisitor : ByteArray := prog_16_method_23_code
def yX9_readVisitor : MethodName := ⟨RX9, "readVisitor", "()V"⟩
def dkwX9_readVisitor_4 : List UInt8 := [4, 96, 28, 79, 42, 180, 0, 22, 6, 92, 46, 4, 96, 79, 177]
abbrev dktX9_readVisitor_4 : List UInt8 := dkwX9_readVisitor_4 ++ []
def dkwX9_readVisitor_3 : List UInt8 := [180, 0, 22, 6, 46, 104, 96, 27, 79, 42, 180, 0, 22, 16, 44, 7, 42, 180, 0, 22, 6, 46, 104, 96]
abbrev dktX9_readVisitor_3 : List UInt8 := dkwX9_readVisitor_3 ++ dktX9_readVisitor_4
def dkwX9_readVisitor_2 : List UInt8 := [61, 42, 16, 59, 182, 0, 127, 42, 180, 0, 79, 154, 0, 49, 42, 180, 0, 22, 16, 44, 7, 42]
abbrev dktX9_readVisitor_2 : List UInt8 := dkwX9_readVisitor_2 ++ dktX9_readVisitor_3
def dkwX9_readVisitor_1 : List UInt8 := [182, 0, 113, 42, 3, 16, 9, 182, 0, 123, 60, 42, 16, 44, 182, 0, 127, 42, 3, 16, 9, 182, 0, 123]
abbrev dktX9_readVisitor_1 : List UInt8 := dkwX9_readVisitor_1 ++ dktX9_readVisitor_2
def dkwX9_readVisitor_0 : List UInt8 := [42, 180, 0, 22, 6, 46, 8, 160, 0, 8, 42, 6, 182, 0, 106, 42, 42, 16, 118, 182, 0, 130]
abbrev dktX9_readVisitor_0 : List UInt8 := dkwX9_readVisitor_0 ++ dktX9_readVisitor_1
theorem dksX9_readVisitor_0 : cX9_readVisitor.data.toList.drop 0 = dktX9_readVisitor_0 := by decide +kernel
theorem dksX9_readVisitor_1 : cX9_readVisitor.data.toList.drop 22 = dktX9_readVisitor_1 := dk_seg dksX9_readVisitor_0 22 rfl rfl
theorem dksX9_readVisitor_2 : cX9_readVisitor.data.toList.drop 46 = dktX9_readVisitor_2 := dk_seg dksX9_readVisitor_1 24 rfl rfl
theorem dksX9_readVisitor_3 : cX9_readVisitor.data.toList.drop 68 = dktX9_readVisitor_3 := dk_seg dksX9_readVisitor_2 22 rfl rfl
theorem dksX9_readVisitor_4 : cX9_readVisitor.data.toList.drop 92 = dktX9_readVisitor_4 := dk_seg dksX9_readVisitor_3 24 rfl rfl
theorem dX9_readVisitor_0 : decode cX9_readVisitor 0 = .ok (.aload_n 0, 1) := dk_42 (dk_at dksX9_readVisitor_0 0 rfl rfl)
theorem dX9_readVisitor_1 : decode cX9_readVisitor 1 = .ok (.getfield 22, 3) := dk_180 0 22 (dk_at dksX9_readVisitor_0 1 rfl rfl)
theorem dX9_readVisitor_4 : decode cX9_readVisitor 4 = .ok (.iconst 3, 1) := dk_6 (dk_at dksX9_readVisitor_0 4 rfl rfl)
theorem dX9_readVisitor_5 : decode cX9_readVisitor 5 = .ok (.iaload, 1) := dk_46 (dk_at dksX9_readVisitor_0 5 rfl rfl)
theorem dX9_readVisitor_6 : decode cX9_readVisitor 6 = .ok (.iconst 5, 1) := dk_8 (dk_at dksX9_readVisitor_0 6 rfl rfl)
theorem dX9_readVisitor_7 : decode cX9_readVisitor 7 = .ok (.if_icmp .ne 8, 3) := dk_160 0 8 (dk_at dksX9_readVisitor_0 7 rfl rfl)
theorem dX9_readVisitor_10 : decode cX9_readVisitor 10 = .ok (.aload_n 0, 1) := dk_42 (dk_at dksX9_readVisitor_0 10 rfl rfl)
theorem dX9_readVisitor_11 : decode cX9_readVisitor 11 = .ok (.iconst 3, 1) := dk_6 (dk_at dksX9_readVisitor_0 11 rfl rfl)
theorem dX9_readVisitor_12 : decode cX9_readVisitor 12 = .ok (.invokevirtual 106, 3) := dk_182 0 106 (dk_at dksX9_readVisitor_0 12 rfl rfl)
theorem dX9_readVisitor_15 : decode cX9_readVisitor 15 = .ok (.aload_n 0, 1) := dk_42 (dk_at dksX9_readVisitor_0 15 rfl rfl)
theorem dX9_readVisitor_16 : decode cX9_readVisitor 16 = .ok (.aload_n 0, 1) := dk_42 (dk_at dksX9_readVisitor_0 16 rfl rfl)
theorem dX9_readVisitor_17 : decode cX9_readVisitor 17 = .ok (.bipush 118, 2) := dk_16 118 (dk_at dksX9_readVisitor_0 17 rfl rfl)
theorem dX9_readVisitor_19 : decode cX9_readVisitor 19 = .ok (.invokevirtual 130, 3) := dk_182 0 130 (dk_at dksX9_readVisitor_0 19 rfl rfl)
theorem dX9_readVisitor_22 : decode cX9_readVisitor 22 = .ok (.invokevirtual 113, 3) := dk_182 0 113 (dk_at dksX9_readVisitor_1 0 rfl rfl)
theorem dX9_readVisitor_25 : decode cX9_readVisitor 25 = .ok (.aload_n 0, 1) := dk_42 (dk_at dksX9_readVisitor_1 3 rfl rfl)
theorem dX9_readVisitor_26 : decode cX9_readVisitor 26 = .ok (.iconst 0, 1) := dk_3 (dk_at dksX9_readVisitor_1 4 rfl rfl)
theorem dX9_readVisitor_27 : decode cX9_readVisitor 27 = .ok (.bipush 9, 2) := dk_16 9 (dk_at dksX9_readVisitor_1 5 rfl rfl)
theorem dX9_readVisitor_29 : decode cX9_readVisitor 29 = .ok (.invokevirtual 123, 3) := dk_182 0 123 (dk_at dksX9_readVisitor_1 7 rfl rfl)
theorem dX9_readVisitor_32 : decode cX9_readVisitor 32 = .ok (.istore_n 1, 1) := dk_60 (dk_at dksX9_readVisitor_1 10 rfl rfl)
theorem dX9_readVisitor_33 : decode cX9_readVisitor 33 = .ok (.aload_n 0, 1) := dk_42 (dk_at dksX9_readVisitor_1 11 rfl rfl)
theorem dX9_readVisitor_34 : decode cX9_readVisitor 34 = .ok (.bipush 44, 2) := dk_16 44 (dk_at dksX9_readVisitor_1 12 rfl rfl)
theorem dX9_readVisitor_36 : decode cX9_readVisitor 36 = .ok (.invokevirtual 127, 3) := dk_182 0 127 (dk_at dksX9_readVisitor_1 14 rfl rfl)
theorem dX9_readVisitor_39 : decode cX9_readVisitor 39 = .ok (.aload_n 0, 1) := dk_42 (dk_at dksX9_readVisitor_1 17 rfl rfl)
theorem dX9_readVisitor_40 : decode cX9_readVisitor 40 = .ok (.iconst 0, 1) := dk_3 (dk_at dksX9_readVisitor_1 18 rfl rfl)
theorem dX9_readVisitor_41 : decode cX9_readVisitor 41 = .ok (.bipush 9, 2) := dk_16 9 (dk_at dksX9_readVisitor_1 19 rfl rfl)
theorem dX9_readVisitor_43 : decode cX9_readVisitor 43 = .ok (.invokevirtual 123, 3) := dk_182 0 123 (dk_at dksX9_readVisitor_1 21 rfl rfl)
theorem dX9_readVisitor_46 : decode cX9_readVisitor 46 = .ok (.istore_n 2, 1) := dk_61 (dk_at dksX9_readVisitor_2 0 rfl rfl)
theorem dX9_readVisitor_47 : decode cX9_readVisitor 47 = .ok (.aload_n 0, 1) := dk_42 (dk_at dksX9_readVisitor_2 1 rfl rfl)
theorem dX9_readVisitor_48 : decode cX9_readVisitor 48 = .ok (.bipush 59, 2) := dk_16 59 (dk_at dksX9_readVisitor_2 2 rfl rfl)
theorem dX9_readVisitor_50 : decode cX9_readVisitor 50 = .ok (.invokevirtual 127, 3) := dk_182 0 127 (dk_at dksX9_readVisitor_2 4 rfl rfl)
theorem dX9_readVisitor_53 : decode cX9_readVisitor 53 = .ok (.aload_n 0, 1) := dk_42 (dk_at dksX9_readVisitor_2 7 rfl rfl)
theorem dX9_readVisitor_54 : decode cX9_readVisitor 54 = .ok (.getfield 79, 3) := dk_180 0 79 (dk_at dksX9_readVisitor_2 8 rfl rfl)
theorem dX9_readVisitor_57 : decode cX9_readVisitor 57 = .ok (.ifCond .ne 49, 3) := dk_154 0 49 (dk_at dksX9_readVisitor_2 11 rfl rfl)
theorem dX9_readVisitor_60 : decode cX9_readVisitor 60 = .ok (.aload_n 0, 1) := dk_42 (dk_at dksX9_readVisitor_2 14 rfl rfl)
theorem dX9_readVisitor_61 : decode cX9_readVisitor 61 = .ok (.getfield 22, 3) := dk_180 0 22 (dk_at dksX9_readVisitor_2 15 rfl rfl)
theorem dX9_readVisitor_64 : decode cX9_readVisitor 64 = .ok (.bipush 44, 2) := dk_16 44 (dk_at dksX9_readVisitor_2 18 rfl rfl)
theorem dX9_readVisitor_66 : decode cX9_readVisitor 66 = .ok (.iconst 4, 1) := dk_7 (dk_at dksX9_readVisitor_2 20 rfl rfl)
theorem dX9_readVisitor_67 : decode cX9_readVisitor 67 = .ok (.aload_n 0, 1) := dk_42 (dk_at dksX9_readVisitor_2 21 rfl rfl)
theorem dX9_readVisitor_68 : decode cX9_readVisitor 68 = .ok (.getfield 22, 3) := dk_180 0 22 (dk_at dksX9_readVisitor_3 0 rfl rfl)
theorem dX9_readVisitor_71 : decode cX9_readVisitor 71 = .ok (.iconst 3, 1) := dk_6 (dk_at dksX9_readVisitor_3 3 rfl rfl)
theorem dX9_readVisitor_72 : decode cX9_readVisitor 72 = .ok (.iaload, 1) := dk_46 (dk_at dksX9_readVisitor_3 4 rfl rfl)
theorem dX9_readVisitor_73 : decode cX9_readVisitor 73 = .ok (.imul, 1) := dk_104 (dk_at dksX9_readVisitor_3 5 rfl rfl)
theorem dX9_readVisitor_74 : decode cX9_readVisitor 74 = .ok (.iadd, 1) := dk_96 (dk_at dksX9_readVisitor_3 6 rfl rfl)
theorem dX9_readVisitor_75 : decode cX9_readVisitor 75 = .ok (.iload_n 1, 1) := dk_27 (dk_at dksX9_readVisitor_3 7 rfl rfl)
theorem dX9_readVisitor_76 : decode cX9_readVisitor 76 = .ok (.iastore, 1) := dk_79 (dk_at dksX9_readVisitor_3 8 rfl rfl)
theorem dX9_readVisitor_77 : decode cX9_readVisitor 77 = .ok (.aload_n 0, 1) := dk_42 (dk_at dksX9_readVisitor_3 9 rfl rfl)
theorem dX9_readVisitor_78 : decode cX9_readVisitor 78 = .ok (.getfield 22, 3) := dk_180 0 22 (dk_at dksX9_readVisitor_3 10 rfl rfl)
theorem dX9_readVisitor_81 : decode cX9_readVisitor 81 = .ok (.bipush 44, 2) := dk_16 44 (dk_at dksX9_readVisitor_3 13 rfl rfl)
theorem dX9_readVisitor_83 : decode cX9_readVisitor 83 = .ok (.iconst 4, 1) := dk_7 (dk_at dksX9_readVisitor_3 15 rfl rfl)
theorem dX9_readVisitor_84 : decode cX9_readVisitor 84 = .ok (.aload_n 0, 1) := dk_42 (dk_at dksX9_readVisitor_3 16 rfl rfl)
theorem dX9_readVisitor_85 : decode cX9_readVisitor 85 = .ok (.getfield 22, 3) := dk_180 0 22 (dk_at dksX9_readVisitor_3 17 rfl rfl)
theorem dX9_readVisitor_88 : decode cX9_readVisitor 88 = .ok (.iconst 3, 1) := dk_6 (dk_at dksX9_readVisitor_3 20 rfl rfl)
theorem dX9_readVisitor_89 : decode cX9_readVisitor 89 = .ok (.iaload, 1) := dk_46 (dk_at dksX9_readVisitor_3 21 rfl rfl)
theorem dX9_readVisitor_90 : decode cX9_readVisitor 90 = .ok (.imul, 1) := dk_104 (dk_at dksX9_readVisitor_3 22 rfl rfl)
theorem dX9_readVisitor_91 : decode cX9_readVisitor 91 = .ok (.iadd, 1) := dk_96 (dk_at dksX9_readVisitor_3 23 rfl rfl)
theorem dX9_readVisitor_92 : decode cX9_readVisitor 92 = .ok (.iconst 1, 1) := dk_4 (dk_at dksX9_readVisitor_4 0 rfl rfl)
theorem dX9_readVisitor_93 : decode cX9_readVisitor 93 = .ok (.iadd, 1) := dk_96 (dk_at dksX9_readVisitor_4 1 rfl rfl)
theorem dX9_readVisitor_94 : decode cX9_readVisitor 94 = .ok (.iload_n 2, 1) := dk_28 (dk_at dksX9_readVisitor_4 2 rfl rfl)
theorem dX9_readVisitor_95 : decode cX9_readVisitor 95 = .ok (.iastore, 1) := dk_79 (dk_at dksX9_readVisitor_4 3 rfl rfl)
theorem dX9_readVisitor_96 : decode cX9_readVisitor 96 = .ok (.aload_n 0, 1) := dk_42 (dk_at dksX9_readVisitor_4 4 rfl rfl)
theorem dX9_readVisitor_97 : decode cX9_readVisitor 97 = .ok (.getfield 22, 3) := dk_180 0 22 (dk_at dksX9_readVisitor_4 5 rfl rfl)
theorem dX9_readVisitor_100 : decode cX9_readVisitor 100 = .ok (.iconst 3, 1) := dk_6 (dk_at dksX9_readVisitor_4 8 rfl rfl)
theorem dX9_readVisitor_101 : decode cX9_readVisitor 101 = .ok (.dup2, 1) := dk_92 (dk_at dksX9_readVisitor_4 9 rfl rfl)
theorem dX9_readVisitor_102 : decode cX9_readVisitor 102 = .ok (.iaload, 1) := dk_46 (dk_at dksX9_readVisitor_4 10 rfl rfl)
theorem dX9_readVisitor_103 : decode cX9_readVisitor 103 = .ok (.iconst 1, 1) := dk_4 (dk_at dksX9_readVisitor_4 11 rfl rfl)
theorem dX9_readVisitor_104 : decode cX9_readVisitor 104 = .ok (.iadd, 1) := dk_96 (dk_at dksX9_readVisitor_4 12 rfl rfl)
theorem dX9_readVisitor_105 : decode cX9_readVisitor 105 = .ok (.iastore, 1) := dk_79 (dk_at dksX9_readVisitor_4 13 rfl rfl)
theorem dX9_readVisitor_106 : decode cX9_readVisitor 106 = .ok (.return_, 1) := dk_177 (dk_at dksX9_readVisitor_4 14 rfl rfl)
abbrev cX9_failed : ByteArray := prog_16_method_18_code
def yX9_failed : MethodName := ⟨RX9, "failed", "()Z"⟩
def dkwX9_failed_2 : List UInt8 := [181, 0, 117, 42, 180, 0, 79, 158, 0, 7, 4, 167, 0, 4, 3, 172]
abbrev dktX9_failed_2 : List UInt8 := dkwX9_failed_2 ++ []
def dkwX9_failed_1 : List UInt8 := [181, 0, 75, 42, 42, 180, 0, 79, 158, 0, 10, 42, 180, 0, 79, 167, 0, 7, 42, 180, 0, 117]
abbrev dktX9_failed_1 : List UInt8 := dkwX9_failed_1 ++ dktX9_failed_2
def dkwX9_failed_0 : List UInt8 := [42, 180, 0, 79, 154, 0, 16, 42, 180, 0, 103, 4, 159, 0, 8, 42, 4, 182, 0, 106, 42, 3]
abbrev dktX9_failed_0 : List UInt8 := dkwX9_failed_0 ++ dktX9_failed_1
theorem dksX9_failed_0 : cX9_failed.data.toList.drop 0 = dktX9_failed_0 := by decide +kernel
theorem dksX9_failed_1 : cX9_failed.data.toList.drop 22 = dktX9_failed_1 := dk_seg dksX9_failed_0 22 rfl rfl
theorem dksX9_failed_2 : cX9_failed.data.toList.drop 44 = dktX9_failed_2 := dk_seg dksX9_failed_1 22 rfl rfl
theorem dX9_failed_0 : decode cX9_failed 0 = .ok (.aload_n 0, 1) := dk_42 (dk_at dksX9_failed_0 0 rfl rfl)
theorem dX9_failed_1 : decode cX9_failed 1 = .ok (.getfield 79, 3) := dk_180 0 79 (dk_at dksX9_failed_0 1 rfl rfl)
theorem dX9_failed_4 : decode cX9_failed 4 = .ok (.ifCond .ne 16, 3) := dk_154 0 16 (dk_at dksX9_failed_0 4 rfl rfl)
theorem dX9_failed_7 : decode cX9_failed 7 = .ok (.aload_n 0, 1) := dk_42 (dk_at dksX9_failed_0 7 rfl rfl)
theorem dX9_failed_8 : decode cX9_failed 8 = .ok (.getfield 103, 3) := dk_180 0 103 (dk_at dksX9_failed_0 8 rfl rfl)
theorem dX9_failed_11 : decode cX9_failed 11 = .ok (.iconst 1, 1) := dk_4 (dk_at dksX9_failed_0 11 rfl rfl)
theorem dX9_failed_12 : decode cX9_failed 12 = .ok (.if_icmp .eq 8, 3) := dk_159 0 8 (dk_at dksX9_failed_0 12 rfl rfl)
theorem dX9_failed_15 : decode cX9_failed 15 = .ok (.aload_n 0, 1) := dk_42 (dk_at dksX9_failed_0 15 rfl rfl)
theorem dX9_failed_16 : decode cX9_failed 16 = .ok (.iconst 1, 1) := dk_4 (dk_at dksX9_failed_0 16 rfl rfl)
theorem dX9_failed_17 : decode cX9_failed 17 = .ok (.invokevirtual 106, 3) := dk_182 0 106 (dk_at dksX9_failed_0 17 rfl rfl)
theorem dX9_failed_20 : decode cX9_failed 20 = .ok (.aload_n 0, 1) := dk_42 (dk_at dksX9_failed_0 20 rfl rfl)
theorem dX9_failed_21 : decode cX9_failed 21 = .ok (.iconst 0, 1) := dk_3 (dk_at dksX9_failed_0 21 rfl rfl)
theorem dX9_failed_22 : decode cX9_failed 22 = .ok (.putfield 75, 3) := dk_181 0 75 (dk_at dksX9_failed_1 0 rfl rfl)
theorem dX9_failed_25 : decode cX9_failed 25 = .ok (.aload_n 0, 1) := dk_42 (dk_at dksX9_failed_1 3 rfl rfl)
theorem dX9_failed_26 : decode cX9_failed 26 = .ok (.aload_n 0, 1) := dk_42 (dk_at dksX9_failed_1 4 rfl rfl)
theorem dX9_failed_27 : decode cX9_failed 27 = .ok (.getfield 79, 3) := dk_180 0 79 (dk_at dksX9_failed_1 5 rfl rfl)
theorem dX9_failed_30 : decode cX9_failed 30 = .ok (.ifCond .le 10, 3) := dk_158 0 10 (dk_at dksX9_failed_1 8 rfl rfl)
theorem dX9_failed_33 : decode cX9_failed 33 = .ok (.aload_n 0, 1) := dk_42 (dk_at dksX9_failed_1 11 rfl rfl)
theorem dX9_failed_34 : decode cX9_failed 34 = .ok (.getfield 79, 3) := dk_180 0 79 (dk_at dksX9_failed_1 12 rfl rfl)
theorem dX9_failed_37 : decode cX9_failed 37 = .ok (.goto 7, 3) := dk_167 0 7 (dk_at dksX9_failed_1 15 rfl rfl)
theorem dX9_failed_40 : decode cX9_failed 40 = .ok (.aload_n 0, 1) := dk_42 (dk_at dksX9_failed_1 18 rfl rfl)
theorem dX9_failed_41 : decode cX9_failed 41 = .ok (.getfield 117, 3) := dk_180 0 117 (dk_at dksX9_failed_1 19 rfl rfl)
theorem dX9_failed_44 : decode cX9_failed 44 = .ok (.putfield 117, 3) := dk_181 0 117 (dk_at dksX9_failed_2 0 rfl rfl)
theorem dX9_failed_47 : decode cX9_failed 47 = .ok (.aload_n 0, 1) := dk_42 (dk_at dksX9_failed_2 3 rfl rfl)
theorem dX9_failed_48 : decode cX9_failed 48 = .ok (.getfield 79, 3) := dk_180 0 79 (dk_at dksX9_failed_2 4 rfl rfl)
theorem dX9_failed_51 : decode cX9_failed 51 = .ok (.ifCond .le 7, 3) := dk_158 0 7 (dk_at dksX9_failed_2 7 rfl rfl)
theorem dX9_failed_54 : decode cX9_failed 54 = .ok (.iconst 1, 1) := dk_4 (dk_at dksX9_failed_2 10 rfl rfl)
theorem dX9_failed_55 : decode cX9_failed 55 = .ok (.goto 4, 3) := dk_167 0 4 (dk_at dksX9_failed_2 11 rfl rfl)
theorem dX9_failed_58 : decode cX9_failed 58 = .ok (.iconst 0, 1) := dk_3 (dk_at dksX9_failed_2 14 rfl rfl)
theorem dX9_failed_59 : decode cX9_failed 59 = .ok (.ireturn, 1) := dk_172 (dk_at dksX9_failed_2 15 rfl rfl)
abbrev cX9_pose : ByteArray := prog_16_method_45_code
def yX9_pose : MethodName := ⟨RX9, "pose", "(II)I"⟩
def dkwX9_pose_1 : List UInt8 := [42, 182, 0, 195, 42, 180, 0, 19, 27, 28, 184, 0, 198, 153, 0, 7, 4, 167, 0, 4, 3, 172]
abbrev dktX9_pose_1 : List UInt8 := dkwX9_pose_1 ++ []
def dkwX9_pose_0 : List UInt8 := [42, 3, 181, 0, 48, 42, 27, 182, 0, 189, 153, 0, 11, 42, 28, 182, 0, 192, 154, 0, 6, 18, 68, 172]
abbrev dktX9_pose_0 : List UInt8 := dkwX9_pose_0 ++ dktX9_pose_1
theorem dksX9_pose_0 : cX9_pose.data.toList.drop 0 = dktX9_pose_0 := by decide +kernel
theorem dksX9_pose_1 : cX9_pose.data.toList.drop 24 = dktX9_pose_1 := dk_seg dksX9_pose_0 24 rfl rfl
theorem dX9_pose_0 : decode cX9_pose 0 = .ok (.aload_n 0, 1) := dk_42 (dk_at dksX9_pose_0 0 rfl rfl)
theorem dX9_pose_1 : decode cX9_pose 1 = .ok (.iconst 0, 1) := dk_3 (dk_at dksX9_pose_0 1 rfl rfl)
theorem dX9_pose_2 : decode cX9_pose 2 = .ok (.putfield 48, 3) := dk_181 0 48 (dk_at dksX9_pose_0 2 rfl rfl)
theorem dX9_pose_5 : decode cX9_pose 5 = .ok (.aload_n 0, 1) := dk_42 (dk_at dksX9_pose_0 5 rfl rfl)
theorem dX9_pose_6 : decode cX9_pose 6 = .ok (.iload_n 1, 1) := dk_27 (dk_at dksX9_pose_0 6 rfl rfl)
theorem dX9_pose_7 : decode cX9_pose 7 = .ok (.invokevirtual 189, 3) := dk_182 0 189 (dk_at dksX9_pose_0 7 rfl rfl)
theorem dX9_pose_10 : decode cX9_pose 10 = .ok (.ifCond .eq 11, 3) := dk_153 0 11 (dk_at dksX9_pose_0 10 rfl rfl)
theorem dX9_pose_13 : decode cX9_pose 13 = .ok (.aload_n 0, 1) := dk_42 (dk_at dksX9_pose_0 13 rfl rfl)
theorem dX9_pose_14 : decode cX9_pose 14 = .ok (.iload_n 2, 1) := dk_28 (dk_at dksX9_pose_0 14 rfl rfl)
theorem dX9_pose_15 : decode cX9_pose 15 = .ok (.invokevirtual 192, 3) := dk_182 0 192 (dk_at dksX9_pose_0 15 rfl rfl)
theorem dX9_pose_18 : decode cX9_pose 18 = .ok (.ifCond .ne 6, 3) := dk_154 0 6 (dk_at dksX9_pose_0 18 rfl rfl)
theorem dX9_pose_21 : decode cX9_pose 21 = .ok (.ldc 68, 2) := dk_18 68 (dk_at dksX9_pose_0 21 rfl rfl)
theorem dX9_pose_23 : decode cX9_pose 23 = .ok (.ireturn, 1) := dk_172 (dk_at dksX9_pose_0 23 rfl rfl)
theorem dX9_pose_24 : decode cX9_pose 24 = .ok (.aload_n 0, 1) := dk_42 (dk_at dksX9_pose_1 0 rfl rfl)
theorem dX9_pose_25 : decode cX9_pose 25 = .ok (.invokevirtual 195, 3) := dk_182 0 195 (dk_at dksX9_pose_1 1 rfl rfl)
theorem dX9_pose_28 : decode cX9_pose 28 = .ok (.aload_n 0, 1) := dk_42 (dk_at dksX9_pose_1 4 rfl rfl)
theorem dX9_pose_29 : decode cX9_pose 29 = .ok (.getfield 19, 3) := dk_180 0 19 (dk_at dksX9_pose_1 5 rfl rfl)
theorem dX9_pose_32 : decode cX9_pose 32 = .ok (.iload_n 1, 1) := dk_27 (dk_at dksX9_pose_1 8 rfl rfl)
theorem dX9_pose_33 : decode cX9_pose 33 = .ok (.iload_n 2, 1) := dk_28 (dk_at dksX9_pose_1 9 rfl rfl)
theorem dX9_pose_34 : decode cX9_pose 34 = .ok (.invokestatic 198, 3) := dk_184 0 198 (dk_at dksX9_pose_1 10 rfl rfl)
theorem dX9_pose_37 : decode cX9_pose 37 = .ok (.ifCond .eq 7, 3) := dk_153 0 7 (dk_at dksX9_pose_1 13 rfl rfl)
theorem dX9_pose_40 : decode cX9_pose 40 = .ok (.iconst 1, 1) := dk_4 (dk_at dksX9_pose_1 16 rfl rfl)
theorem dX9_pose_41 : decode cX9_pose 41 = .ok (.goto 4, 3) := dk_167 0 4 (dk_at dksX9_pose_1 17 rfl rfl)
theorem dX9_pose_44 : decode cX9_pose 44 = .ok (.iconst 0, 1) := dk_3 (dk_at dksX9_pose_1 20 rfl rfl)
theorem dX9_pose_45 : decode cX9_pose 45 = .ok (.ireturn, 1) := dk_172 (dk_at dksX9_pose_1 21 rfl rfl)
abbrev cX9_isVisitor : ByteArray := prog_16_method_27_code
def yX9_isVisitor : MethodName := ⟨RX9, "isVisitor", "(I)Z"⟩
def dkwX9_isVisitor_0 : List UInt8 := [27, 133, 9, 42, 180, 0, 19, 6, 46, 4, 100, 133, 184, 0, 58, 172]
abbrev dktX9_isVisitor_0 : List UInt8 := dkwX9_isVisitor_0 ++ []
theorem dksX9_isVisitor_0 : cX9_isVisitor.data.toList.drop 0 = dktX9_isVisitor_0 := by decide +kernel
theorem dX9_isVisitor_0 : decode cX9_isVisitor 0 = .ok (.iload_n 1, 1) := dk_27 (dk_at dksX9_isVisitor_0 0 rfl rfl)
theorem dX9_isVisitor_1 : decode cX9_isVisitor 1 = .ok (.i2l, 1) := dk_133 (dk_at dksX9_isVisitor_0 1 rfl rfl)
theorem dX9_isVisitor_2 : decode cX9_isVisitor 2 = .ok (.lconst 0, 1) := dk_9 (dk_at dksX9_isVisitor_0 2 rfl rfl)
theorem dX9_isVisitor_3 : decode cX9_isVisitor 3 = .ok (.aload_n 0, 1) := dk_42 (dk_at dksX9_isVisitor_0 3 rfl rfl)
theorem dX9_isVisitor_4 : decode cX9_isVisitor 4 = .ok (.getfield 19, 3) := dk_180 0 19 (dk_at dksX9_isVisitor_0 4 rfl rfl)
theorem dX9_isVisitor_7 : decode cX9_isVisitor 7 = .ok (.iconst 3, 1) := dk_6 (dk_at dksX9_isVisitor_0 7 rfl rfl)
theorem dX9_isVisitor_8 : decode cX9_isVisitor 8 = .ok (.iaload, 1) := dk_46 (dk_at dksX9_isVisitor_0 8 rfl rfl)
theorem dX9_isVisitor_9 : decode cX9_isVisitor 9 = .ok (.iconst 1, 1) := dk_4 (dk_at dksX9_isVisitor_0 9 rfl rfl)
theorem dX9_isVisitor_10 : decode cX9_isVisitor 10 = .ok (.isub, 1) := dk_100 (dk_at dksX9_isVisitor_0 10 rfl rfl)
theorem dX9_isVisitor_11 : decode cX9_isVisitor 11 = .ok (.i2l, 1) := dk_133 (dk_at dksX9_isVisitor_0 11 rfl rfl)
theorem dX9_isVisitor_12 : decode cX9_isVisitor 12 = .ok (.invokestatic 58, 3) := dk_184 0 58 (dk_at dksX9_isVisitor_0 12 rfl rfl)
theorem dX9_isVisitor_15 : decode cX9_isVisitor 15 = .ok (.ireturn, 1) := dk_172 (dk_at dksX9_isVisitor_0 15 rfl rfl)
abbrev cX9_areSquares : ByteArray := prog_16_method_28_code
def yX9_areSquares : MethodName := ⟨RX9, "areSquares", "(I)Z"⟩
def dkwX9_areSquares_0 : List UInt8 := [27, 133, 9, 4, 42, 180, 0, 19, 5, 46, 120, 4, 100, 133, 184, 0, 58, 172]
abbrev dktX9_areSquares_0 : List UInt8 := dkwX9_areSquares_0 ++ []
theorem dksX9_areSquares_0 : cX9_areSquares.data.toList.drop 0 = dktX9_areSquares_0 := by decide +kernel
theorem dX9_areSquares_0 : decode cX9_areSquares 0 = .ok (.iload_n 1, 1) := dk_27 (dk_at dksX9_areSquares_0 0 rfl rfl)
theorem dX9_areSquares_1 : decode cX9_areSquares 1 = .ok (.i2l, 1) := dk_133 (dk_at dksX9_areSquares_0 1 rfl rfl)
theorem dX9_areSquares_2 : decode cX9_areSquares 2 = .ok (.lconst 0, 1) := dk_9 (dk_at dksX9_areSquares_0 2 rfl rfl)
theorem dX9_areSquares_3 : decode cX9_areSquares 3 = .ok (.iconst 1, 1) := dk_4 (dk_at dksX9_areSquares_0 3 rfl rfl)
theorem dX9_areSquares_4 : decode cX9_areSquares 4 = .ok (.aload_n 0, 1) := dk_42 (dk_at dksX9_areSquares_0 4 rfl rfl)
theorem dX9_areSquares_5 : decode cX9_areSquares 5 = .ok (.getfield 19, 3) := dk_180 0 19 (dk_at dksX9_areSquares_0 5 rfl rfl)
theorem dX9_areSquares_8 : decode cX9_areSquares 8 = .ok (.iconst 2, 1) := dk_5 (dk_at dksX9_areSquares_0 8 rfl rfl)
theorem dX9_areSquares_9 : decode cX9_areSquares 9 = .ok (.iaload, 1) := dk_46 (dk_at dksX9_areSquares_0 9 rfl rfl)
theorem dX9_areSquares_10 : decode cX9_areSquares 10 = .ok (.ishl, 1) := dk_120 (dk_at dksX9_areSquares_0 10 rfl rfl)
theorem dX9_areSquares_11 : decode cX9_areSquares 11 = .ok (.iconst 1, 1) := dk_4 (dk_at dksX9_areSquares_0 11 rfl rfl)
theorem dX9_areSquares_12 : decode cX9_areSquares 12 = .ok (.isub, 1) := dk_100 (dk_at dksX9_areSquares_0 12 rfl rfl)
theorem dX9_areSquares_13 : decode cX9_areSquares 13 = .ok (.i2l, 1) := dk_133 (dk_at dksX9_areSquares_0 13 rfl rfl)
theorem dX9_areSquares_14 : decode cX9_areSquares 14 = .ok (.invokestatic 58, 3) := dk_184 0 58 (dk_at dksX9_areSquares_0 14 rfl rfl)
theorem dX9_areSquares_17 : decode cX9_areSquares 17 = .ok (.ireturn, 1) := dk_172 (dk_at dksX9_areSquares_0 17 rfl rfl)
abbrev cX9_keep : ByteArray := prog_16_method_44_code
def yX9_keep : MethodName := ⟨RX9, "keep", "()V"⟩
def dkwX9_keep_3 : List UInt8 := [42, 180, 0, 19, 27, 46, 79, 132, 1, 1, 167, 255, 227, 42, 89, 180, 0, 150, 4, 96, 181, 0, 150, 177]
abbrev dktX9_keep_3 : List UInt8 := dkwX9_keep_3 ++ []
def dkwX9_keep_2 : List UInt8 := [181, 0, 150, 3, 60, 27, 16, 64, 162, 0, 29, 42, 180, 0, 28, 16, 64, 42, 180, 0, 150, 104, 27, 96]
abbrev dktX9_keep_2 : List UInt8 := dkwX9_keep_2 ++ dktX9_keep_3
def dkwX9_keep_1 : List UInt8 := [180, 0, 28, 27, 16, 64, 96, 46, 79, 132, 1, 1, 167, 255, 231, 42, 89, 180, 0, 150, 4, 100]
abbrev dktX9_keep_1 : List UInt8 := dkwX9_keep_1 ++ dktX9_keep_2
def dkwX9_keep_0 : List UInt8 := [42, 180, 0, 150, 16, 24, 160, 0, 43, 3, 60, 27, 17, 5, 192, 162, 0, 24, 42, 180, 0, 28, 27, 42]
abbrev dktX9_keep_0 : List UInt8 := dkwX9_keep_0 ++ dktX9_keep_1
theorem dksX9_keep_0 : cX9_keep.data.toList.drop 0 = dktX9_keep_0 := by decide +kernel
theorem dksX9_keep_1 : cX9_keep.data.toList.drop 24 = dktX9_keep_1 := dk_seg dksX9_keep_0 24 rfl rfl
theorem dksX9_keep_2 : cX9_keep.data.toList.drop 46 = dktX9_keep_2 := dk_seg dksX9_keep_1 22 rfl rfl
theorem dksX9_keep_3 : cX9_keep.data.toList.drop 70 = dktX9_keep_3 := dk_seg dksX9_keep_2 24 rfl rfl
theorem dX9_keep_0 : decode cX9_keep 0 = .ok (.aload_n 0, 1) := dk_42 (dk_at dksX9_keep_0 0 rfl rfl)
theorem dX9_keep_1 : decode cX9_keep 1 = .ok (.getfield 150, 3) := dk_180 0 150 (dk_at dksX9_keep_0 1 rfl rfl)
theorem dX9_keep_4 : decode cX9_keep 4 = .ok (.bipush 24, 2) := dk_16 24 (dk_at dksX9_keep_0 4 rfl rfl)
theorem dX9_keep_6 : decode cX9_keep 6 = .ok (.if_icmp .ne 43, 3) := dk_160 0 43 (dk_at dksX9_keep_0 6 rfl rfl)
theorem dX9_keep_9 : decode cX9_keep 9 = .ok (.iconst 0, 1) := dk_3 (dk_at dksX9_keep_0 9 rfl rfl)
theorem dX9_keep_10 : decode cX9_keep 10 = .ok (.istore_n 1, 1) := dk_60 (dk_at dksX9_keep_0 10 rfl rfl)
theorem dX9_keep_11 : decode cX9_keep 11 = .ok (.iload_n 1, 1) := dk_27 (dk_at dksX9_keep_0 11 rfl rfl)
theorem dX9_keep_12 : decode cX9_keep 12 = .ok (.sipush 1472, 3) := dk_17 5 192 (dk_at dksX9_keep_0 12 rfl rfl)
theorem dX9_keep_15 : decode cX9_keep 15 = .ok (.if_icmp .ge 24, 3) := dk_162 0 24 (dk_at dksX9_keep_0 15 rfl rfl)
theorem dX9_keep_18 : decode cX9_keep 18 = .ok (.aload_n 0, 1) := dk_42 (dk_at dksX9_keep_0 18 rfl rfl)
theorem dX9_keep_19 : decode cX9_keep 19 = .ok (.getfield 28, 3) := dk_180 0 28 (dk_at dksX9_keep_0 19 rfl rfl)
theorem dX9_keep_22 : decode cX9_keep 22 = .ok (.iload_n 1, 1) := dk_27 (dk_at dksX9_keep_0 22 rfl rfl)
theorem dX9_keep_23 : decode cX9_keep 23 = .ok (.aload_n 0, 1) := dk_42 (dk_at dksX9_keep_0 23 rfl rfl)
theorem dX9_keep_24 : decode cX9_keep 24 = .ok (.getfield 28, 3) := dk_180 0 28 (dk_at dksX9_keep_1 0 rfl rfl)
theorem dX9_keep_27 : decode cX9_keep 27 = .ok (.iload_n 1, 1) := dk_27 (dk_at dksX9_keep_1 3 rfl rfl)
theorem dX9_keep_28 : decode cX9_keep 28 = .ok (.bipush 64, 2) := dk_16 64 (dk_at dksX9_keep_1 4 rfl rfl)
theorem dX9_keep_30 : decode cX9_keep 30 = .ok (.iadd, 1) := dk_96 (dk_at dksX9_keep_1 6 rfl rfl)
theorem dX9_keep_31 : decode cX9_keep 31 = .ok (.iaload, 1) := dk_46 (dk_at dksX9_keep_1 7 rfl rfl)
theorem dX9_keep_32 : decode cX9_keep 32 = .ok (.iastore, 1) := dk_79 (dk_at dksX9_keep_1 8 rfl rfl)
theorem dX9_keep_33 : decode cX9_keep 33 = .ok (.iinc 1 1, 3) := dk_132 1 1 (dk_at dksX9_keep_1 9 rfl rfl)
theorem dX9_keep_36 : decode cX9_keep 36 = .ok (.goto (-25), 3) := dk_167 255 231 (dk_at dksX9_keep_1 12 rfl rfl)
theorem dX9_keep_39 : decode cX9_keep 39 = .ok (.aload_n 0, 1) := dk_42 (dk_at dksX9_keep_1 15 rfl rfl)
theorem dX9_keep_40 : decode cX9_keep 40 = .ok (.dup, 1) := dk_89 (dk_at dksX9_keep_1 16 rfl rfl)
theorem dX9_keep_41 : decode cX9_keep 41 = .ok (.getfield 150, 3) := dk_180 0 150 (dk_at dksX9_keep_1 17 rfl rfl)
theorem dX9_keep_44 : decode cX9_keep 44 = .ok (.iconst 1, 1) := dk_4 (dk_at dksX9_keep_1 20 rfl rfl)
theorem dX9_keep_45 : decode cX9_keep 45 = .ok (.isub, 1) := dk_100 (dk_at dksX9_keep_1 21 rfl rfl)
theorem dX9_keep_46 : decode cX9_keep 46 = .ok (.putfield 150, 3) := dk_181 0 150 (dk_at dksX9_keep_2 0 rfl rfl)
theorem dX9_keep_49 : decode cX9_keep 49 = .ok (.iconst 0, 1) := dk_3 (dk_at dksX9_keep_2 3 rfl rfl)
theorem dX9_keep_50 : decode cX9_keep 50 = .ok (.istore_n 1, 1) := dk_60 (dk_at dksX9_keep_2 4 rfl rfl)
theorem dX9_keep_51 : decode cX9_keep 51 = .ok (.iload_n 1, 1) := dk_27 (dk_at dksX9_keep_2 5 rfl rfl)
theorem dX9_keep_52 : decode cX9_keep 52 = .ok (.bipush 64, 2) := dk_16 64 (dk_at dksX9_keep_2 6 rfl rfl)
theorem dX9_keep_54 : decode cX9_keep 54 = .ok (.if_icmp .ge 29, 3) := dk_162 0 29 (dk_at dksX9_keep_2 8 rfl rfl)
theorem dX9_keep_57 : decode cX9_keep 57 = .ok (.aload_n 0, 1) := dk_42 (dk_at dksX9_keep_2 11 rfl rfl)
theorem dX9_keep_58 : decode cX9_keep 58 = .ok (.getfield 28, 3) := dk_180 0 28 (dk_at dksX9_keep_2 12 rfl rfl)
theorem dX9_keep_61 : decode cX9_keep 61 = .ok (.bipush 64, 2) := dk_16 64 (dk_at dksX9_keep_2 15 rfl rfl)
theorem dX9_keep_63 : decode cX9_keep 63 = .ok (.aload_n 0, 1) := dk_42 (dk_at dksX9_keep_2 17 rfl rfl)
theorem dX9_keep_64 : decode cX9_keep 64 = .ok (.getfield 150, 3) := dk_180 0 150 (dk_at dksX9_keep_2 18 rfl rfl)
theorem dX9_keep_67 : decode cX9_keep 67 = .ok (.imul, 1) := dk_104 (dk_at dksX9_keep_2 21 rfl rfl)
theorem dX9_keep_68 : decode cX9_keep 68 = .ok (.iload_n 1, 1) := dk_27 (dk_at dksX9_keep_2 22 rfl rfl)
theorem dX9_keep_69 : decode cX9_keep 69 = .ok (.iadd, 1) := dk_96 (dk_at dksX9_keep_2 23 rfl rfl)
theorem dX9_keep_70 : decode cX9_keep 70 = .ok (.aload_n 0, 1) := dk_42 (dk_at dksX9_keep_3 0 rfl rfl)
theorem dX9_keep_71 : decode cX9_keep 71 = .ok (.getfield 19, 3) := dk_180 0 19 (dk_at dksX9_keep_3 1 rfl rfl)
theorem dX9_keep_74 : decode cX9_keep 74 = .ok (.iload_n 1, 1) := dk_27 (dk_at dksX9_keep_3 4 rfl rfl)
theorem dX9_keep_75 : decode cX9_keep 75 = .ok (.iaload, 1) := dk_46 (dk_at dksX9_keep_3 5 rfl rfl)
theorem dX9_keep_76 : decode cX9_keep 76 = .ok (.iastore, 1) := dk_79 (dk_at dksX9_keep_3 6 rfl rfl)
theorem dX9_keep_77 : decode cX9_keep 77 = .ok (.iinc 1 1, 3) := dk_132 1 1 (dk_at dksX9_keep_3 7 rfl rfl)
theorem dX9_keep_80 : decode cX9_keep 80 = .ok (.goto (-29), 3) := dk_167 255 227 (dk_at dksX9_keep_3 10 rfl rfl)
theorem dX9_keep_83 : decode cX9_keep 83 = .ok (.aload_n 0, 1) := dk_42 (dk_at dksX9_keep_3 13 rfl rfl)
theorem dX9_keep_84 : decode cX9_keep 84 = .ok (.dup, 1) := dk_89 (dk_at dksX9_keep_3 14 rfl rfl)
theorem dX9_keep_85 : decode cX9_keep 85 = .ok (.getfield 150, 3) := dk_180 0 150 (dk_at dksX9_keep_3 15 rfl rfl)
theorem dX9_keep_88 : decode cX9_keep 88 = .ok (.iconst 1, 1) := dk_4 (dk_at dksX9_keep_3 18 rfl rfl)
theorem dX9_keep_89 : decode cX9_keep 89 = .ok (.iadd, 1) := dk_96 (dk_at dksX9_keep_3 19 rfl rfl)
theorem dX9_keep_90 : decode cX9_keep 90 = .ok (.putfield 150, 3) := dk_181 0 150 (dk_at dksX9_keep_3 20 rfl rfl)
theorem dX9_keep_93 : decode cX9_keep 93 = .ok (.return_, 1) := dk_177 (dk_at dksX9_keep_3 23 rfl rfl)
abbrev cX9_poses : ByteArray := prog_16_method_42_code
def yX9_poses : MethodName := ⟨RX9, "poses", "([III)Z"⟩
def dkwX9_poses_5 : List UInt8 := [27, 104, 96, 6, 96, 92, 46, 29, 153, 0, 7, 4, 167, 0, 4, 3, 96, 79, 29, 172]
abbrev dktX9_poses_5 : List UInt8 := dkwX9_poses_5 ++ []
def dkwX9_poses_4 : List UInt8 := [132, 4, 1, 167, 255, 178, 42, 16, 44, 7, 27, 104, 96, 5, 96, 92, 46, 4, 96, 79, 42, 16, 44, 7]
abbrev dktX9_poses_4 : List UInt8 := dkwX9_poses_4 ++ dktX9_poses_5
def dkwX9_poses_3 : List UInt8 := [96, 54, 5, 42, 21, 5, 92, 46, 42, 21, 5, 46, 16, 99, 162, 0, 7, 4, 167, 0, 4, 3, 96, 79]
abbrev dktX9_poses_3 : List UInt8 := dkwX9_poses_3 ++ dktX9_poses_4
def dkwX9_poses_2 : List UInt8 := [154, 0, 48, 7, 8, 21, 4, 104, 96, 42, 27, 21, 4, 184, 0, 172, 153, 0, 7, 5, 167, 0, 4, 6]
abbrev dktX9_poses_2 : List UInt8 := dkwX9_poses_2 ++ dktX9_poses_3
def dkwX9_poses_1 : List UInt8 := [5, 46, 162, 0, 76, 29, 153, 0, 72, 28, 21, 4, 184, 0, 179, 153, 0, 57, 42, 21, 4, 184, 0, 168]
abbrev dktX9_poses_1 : List UInt8 := dkwX9_poses_1 ++ dktX9_poses_2
def dkwX9_poses_0 : List UInt8 := [42, 27, 28, 184, 0, 186, 42, 4, 46, 163, 0, 7, 4, 167, 0, 4, 3, 62, 3, 54, 4, 21, 4, 42]
abbrev dktX9_poses_0 : List UInt8 := dkwX9_poses_0 ++ dktX9_poses_1
theorem dksX9_poses_0 : cX9_poses.data.toList.drop 0 = dktX9_poses_0 := by decide +kernel
theorem dksX9_poses_1 : cX9_poses.data.toList.drop 24 = dktX9_poses_1 := dk_seg dksX9_poses_0 24 rfl rfl
theorem dksX9_poses_2 : cX9_poses.data.toList.drop 48 = dktX9_poses_2 := dk_seg dksX9_poses_1 24 rfl rfl
theorem dksX9_poses_3 : cX9_poses.data.toList.drop 72 = dktX9_poses_3 := dk_seg dksX9_poses_2 24 rfl rfl
theorem dksX9_poses_4 : cX9_poses.data.toList.drop 96 = dktX9_poses_4 := dk_seg dksX9_poses_3 24 rfl rfl
theorem dksX9_poses_5 : cX9_poses.data.toList.drop 120 = dktX9_poses_5 := dk_seg dksX9_poses_4 24 rfl rfl
theorem dX9_poses_0 : decode cX9_poses 0 = .ok (.aload_n 0, 1) := dk_42 (dk_at dksX9_poses_0 0 rfl rfl)
theorem dX9_poses_1 : decode cX9_poses 1 = .ok (.iload_n 1, 1) := dk_27 (dk_at dksX9_poses_0 1 rfl rfl)
theorem dX9_poses_2 : decode cX9_poses 2 = .ok (.iload_n 2, 1) := dk_28 (dk_at dksX9_poses_0 2 rfl rfl)
theorem dX9_poses_3 : decode cX9_poses 3 = .ok (.invokestatic 186, 3) := dk_184 0 186 (dk_at dksX9_poses_0 3 rfl rfl)
theorem dX9_poses_6 : decode cX9_poses 6 = .ok (.aload_n 0, 1) := dk_42 (dk_at dksX9_poses_0 6 rfl rfl)
theorem dX9_poses_7 : decode cX9_poses 7 = .ok (.iconst 1, 1) := dk_4 (dk_at dksX9_poses_0 7 rfl rfl)
theorem dX9_poses_8 : decode cX9_poses 8 = .ok (.iaload, 1) := dk_46 (dk_at dksX9_poses_0 8 rfl rfl)
theorem dX9_poses_9 : decode cX9_poses 9 = .ok (.if_icmp .gt 7, 3) := dk_163 0 7 (dk_at dksX9_poses_0 9 rfl rfl)
theorem dX9_poses_12 : decode cX9_poses 12 = .ok (.iconst 1, 1) := dk_4 (dk_at dksX9_poses_0 12 rfl rfl)
theorem dX9_poses_13 : decode cX9_poses 13 = .ok (.goto 4, 3) := dk_167 0 4 (dk_at dksX9_poses_0 13 rfl rfl)
theorem dX9_poses_16 : decode cX9_poses 16 = .ok (.iconst 0, 1) := dk_3 (dk_at dksX9_poses_0 16 rfl rfl)
theorem dX9_poses_17 : decode cX9_poses 17 = .ok (.istore_n 3, 1) := dk_62 (dk_at dksX9_poses_0 17 rfl rfl)
theorem dX9_poses_18 : decode cX9_poses 18 = .ok (.iconst 0, 1) := dk_3 (dk_at dksX9_poses_0 18 rfl rfl)
theorem dX9_poses_19 : decode cX9_poses 19 = .ok (.istore 4, 2) := dk_54 4 (dk_at dksX9_poses_0 19 rfl rfl)
theorem dX9_poses_21 : decode cX9_poses 21 = .ok (.iload 4, 2) := dk_21 4 (dk_at dksX9_poses_0 21 rfl rfl)
theorem dX9_poses_23 : decode cX9_poses 23 = .ok (.aload_n 0, 1) := dk_42 (dk_at dksX9_poses_0 23 rfl rfl)
theorem dX9_poses_24 : decode cX9_poses 24 = .ok (.iconst 2, 1) := dk_5 (dk_at dksX9_poses_1 0 rfl rfl)
theorem dX9_poses_25 : decode cX9_poses 25 = .ok (.iaload, 1) := dk_46 (dk_at dksX9_poses_1 1 rfl rfl)
theorem dX9_poses_26 : decode cX9_poses 26 = .ok (.if_icmp .ge 76, 3) := dk_162 0 76 (dk_at dksX9_poses_1 2 rfl rfl)
theorem dX9_poses_29 : decode cX9_poses 29 = .ok (.iload_n 3, 1) := dk_29 (dk_at dksX9_poses_1 5 rfl rfl)
theorem dX9_poses_30 : decode cX9_poses 30 = .ok (.ifCond .eq 72, 3) := dk_153 0 72 (dk_at dksX9_poses_1 6 rfl rfl)
theorem dX9_poses_33 : decode cX9_poses 33 = .ok (.iload_n 2, 1) := dk_28 (dk_at dksX9_poses_1 9 rfl rfl)
theorem dX9_poses_34 : decode cX9_poses 34 = .ok (.iload 4, 2) := dk_21 4 (dk_at dksX9_poses_1 10 rfl rfl)
theorem dX9_poses_36 : decode cX9_poses 36 = .ok (.invokestatic 179, 3) := dk_184 0 179 (dk_at dksX9_poses_1 12 rfl rfl)
theorem dX9_poses_39 : decode cX9_poses 39 = .ok (.ifCond .eq 57, 3) := dk_153 0 57 (dk_at dksX9_poses_1 15 rfl rfl)
theorem dX9_poses_42 : decode cX9_poses 42 = .ok (.aload_n 0, 1) := dk_42 (dk_at dksX9_poses_1 18 rfl rfl)
theorem dX9_poses_43 : decode cX9_poses 43 = .ok (.iload 4, 2) := dk_21 4 (dk_at dksX9_poses_1 19 rfl rfl)
theorem dX9_poses_45 : decode cX9_poses 45 = .ok (.invokestatic 168, 3) := dk_184 0 168 (dk_at dksX9_poses_1 21 rfl rfl)
theorem dX9_poses_48 : decode cX9_poses 48 = .ok (.ifCond .ne 48, 3) := dk_154 0 48 (dk_at dksX9_poses_2 0 rfl rfl)
theorem dX9_poses_51 : decode cX9_poses 51 = .ok (.iconst 4, 1) := dk_7 (dk_at dksX9_poses_2 3 rfl rfl)
theorem dX9_poses_52 : decode cX9_poses 52 = .ok (.iconst 5, 1) := dk_8 (dk_at dksX9_poses_2 4 rfl rfl)
theorem dX9_poses_53 : decode cX9_poses 53 = .ok (.iload 4, 2) := dk_21 4 (dk_at dksX9_poses_2 5 rfl rfl)
theorem dX9_poses_55 : decode cX9_poses 55 = .ok (.imul, 1) := dk_104 (dk_at dksX9_poses_2 7 rfl rfl)
theorem dX9_poses_56 : decode cX9_poses 56 = .ok (.iadd, 1) := dk_96 (dk_at dksX9_poses_2 8 rfl rfl)
theorem dX9_poses_57 : decode cX9_poses 57 = .ok (.aload_n 0, 1) := dk_42 (dk_at dksX9_poses_2 9 rfl rfl)
theorem dX9_poses_58 : decode cX9_poses 58 = .ok (.iload_n 1, 1) := dk_27 (dk_at dksX9_poses_2 10 rfl rfl)
theorem dX9_poses_59 : decode cX9_poses 59 = .ok (.iload 4, 2) := dk_21 4 (dk_at dksX9_poses_2 11 rfl rfl)
theorem dX9_poses_61 : decode cX9_poses 61 = .ok (.invokestatic 172, 3) := dk_184 0 172 (dk_at dksX9_poses_2 13 rfl rfl)
theorem dX9_poses_64 : decode cX9_poses 64 = .ok (.ifCond .eq 7, 3) := dk_153 0 7 (dk_at dksX9_poses_2 16 rfl rfl)
theorem dX9_poses_67 : decode cX9_poses 67 = .ok (.iconst 2, 1) := dk_5 (dk_at dksX9_poses_2 19 rfl rfl)
theorem dX9_poses_68 : decode cX9_poses 68 = .ok (.goto 4, 3) := dk_167 0 4 (dk_at dksX9_poses_2 20 rfl rfl)
theorem dX9_poses_71 : decode cX9_poses 71 = .ok (.iconst 3, 1) := dk_6 (dk_at dksX9_poses_2 23 rfl rfl)
theorem dX9_poses_72 : decode cX9_poses 72 = .ok (.iadd, 1) := dk_96 (dk_at dksX9_poses_3 0 rfl rfl)
theorem dX9_poses_73 : decode cX9_poses 73 = .ok (.istore 5, 2) := dk_54 5 (dk_at dksX9_poses_3 1 rfl rfl)
theorem dX9_poses_75 : decode cX9_poses 75 = .ok (.aload_n 0, 1) := dk_42 (dk_at dksX9_poses_3 3 rfl rfl)
theorem dX9_poses_76 : decode cX9_poses 76 = .ok (.iload 5, 2) := dk_21 5 (dk_at dksX9_poses_3 4 rfl rfl)
theorem dX9_poses_78 : decode cX9_poses 78 = .ok (.dup2, 1) := dk_92 (dk_at dksX9_poses_3 6 rfl rfl)
theorem dX9_poses_79 : decode cX9_poses 79 = .ok (.iaload, 1) := dk_46 (dk_at dksX9_poses_3 7 rfl rfl)
theorem dX9_poses_80 : decode cX9_poses 80 = .ok (.aload_n 0, 1) := dk_42 (dk_at dksX9_poses_3 8 rfl rfl)
theorem dX9_poses_81 : decode cX9_poses 81 = .ok (.iload 5, 2) := dk_21 5 (dk_at dksX9_poses_3 9 rfl rfl)
theorem dX9_poses_83 : decode cX9_poses 83 = .ok (.iaload, 1) := dk_46 (dk_at dksX9_poses_3 11 rfl rfl)
theorem dX9_poses_84 : decode cX9_poses 84 = .ok (.bipush 99, 2) := dk_16 99 (dk_at dksX9_poses_3 12 rfl rfl)
theorem dX9_poses_86 : decode cX9_poses 86 = .ok (.if_icmp .ge 7, 3) := dk_162 0 7 (dk_at dksX9_poses_3 14 rfl rfl)
theorem dX9_poses_89 : decode cX9_poses 89 = .ok (.iconst 1, 1) := dk_4 (dk_at dksX9_poses_3 17 rfl rfl)
theorem dX9_poses_90 : decode cX9_poses 90 = .ok (.goto 4, 3) := dk_167 0 4 (dk_at dksX9_poses_3 18 rfl rfl)
theorem dX9_poses_93 : decode cX9_poses 93 = .ok (.iconst 0, 1) := dk_3 (dk_at dksX9_poses_3 21 rfl rfl)
theorem dX9_poses_94 : decode cX9_poses 94 = .ok (.iadd, 1) := dk_96 (dk_at dksX9_poses_3 22 rfl rfl)
theorem dX9_poses_95 : decode cX9_poses 95 = .ok (.iastore, 1) := dk_79 (dk_at dksX9_poses_3 23 rfl rfl)
theorem dX9_poses_96 : decode cX9_poses 96 = .ok (.iinc 4 1, 3) := dk_132 4 1 (dk_at dksX9_poses_4 0 rfl rfl)
theorem dX9_poses_99 : decode cX9_poses 99 = .ok (.goto (-78), 3) := dk_167 255 178 (dk_at dksX9_poses_4 3 rfl rfl)
theorem dX9_poses_102 : decode cX9_poses 102 = .ok (.aload_n 0, 1) := dk_42 (dk_at dksX9_poses_4 6 rfl rfl)
theorem dX9_poses_103 : decode cX9_poses 103 = .ok (.bipush 44, 2) := dk_16 44 (dk_at dksX9_poses_4 7 rfl rfl)
theorem dX9_poses_105 : decode cX9_poses 105 = .ok (.iconst 4, 1) := dk_7 (dk_at dksX9_poses_4 9 rfl rfl)
theorem dX9_poses_106 : decode cX9_poses 106 = .ok (.iload_n 1, 1) := dk_27 (dk_at dksX9_poses_4 10 rfl rfl)
theorem dX9_poses_107 : decode cX9_poses 107 = .ok (.imul, 1) := dk_104 (dk_at dksX9_poses_4 11 rfl rfl)
theorem dX9_poses_108 : decode cX9_poses 108 = .ok (.iadd, 1) := dk_96 (dk_at dksX9_poses_4 12 rfl rfl)
theorem dX9_poses_109 : decode cX9_poses 109 = .ok (.iconst 2, 1) := dk_5 (dk_at dksX9_poses_4 13 rfl rfl)
theorem dX9_poses_110 : decode cX9_poses 110 = .ok (.iadd, 1) := dk_96 (dk_at dksX9_poses_4 14 rfl rfl)
theorem dX9_poses_111 : decode cX9_poses 111 = .ok (.dup2, 1) := dk_92 (dk_at dksX9_poses_4 15 rfl rfl)
theorem dX9_poses_112 : decode cX9_poses 112 = .ok (.iaload, 1) := dk_46 (dk_at dksX9_poses_4 16 rfl rfl)
theorem dX9_poses_113 : decode cX9_poses 113 = .ok (.iconst 1, 1) := dk_4 (dk_at dksX9_poses_4 17 rfl rfl)
theorem dX9_poses_114 : decode cX9_poses 114 = .ok (.iadd, 1) := dk_96 (dk_at dksX9_poses_4 18 rfl rfl)
theorem dX9_poses_115 : decode cX9_poses 115 = .ok (.iastore, 1) := dk_79 (dk_at dksX9_poses_4 19 rfl rfl)
theorem dX9_poses_116 : decode cX9_poses 116 = .ok (.aload_n 0, 1) := dk_42 (dk_at dksX9_poses_4 20 rfl rfl)
theorem dX9_poses_117 : decode cX9_poses 117 = .ok (.bipush 44, 2) := dk_16 44 (dk_at dksX9_poses_4 21 rfl rfl)
theorem dX9_poses_119 : decode cX9_poses 119 = .ok (.iconst 4, 1) := dk_7 (dk_at dksX9_poses_4 23 rfl rfl)
theorem dX9_poses_120 : decode cX9_poses 120 = .ok (.iload_n 1, 1) := dk_27 (dk_at dksX9_poses_5 0 rfl rfl)
theorem dX9_poses_121 : decode cX9_poses 121 = .ok (.imul, 1) := dk_104 (dk_at dksX9_poses_5 1 rfl rfl)
theorem dX9_poses_122 : decode cX9_poses 122 = .ok (.iadd, 1) := dk_96 (dk_at dksX9_poses_5 2 rfl rfl)
theorem dX9_poses_123 : decode cX9_poses 123 = .ok (.iconst 3, 1) := dk_6 (dk_at dksX9_poses_5 3 rfl rfl)
theorem dX9_poses_124 : decode cX9_poses 124 = .ok (.iadd, 1) := dk_96 (dk_at dksX9_poses_5 4 rfl rfl)
theorem dX9_poses_125 : decode cX9_poses 125 = .ok (.dup2, 1) := dk_92 (dk_at dksX9_poses_5 5 rfl rfl)
theorem dX9_poses_126 : decode cX9_poses 126 = .ok (.iaload, 1) := dk_46 (dk_at dksX9_poses_5 6 rfl rfl)
theorem dX9_poses_127 : decode cX9_poses 127 = .ok (.iload_n 3, 1) := dk_29 (dk_at dksX9_poses_5 7 rfl rfl)
theorem dX9_poses_128 : decode cX9_poses 128 = .ok (.ifCond .eq 7, 3) := dk_153 0 7 (dk_at dksX9_poses_5 8 rfl rfl)
theorem dX9_poses_131 : decode cX9_poses 131 = .ok (.iconst 1, 1) := dk_4 (dk_at dksX9_poses_5 11 rfl rfl)
theorem dX9_poses_132 : decode cX9_poses 132 = .ok (.goto 4, 3) := dk_167 0 4 (dk_at dksX9_poses_5 12 rfl rfl)
theorem dX9_poses_135 : decode cX9_poses 135 = .ok (.iconst 0, 1) := dk_3 (dk_at dksX9_poses_5 15 rfl rfl)
theorem dX9_poses_136 : decode cX9_poses 136 = .ok (.iadd, 1) := dk_96 (dk_at dksX9_poses_5 16 rfl rfl)
theorem dX9_poses_137 : decode cX9_poses 137 = .ok (.iastore, 1) := dk_79 (dk_at dksX9_poses_5 17 rfl rfl)
theorem dX9_poses_138 : decode cX9_poses 138 = .ok (.iload_n 3, 1) := dk_29 (dk_at dksX9_poses_5 18 rfl rfl)
theorem dX9_poses_139 : decode cX9_poses 139 = .ok (.ireturn, 1) := dk_172 (dk_at dksX9_poses_5 19 rfl rfl)
abbrev cX9_wrongOf : ByteArray := prog_16_method_40_code
def yX9_wrongOf : MethodName := ⟨RX9, "wrongOf", "([III)I"⟩
def dkwX9_wrongOf_1 : List UInt8 := [27, 21, 4, 184, 0, 183, 153, 0, 7, 4, 167, 0, 4, 3, 96, 62, 132, 4, 1, 167, 255, 218, 29, 172]
abbrev dktX9_wrongOf_1 : List UInt8 := dkwX9_wrongOf_1 ++ []
def dkwX9_wrongOf_0 : List UInt8 := [3, 62, 3, 54, 4, 21, 4, 42, 5, 46, 162, 0, 36, 29, 28, 21, 4, 184, 0, 179, 153, 0, 17, 42]
abbrev dktX9_wrongOf_0 : List UInt8 := dkwX9_wrongOf_0 ++ dktX9_wrongOf_1
theorem dksX9_wrongOf_0 : cX9_wrongOf.data.toList.drop 0 = dktX9_wrongOf_0 := by decide +kernel
theorem dksX9_wrongOf_1 : cX9_wrongOf.data.toList.drop 24 = dktX9_wrongOf_1 := dk_seg dksX9_wrongOf_0 24 rfl rfl
theorem dX9_wrongOf_0 : decode cX9_wrongOf 0 = .ok (.iconst 0, 1) := dk_3 (dk_at dksX9_wrongOf_0 0 rfl rfl)
theorem dX9_wrongOf_1 : decode cX9_wrongOf 1 = .ok (.istore_n 3, 1) := dk_62 (dk_at dksX9_wrongOf_0 1 rfl rfl)
theorem dX9_wrongOf_2 : decode cX9_wrongOf 2 = .ok (.iconst 0, 1) := dk_3 (dk_at dksX9_wrongOf_0 2 rfl rfl)
theorem dX9_wrongOf_3 : decode cX9_wrongOf 3 = .ok (.istore 4, 2) := dk_54 4 (dk_at dksX9_wrongOf_0 3 rfl rfl)
theorem dX9_wrongOf_5 : decode cX9_wrongOf 5 = .ok (.iload 4, 2) := dk_21 4 (dk_at dksX9_wrongOf_0 5 rfl rfl)
theorem dX9_wrongOf_7 : decode cX9_wrongOf 7 = .ok (.aload_n 0, 1) := dk_42 (dk_at dksX9_wrongOf_0 7 rfl rfl)
theorem dX9_wrongOf_8 : decode cX9_wrongOf 8 = .ok (.iconst 2, 1) := dk_5 (dk_at dksX9_wrongOf_0 8 rfl rfl)
theorem dX9_wrongOf_9 : decode cX9_wrongOf 9 = .ok (.iaload, 1) := dk_46 (dk_at dksX9_wrongOf_0 9 rfl rfl)
theorem dX9_wrongOf_10 : decode cX9_wrongOf 10 = .ok (.if_icmp .ge 36, 3) := dk_162 0 36 (dk_at dksX9_wrongOf_0 10 rfl rfl)
theorem dX9_wrongOf_13 : decode cX9_wrongOf 13 = .ok (.iload_n 3, 1) := dk_29 (dk_at dksX9_wrongOf_0 13 rfl rfl)
theorem dX9_wrongOf_14 : decode cX9_wrongOf 14 = .ok (.iload_n 2, 1) := dk_28 (dk_at dksX9_wrongOf_0 14 rfl rfl)
theorem dX9_wrongOf_15 : decode cX9_wrongOf 15 = .ok (.iload 4, 2) := dk_21 4 (dk_at dksX9_wrongOf_0 15 rfl rfl)
theorem dX9_wrongOf_17 : decode cX9_wrongOf 17 = .ok (.invokestatic 179, 3) := dk_184 0 179 (dk_at dksX9_wrongOf_0 17 rfl rfl)
theorem dX9_wrongOf_20 : decode cX9_wrongOf 20 = .ok (.ifCond .eq 17, 3) := dk_153 0 17 (dk_at dksX9_wrongOf_0 20 rfl rfl)
theorem dX9_wrongOf_23 : decode cX9_wrongOf 23 = .ok (.aload_n 0, 1) := dk_42 (dk_at dksX9_wrongOf_0 23 rfl rfl)
theorem dX9_wrongOf_24 : decode cX9_wrongOf 24 = .ok (.iload_n 1, 1) := dk_27 (dk_at dksX9_wrongOf_1 0 rfl rfl)
theorem dX9_wrongOf_25 : decode cX9_wrongOf 25 = .ok (.iload 4, 2) := dk_21 4 (dk_at dksX9_wrongOf_1 1 rfl rfl)
theorem dX9_wrongOf_27 : decode cX9_wrongOf 27 = .ok (.invokestatic 183, 3) := dk_184 0 183 (dk_at dksX9_wrongOf_1 3 rfl rfl)
theorem dX9_wrongOf_30 : decode cX9_wrongOf 30 = .ok (.ifCond .eq 7, 3) := dk_153 0 7 (dk_at dksX9_wrongOf_1 6 rfl rfl)
theorem dX9_wrongOf_33 : decode cX9_wrongOf 33 = .ok (.iconst 1, 1) := dk_4 (dk_at dksX9_wrongOf_1 9 rfl rfl)
theorem dX9_wrongOf_34 : decode cX9_wrongOf 34 = .ok (.goto 4, 3) := dk_167 0 4 (dk_at dksX9_wrongOf_1 10 rfl rfl)
theorem dX9_wrongOf_37 : decode cX9_wrongOf 37 = .ok (.iconst 0, 1) := dk_3 (dk_at dksX9_wrongOf_1 13 rfl rfl)
theorem dX9_wrongOf_38 : decode cX9_wrongOf 38 = .ok (.iadd, 1) := dk_96 (dk_at dksX9_wrongOf_1 14 rfl rfl)
theorem dX9_wrongOf_39 : decode cX9_wrongOf 39 = .ok (.istore_n 3, 1) := dk_62 (dk_at dksX9_wrongOf_1 15 rfl rfl)
theorem dX9_wrongOf_40 : decode cX9_wrongOf 40 = .ok (.iinc 4 1, 3) := dk_132 4 1 (dk_at dksX9_wrongOf_1 16 rfl rfl)
theorem dX9_wrongOf_43 : decode cX9_wrongOf 43 = .ok (.goto (-38), 3) := dk_167 255 218 (dk_at dksX9_wrongOf_1 19 rfl rfl)
theorem dX9_wrongOf_46 : decode cX9_wrongOf 46 = .ok (.iload_n 3, 1) := dk_29 (dk_at dksX9_wrongOf_1 22 rfl rfl)
theorem dX9_wrongOf_47 : decode cX9_wrongOf 47 = .ok (.ireturn, 1) := dk_172 (dk_at dksX9_wrongOf_1 23 rfl rfl)
abbrev cX9_has : ByteArray := prog_16_method_30_code
def yX9_has : MethodName := ⟨RX9, "has", "(II)Z"⟩
def dkwX9_has_0 : List UInt8 := [26, 27, 122, 4, 126, 4, 160, 0, 7, 4, 167, 0, 4, 3, 172]
abbrev dktX9_has_0 : List UInt8 := dkwX9_has_0 ++ []
theorem dksX9_has_0 : cX9_has.data.toList.drop 0 = dktX9_has_0 := by decide +kernel
theorem dX9_has_0 : decode cX9_has 0 = .ok (.iload_n 0, 1) := dk_26 (dk_at dksX9_has_0 0 rfl rfl)
theorem dX9_has_1 : decode cX9_has 1 = .ok (.iload_n 1, 1) := dk_27 (dk_at dksX9_has_0 1 rfl rfl)
theorem dX9_has_2 : decode cX9_has 2 = .ok (.ishr, 1) := dk_122 (dk_at dksX9_has_0 2 rfl rfl)
theorem dX9_has_3 : decode cX9_has 3 = .ok (.iconst 1, 1) := dk_4 (dk_at dksX9_has_0 3 rfl rfl)
theorem dX9_has_4 : decode cX9_has 4 = .ok (.iand, 1) := dk_126 (dk_at dksX9_has_0 4 rfl rfl)
theorem dX9_has_5 : decode cX9_has 5 = .ok (.iconst 1, 1) := dk_4 (dk_at dksX9_has_0 5 rfl rfl)
theorem dX9_has_6 : decode cX9_has 6 = .ok (.if_icmp .ne 7, 3) := dk_160 0 7 (dk_at dksX9_has_0 6 rfl rfl)
theorem dX9_has_9 : decode cX9_has 9 = .ok (.iconst 1, 1) := dk_4 (dk_at dksX9_has_0 9 rfl rfl)
theorem dX9_has_10 : decode cX9_has 10 = .ok (.goto 4, 3) := dk_167 0 4 (dk_at dksX9_has_0 10 rfl rfl)
theorem dX9_has_13 : decode cX9_has 13 = .ok (.iconst 0, 1) := dk_3 (dk_at dksX9_has_0 13 rfl rfl)
theorem dX9_has_14 : decode cX9_has 14 = .ok (.ireturn, 1) := dk_172 (dk_at dksX9_has_0 14 rfl rfl)
abbrev cX9_isWrong : ByteArray := prog_16_method_39_code
def yX9_isWrong : MethodName := ⟨RX9, "isWrong", "([III)Z"⟩
def dkwX9_isWrong_1 : List UInt8 := [167, 0, 4, 3, 172]
abbrev dktX9_isWrong_1 : List UInt8 := dkwX9_isWrong_1 ++ []
def dkwX9_isWrong_0 : List UInt8 := [42, 28, 184, 0, 168, 153, 0, 21, 42, 27, 28, 184, 0, 172, 42, 28, 184, 0, 176, 159, 0, 7, 4]
abbrev dktX9_isWrong_0 : List UInt8 := dkwX9_isWrong_0 ++ dktX9_isWrong_1
theorem dksX9_isWrong_0 : cX9_isWrong.data.toList.drop 0 = dktX9_isWrong_0 := by decide +kernel
theorem dksX9_isWrong_1 : cX9_isWrong.data.toList.drop 23 = dktX9_isWrong_1 := dk_seg dksX9_isWrong_0 23 rfl rfl
theorem dX9_isWrong_0 : decode cX9_isWrong 0 = .ok (.aload_n 0, 1) := dk_42 (dk_at dksX9_isWrong_0 0 rfl rfl)
theorem dX9_isWrong_1 : decode cX9_isWrong 1 = .ok (.iload_n 2, 1) := dk_28 (dk_at dksX9_isWrong_0 1 rfl rfl)
theorem dX9_isWrong_2 : decode cX9_isWrong 2 = .ok (.invokestatic 168, 3) := dk_184 0 168 (dk_at dksX9_isWrong_0 2 rfl rfl)
theorem dX9_isWrong_5 : decode cX9_isWrong 5 = .ok (.ifCond .eq 21, 3) := dk_153 0 21 (dk_at dksX9_isWrong_0 5 rfl rfl)
theorem dX9_isWrong_8 : decode cX9_isWrong 8 = .ok (.aload_n 0, 1) := dk_42 (dk_at dksX9_isWrong_0 8 rfl rfl)
theorem dX9_isWrong_9 : decode cX9_isWrong 9 = .ok (.iload_n 1, 1) := dk_27 (dk_at dksX9_isWrong_0 9 rfl rfl)
theorem dX9_isWrong_10 : decode cX9_isWrong 10 = .ok (.iload_n 2, 1) := dk_28 (dk_at dksX9_isWrong_0 10 rfl rfl)
theorem dX9_isWrong_11 : decode cX9_isWrong 11 = .ok (.invokestatic 172, 3) := dk_184 0 172 (dk_at dksX9_isWrong_0 11 rfl rfl)
theorem dX9_isWrong_14 : decode cX9_isWrong 14 = .ok (.aload_n 0, 1) := dk_42 (dk_at dksX9_isWrong_0 14 rfl rfl)
theorem dX9_isWrong_15 : decode cX9_isWrong 15 = .ok (.iload_n 2, 1) := dk_28 (dk_at dksX9_isWrong_0 15 rfl rfl)
theorem dX9_isWrong_16 : decode cX9_isWrong 16 = .ok (.invokestatic 176, 3) := dk_184 0 176 (dk_at dksX9_isWrong_0 16 rfl rfl)
theorem dX9_isWrong_19 : decode cX9_isWrong 19 = .ok (.if_icmp .eq 7, 3) := dk_159 0 7 (dk_at dksX9_isWrong_0 19 rfl rfl)
theorem dX9_isWrong_22 : decode cX9_isWrong 22 = .ok (.iconst 1, 1) := dk_4 (dk_at dksX9_isWrong_0 22 rfl rfl)
theorem dX9_isWrong_23 : decode cX9_isWrong 23 = .ok (.goto 4, 3) := dk_167 0 4 (dk_at dksX9_isWrong_1 0 rfl rfl)
theorem dX9_isWrong_26 : decode cX9_isWrong 26 = .ok (.iconst 0, 1) := dk_3 (dk_at dksX9_isWrong_1 3 rfl rfl)
theorem dX9_isWrong_27 : decode cX9_isWrong 27 = .ok (.ireturn, 1) := dk_172 (dk_at dksX9_isWrong_1 4 rfl rfl)
abbrev cX9_counts : ByteArray := prog_16_method_37_code
def yX9_counts : MethodName := ⟨RX9, "counts", "([II)Z"⟩
def dkwX9_counts_1 : List UInt8 := [172]
abbrev dktX9_counts_1 : List UInt8 := dkwX9_counts_1 ++ []
def dkwX9_counts_0 : List UInt8 := [42, 27, 3, 184, 0, 157, 7, 161, 0, 12, 42, 27, 7, 184, 0, 157, 158, 0, 7, 4, 167, 0, 4, 3]
abbrev dktX9_counts_0 : List UInt8 := dkwX9_counts_0 ++ dktX9_counts_1
theorem dksX9_counts_0 : cX9_counts.data.toList.drop 0 = dktX9_counts_0 := by decide +kernel
theorem dksX9_counts_1 : cX9_counts.data.toList.drop 24 = dktX9_counts_1 := dk_seg dksX9_counts_0 24 rfl rfl
theorem dX9_counts_0 : decode cX9_counts 0 = .ok (.aload_n 0, 1) := dk_42 (dk_at dksX9_counts_0 0 rfl rfl)
theorem dX9_counts_1 : decode cX9_counts 1 = .ok (.iload_n 1, 1) := dk_27 (dk_at dksX9_counts_0 1 rfl rfl)
theorem dX9_counts_2 : decode cX9_counts 2 = .ok (.iconst 0, 1) := dk_3 (dk_at dksX9_counts_0 2 rfl rfl)
theorem dX9_counts_3 : decode cX9_counts 3 = .ok (.invokestatic 157, 3) := dk_184 0 157 (dk_at dksX9_counts_0 3 rfl rfl)
theorem dX9_counts_6 : decode cX9_counts 6 = .ok (.iconst 4, 1) := dk_7 (dk_at dksX9_counts_0 6 rfl rfl)
theorem dX9_counts_7 : decode cX9_counts 7 = .ok (.if_icmp .lt 12, 3) := dk_161 0 12 (dk_at dksX9_counts_0 7 rfl rfl)
theorem dX9_counts_10 : decode cX9_counts 10 = .ok (.aload_n 0, 1) := dk_42 (dk_at dksX9_counts_0 10 rfl rfl)
theorem dX9_counts_11 : decode cX9_counts 11 = .ok (.iload_n 1, 1) := dk_27 (dk_at dksX9_counts_0 11 rfl rfl)
theorem dX9_counts_12 : decode cX9_counts 12 = .ok (.iconst 4, 1) := dk_7 (dk_at dksX9_counts_0 12 rfl rfl)
theorem dX9_counts_13 : decode cX9_counts 13 = .ok (.invokestatic 157, 3) := dk_184 0 157 (dk_at dksX9_counts_0 13 rfl rfl)
theorem dX9_counts_16 : decode cX9_counts 16 = .ok (.ifCond .le 7, 3) := dk_158 0 7 (dk_at dksX9_counts_0 16 rfl rfl)
theorem dX9_counts_19 : decode cX9_counts 19 = .ok (.iconst 1, 1) := dk_4 (dk_at dksX9_counts_0 19 rfl rfl)
theorem dX9_counts_20 : decode cX9_counts 20 = .ok (.goto 4, 3) := dk_167 0 4 (dk_at dksX9_counts_0 20 rfl rfl)
theorem dX9_counts_23 : decode cX9_counts 23 = .ok (.iconst 0, 1) := dk_3 (dk_at dksX9_counts_0 23 rfl rfl)
theorem dX9_counts_24 : decode cX9_counts 24 = .ok (.ireturn, 1) := dk_172 (dk_at dksX9_counts_1 0 rfl rfl)
abbrev cX9_of : ByteArray := prog_16_method_32_code
def yX9_of : MethodName := ⟨RX9, "of", "([III)I"⟩
def dkwX9_of_0 : List UInt8 := [42, 7, 8, 27, 104, 96, 28, 96, 46, 172]
abbrev dktX9_of_0 : List UInt8 := dkwX9_of_0 ++ []
theorem dksX9_of_0 : cX9_of.data.toList.drop 0 = dktX9_of_0 := by decide +kernel
theorem dX9_of_0 : decode cX9_of 0 = .ok (.aload_n 0, 1) := dk_42 (dk_at dksX9_of_0 0 rfl rfl)
theorem dX9_of_1 : decode cX9_of 1 = .ok (.iconst 4, 1) := dk_7 (dk_at dksX9_of_0 1 rfl rfl)
theorem dX9_of_2 : decode cX9_of 2 = .ok (.iconst 5, 1) := dk_8 (dk_at dksX9_of_0 2 rfl rfl)
theorem dX9_of_3 : decode cX9_of 3 = .ok (.iload_n 1, 1) := dk_27 (dk_at dksX9_of_0 3 rfl rfl)
theorem dX9_of_4 : decode cX9_of 4 = .ok (.imul, 1) := dk_104 (dk_at dksX9_of_0 4 rfl rfl)
theorem dX9_of_5 : decode cX9_of 5 = .ok (.iadd, 1) := dk_96 (dk_at dksX9_of_0 5 rfl rfl)
theorem dX9_of_6 : decode cX9_of 6 = .ok (.iload_n 2, 1) := dk_28 (dk_at dksX9_of_0 6 rfl rfl)
theorem dX9_of_7 : decode cX9_of 7 = .ok (.iadd, 1) := dk_96 (dk_at dksX9_of_0 7 rfl rfl)
theorem dX9_of_8 : decode cX9_of 8 = .ok (.iaload, 1) := dk_46 (dk_at dksX9_of_0 8 rfl rfl)
theorem dX9_of_9 : decode cX9_of 9 = .ok (.ireturn, 1) := dk_172 (dk_at dksX9_of_0 9 rfl rfl)
abbrev cX9_clicksIt : ByteArray := prog_16_method_36_code
def yX9_clicksIt : MethodName := ⟨RX9, "clicksIt", "([III)Z"⟩
def dkwX9_clicksIt_1 : List UInt8 := [184, 0, 164, 172]
abbrev dktX9_clicksIt_1 : List UInt8 := dkwX9_clicksIt_1 ++ []
def dkwX9_clicksIt_0 : List UInt8 := [42, 28, 3, 184, 0, 157, 42, 28, 4, 184, 0, 157, 42, 27, 3, 184, 0, 161, 42, 27, 4, 184, 0, 161]
abbrev dktX9_clicksIt_0 : List UInt8 := dkwX9_clicksIt_0 ++ dktX9_clicksIt_1
theorem dksX9_clicksIt_0 : cX9_clicksIt.data.toList.drop 0 = dktX9_clicksIt_0 := by decide +kernel
theorem dksX9_clicksIt_1 : cX9_clicksIt.data.toList.drop 24 = dktX9_clicksIt_1 := dk_seg dksX9_clicksIt_0 24 rfl rfl
theorem dX9_clicksIt_0 : decode cX9_clicksIt 0 = .ok (.aload_n 0, 1) := dk_42 (dk_at dksX9_clicksIt_0 0 rfl rfl)
theorem dX9_clicksIt_1 : decode cX9_clicksIt 1 = .ok (.iload_n 2, 1) := dk_28 (dk_at dksX9_clicksIt_0 1 rfl rfl)
theorem dX9_clicksIt_2 : decode cX9_clicksIt 2 = .ok (.iconst 0, 1) := dk_3 (dk_at dksX9_clicksIt_0 2 rfl rfl)
theorem dX9_clicksIt_3 : decode cX9_clicksIt 3 = .ok (.invokestatic 157, 3) := dk_184 0 157 (dk_at dksX9_clicksIt_0 3 rfl rfl)
theorem dX9_clicksIt_6 : decode cX9_clicksIt 6 = .ok (.aload_n 0, 1) := dk_42 (dk_at dksX9_clicksIt_0 6 rfl rfl)
theorem dX9_clicksIt_7 : decode cX9_clicksIt 7 = .ok (.iload_n 2, 1) := dk_28 (dk_at dksX9_clicksIt_0 7 rfl rfl)
theorem dX9_clicksIt_8 : decode cX9_clicksIt 8 = .ok (.iconst 1, 1) := dk_4 (dk_at dksX9_clicksIt_0 8 rfl rfl)
theorem dX9_clicksIt_9 : decode cX9_clicksIt 9 = .ok (.invokestatic 157, 3) := dk_184 0 157 (dk_at dksX9_clicksIt_0 9 rfl rfl)
theorem dX9_clicksIt_12 : decode cX9_clicksIt 12 = .ok (.aload_n 0, 1) := dk_42 (dk_at dksX9_clicksIt_0 12 rfl rfl)
theorem dX9_clicksIt_13 : decode cX9_clicksIt 13 = .ok (.iload_n 1, 1) := dk_27 (dk_at dksX9_clicksIt_0 13 rfl rfl)
theorem dX9_clicksIt_14 : decode cX9_clicksIt 14 = .ok (.iconst 0, 1) := dk_3 (dk_at dksX9_clicksIt_0 14 rfl rfl)
theorem dX9_clicksIt_15 : decode cX9_clicksIt 15 = .ok (.invokestatic 161, 3) := dk_184 0 161 (dk_at dksX9_clicksIt_0 15 rfl rfl)
theorem dX9_clicksIt_18 : decode cX9_clicksIt 18 = .ok (.aload_n 0, 1) := dk_42 (dk_at dksX9_clicksIt_0 18 rfl rfl)
theorem dX9_clicksIt_19 : decode cX9_clicksIt 19 = .ok (.iload_n 1, 1) := dk_27 (dk_at dksX9_clicksIt_0 19 rfl rfl)
theorem dX9_clicksIt_20 : decode cX9_clicksIt 20 = .ok (.iconst 1, 1) := dk_4 (dk_at dksX9_clicksIt_0 20 rfl rfl)
theorem dX9_clicksIt_21 : decode cX9_clicksIt 21 = .ok (.invokestatic 161, 3) := dk_184 0 161 (dk_at dksX9_clicksIt_0 21 rfl rfl)
theorem dX9_clicksIt_24 : decode cX9_clicksIt 24 = .ok (.invokestatic 164, 3) := dk_184 0 164 (dk_at dksX9_clicksIt_1 0 rfl rfl)
theorem dX9_clicksIt_27 : decode cX9_clicksIt 27 = .ok (.ireturn, 1) := dk_172 (dk_at dksX9_clicksIt_1 3 rfl rfl)
abbrev cX9_guest : ByteArray := prog_16_method_33_code
def yX9_guest : MethodName := ⟨RX9, "guest", "([III)I"⟩
def dkwX9_guest_0 : List UInt8 := [42, 16, 44, 7, 27, 104, 96, 28, 96, 46, 172]
abbrev dktX9_guest_0 : List UInt8 := dkwX9_guest_0 ++ []
theorem dksX9_guest_0 : cX9_guest.data.toList.drop 0 = dktX9_guest_0 := by decide +kernel
theorem dX9_guest_0 : decode cX9_guest 0 = .ok (.aload_n 0, 1) := dk_42 (dk_at dksX9_guest_0 0 rfl rfl)
theorem dX9_guest_1 : decode cX9_guest 1 = .ok (.bipush 44, 2) := dk_16 44 (dk_at dksX9_guest_0 1 rfl rfl)
theorem dX9_guest_3 : decode cX9_guest 3 = .ok (.iconst 4, 1) := dk_7 (dk_at dksX9_guest_0 3 rfl rfl)
theorem dX9_guest_4 : decode cX9_guest 4 = .ok (.iload_n 1, 1) := dk_27 (dk_at dksX9_guest_0 4 rfl rfl)
theorem dX9_guest_5 : decode cX9_guest 5 = .ok (.imul, 1) := dk_104 (dk_at dksX9_guest_0 5 rfl rfl)
theorem dX9_guest_6 : decode cX9_guest 6 = .ok (.iadd, 1) := dk_96 (dk_at dksX9_guest_0 6 rfl rfl)
theorem dX9_guest_7 : decode cX9_guest 7 = .ok (.iload_n 2, 1) := dk_28 (dk_at dksX9_guest_0 7 rfl rfl)
theorem dX9_guest_8 : decode cX9_guest 8 = .ok (.iadd, 1) := dk_96 (dk_at dksX9_guest_0 8 rfl rfl)
theorem dX9_guest_9 : decode cX9_guest 9 = .ok (.iaload, 1) := dk_46 (dk_at dksX9_guest_0 9 rfl rfl)
theorem dX9_guest_10 : decode cX9_guest 10 = .ok (.ireturn, 1) := dk_172 (dk_at dksX9_guest_0 10 rfl rfl)
abbrev cX9_clicksBy : ByteArray := prog_16_method_35_code
def yX9_clicksBy : MethodName := ⟨RX9, "clicksBy", "(IIII)Z"⟩
def dkwX9_clicksBy_0 : List UInt8 := [26, 27, 28, 29, 184, 0, 153, 16, 9, 28, 100, 164, 0, 7, 4, 167, 0, 4, 3, 172]
abbrev dktX9_clicksBy_0 : List UInt8 := dkwX9_clicksBy_0 ++ []
theorem dksX9_clicksBy_0 : cX9_clicksBy.data.toList.drop 0 = dktX9_clicksBy_0 := by decide +kernel
theorem dX9_clicksBy_0 : decode cX9_clicksBy 0 = .ok (.iload_n 0, 1) := dk_26 (dk_at dksX9_clicksBy_0 0 rfl rfl)
theorem dX9_clicksBy_1 : decode cX9_clicksBy 1 = .ok (.iload_n 1, 1) := dk_27 (dk_at dksX9_clicksBy_0 1 rfl rfl)
theorem dX9_clicksBy_2 : decode cX9_clicksBy 2 = .ok (.iload_n 2, 1) := dk_28 (dk_at dksX9_clicksBy_0 2 rfl rfl)
theorem dX9_clicksBy_3 : decode cX9_clicksBy 3 = .ok (.iload_n 3, 1) := dk_29 (dk_at dksX9_clicksBy_0 3 rfl rfl)
theorem dX9_clicksBy_4 : decode cX9_clicksBy 4 = .ok (.invokestatic 153, 3) := dk_184 0 153 (dk_at dksX9_clicksBy_0 4 rfl rfl)
theorem dX9_clicksBy_7 : decode cX9_clicksBy 7 = .ok (.bipush 9, 2) := dk_16 9 (dk_at dksX9_clicksBy_0 7 rfl rfl)
theorem dX9_clicksBy_9 : decode cX9_clicksBy 9 = .ok (.iload_n 2, 1) := dk_28 (dk_at dksX9_clicksBy_0 9 rfl rfl)
theorem dX9_clicksBy_10 : decode cX9_clicksBy 10 = .ok (.isub, 1) := dk_100 (dk_at dksX9_clicksBy_0 10 rfl rfl)
theorem dX9_clicksBy_11 : decode cX9_clicksBy 11 = .ok (.if_icmp .le 7, 3) := dk_164 0 7 (dk_at dksX9_clicksBy_0 11 rfl rfl)
theorem dX9_clicksBy_14 : decode cX9_clicksBy 14 = .ok (.iconst 1, 1) := dk_4 (dk_at dksX9_clicksBy_0 14 rfl rfl)
theorem dX9_clicksBy_15 : decode cX9_clicksBy 15 = .ok (.goto 4, 3) := dk_167 0 4 (dk_at dksX9_clicksBy_0 15 rfl rfl)
theorem dX9_clicksBy_18 : decode cX9_clicksBy 18 = .ok (.iconst 0, 1) := dk_3 (dk_at dksX9_clicksBy_0 18 rfl rfl)
theorem dX9_clicksBy_19 : decode cX9_clicksBy 19 = .ok (.ireturn, 1) := dk_172 (dk_at dksX9_clicksBy_0 19 rfl rfl)
abbrev cX9_seesBy : ByteArray := prog_16_method_34_code
def yX9_seesBy : MethodName := ⟨RX9, "seesBy", "(IIII)I"⟩
def dkwX9_seesBy_3 : List UInt8 := [27, 172, 29, 8, 161, 0, 7, 27, 167, 0, 4, 3, 172, 27, 172]
abbrev dktX9_seesBy_3 : List UInt8 := dkwX9_seesBy_3 ++ []
def dkwX9_seesBy_2 : List UInt8 := [27, 158, 0, 9, 27, 4, 100, 167, 0, 4, 3, 172, 28, 8, 162, 0, 10, 16, 9, 27, 100, 167, 0, 4]
abbrev dktX9_seesBy_2 : List UInt8 := dkwX9_seesBy_2 ++ dktX9_seesBy_3
def dkwX9_seesBy_1 : List UInt8 := [170, 0, 0, 0, 0, 0, 68, 0, 0, 0, 2, 0, 0, 0, 5, 0, 0, 0, 31, 0, 0, 0, 43, 0, 0, 0, 68, 0, 0, 0, 57]
abbrev dktX9_seesBy_1 : List UInt8 := dkwX9_seesBy_1 ++ dktX9_seesBy_2
def dkwX9_seesBy_0 : List UInt8 := [26]
abbrev dktX9_seesBy_0 : List UInt8 := dkwX9_seesBy_0 ++ dktX9_seesBy_1
theorem dksX9_seesBy_0 : cX9_seesBy.data.toList.drop 0 = dktX9_seesBy_0 := by decide +kernel
theorem dksX9_seesBy_1 : cX9_seesBy.data.toList.drop 1 = dktX9_seesBy_1 := dk_seg dksX9_seesBy_0 1 rfl rfl
theorem dksX9_seesBy_2 : cX9_seesBy.data.toList.drop 32 = dktX9_seesBy_2 := dk_seg dksX9_seesBy_1 31 rfl rfl
theorem dksX9_seesBy_3 : cX9_seesBy.data.toList.drop 56 = dktX9_seesBy_3 := dk_seg dksX9_seesBy_2 24 rfl rfl
theorem dX9_seesBy_0 : decode cX9_seesBy 0 = .ok (.iload_n 0, 1) := dk_26 (dk_at dksX9_seesBy_0 0 rfl rfl)
theorem dX9_seesBy_1 : decode cX9_seesBy 1 = .ok (.tableswitch 68 2 5 #[31, 43, 68, 57], 31) := by decide +kernel
theorem dX9_seesBy_32 : decode cX9_seesBy 32 = .ok (.iload_n 1, 1) := dk_27 (dk_at dksX9_seesBy_2 0 rfl rfl)
theorem dX9_seesBy_33 : decode cX9_seesBy 33 = .ok (.ifCond .le 9, 3) := dk_158 0 9 (dk_at dksX9_seesBy_2 1 rfl rfl)
theorem dX9_seesBy_36 : decode cX9_seesBy 36 = .ok (.iload_n 1, 1) := dk_27 (dk_at dksX9_seesBy_2 4 rfl rfl)
theorem dX9_seesBy_37 : decode cX9_seesBy 37 = .ok (.iconst 1, 1) := dk_4 (dk_at dksX9_seesBy_2 5 rfl rfl)
theorem dX9_seesBy_38 : decode cX9_seesBy 38 = .ok (.isub, 1) := dk_100 (dk_at dksX9_seesBy_2 6 rfl rfl)
theorem dX9_seesBy_39 : decode cX9_seesBy 39 = .ok (.goto 4, 3) := dk_167 0 4 (dk_at dksX9_seesBy_2 7 rfl rfl)
theorem dX9_seesBy_42 : decode cX9_seesBy 42 = .ok (.iconst 0, 1) := dk_3 (dk_at dksX9_seesBy_2 10 rfl rfl)
theorem dX9_seesBy_43 : decode cX9_seesBy 43 = .ok (.ireturn, 1) := dk_172 (dk_at dksX9_seesBy_2 11 rfl rfl)
theorem dX9_seesBy_44 : decode cX9_seesBy 44 = .ok (.iload_n 2, 1) := dk_28 (dk_at dksX9_seesBy_2 12 rfl rfl)
theorem dX9_seesBy_45 : decode cX9_seesBy 45 = .ok (.iconst 5, 1) := dk_8 (dk_at dksX9_seesBy_2 13 rfl rfl)
theorem dX9_seesBy_46 : decode cX9_seesBy 46 = .ok (.if_icmp .ge 10, 3) := dk_162 0 10 (dk_at dksX9_seesBy_2 14 rfl rfl)
theorem dX9_seesBy_49 : decode cX9_seesBy 49 = .ok (.bipush 9, 2) := dk_16 9 (dk_at dksX9_seesBy_2 17 rfl rfl)
theorem dX9_seesBy_51 : decode cX9_seesBy 51 = .ok (.iload_n 1, 1) := dk_27 (dk_at dksX9_seesBy_2 19 rfl rfl)
theorem dX9_seesBy_52 : decode cX9_seesBy 52 = .ok (.isub, 1) := dk_100 (dk_at dksX9_seesBy_2 20 rfl rfl)
theorem dX9_seesBy_53 : decode cX9_seesBy 53 = .ok (.goto 4, 3) := dk_167 0 4 (dk_at dksX9_seesBy_2 21 rfl rfl)
theorem dX9_seesBy_56 : decode cX9_seesBy 56 = .ok (.iload_n 1, 1) := dk_27 (dk_at dksX9_seesBy_3 0 rfl rfl)
theorem dX9_seesBy_57 : decode cX9_seesBy 57 = .ok (.ireturn, 1) := dk_172 (dk_at dksX9_seesBy_3 1 rfl rfl)
theorem dX9_seesBy_58 : decode cX9_seesBy 58 = .ok (.iload_n 3, 1) := dk_29 (dk_at dksX9_seesBy_3 2 rfl rfl)
theorem dX9_seesBy_59 : decode cX9_seesBy 59 = .ok (.iconst 5, 1) := dk_8 (dk_at dksX9_seesBy_3 3 rfl rfl)
theorem dX9_seesBy_60 : decode cX9_seesBy 60 = .ok (.if_icmp .lt 7, 3) := dk_161 0 7 (dk_at dksX9_seesBy_3 4 rfl rfl)
theorem dX9_seesBy_63 : decode cX9_seesBy 63 = .ok (.iload_n 1, 1) := dk_27 (dk_at dksX9_seesBy_3 7 rfl rfl)
theorem dX9_seesBy_64 : decode cX9_seesBy 64 = .ok (.goto 4, 3) := dk_167 0 4 (dk_at dksX9_seesBy_3 8 rfl rfl)
theorem dX9_seesBy_67 : decode cX9_seesBy 67 = .ok (.iconst 0, 1) := dk_3 (dk_at dksX9_seesBy_3 11 rfl rfl)
theorem dX9_seesBy_68 : decode cX9_seesBy 68 = .ok (.ireturn, 1) := dk_172 (dk_at dksX9_seesBy_3 12 rfl rfl)
theorem dX9_seesBy_69 : decode cX9_seesBy 69 = .ok (.iload_n 1, 1) := dk_27 (dk_at dksX9_seesBy_3 13 rfl rfl)
theorem dX9_seesBy_70 : decode cX9_seesBy 70 = .ok (.ireturn, 1) := dk_172 (dk_at dksX9_seesBy_3 14 rfl rfl)
abbrev cX9_isLamp : ByteArray := prog_16_method_38_code
def yX9_isLamp : MethodName := ⟨RX9, "isLamp", "([II)Z"⟩
def dkwX9_isLamp_1 : List UInt8 := [167, 0, 22, 3, 167, 0, 18, 42, 27, 7, 184, 0, 157, 5, 160, 0, 7, 4, 167, 0, 4, 3, 172]
abbrev dktX9_isLamp_1 : List UInt8 := dkwX9_isLamp_1 ++ []
def dkwX9_isLamp_0 : List UInt8 := [42, 27, 7, 184, 0, 157, 154, 0, 23, 42, 27, 4, 184, 0, 157, 42, 3, 46, 161, 0, 7, 4]
abbrev dktX9_isLamp_0 : List UInt8 := dkwX9_isLamp_0 ++ dktX9_isLamp_1
theorem dksX9_isLamp_0 : cX9_isLamp.data.toList.drop 0 = dktX9_isLamp_0 := by decide +kernel
theorem dksX9_isLamp_1 : cX9_isLamp.data.toList.drop 22 = dktX9_isLamp_1 := dk_seg dksX9_isLamp_0 22 rfl rfl
theorem dX9_isLamp_0 : decode cX9_isLamp 0 = .ok (.aload_n 0, 1) := dk_42 (dk_at dksX9_isLamp_0 0 rfl rfl)
theorem dX9_isLamp_1 : decode cX9_isLamp 1 = .ok (.iload_n 1, 1) := dk_27 (dk_at dksX9_isLamp_0 1 rfl rfl)
theorem dX9_isLamp_2 : decode cX9_isLamp 2 = .ok (.iconst 4, 1) := dk_7 (dk_at dksX9_isLamp_0 2 rfl rfl)
theorem dX9_isLamp_3 : decode cX9_isLamp 3 = .ok (.invokestatic 157, 3) := dk_184 0 157 (dk_at dksX9_isLamp_0 3 rfl rfl)
theorem dX9_isLamp_6 : decode cX9_isLamp 6 = .ok (.ifCond .ne 23, 3) := dk_154 0 23 (dk_at dksX9_isLamp_0 6 rfl rfl)
theorem dX9_isLamp_9 : decode cX9_isLamp 9 = .ok (.aload_n 0, 1) := dk_42 (dk_at dksX9_isLamp_0 9 rfl rfl)
theorem dX9_isLamp_10 : decode cX9_isLamp 10 = .ok (.iload_n 1, 1) := dk_27 (dk_at dksX9_isLamp_0 10 rfl rfl)
theorem dX9_isLamp_11 : decode cX9_isLamp 11 = .ok (.iconst 1, 1) := dk_4 (dk_at dksX9_isLamp_0 11 rfl rfl)
theorem dX9_isLamp_12 : decode cX9_isLamp 12 = .ok (.invokestatic 157, 3) := dk_184 0 157 (dk_at dksX9_isLamp_0 12 rfl rfl)
theorem dX9_isLamp_15 : decode cX9_isLamp 15 = .ok (.aload_n 0, 1) := dk_42 (dk_at dksX9_isLamp_0 15 rfl rfl)
theorem dX9_isLamp_16 : decode cX9_isLamp 16 = .ok (.iconst 0, 1) := dk_3 (dk_at dksX9_isLamp_0 16 rfl rfl)
theorem dX9_isLamp_17 : decode cX9_isLamp 17 = .ok (.iaload, 1) := dk_46 (dk_at dksX9_isLamp_0 17 rfl rfl)
theorem dX9_isLamp_18 : decode cX9_isLamp 18 = .ok (.if_icmp .lt 7, 3) := dk_161 0 7 (dk_at dksX9_isLamp_0 18 rfl rfl)
theorem dX9_isLamp_21 : decode cX9_isLamp 21 = .ok (.iconst 1, 1) := dk_4 (dk_at dksX9_isLamp_0 21 rfl rfl)
theorem dX9_isLamp_22 : decode cX9_isLamp 22 = .ok (.goto 22, 3) := dk_167 0 22 (dk_at dksX9_isLamp_1 0 rfl rfl)
theorem dX9_isLamp_25 : decode cX9_isLamp 25 = .ok (.iconst 0, 1) := dk_3 (dk_at dksX9_isLamp_1 3 rfl rfl)
theorem dX9_isLamp_26 : decode cX9_isLamp 26 = .ok (.goto 18, 3) := dk_167 0 18 (dk_at dksX9_isLamp_1 4 rfl rfl)
theorem dX9_isLamp_29 : decode cX9_isLamp 29 = .ok (.aload_n 0, 1) := dk_42 (dk_at dksX9_isLamp_1 7 rfl rfl)
theorem dX9_isLamp_30 : decode cX9_isLamp 30 = .ok (.iload_n 1, 1) := dk_27 (dk_at dksX9_isLamp_1 8 rfl rfl)
theorem dX9_isLamp_31 : decode cX9_isLamp 31 = .ok (.iconst 4, 1) := dk_7 (dk_at dksX9_isLamp_1 9 rfl rfl)
theorem dX9_isLamp_32 : decode cX9_isLamp 32 = .ok (.invokestatic 157, 3) := dk_184 0 157 (dk_at dksX9_isLamp_1 10 rfl rfl)
theorem dX9_isLamp_35 : decode cX9_isLamp 35 = .ok (.iconst 2, 1) := dk_5 (dk_at dksX9_isLamp_1 13 rfl rfl)
theorem dX9_isLamp_36 : decode cX9_isLamp 36 = .ok (.if_icmp .ne 7, 3) := dk_160 0 7 (dk_at dksX9_isLamp_1 14 rfl rfl)
theorem dX9_isLamp_39 : decode cX9_isLamp 39 = .ok (.iconst 1, 1) := dk_4 (dk_at dksX9_isLamp_1 17 rfl rfl)
theorem dX9_isLamp_40 : decode cX9_isLamp 40 = .ok (.goto 4, 3) := dk_167 0 4 (dk_at dksX9_isLamp_1 18 rfl rfl)
theorem dX9_isLamp_43 : decode cX9_isLamp 43 = .ok (.iconst 0, 1) := dk_3 (dk_at dksX9_isLamp_1 21 rfl rfl)
theorem dX9_isLamp_44 : decode cX9_isLamp 44 = .ok (.ireturn, 1) := dk_172 (dk_at dksX9_isLamp_1 22 rfl rfl)
abbrev cX9_strict : ByteArray := prog_16_method_46_code
def yX9_strict : MethodName := ⟨RX9, "strict", "(I)I"⟩
def dkwX9_strict_2 : List UInt8 := [28, 172]
abbrev dktX9_strict_2 : List UInt8 := dkwX9_strict_2 ++ []
def dkwX9_strict_1 : List UInt8 := [154, 0, 6, 18, 68, 172, 42, 182, 0, 195, 42, 180, 0, 19, 4, 46, 61, 42, 180, 0, 19, 4, 27, 79]
abbrev dktX9_strict_1 : List UInt8 := dkwX9_strict_1 ++ dktX9_strict_2
def dkwX9_strict_0 : List UInt8 := [42, 3, 181, 0, 48, 42, 182, 0, 201, 154, 0, 6, 18, 204, 172, 27, 133, 9, 20, 0, 205, 184, 0, 58]
abbrev dktX9_strict_0 : List UInt8 := dkwX9_strict_0 ++ dktX9_strict_1
theorem dksX9_strict_0 : cX9_strict.data.toList.drop 0 = dktX9_strict_0 := by decide +kernel
theorem dksX9_strict_1 : cX9_strict.data.toList.drop 24 = dktX9_strict_1 := dk_seg dksX9_strict_0 24 rfl rfl
theorem dksX9_strict_2 : cX9_strict.data.toList.drop 48 = dktX9_strict_2 := dk_seg dksX9_strict_1 24 rfl rfl
theorem dX9_strict_0 : decode cX9_strict 0 = .ok (.aload_n 0, 1) := dk_42 (dk_at dksX9_strict_0 0 rfl rfl)
theorem dX9_strict_1 : decode cX9_strict 1 = .ok (.iconst 0, 1) := dk_3 (dk_at dksX9_strict_0 1 rfl rfl)
theorem dX9_strict_2 : decode cX9_strict 2 = .ok (.putfield 48, 3) := dk_181 0 48 (dk_at dksX9_strict_0 2 rfl rfl)
theorem dX9_strict_5 : decode cX9_strict 5 = .ok (.aload_n 0, 1) := dk_42 (dk_at dksX9_strict_0 5 rfl rfl)
theorem dX9_strict_6 : decode cX9_strict 6 = .ok (.invokevirtual 201, 3) := dk_182 0 201 (dk_at dksX9_strict_0 6 rfl rfl)
theorem dX9_strict_9 : decode cX9_strict 9 = .ok (.ifCond .ne 6, 3) := dk_154 0 6 (dk_at dksX9_strict_0 9 rfl rfl)
theorem dX9_strict_12 : decode cX9_strict 12 = .ok (.ldc 204, 2) := dk_18 204 (dk_at dksX9_strict_0 12 rfl rfl)
theorem dX9_strict_14 : decode cX9_strict 14 = .ok (.ireturn, 1) := dk_172 (dk_at dksX9_strict_0 14 rfl rfl)
theorem dX9_strict_15 : decode cX9_strict 15 = .ok (.iload_n 1, 1) := dk_27 (dk_at dksX9_strict_0 15 rfl rfl)
theorem dX9_strict_16 : decode cX9_strict 16 = .ok (.i2l, 1) := dk_133 (dk_at dksX9_strict_0 16 rfl rfl)
theorem dX9_strict_17 : decode cX9_strict 17 = .ok (.lconst 0, 1) := dk_9 (dk_at dksX9_strict_0 17 rfl rfl)
theorem dX9_strict_18 : decode cX9_strict 18 = .ok (.ldc2_w 205, 3) := dk_20 0 205 (dk_at dksX9_strict_0 18 rfl rfl)
theorem dX9_strict_21 : decode cX9_strict 21 = .ok (.invokestatic 58, 3) := dk_184 0 58 (dk_at dksX9_strict_0 21 rfl rfl)
theorem dX9_strict_24 : decode cX9_strict 24 = .ok (.ifCond .ne 6, 3) := dk_154 0 6 (dk_at dksX9_strict_1 0 rfl rfl)
theorem dX9_strict_27 : decode cX9_strict 27 = .ok (.ldc 68, 2) := dk_18 68 (dk_at dksX9_strict_1 3 rfl rfl)
theorem dX9_strict_29 : decode cX9_strict 29 = .ok (.ireturn, 1) := dk_172 (dk_at dksX9_strict_1 5 rfl rfl)
theorem dX9_strict_30 : decode cX9_strict 30 = .ok (.aload_n 0, 1) := dk_42 (dk_at dksX9_strict_1 6 rfl rfl)
theorem dX9_strict_31 : decode cX9_strict 31 = .ok (.invokevirtual 195, 3) := dk_182 0 195 (dk_at dksX9_strict_1 7 rfl rfl)
theorem dX9_strict_34 : decode cX9_strict 34 = .ok (.aload_n 0, 1) := dk_42 (dk_at dksX9_strict_1 10 rfl rfl)
theorem dX9_strict_35 : decode cX9_strict 35 = .ok (.getfield 19, 3) := dk_180 0 19 (dk_at dksX9_strict_1 11 rfl rfl)
theorem dX9_strict_38 : decode cX9_strict 38 = .ok (.iconst 1, 1) := dk_4 (dk_at dksX9_strict_1 14 rfl rfl)
theorem dX9_strict_39 : decode cX9_strict 39 = .ok (.iaload, 1) := dk_46 (dk_at dksX9_strict_1 15 rfl rfl)
theorem dX9_strict_40 : decode cX9_strict 40 = .ok (.istore_n 2, 1) := dk_61 (dk_at dksX9_strict_1 16 rfl rfl)
theorem dX9_strict_41 : decode cX9_strict 41 = .ok (.aload_n 0, 1) := dk_42 (dk_at dksX9_strict_1 17 rfl rfl)
theorem dX9_strict_42 : decode cX9_strict 42 = .ok (.getfield 19, 3) := dk_180 0 19 (dk_at dksX9_strict_1 18 rfl rfl)
theorem dX9_strict_45 : decode cX9_strict 45 = .ok (.iconst 1, 1) := dk_4 (dk_at dksX9_strict_1 21 rfl rfl)
theorem dX9_strict_46 : decode cX9_strict 46 = .ok (.iload_n 1, 1) := dk_27 (dk_at dksX9_strict_1 22 rfl rfl)
theorem dX9_strict_47 : decode cX9_strict 47 = .ok (.iastore, 1) := dk_79 (dk_at dksX9_strict_1 23 rfl rfl)
theorem dX9_strict_48 : decode cX9_strict 48 = .ok (.iload_n 2, 1) := dk_28 (dk_at dksX9_strict_2 0 rfl rfl)
theorem dX9_strict_49 : decode cX9_strict 49 = .ok (.ireturn, 1) := dk_172 (dk_at dksX9_strict_2 1 rfl rfl)
abbrev cX9_isThere : ByteArray := prog_16_method_25_code
def yX9_isThere : MethodName := ⟨RX9, "isThere", "()Z"⟩
def dkwX9_isThere_0 : List UInt8 := [42, 180, 0, 19, 3, 46, 158, 0, 7, 4, 167, 0, 4, 3, 172]
abbrev dktX9_isThere_0 : List UInt8 := dkwX9_isThere_0 ++ []
theorem dksX9_isThere_0 : cX9_isThere.data.toList.drop 0 = dktX9_isThere_0 := by decide +kernel
theorem dX9_isThere_0 : decode cX9_isThere 0 = .ok (.aload_n 0, 1) := dk_42 (dk_at dksX9_isThere_0 0 rfl rfl)
theorem dX9_isThere_1 : decode cX9_isThere 1 = .ok (.getfield 19, 3) := dk_180 0 19 (dk_at dksX9_isThere_0 1 rfl rfl)
theorem dX9_isThere_4 : decode cX9_isThere 4 = .ok (.iconst 0, 1) := dk_3 (dk_at dksX9_isThere_0 4 rfl rfl)
theorem dX9_isThere_5 : decode cX9_isThere 5 = .ok (.iaload, 1) := dk_46 (dk_at dksX9_isThere_0 5 rfl rfl)
theorem dX9_isThere_6 : decode cX9_isThere 6 = .ok (.ifCond .le 7, 3) := dk_158 0 7 (dk_at dksX9_isThere_0 6 rfl rfl)
theorem dX9_isThere_9 : decode cX9_isThere 9 = .ok (.iconst 1, 1) := dk_4 (dk_at dksX9_isThere_0 9 rfl rfl)
theorem dX9_isThere_10 : decode cX9_isThere 10 = .ok (.goto 4, 3) := dk_167 0 4 (dk_at dksX9_isThere_0 10 rfl rfl)
theorem dX9_isThere_13 : decode cX9_isThere 13 = .ok (.iconst 0, 1) := dk_3 (dk_at dksX9_isThere_0 13 rfl rfl)
theorem dX9_isThere_14 : decode cX9_isThere 14 = .ok (.ireturn, 1) := dk_172 (dk_at dksX9_isThere_0 14 rfl rfl)
abbrev cX9_share : ByteArray := prog_16_method_47_code
def yX9_share : MethodName := ⟨RX9, "share", "(II)I"⟩
def dkwX9_share_2 : List UInt8 := [7, 8, 27, 104, 96, 4, 96, 28, 79, 29, 172]
abbrev dktX9_share_2 : List UInt8 := dkwX9_share_2 ++ []
def dkwX9_share_1 : List UInt8 := [154, 0, 6, 18, 68, 172, 42, 182, 0, 195, 42, 180, 0, 19, 27, 4, 184, 0, 157, 62, 42, 180, 0, 19]
abbrev dktX9_share_1 : List UInt8 := dkwX9_share_1 ++ dktX9_share_2
def dkwX9_share_0 : List UInt8 := [42, 3, 181, 0, 48, 42, 27, 182, 0, 207, 153, 0, 15, 28, 133, 9, 20, 0, 210, 184, 0, 58]
abbrev dktX9_share_0 : List UInt8 := dkwX9_share_0 ++ dktX9_share_1
theorem dksX9_share_0 : cX9_share.data.toList.drop 0 = dktX9_share_0 := by decide +kernel
theorem dksX9_share_1 : cX9_share.data.toList.drop 22 = dktX9_share_1 := dk_seg dksX9_share_0 22 rfl rfl
theorem dksX9_share_2 : cX9_share.data.toList.drop 46 = dktX9_share_2 := dk_seg dksX9_share_1 24 rfl rfl
theorem dX9_share_0 : decode cX9_share 0 = .ok (.aload_n 0, 1) := dk_42 (dk_at dksX9_share_0 0 rfl rfl)
theorem dX9_share_1 : decode cX9_share 1 = .ok (.iconst 0, 1) := dk_3 (dk_at dksX9_share_0 1 rfl rfl)
theorem dX9_share_2 : decode cX9_share 2 = .ok (.putfield 48, 3) := dk_181 0 48 (dk_at dksX9_share_0 2 rfl rfl)
theorem dX9_share_5 : decode cX9_share 5 = .ok (.aload_n 0, 1) := dk_42 (dk_at dksX9_share_0 5 rfl rfl)
theorem dX9_share_6 : decode cX9_share 6 = .ok (.iload_n 1, 1) := dk_27 (dk_at dksX9_share_0 6 rfl rfl)
theorem dX9_share_7 : decode cX9_share 7 = .ok (.invokevirtual 207, 3) := dk_182 0 207 (dk_at dksX9_share_0 7 rfl rfl)
theorem dX9_share_10 : decode cX9_share 10 = .ok (.ifCond .eq 15, 3) := dk_153 0 15 (dk_at dksX9_share_0 10 rfl rfl)
theorem dX9_share_13 : decode cX9_share 13 = .ok (.iload_n 2, 1) := dk_28 (dk_at dksX9_share_0 13 rfl rfl)
theorem dX9_share_14 : decode cX9_share 14 = .ok (.i2l, 1) := dk_133 (dk_at dksX9_share_0 14 rfl rfl)
theorem dX9_share_15 : decode cX9_share 15 = .ok (.lconst 0, 1) := dk_9 (dk_at dksX9_share_0 15 rfl rfl)
theorem dX9_share_16 : decode cX9_share 16 = .ok (.ldc2_w 210, 3) := dk_20 0 210 (dk_at dksX9_share_0 16 rfl rfl)
theorem dX9_share_19 : decode cX9_share 19 = .ok (.invokestatic 58, 3) := dk_184 0 58 (dk_at dksX9_share_0 19 rfl rfl)
theorem dX9_share_22 : decode cX9_share 22 = .ok (.ifCond .ne 6, 3) := dk_154 0 6 (dk_at dksX9_share_1 0 rfl rfl)
theorem dX9_share_25 : decode cX9_share 25 = .ok (.ldc 68, 2) := dk_18 68 (dk_at dksX9_share_1 3 rfl rfl)
theorem dX9_share_27 : decode cX9_share 27 = .ok (.ireturn, 1) := dk_172 (dk_at dksX9_share_1 5 rfl rfl)
theorem dX9_share_28 : decode cX9_share 28 = .ok (.aload_n 0, 1) := dk_42 (dk_at dksX9_share_1 6 rfl rfl)
theorem dX9_share_29 : decode cX9_share 29 = .ok (.invokevirtual 195, 3) := dk_182 0 195 (dk_at dksX9_share_1 7 rfl rfl)
theorem dX9_share_32 : decode cX9_share 32 = .ok (.aload_n 0, 1) := dk_42 (dk_at dksX9_share_1 10 rfl rfl)
theorem dX9_share_33 : decode cX9_share 33 = .ok (.getfield 19, 3) := dk_180 0 19 (dk_at dksX9_share_1 11 rfl rfl)
theorem dX9_share_36 : decode cX9_share 36 = .ok (.iload_n 1, 1) := dk_27 (dk_at dksX9_share_1 14 rfl rfl)
theorem dX9_share_37 : decode cX9_share 37 = .ok (.iconst 1, 1) := dk_4 (dk_at dksX9_share_1 15 rfl rfl)
theorem dX9_share_38 : decode cX9_share 38 = .ok (.invokestatic 157, 3) := dk_184 0 157 (dk_at dksX9_share_1 16 rfl rfl)
theorem dX9_share_41 : decode cX9_share 41 = .ok (.istore_n 3, 1) := dk_62 (dk_at dksX9_share_1 19 rfl rfl)
theorem dX9_share_42 : decode cX9_share 42 = .ok (.aload_n 0, 1) := dk_42 (dk_at dksX9_share_1 20 rfl rfl)
theorem dX9_share_43 : decode cX9_share 43 = .ok (.getfield 19, 3) := dk_180 0 19 (dk_at dksX9_share_1 21 rfl rfl)
theorem dX9_share_46 : decode cX9_share 46 = .ok (.iconst 4, 1) := dk_7 (dk_at dksX9_share_2 0 rfl rfl)
theorem dX9_share_47 : decode cX9_share 47 = .ok (.iconst 5, 1) := dk_8 (dk_at dksX9_share_2 1 rfl rfl)
theorem dX9_share_48 : decode cX9_share 48 = .ok (.iload_n 1, 1) := dk_27 (dk_at dksX9_share_2 2 rfl rfl)
theorem dX9_share_49 : decode cX9_share 49 = .ok (.imul, 1) := dk_104 (dk_at dksX9_share_2 3 rfl rfl)
theorem dX9_share_50 : decode cX9_share 50 = .ok (.iadd, 1) := dk_96 (dk_at dksX9_share_2 4 rfl rfl)
theorem dX9_share_51 : decode cX9_share 51 = .ok (.iconst 1, 1) := dk_4 (dk_at dksX9_share_2 5 rfl rfl)
theorem dX9_share_52 : decode cX9_share 52 = .ok (.iadd, 1) := dk_96 (dk_at dksX9_share_2 6 rfl rfl)
theorem dX9_share_53 : decode cX9_share 53 = .ok (.iload_n 2, 1) := dk_28 (dk_at dksX9_share_2 7 rfl rfl)
theorem dX9_share_54 : decode cX9_share 54 = .ok (.iastore, 1) := dk_79 (dk_at dksX9_share_2 8 rfl rfl)
theorem dX9_share_55 : decode cX9_share 55 = .ok (.iload_n 3, 1) := dk_29 (dk_at dksX9_share_2 9 rfl rfl)
theorem dX9_share_56 : decode cX9_share 56 = .ok (.ireturn, 1) := dk_172 (dk_at dksX9_share_2 10 rfl rfl)
abbrev cX9_isSquare : ByteArray := prog_16_method_26_code
def yX9_isSquare : MethodName := ⟨RX9, "isSquare", "(I)Z"⟩
def dkwX9_isSquare_0 : List UInt8 := [27, 133, 9, 42, 180, 0, 19, 5, 46, 4, 100, 133, 184, 0, 58, 172]
abbrev dktX9_isSquare_0 : List UInt8 := dkwX9_isSquare_0 ++ []
theorem dksX9_isSquare_0 : cX9_isSquare.data.toList.drop 0 = dktX9_isSquare_0 := by decide +kernel
theorem dX9_isSquare_0 : decode cX9_isSquare 0 = .ok (.iload_n 1, 1) := dk_27 (dk_at dksX9_isSquare_0 0 rfl rfl)
theorem dX9_isSquare_1 : decode cX9_isSquare 1 = .ok (.i2l, 1) := dk_133 (dk_at dksX9_isSquare_0 1 rfl rfl)
theorem dX9_isSquare_2 : decode cX9_isSquare 2 = .ok (.lconst 0, 1) := dk_9 (dk_at dksX9_isSquare_0 2 rfl rfl)
theorem dX9_isSquare_3 : decode cX9_isSquare 3 = .ok (.aload_n 0, 1) := dk_42 (dk_at dksX9_isSquare_0 3 rfl rfl)
theorem dX9_isSquare_4 : decode cX9_isSquare 4 = .ok (.getfield 19, 3) := dk_180 0 19 (dk_at dksX9_isSquare_0 4 rfl rfl)
theorem dX9_isSquare_7 : decode cX9_isSquare 7 = .ok (.iconst 2, 1) := dk_5 (dk_at dksX9_isSquare_0 7 rfl rfl)
theorem dX9_isSquare_8 : decode cX9_isSquare 8 = .ok (.iaload, 1) := dk_46 (dk_at dksX9_isSquare_0 8 rfl rfl)
theorem dX9_isSquare_9 : decode cX9_isSquare 9 = .ok (.iconst 1, 1) := dk_4 (dk_at dksX9_isSquare_0 9 rfl rfl)
theorem dX9_isSquare_10 : decode cX9_isSquare 10 = .ok (.isub, 1) := dk_100 (dk_at dksX9_isSquare_0 10 rfl rfl)
theorem dX9_isSquare_11 : decode cX9_isSquare 11 = .ok (.i2l, 1) := dk_133 (dk_at dksX9_isSquare_0 11 rfl rfl)
theorem dX9_isSquare_12 : decode cX9_isSquare 12 = .ok (.invokestatic 58, 3) := dk_184 0 58 (dk_at dksX9_isSquare_0 12 rfl rfl)
theorem dX9_isSquare_15 : decode cX9_isSquare 15 = .ok (.ireturn, 1) := dk_172 (dk_at dksX9_isSquare_0 15 rfl rfl)
abbrev cX9_settle : ByteArray := prog_16_method_48_code
def yX9_settle : MethodName := ⟨RX9, "settle", "(I)I"⟩
def dkwX9_settle_3 : List UInt8 := [28, 153, 0, 7, 5, 167, 0, 4, 4, 79, 28, 153, 0, 7, 4, 167, 0, 4, 3, 172]
abbrev dktX9_settle_3 : List UInt8 := dkwX9_settle_3 ++ []
def dkwX9_settle_2 : List UInt8 := [6, 184, 0, 157, 164, 0, 7, 4, 167, 0, 4, 3, 61, 42, 180, 0, 19, 7, 8, 27, 104, 96, 7, 96]
abbrev dktX9_settle_2 : List UInt8 := dkwX9_settle_2 ++ dktX9_settle_3
def dkwX9_settle_1 : List UInt8 := [153, 0, 6, 18, 204, 172, 42, 182, 0, 195, 42, 180, 0, 19, 27, 5, 184, 0, 157, 42, 180, 0, 19, 27]
abbrev dktX9_settle_1 : List UInt8 := dkwX9_settle_1 ++ dktX9_settle_2
def dkwX9_settle_0 : List UInt8 := [42, 3, 181, 0, 48, 42, 27, 182, 0, 207, 154, 0, 6, 18, 68, 172, 42, 180, 0, 19, 27, 184, 0, 168]
abbrev dktX9_settle_0 : List UInt8 := dkwX9_settle_0 ++ dktX9_settle_1
theorem dksX9_settle_0 : cX9_settle.data.toList.drop 0 = dktX9_settle_0 := by decide +kernel
theorem dksX9_settle_1 : cX9_settle.data.toList.drop 24 = dktX9_settle_1 := dk_seg dksX9_settle_0 24 rfl rfl
theorem dksX9_settle_2 : cX9_settle.data.toList.drop 48 = dktX9_settle_2 := dk_seg dksX9_settle_1 24 rfl rfl
theorem dksX9_settle_3 : cX9_settle.data.toList.drop 72 = dktX9_settle_3 := dk_seg dksX9_settle_2 24 rfl rfl
theorem dX9_settle_0 : decode cX9_settle 0 = .ok (.aload_n 0, 1) := dk_42 (dk_at dksX9_settle_0 0 rfl rfl)
theorem dX9_settle_1 : decode cX9_settle 1 = .ok (.iconst 0, 1) := dk_3 (dk_at dksX9_settle_0 1 rfl rfl)
theorem dX9_settle_2 : decode cX9_settle 2 = .ok (.putfield 48, 3) := dk_181 0 48 (dk_at dksX9_settle_0 2 rfl rfl)
theorem dX9_settle_5 : decode cX9_settle 5 = .ok (.aload_n 0, 1) := dk_42 (dk_at dksX9_settle_0 5 rfl rfl)
theorem dX9_settle_6 : decode cX9_settle 6 = .ok (.iload_n 1, 1) := dk_27 (dk_at dksX9_settle_0 6 rfl rfl)
theorem dX9_settle_7 : decode cX9_settle 7 = .ok (.invokevirtual 207, 3) := dk_182 0 207 (dk_at dksX9_settle_0 7 rfl rfl)
theorem dX9_settle_10 : decode cX9_settle 10 = .ok (.ifCond .ne 6, 3) := dk_154 0 6 (dk_at dksX9_settle_0 10 rfl rfl)
theorem dX9_settle_13 : decode cX9_settle 13 = .ok (.ldc 68, 2) := dk_18 68 (dk_at dksX9_settle_0 13 rfl rfl)
theorem dX9_settle_15 : decode cX9_settle 15 = .ok (.ireturn, 1) := dk_172 (dk_at dksX9_settle_0 15 rfl rfl)
theorem dX9_settle_16 : decode cX9_settle 16 = .ok (.aload_n 0, 1) := dk_42 (dk_at dksX9_settle_0 16 rfl rfl)
theorem dX9_settle_17 : decode cX9_settle 17 = .ok (.getfield 19, 3) := dk_180 0 19 (dk_at dksX9_settle_0 17 rfl rfl)
theorem dX9_settle_20 : decode cX9_settle 20 = .ok (.iload_n 1, 1) := dk_27 (dk_at dksX9_settle_0 20 rfl rfl)
theorem dX9_settle_21 : decode cX9_settle 21 = .ok (.invokestatic 168, 3) := dk_184 0 168 (dk_at dksX9_settle_0 21 rfl rfl)
theorem dX9_settle_24 : decode cX9_settle 24 = .ok (.ifCond .eq 6, 3) := dk_153 0 6 (dk_at dksX9_settle_1 0 rfl rfl)
theorem dX9_settle_27 : decode cX9_settle 27 = .ok (.ldc 204, 2) := dk_18 204 (dk_at dksX9_settle_1 3 rfl rfl)
theorem dX9_settle_29 : decode cX9_settle 29 = .ok (.ireturn, 1) := dk_172 (dk_at dksX9_settle_1 5 rfl rfl)
theorem dX9_settle_30 : decode cX9_settle 30 = .ok (.aload_n 0, 1) := dk_42 (dk_at dksX9_settle_1 6 rfl rfl)
theorem dX9_settle_31 : decode cX9_settle 31 = .ok (.invokevirtual 195, 3) := dk_182 0 195 (dk_at dksX9_settle_1 7 rfl rfl)
theorem dX9_settle_34 : decode cX9_settle 34 = .ok (.aload_n 0, 1) := dk_42 (dk_at dksX9_settle_1 10 rfl rfl)
theorem dX9_settle_35 : decode cX9_settle 35 = .ok (.getfield 19, 3) := dk_180 0 19 (dk_at dksX9_settle_1 11 rfl rfl)
theorem dX9_settle_38 : decode cX9_settle 38 = .ok (.iload_n 1, 1) := dk_27 (dk_at dksX9_settle_1 14 rfl rfl)
theorem dX9_settle_39 : decode cX9_settle 39 = .ok (.iconst 2, 1) := dk_5 (dk_at dksX9_settle_1 15 rfl rfl)
theorem dX9_settle_40 : decode cX9_settle 40 = .ok (.invokestatic 157, 3) := dk_184 0 157 (dk_at dksX9_settle_1 16 rfl rfl)
theorem dX9_settle_43 : decode cX9_settle 43 = .ok (.aload_n 0, 1) := dk_42 (dk_at dksX9_settle_1 19 rfl rfl)
theorem dX9_settle_44 : decode cX9_settle 44 = .ok (.getfield 19, 3) := dk_180 0 19 (dk_at dksX9_settle_1 20 rfl rfl)
theorem dX9_settle_47 : decode cX9_settle 47 = .ok (.iload_n 1, 1) := dk_27 (dk_at dksX9_settle_1 23 rfl rfl)
theorem dX9_settle_48 : decode cX9_settle 48 = .ok (.iconst 3, 1) := dk_6 (dk_at dksX9_settle_2 0 rfl rfl)
theorem dX9_settle_49 : decode cX9_settle 49 = .ok (.invokestatic 157, 3) := dk_184 0 157 (dk_at dksX9_settle_2 1 rfl rfl)
theorem dX9_settle_52 : decode cX9_settle 52 = .ok (.if_icmp .le 7, 3) := dk_164 0 7 (dk_at dksX9_settle_2 4 rfl rfl)
theorem dX9_settle_55 : decode cX9_settle 55 = .ok (.iconst 1, 1) := dk_4 (dk_at dksX9_settle_2 7 rfl rfl)
theorem dX9_settle_56 : decode cX9_settle 56 = .ok (.goto 4, 3) := dk_167 0 4 (dk_at dksX9_settle_2 8 rfl rfl)
theorem dX9_settle_59 : decode cX9_settle 59 = .ok (.iconst 0, 1) := dk_3 (dk_at dksX9_settle_2 11 rfl rfl)
theorem dX9_settle_60 : decode cX9_settle 60 = .ok (.istore_n 2, 1) := dk_61 (dk_at dksX9_settle_2 12 rfl rfl)
theorem dX9_settle_61 : decode cX9_settle 61 = .ok (.aload_n 0, 1) := dk_42 (dk_at dksX9_settle_2 13 rfl rfl)
theorem dX9_settle_62 : decode cX9_settle 62 = .ok (.getfield 19, 3) := dk_180 0 19 (dk_at dksX9_settle_2 14 rfl rfl)
theorem dX9_settle_65 : decode cX9_settle 65 = .ok (.iconst 4, 1) := dk_7 (dk_at dksX9_settle_2 17 rfl rfl)
theorem dX9_settle_66 : decode cX9_settle 66 = .ok (.iconst 5, 1) := dk_8 (dk_at dksX9_settle_2 18 rfl rfl)
theorem dX9_settle_67 : decode cX9_settle 67 = .ok (.iload_n 1, 1) := dk_27 (dk_at dksX9_settle_2 19 rfl rfl)
theorem dX9_settle_68 : decode cX9_settle 68 = .ok (.imul, 1) := dk_104 (dk_at dksX9_settle_2 20 rfl rfl)
theorem dX9_settle_69 : decode cX9_settle 69 = .ok (.iadd, 1) := dk_96 (dk_at dksX9_settle_2 21 rfl rfl)
theorem dX9_settle_70 : decode cX9_settle 70 = .ok (.iconst 4, 1) := dk_7 (dk_at dksX9_settle_2 22 rfl rfl)
theorem dX9_settle_71 : decode cX9_settle 71 = .ok (.iadd, 1) := dk_96 (dk_at dksX9_settle_2 23 rfl rfl)
theorem dX9_settle_72 : decode cX9_settle 72 = .ok (.iload_n 2, 1) := dk_28 (dk_at dksX9_settle_3 0 rfl rfl)
theorem dX9_settle_73 : decode cX9_settle 73 = .ok (.ifCond .eq 7, 3) := dk_153 0 7 (dk_at dksX9_settle_3 1 rfl rfl)
theorem dX9_settle_76 : decode cX9_settle 76 = .ok (.iconst 2, 1) := dk_5 (dk_at dksX9_settle_3 4 rfl rfl)
theorem dX9_settle_77 : decode cX9_settle 77 = .ok (.goto 4, 3) := dk_167 0 4 (dk_at dksX9_settle_3 5 rfl rfl)
theorem dX9_settle_80 : decode cX9_settle 80 = .ok (.iconst 1, 1) := dk_4 (dk_at dksX9_settle_3 8 rfl rfl)
theorem dX9_settle_81 : decode cX9_settle 81 = .ok (.iastore, 1) := dk_79 (dk_at dksX9_settle_3 9 rfl rfl)
theorem dX9_settle_82 : decode cX9_settle 82 = .ok (.iload_n 2, 1) := dk_28 (dk_at dksX9_settle_3 10 rfl rfl)
theorem dX9_settle_83 : decode cX9_settle 83 = .ok (.ifCond .eq 7, 3) := dk_153 0 7 (dk_at dksX9_settle_3 11 rfl rfl)
theorem dX9_settle_86 : decode cX9_settle 86 = .ok (.iconst 1, 1) := dk_4 (dk_at dksX9_settle_3 14 rfl rfl)
theorem dX9_settle_87 : decode cX9_settle 87 = .ok (.goto 4, 3) := dk_167 0 4 (dk_at dksX9_settle_3 15 rfl rfl)
theorem dX9_settle_90 : decode cX9_settle 90 = .ok (.iconst 0, 1) := dk_3 (dk_at dksX9_settle_3 18 rfl rfl)
theorem dX9_settle_91 : decode cX9_settle 91 = .ok (.ireturn, 1) := dk_172 (dk_at dksX9_settle_3 19 rfl rfl)
abbrev cX9_undo : ByteArray := prog_16_method_49_code
def yX9_undo : MethodName := ⟨RX9, "undo", "()I"⟩
def dkwX9_undo_2 : List UInt8 := [180, 0, 150, 104, 27, 96, 46, 79, 132, 1, 1, 167, 255, 227, 42, 180, 0, 150, 172]
abbrev dktX9_undo_2 : List UInt8 := dkwX9_undo_2 ++ []
def dkwX9_undo_1 : List UInt8 := [181, 0, 150, 3, 60, 27, 16, 64, 162, 0, 29, 42, 180, 0, 19, 27, 42, 180, 0, 28, 16, 64, 42]
abbrev dktX9_undo_1 : List UInt8 := dkwX9_undo_1 ++ dktX9_undo_2
def dkwX9_undo_0 : List UInt8 := [42, 3, 181, 0, 48, 42, 180, 0, 150, 154, 0, 6, 18, 204, 172, 42, 89, 180, 0, 150, 4, 100]
abbrev dktX9_undo_0 : List UInt8 := dkwX9_undo_0 ++ dktX9_undo_1
theorem dksX9_undo_0 : cX9_undo.data.toList.drop 0 = dktX9_undo_0 := by decide +kernel
theorem dksX9_undo_1 : cX9_undo.data.toList.drop 22 = dktX9_undo_1 := dk_seg dksX9_undo_0 22 rfl rfl
theorem dksX9_undo_2 : cX9_undo.data.toList.drop 45 = dktX9_undo_2 := dk_seg dksX9_undo_1 23 rfl rfl
theorem dX9_undo_0 : decode cX9_undo 0 = .ok (.aload_n 0, 1) := dk_42 (dk_at dksX9_undo_0 0 rfl rfl)
theorem dX9_undo_1 : decode cX9_undo 1 = .ok (.iconst 0, 1) := dk_3 (dk_at dksX9_undo_0 1 rfl rfl)
theorem dX9_undo_2 : decode cX9_undo 2 = .ok (.putfield 48, 3) := dk_181 0 48 (dk_at dksX9_undo_0 2 rfl rfl)
theorem dX9_undo_5 : decode cX9_undo 5 = .ok (.aload_n 0, 1) := dk_42 (dk_at dksX9_undo_0 5 rfl rfl)
theorem dX9_undo_6 : decode cX9_undo 6 = .ok (.getfield 150, 3) := dk_180 0 150 (dk_at dksX9_undo_0 6 rfl rfl)
theorem dX9_undo_9 : decode cX9_undo 9 = .ok (.ifCond .ne 6, 3) := dk_154 0 6 (dk_at dksX9_undo_0 9 rfl rfl)
theorem dX9_undo_12 : decode cX9_undo 12 = .ok (.ldc 204, 2) := dk_18 204 (dk_at dksX9_undo_0 12 rfl rfl)
theorem dX9_undo_14 : decode cX9_undo 14 = .ok (.ireturn, 1) := dk_172 (dk_at dksX9_undo_0 14 rfl rfl)
theorem dX9_undo_15 : decode cX9_undo 15 = .ok (.aload_n 0, 1) := dk_42 (dk_at dksX9_undo_0 15 rfl rfl)
theorem dX9_undo_16 : decode cX9_undo 16 = .ok (.dup, 1) := dk_89 (dk_at dksX9_undo_0 16 rfl rfl)
theorem dX9_undo_17 : decode cX9_undo 17 = .ok (.getfield 150, 3) := dk_180 0 150 (dk_at dksX9_undo_0 17 rfl rfl)
theorem dX9_undo_20 : decode cX9_undo 20 = .ok (.iconst 1, 1) := dk_4 (dk_at dksX9_undo_0 20 rfl rfl)
theorem dX9_undo_21 : decode cX9_undo 21 = .ok (.isub, 1) := dk_100 (dk_at dksX9_undo_0 21 rfl rfl)
theorem dX9_undo_22 : decode cX9_undo 22 = .ok (.putfield 150, 3) := dk_181 0 150 (dk_at dksX9_undo_1 0 rfl rfl)
theorem dX9_undo_25 : decode cX9_undo 25 = .ok (.iconst 0, 1) := dk_3 (dk_at dksX9_undo_1 3 rfl rfl)
theorem dX9_undo_26 : decode cX9_undo 26 = .ok (.istore_n 1, 1) := dk_60 (dk_at dksX9_undo_1 4 rfl rfl)
theorem dX9_undo_27 : decode cX9_undo 27 = .ok (.iload_n 1, 1) := dk_27 (dk_at dksX9_undo_1 5 rfl rfl)
theorem dX9_undo_28 : decode cX9_undo 28 = .ok (.bipush 64, 2) := dk_16 64 (dk_at dksX9_undo_1 6 rfl rfl)
theorem dX9_undo_30 : decode cX9_undo 30 = .ok (.if_icmp .ge 29, 3) := dk_162 0 29 (dk_at dksX9_undo_1 8 rfl rfl)
theorem dX9_undo_33 : decode cX9_undo 33 = .ok (.aload_n 0, 1) := dk_42 (dk_at dksX9_undo_1 11 rfl rfl)
theorem dX9_undo_34 : decode cX9_undo 34 = .ok (.getfield 19, 3) := dk_180 0 19 (dk_at dksX9_undo_1 12 rfl rfl)
theorem dX9_undo_37 : decode cX9_undo 37 = .ok (.iload_n 1, 1) := dk_27 (dk_at dksX9_undo_1 15 rfl rfl)
theorem dX9_undo_38 : decode cX9_undo 38 = .ok (.aload_n 0, 1) := dk_42 (dk_at dksX9_undo_1 16 rfl rfl)
theorem dX9_undo_39 : decode cX9_undo 39 = .ok (.getfield 28, 3) := dk_180 0 28 (dk_at dksX9_undo_1 17 rfl rfl)
theorem dX9_undo_42 : decode cX9_undo 42 = .ok (.bipush 64, 2) := dk_16 64 (dk_at dksX9_undo_1 20 rfl rfl)
theorem dX9_undo_44 : decode cX9_undo 44 = .ok (.aload_n 0, 1) := dk_42 (dk_at dksX9_undo_1 22 rfl rfl)
theorem dX9_undo_45 : decode cX9_undo 45 = .ok (.getfield 150, 3) := dk_180 0 150 (dk_at dksX9_undo_2 0 rfl rfl)
theorem dX9_undo_48 : decode cX9_undo 48 = .ok (.imul, 1) := dk_104 (dk_at dksX9_undo_2 3 rfl rfl)
theorem dX9_undo_49 : decode cX9_undo 49 = .ok (.iload_n 1, 1) := dk_27 (dk_at dksX9_undo_2 4 rfl rfl)
theorem dX9_undo_50 : decode cX9_undo 50 = .ok (.iadd, 1) := dk_96 (dk_at dksX9_undo_2 5 rfl rfl)
theorem dX9_undo_51 : decode cX9_undo 51 = .ok (.iaload, 1) := dk_46 (dk_at dksX9_undo_2 6 rfl rfl)
theorem dX9_undo_52 : decode cX9_undo 52 = .ok (.iastore, 1) := dk_79 (dk_at dksX9_undo_2 7 rfl rfl)
theorem dX9_undo_53 : decode cX9_undo 53 = .ok (.iinc 1 1, 3) := dk_132 1 1 (dk_at dksX9_undo_2 8 rfl rfl)
theorem dX9_undo_56 : decode cX9_undo 56 = .ok (.goto (-29), 3) := dk_167 255 227 (dk_at dksX9_undo_2 11 rfl rfl)
theorem dX9_undo_59 : decode cX9_undo 59 = .ok (.aload_n 0, 1) := dk_42 (dk_at dksX9_undo_2 14 rfl rfl)
theorem dX9_undo_60 : decode cX9_undo 60 = .ok (.getfield 150, 3) := dk_180 0 150 (dk_at dksX9_undo_2 15 rfl rfl)
theorem dX9_undo_63 : decode cX9_undo 63 = .ok (.ireturn, 1) := dk_172 (dk_at dksX9_undo_2 18 rfl rfl)
abbrev cX9_square : ByteArray := prog_16_method_50_code
def yX9_square : MethodName := ⟨RX9, "square", "(II)I"⟩
def dkwX9_square_6 : List UInt8 := [184, 0, 157, 4, 100, 172, 18, 68, 172]
abbrev dktX9_square_6 : List UInt8 := dkwX9_square_6 ++ []
def dkwX9_square_5 : List UInt8 := [172, 42, 180, 0, 19, 27, 7, 184, 0, 157, 154, 0, 8, 18, 91, 167, 0, 14, 42, 180, 0, 19, 27, 7]
abbrev dktX9_square_5 : List UInt8 := dkwX9_square_5 ++ dktX9_square_6
def dkwX9_square_4 : List UInt8 := [167, 0, 4, 3, 172, 42, 180, 0, 19, 27, 5, 184, 0, 157, 172, 42, 180, 0, 19, 27, 6, 184, 0, 157]
abbrev dktX9_square_4 : List UInt8 := dkwX9_square_4 ++ dktX9_square_5
def dkwX9_square_3 : List UInt8 := [46, 161, 0, 7, 4, 167, 0, 4, 3, 172, 42, 180, 0, 19, 27, 184, 0, 168, 153, 0, 7, 4]
abbrev dktX9_square_3 : List UInt8 := dkwX9_square_3 ++ dktX9_square_4
def dkwX9_square_2 : List UInt8 := [42, 180, 0, 19, 27, 4, 184, 0, 157, 172, 42, 180, 0, 19, 27, 4, 184, 0, 157, 42, 180, 0, 19, 3]
abbrev dktX9_square_2 : List UInt8 := dkwX9_square_2 ++ dktX9_square_3
def dkwX9_square_1 : List UInt8 := [170, 0, 0, 0, 0, 0, 139, 0, 0, 0, 0, 0, 0, 0, 5, 0, 0, 0, 39, 0, 0, 0, 49, 0, 0, 0, 73, 0, 0, 0, 90, 0, 0, 0, 100, 0, 0, 0, 110]
abbrev dktX9_square_1 : List UInt8 := dkwX9_square_1 ++ dktX9_square_2
def dkwX9_square_0 : List UInt8 := [42, 3, 181, 0, 48, 42, 27, 182, 0, 207, 154, 0, 6, 18, 68, 172, 28]
abbrev dktX9_square_0 : List UInt8 := dkwX9_square_0 ++ dktX9_square_1
theorem dksX9_square_0 : cX9_square.data.toList.drop 0 = dktX9_square_0 := by decide +kernel
theorem dksX9_square_1 : cX9_square.data.toList.drop 17 = dktX9_square_1 := dk_seg dksX9_square_0 17 rfl rfl
theorem dksX9_square_2 : cX9_square.data.toList.drop 56 = dktX9_square_2 := dk_seg dksX9_square_1 39 rfl rfl
theorem dksX9_square_3 : cX9_square.data.toList.drop 80 = dktX9_square_3 := dk_seg dksX9_square_2 24 rfl rfl
theorem dksX9_square_4 : cX9_square.data.toList.drop 102 = dktX9_square_4 := dk_seg dksX9_square_3 22 rfl rfl
theorem dksX9_square_5 : cX9_square.data.toList.drop 126 = dktX9_square_5 := dk_seg dksX9_square_4 24 rfl rfl
theorem dksX9_square_6 : cX9_square.data.toList.drop 150 = dktX9_square_6 := dk_seg dksX9_square_5 24 rfl rfl
theorem dX9_square_0 : decode cX9_square 0 = .ok (.aload_n 0, 1) := dk_42 (dk_at dksX9_square_0 0 rfl rfl)
theorem dX9_square_1 : decode cX9_square 1 = .ok (.iconst 0, 1) := dk_3 (dk_at dksX9_square_0 1 rfl rfl)
theorem dX9_square_2 : decode cX9_square 2 = .ok (.putfield 48, 3) := dk_181 0 48 (dk_at dksX9_square_0 2 rfl rfl)
theorem dX9_square_5 : decode cX9_square 5 = .ok (.aload_n 0, 1) := dk_42 (dk_at dksX9_square_0 5 rfl rfl)
theorem dX9_square_6 : decode cX9_square 6 = .ok (.iload_n 1, 1) := dk_27 (dk_at dksX9_square_0 6 rfl rfl)
theorem dX9_square_7 : decode cX9_square 7 = .ok (.invokevirtual 207, 3) := dk_182 0 207 (dk_at dksX9_square_0 7 rfl rfl)
theorem dX9_square_10 : decode cX9_square 10 = .ok (.ifCond .ne 6, 3) := dk_154 0 6 (dk_at dksX9_square_0 10 rfl rfl)
theorem dX9_square_13 : decode cX9_square 13 = .ok (.ldc 68, 2) := dk_18 68 (dk_at dksX9_square_0 13 rfl rfl)
theorem dX9_square_15 : decode cX9_square 15 = .ok (.ireturn, 1) := dk_172 (dk_at dksX9_square_0 15 rfl rfl)
theorem dX9_square_16 : decode cX9_square 16 = .ok (.iload_n 2, 1) := dk_28 (dk_at dksX9_square_0 16 rfl rfl)
theorem dX9_square_17 : decode cX9_square 17 = .ok (.tableswitch 139 0 5 #[39, 49, 73, 90, 100, 110], 39) := by decide +kernel
theorem dX9_square_56 : decode cX9_square 56 = .ok (.aload_n 0, 1) := dk_42 (dk_at dksX9_square_2 0 rfl rfl)
theorem dX9_square_57 : decode cX9_square 57 = .ok (.getfield 19, 3) := dk_180 0 19 (dk_at dksX9_square_2 1 rfl rfl)
theorem dX9_square_60 : decode cX9_square 60 = .ok (.iload_n 1, 1) := dk_27 (dk_at dksX9_square_2 4 rfl rfl)
theorem dX9_square_61 : decode cX9_square 61 = .ok (.iconst 1, 1) := dk_4 (dk_at dksX9_square_2 5 rfl rfl)
theorem dX9_square_62 : decode cX9_square 62 = .ok (.invokestatic 157, 3) := dk_184 0 157 (dk_at dksX9_square_2 6 rfl rfl)
theorem dX9_square_65 : decode cX9_square 65 = .ok (.ireturn, 1) := dk_172 (dk_at dksX9_square_2 9 rfl rfl)
theorem dX9_square_66 : decode cX9_square 66 = .ok (.aload_n 0, 1) := dk_42 (dk_at dksX9_square_2 10 rfl rfl)
theorem dX9_square_67 : decode cX9_square 67 = .ok (.getfield 19, 3) := dk_180 0 19 (dk_at dksX9_square_2 11 rfl rfl)
theorem dX9_square_70 : decode cX9_square 70 = .ok (.iload_n 1, 1) := dk_27 (dk_at dksX9_square_2 14 rfl rfl)
theorem dX9_square_71 : decode cX9_square 71 = .ok (.iconst 1, 1) := dk_4 (dk_at dksX9_square_2 15 rfl rfl)
theorem dX9_square_72 : decode cX9_square 72 = .ok (.invokestatic 157, 3) := dk_184 0 157 (dk_at dksX9_square_2 16 rfl rfl)
theorem dX9_square_75 : decode cX9_square 75 = .ok (.aload_n 0, 1) := dk_42 (dk_at dksX9_square_2 19 rfl rfl)
theorem dX9_square_76 : decode cX9_square 76 = .ok (.getfield 19, 3) := dk_180 0 19 (dk_at dksX9_square_2 20 rfl rfl)
theorem dX9_square_79 : decode cX9_square 79 = .ok (.iconst 0, 1) := dk_3 (dk_at dksX9_square_2 23 rfl rfl)
theorem dX9_square_80 : decode cX9_square 80 = .ok (.iaload, 1) := dk_46 (dk_at dksX9_square_3 0 rfl rfl)
theorem dX9_square_81 : decode cX9_square 81 = .ok (.if_icmp .lt 7, 3) := dk_161 0 7 (dk_at dksX9_square_3 1 rfl rfl)
theorem dX9_square_84 : decode cX9_square 84 = .ok (.iconst 1, 1) := dk_4 (dk_at dksX9_square_3 4 rfl rfl)
theorem dX9_square_85 : decode cX9_square 85 = .ok (.goto 4, 3) := dk_167 0 4 (dk_at dksX9_square_3 5 rfl rfl)
theorem dX9_square_88 : decode cX9_square 88 = .ok (.iconst 0, 1) := dk_3 (dk_at dksX9_square_3 8 rfl rfl)
theorem dX9_square_89 : decode cX9_square 89 = .ok (.ireturn, 1) := dk_172 (dk_at dksX9_square_3 9 rfl rfl)
theorem dX9_square_90 : decode cX9_square 90 = .ok (.aload_n 0, 1) := dk_42 (dk_at dksX9_square_3 10 rfl rfl)
theorem dX9_square_91 : decode cX9_square 91 = .ok (.getfield 19, 3) := dk_180 0 19 (dk_at dksX9_square_3 11 rfl rfl)
theorem dX9_square_94 : decode cX9_square 94 = .ok (.iload_n 1, 1) := dk_27 (dk_at dksX9_square_3 14 rfl rfl)
theorem dX9_square_95 : decode cX9_square 95 = .ok (.invokestatic 168, 3) := dk_184 0 168 (dk_at dksX9_square_3 15 rfl rfl)
theorem dX9_square_98 : decode cX9_square 98 = .ok (.ifCond .eq 7, 3) := dk_153 0 7 (dk_at dksX9_square_3 18 rfl rfl)
theorem dX9_square_101 : decode cX9_square 101 = .ok (.iconst 1, 1) := dk_4 (dk_at dksX9_square_3 21 rfl rfl)
theorem dX9_square_102 : decode cX9_square 102 = .ok (.goto 4, 3) := dk_167 0 4 (dk_at dksX9_square_4 0 rfl rfl)
theorem dX9_square_105 : decode cX9_square 105 = .ok (.iconst 0, 1) := dk_3 (dk_at dksX9_square_4 3 rfl rfl)
theorem dX9_square_106 : decode cX9_square 106 = .ok (.ireturn, 1) := dk_172 (dk_at dksX9_square_4 4 rfl rfl)
theorem dX9_square_107 : decode cX9_square 107 = .ok (.aload_n 0, 1) := dk_42 (dk_at dksX9_square_4 5 rfl rfl)
theorem dX9_square_108 : decode cX9_square 108 = .ok (.getfield 19, 3) := dk_180 0 19 (dk_at dksX9_square_4 6 rfl rfl)
theorem dX9_square_111 : decode cX9_square 111 = .ok (.iload_n 1, 1) := dk_27 (dk_at dksX9_square_4 9 rfl rfl)
theorem dX9_square_112 : decode cX9_square 112 = .ok (.iconst 2, 1) := dk_5 (dk_at dksX9_square_4 10 rfl rfl)
theorem dX9_square_113 : decode cX9_square 113 = .ok (.invokestatic 157, 3) := dk_184 0 157 (dk_at dksX9_square_4 11 rfl rfl)
theorem dX9_square_116 : decode cX9_square 116 = .ok (.ireturn, 1) := dk_172 (dk_at dksX9_square_4 14 rfl rfl)
theorem dX9_square_117 : decode cX9_square 117 = .ok (.aload_n 0, 1) := dk_42 (dk_at dksX9_square_4 15 rfl rfl)
theorem dX9_square_118 : decode cX9_square 118 = .ok (.getfield 19, 3) := dk_180 0 19 (dk_at dksX9_square_4 16 rfl rfl)
theorem dX9_square_121 : decode cX9_square 121 = .ok (.iload_n 1, 1) := dk_27 (dk_at dksX9_square_4 19 rfl rfl)
theorem dX9_square_122 : decode cX9_square 122 = .ok (.iconst 3, 1) := dk_6 (dk_at dksX9_square_4 20 rfl rfl)
theorem dX9_square_123 : decode cX9_square 123 = .ok (.invokestatic 157, 3) := dk_184 0 157 (dk_at dksX9_square_4 21 rfl rfl)
theorem dX9_square_126 : decode cX9_square 126 = .ok (.ireturn, 1) := dk_172 (dk_at dksX9_square_5 0 rfl rfl)
theorem dX9_square_127 : decode cX9_square 127 = .ok (.aload_n 0, 1) := dk_42 (dk_at dksX9_square_5 1 rfl rfl)
theorem dX9_square_128 : decode cX9_square 128 = .ok (.getfield 19, 3) := dk_180 0 19 (dk_at dksX9_square_5 2 rfl rfl)
theorem dX9_square_131 : decode cX9_square 131 = .ok (.iload_n 1, 1) := dk_27 (dk_at dksX9_square_5 5 rfl rfl)
theorem dX9_square_132 : decode cX9_square 132 = .ok (.iconst 4, 1) := dk_7 (dk_at dksX9_square_5 6 rfl rfl)
theorem dX9_square_133 : decode cX9_square 133 = .ok (.invokestatic 157, 3) := dk_184 0 157 (dk_at dksX9_square_5 7 rfl rfl)
theorem dX9_square_136 : decode cX9_square 136 = .ok (.ifCond .ne 8, 3) := dk_154 0 8 (dk_at dksX9_square_5 10 rfl rfl)
theorem dX9_square_139 : decode cX9_square 139 = .ok (.ldc 91, 2) := dk_18 91 (dk_at dksX9_square_5 13 rfl rfl)
theorem dX9_square_141 : decode cX9_square 141 = .ok (.goto 14, 3) := dk_167 0 14 (dk_at dksX9_square_5 15 rfl rfl)
theorem dX9_square_144 : decode cX9_square 144 = .ok (.aload_n 0, 1) := dk_42 (dk_at dksX9_square_5 18 rfl rfl)
theorem dX9_square_145 : decode cX9_square 145 = .ok (.getfield 19, 3) := dk_180 0 19 (dk_at dksX9_square_5 19 rfl rfl)
theorem dX9_square_148 : decode cX9_square 148 = .ok (.iload_n 1, 1) := dk_27 (dk_at dksX9_square_5 22 rfl rfl)
theorem dX9_square_149 : decode cX9_square 149 = .ok (.iconst 4, 1) := dk_7 (dk_at dksX9_square_5 23 rfl rfl)
theorem dX9_square_150 : decode cX9_square 150 = .ok (.invokestatic 157, 3) := dk_184 0 157 (dk_at dksX9_square_6 0 rfl rfl)
theorem dX9_square_153 : decode cX9_square 153 = .ok (.iconst 1, 1) := dk_4 (dk_at dksX9_square_6 3 rfl rfl)
theorem dX9_square_154 : decode cX9_square 154 = .ok (.isub, 1) := dk_100 (dk_at dksX9_square_6 4 rfl rfl)
theorem dX9_square_155 : decode cX9_square 155 = .ok (.ireturn, 1) := dk_172 (dk_at dksX9_square_6 5 rfl rfl)
theorem dX9_square_156 : decode cX9_square 156 = .ok (.ldc 68, 2) := dk_18 68 (dk_at dksX9_square_6 6 rfl rfl)
theorem dX9_square_158 : decode cX9_square 158 = .ok (.ireturn, 1) := dk_172 (dk_at dksX9_square_6 8 rfl rfl)
abbrev cX9_visitor : ByteArray := prog_16_method_51_code
def yX9_visitor : MethodName := ⟨RX9, "visitor", "(II)I"⟩
def dkwX9_visitor_1 : List UInt8 := [153, 0, 15, 42, 180, 0, 19, 27, 28, 184, 0, 161, 167, 0, 5, 18, 68, 172]
abbrev dktX9_visitor_1 : List UInt8 := dkwX9_visitor_1 ++ []
def dkwX9_visitor_0 : List UInt8 := [42, 3, 181, 0, 48, 42, 27, 182, 0, 189, 153, 0, 27, 28, 133, 9, 20, 0, 212, 184, 0, 58]
abbrev dktX9_visitor_0 : List UInt8 := dkwX9_visitor_0 ++ dktX9_visitor_1
theorem dksX9_visitor_0 : cX9_visitor.data.toList.drop 0 = dktX9_visitor_0 := by decide +kernel
theorem dksX9_visitor_1 : cX9_visitor.data.toList.drop 22 = dktX9_visitor_1 := dk_seg dksX9_visitor_0 22 rfl rfl
theorem dX9_visitor_0 : decode cX9_visitor 0 = .ok (.aload_n 0, 1) := dk_42 (dk_at dksX9_visitor_0 0 rfl rfl)
theorem dX9_visitor_1 : decode cX9_visitor 1 = .ok (.iconst 0, 1) := dk_3 (dk_at dksX9_visitor_0 1 rfl rfl)
theorem dX9_visitor_2 : decode cX9_visitor 2 = .ok (.putfield 48, 3) := dk_181 0 48 (dk_at dksX9_visitor_0 2 rfl rfl)
theorem dX9_visitor_5 : decode cX9_visitor 5 = .ok (.aload_n 0, 1) := dk_42 (dk_at dksX9_visitor_0 5 rfl rfl)
theorem dX9_visitor_6 : decode cX9_visitor 6 = .ok (.iload_n 1, 1) := dk_27 (dk_at dksX9_visitor_0 6 rfl rfl)
theorem dX9_visitor_7 : decode cX9_visitor 7 = .ok (.invokevirtual 189, 3) := dk_182 0 189 (dk_at dksX9_visitor_0 7 rfl rfl)
theorem dX9_visitor_10 : decode cX9_visitor 10 = .ok (.ifCond .eq 27, 3) := dk_153 0 27 (dk_at dksX9_visitor_0 10 rfl rfl)
theorem dX9_visitor_13 : decode cX9_visitor 13 = .ok (.iload_n 2, 1) := dk_28 (dk_at dksX9_visitor_0 13 rfl rfl)
theorem dX9_visitor_14 : decode cX9_visitor 14 = .ok (.i2l, 1) := dk_133 (dk_at dksX9_visitor_0 14 rfl rfl)
theorem dX9_visitor_15 : decode cX9_visitor 15 = .ok (.lconst 0, 1) := dk_9 (dk_at dksX9_visitor_0 15 rfl rfl)
theorem dX9_visitor_16 : decode cX9_visitor 16 = .ok (.ldc2_w 212, 3) := dk_20 0 212 (dk_at dksX9_visitor_0 16 rfl rfl)
theorem dX9_visitor_19 : decode cX9_visitor 19 = .ok (.invokestatic 58, 3) := dk_184 0 58 (dk_at dksX9_visitor_0 19 rfl rfl)
theorem dX9_visitor_22 : decode cX9_visitor 22 = .ok (.ifCond .eq 15, 3) := dk_153 0 15 (dk_at dksX9_visitor_1 0 rfl rfl)
theorem dX9_visitor_25 : decode cX9_visitor 25 = .ok (.aload_n 0, 1) := dk_42 (dk_at dksX9_visitor_1 3 rfl rfl)
theorem dX9_visitor_26 : decode cX9_visitor 26 = .ok (.getfield 19, 3) := dk_180 0 19 (dk_at dksX9_visitor_1 4 rfl rfl)
theorem dX9_visitor_29 : decode cX9_visitor 29 = .ok (.iload_n 1, 1) := dk_27 (dk_at dksX9_visitor_1 7 rfl rfl)
theorem dX9_visitor_30 : decode cX9_visitor 30 = .ok (.iload_n 2, 1) := dk_28 (dk_at dksX9_visitor_1 8 rfl rfl)
theorem dX9_visitor_31 : decode cX9_visitor 31 = .ok (.invokestatic 161, 3) := dk_184 0 161 (dk_at dksX9_visitor_1 9 rfl rfl)
theorem dX9_visitor_34 : decode cX9_visitor 34 = .ok (.goto 5, 3) := dk_167 0 5 (dk_at dksX9_visitor_1 12 rfl rfl)
theorem dX9_visitor_37 : decode cX9_visitor 37 = .ok (.ldc 68, 2) := dk_18 68 (dk_at dksX9_visitor_1 15 rfl rfl)
theorem dX9_visitor_39 : decode cX9_visitor 39 = .ok (.ireturn, 1) := dk_172 (dk_at dksX9_visitor_1 17 rfl rfl)
abbrev cX9_sees : ByteArray := prog_16_method_52_code
def yX9_sees : MethodName := ⟨RX9, "sees", "(II)I"⟩
def dkwX9_sees_2 : List UInt8 := [184, 0, 161, 42, 180, 0, 19, 27, 4, 184, 0, 161, 184, 0, 153, 172]
abbrev dktX9_sees_2 : List UInt8 := dkwX9_sees_2 ++ []
def dkwX9_sees_1 : List UInt8 := [42, 180, 0, 19, 28, 3, 184, 0, 157, 42, 180, 0, 19, 28, 4, 184, 0, 157, 42, 180, 0, 19, 27, 3]
abbrev dktX9_sees_1 : List UInt8 := dkwX9_sees_1 ++ dktX9_sees_2
def dkwX9_sees_0 : List UInt8 := [42, 3, 181, 0, 48, 42, 27, 182, 0, 189, 153, 0, 11, 42, 28, 182, 0, 207, 154, 0, 6, 18, 68, 172]
abbrev dktX9_sees_0 : List UInt8 := dkwX9_sees_0 ++ dktX9_sees_1
theorem dksX9_sees_0 : cX9_sees.data.toList.drop 0 = dktX9_sees_0 := by decide +kernel
theorem dksX9_sees_1 : cX9_sees.data.toList.drop 24 = dktX9_sees_1 := dk_seg dksX9_sees_0 24 rfl rfl
theorem dksX9_sees_2 : cX9_sees.data.toList.drop 48 = dktX9_sees_2 := dk_seg dksX9_sees_1 24 rfl rfl
theorem dX9_sees_0 : decode cX9_sees 0 = .ok (.aload_n 0, 1) := dk_42 (dk_at dksX9_sees_0 0 rfl rfl)
theorem dX9_sees_1 : decode cX9_sees 1 = .ok (.iconst 0, 1) := dk_3 (dk_at dksX9_sees_0 1 rfl rfl)
theorem dX9_sees_2 : decode cX9_sees 2 = .ok (.putfield 48, 3) := dk_181 0 48 (dk_at dksX9_sees_0 2 rfl rfl)
theorem dX9_sees_5 : decode cX9_sees 5 = .ok (.aload_n 0, 1) := dk_42 (dk_at dksX9_sees_0 5 rfl rfl)
theorem dX9_sees_6 : decode cX9_sees 6 = .ok (.iload_n 1, 1) := dk_27 (dk_at dksX9_sees_0 6 rfl rfl)
theorem dX9_sees_7 : decode cX9_sees 7 = .ok (.invokevirtual 189, 3) := dk_182 0 189 (dk_at dksX9_sees_0 7 rfl rfl)
theorem dX9_sees_10 : decode cX9_sees 10 = .ok (.ifCond .eq 11, 3) := dk_153 0 11 (dk_at dksX9_sees_0 10 rfl rfl)
theorem dX9_sees_13 : decode cX9_sees 13 = .ok (.aload_n 0, 1) := dk_42 (dk_at dksX9_sees_0 13 rfl rfl)
theorem dX9_sees_14 : decode cX9_sees 14 = .ok (.iload_n 2, 1) := dk_28 (dk_at dksX9_sees_0 14 rfl rfl)
theorem dX9_sees_15 : decode cX9_sees 15 = .ok (.invokevirtual 207, 3) := dk_182 0 207 (dk_at dksX9_sees_0 15 rfl rfl)
theorem dX9_sees_18 : decode cX9_sees 18 = .ok (.ifCond .ne 6, 3) := dk_154 0 6 (dk_at dksX9_sees_0 18 rfl rfl)
theorem dX9_sees_21 : decode cX9_sees 21 = .ok (.ldc 68, 2) := dk_18 68 (dk_at dksX9_sees_0 21 rfl rfl)
theorem dX9_sees_23 : decode cX9_sees 23 = .ok (.ireturn, 1) := dk_172 (dk_at dksX9_sees_0 23 rfl rfl)
theorem dX9_sees_24 : decode cX9_sees 24 = .ok (.aload_n 0, 1) := dk_42 (dk_at dksX9_sees_1 0 rfl rfl)
theorem dX9_sees_25 : decode cX9_sees 25 = .ok (.getfield 19, 3) := dk_180 0 19 (dk_at dksX9_sees_1 1 rfl rfl)
theorem dX9_sees_28 : decode cX9_sees 28 = .ok (.iload_n 2, 1) := dk_28 (dk_at dksX9_sees_1 4 rfl rfl)
theorem dX9_sees_29 : decode cX9_sees 29 = .ok (.iconst 0, 1) := dk_3 (dk_at dksX9_sees_1 5 rfl rfl)
theorem dX9_sees_30 : decode cX9_sees 30 = .ok (.invokestatic 157, 3) := dk_184 0 157 (dk_at dksX9_sees_1 6 rfl rfl)
theorem dX9_sees_33 : decode cX9_sees 33 = .ok (.aload_n 0, 1) := dk_42 (dk_at dksX9_sees_1 9 rfl rfl)
theorem dX9_sees_34 : decode cX9_sees 34 = .ok (.getfield 19, 3) := dk_180 0 19 (dk_at dksX9_sees_1 10 rfl rfl)
theorem dX9_sees_37 : decode cX9_sees 37 = .ok (.iload_n 2, 1) := dk_28 (dk_at dksX9_sees_1 13 rfl rfl)
theorem dX9_sees_38 : decode cX9_sees 38 = .ok (.iconst 1, 1) := dk_4 (dk_at dksX9_sees_1 14 rfl rfl)
theorem dX9_sees_39 : decode cX9_sees 39 = .ok (.invokestatic 157, 3) := dk_184 0 157 (dk_at dksX9_sees_1 15 rfl rfl)
theorem dX9_sees_42 : decode cX9_sees 42 = .ok (.aload_n 0, 1) := dk_42 (dk_at dksX9_sees_1 18 rfl rfl)
theorem dX9_sees_43 : decode cX9_sees 43 = .ok (.getfield 19, 3) := dk_180 0 19 (dk_at dksX9_sees_1 19 rfl rfl)
theorem dX9_sees_46 : decode cX9_sees 46 = .ok (.iload_n 1, 1) := dk_27 (dk_at dksX9_sees_1 22 rfl rfl)
theorem dX9_sees_47 : decode cX9_sees 47 = .ok (.iconst 0, 1) := dk_3 (dk_at dksX9_sees_1 23 rfl rfl)
theorem dX9_sees_48 : decode cX9_sees 48 = .ok (.invokestatic 161, 3) := dk_184 0 161 (dk_at dksX9_sees_2 0 rfl rfl)
theorem dX9_sees_51 : decode cX9_sees 51 = .ok (.aload_n 0, 1) := dk_42 (dk_at dksX9_sees_2 3 rfl rfl)
theorem dX9_sees_52 : decode cX9_sees 52 = .ok (.getfield 19, 3) := dk_180 0 19 (dk_at dksX9_sees_2 4 rfl rfl)
theorem dX9_sees_55 : decode cX9_sees 55 = .ok (.iload_n 1, 1) := dk_27 (dk_at dksX9_sees_2 7 rfl rfl)
theorem dX9_sees_56 : decode cX9_sees 56 = .ok (.iconst 1, 1) := dk_4 (dk_at dksX9_sees_2 8 rfl rfl)
theorem dX9_sees_57 : decode cX9_sees 57 = .ok (.invokestatic 161, 3) := dk_184 0 161 (dk_at dksX9_sees_2 9 rfl rfl)
theorem dX9_sees_60 : decode cX9_sees 60 = .ok (.invokestatic 153, 3) := dk_184 0 153 (dk_at dksX9_sees_2 12 rfl rfl)
theorem dX9_sees_63 : decode cX9_sees 63 = .ok (.ireturn, 1) := dk_172 (dk_at dksX9_sees_2 15 rfl rfl)
abbrev cX9_clicks : ByteArray := prog_16_method_54_code
def yX9_clicks : MethodName := ⟨RX9, "clicks", "(I)I"⟩
def dkwX9_clicks_0 : List UInt8 := [42, 3, 181, 0, 48, 42, 27, 182, 0, 189, 153, 0, 11, 42, 27, 182, 0, 214, 167, 0, 5, 18, 68, 172]
abbrev dktX9_clicks_0 : List UInt8 := dkwX9_clicks_0 ++ []
theorem dksX9_clicks_0 : cX9_clicks.data.toList.drop 0 = dktX9_clicks_0 := by decide +kernel
theorem dX9_clicks_0 : decode cX9_clicks 0 = .ok (.aload_n 0, 1) := dk_42 (dk_at dksX9_clicks_0 0 rfl rfl)
theorem dX9_clicks_1 : decode cX9_clicks 1 = .ok (.iconst 0, 1) := dk_3 (dk_at dksX9_clicks_0 1 rfl rfl)
theorem dX9_clicks_2 : decode cX9_clicks 2 = .ok (.putfield 48, 3) := dk_181 0 48 (dk_at dksX9_clicks_0 2 rfl rfl)
theorem dX9_clicks_5 : decode cX9_clicks 5 = .ok (.aload_n 0, 1) := dk_42 (dk_at dksX9_clicks_0 5 rfl rfl)
theorem dX9_clicks_6 : decode cX9_clicks 6 = .ok (.iload_n 1, 1) := dk_27 (dk_at dksX9_clicks_0 6 rfl rfl)
theorem dX9_clicks_7 : decode cX9_clicks 7 = .ok (.invokevirtual 189, 3) := dk_182 0 189 (dk_at dksX9_clicks_0 7 rfl rfl)
theorem dX9_clicks_10 : decode cX9_clicks 10 = .ok (.ifCond .eq 11, 3) := dk_153 0 11 (dk_at dksX9_clicks_0 10 rfl rfl)
theorem dX9_clicks_13 : decode cX9_clicks 13 = .ok (.aload_n 0, 1) := dk_42 (dk_at dksX9_clicks_0 13 rfl rfl)
theorem dX9_clicks_14 : decode cX9_clicks 14 = .ok (.iload_n 1, 1) := dk_27 (dk_at dksX9_clicks_0 14 rfl rfl)
theorem dX9_clicks_15 : decode cX9_clicks 15 = .ok (.invokevirtual 214, 3) := dk_182 0 214 (dk_at dksX9_clicks_0 15 rfl rfl)
theorem dX9_clicks_18 : decode cX9_clicks 18 = .ok (.goto 5, 3) := dk_167 0 5 (dk_at dksX9_clicks_0 18 rfl rfl)
theorem dX9_clicks_21 : decode cX9_clicks 21 = .ok (.ldc 68, 2) := dk_18 68 (dk_at dksX9_clicks_0 21 rfl rfl)
theorem dX9_clicks_23 : decode cX9_clicks 23 = .ok (.ireturn, 1) := dk_172 (dk_at dksX9_clicks_0 23 rfl rfl)
abbrev cX9_clicksOf : ByteArray := prog_16_method_53_code
def yX9_clicksOf : MethodName := ⟨RX9, "clicksOf", "(I)I"⟩
def dkwX9_clicksOf_1 : List UInt8 := [153, 0, 9, 4, 29, 120, 167, 0, 4, 3, 128, 61, 132, 3, 1, 167, 255, 221, 28, 172]
abbrev dktX9_clicksOf_1 : List UInt8 := dkwX9_clicksOf_1 ++ []
def dkwX9_clicksOf_0 : List UInt8 := [3, 61, 3, 62, 29, 42, 180, 0, 19, 5, 46, 162, 0, 31, 28, 42, 180, 0, 19, 27, 29, 184, 0, 172]
abbrev dktX9_clicksOf_0 : List UInt8 := dkwX9_clicksOf_0 ++ dktX9_clicksOf_1
theorem dksX9_clicksOf_0 : cX9_clicksOf.data.toList.drop 0 = dktX9_clicksOf_0 := by decide +kernel
theorem dksX9_clicksOf_1 : cX9_clicksOf.data.toList.drop 24 = dktX9_clicksOf_1 := dk_seg dksX9_clicksOf_0 24 rfl rfl
theorem dX9_clicksOf_0 : decode cX9_clicksOf 0 = .ok (.iconst 0, 1) := dk_3 (dk_at dksX9_clicksOf_0 0 rfl rfl)
theorem dX9_clicksOf_1 : decode cX9_clicksOf 1 = .ok (.istore_n 2, 1) := dk_61 (dk_at dksX9_clicksOf_0 1 rfl rfl)
theorem dX9_clicksOf_2 : decode cX9_clicksOf 2 = .ok (.iconst 0, 1) := dk_3 (dk_at dksX9_clicksOf_0 2 rfl rfl)
theorem dX9_clicksOf_3 : decode cX9_clicksOf 3 = .ok (.istore_n 3, 1) := dk_62 (dk_at dksX9_clicksOf_0 3 rfl rfl)
theorem dX9_clicksOf_4 : decode cX9_clicksOf 4 = .ok (.iload_n 3, 1) := dk_29 (dk_at dksX9_clicksOf_0 4 rfl rfl)
theorem dX9_clicksOf_5 : decode cX9_clicksOf 5 = .ok (.aload_n 0, 1) := dk_42 (dk_at dksX9_clicksOf_0 5 rfl rfl)
theorem dX9_clicksOf_6 : decode cX9_clicksOf 6 = .ok (.getfield 19, 3) := dk_180 0 19 (dk_at dksX9_clicksOf_0 6 rfl rfl)
theorem dX9_clicksOf_9 : decode cX9_clicksOf 9 = .ok (.iconst 2, 1) := dk_5 (dk_at dksX9_clicksOf_0 9 rfl rfl)
theorem dX9_clicksOf_10 : decode cX9_clicksOf 10 = .ok (.iaload, 1) := dk_46 (dk_at dksX9_clicksOf_0 10 rfl rfl)
theorem dX9_clicksOf_11 : decode cX9_clicksOf 11 = .ok (.if_icmp .ge 31, 3) := dk_162 0 31 (dk_at dksX9_clicksOf_0 11 rfl rfl)
theorem dX9_clicksOf_14 : decode cX9_clicksOf 14 = .ok (.iload_n 2, 1) := dk_28 (dk_at dksX9_clicksOf_0 14 rfl rfl)
theorem dX9_clicksOf_15 : decode cX9_clicksOf 15 = .ok (.aload_n 0, 1) := dk_42 (dk_at dksX9_clicksOf_0 15 rfl rfl)
theorem dX9_clicksOf_16 : decode cX9_clicksOf 16 = .ok (.getfield 19, 3) := dk_180 0 19 (dk_at dksX9_clicksOf_0 16 rfl rfl)
theorem dX9_clicksOf_19 : decode cX9_clicksOf 19 = .ok (.iload_n 1, 1) := dk_27 (dk_at dksX9_clicksOf_0 19 rfl rfl)
theorem dX9_clicksOf_20 : decode cX9_clicksOf 20 = .ok (.iload_n 3, 1) := dk_29 (dk_at dksX9_clicksOf_0 20 rfl rfl)
theorem dX9_clicksOf_21 : decode cX9_clicksOf 21 = .ok (.invokestatic 172, 3) := dk_184 0 172 (dk_at dksX9_clicksOf_0 21 rfl rfl)
theorem dX9_clicksOf_24 : decode cX9_clicksOf 24 = .ok (.ifCond .eq 9, 3) := dk_153 0 9 (dk_at dksX9_clicksOf_1 0 rfl rfl)
theorem dX9_clicksOf_27 : decode cX9_clicksOf 27 = .ok (.iconst 1, 1) := dk_4 (dk_at dksX9_clicksOf_1 3 rfl rfl)
theorem dX9_clicksOf_28 : decode cX9_clicksOf 28 = .ok (.iload_n 3, 1) := dk_29 (dk_at dksX9_clicksOf_1 4 rfl rfl)
theorem dX9_clicksOf_29 : decode cX9_clicksOf 29 = .ok (.ishl, 1) := dk_120 (dk_at dksX9_clicksOf_1 5 rfl rfl)
theorem dX9_clicksOf_30 : decode cX9_clicksOf 30 = .ok (.goto 4, 3) := dk_167 0 4 (dk_at dksX9_clicksOf_1 6 rfl rfl)
theorem dX9_clicksOf_33 : decode cX9_clicksOf 33 = .ok (.iconst 0, 1) := dk_3 (dk_at dksX9_clicksOf_1 9 rfl rfl)
theorem dX9_clicksOf_34 : decode cX9_clicksOf 34 = .ok (.ior, 1) := dk_128 (dk_at dksX9_clicksOf_1 10 rfl rfl)
theorem dX9_clicksOf_35 : decode cX9_clicksOf 35 = .ok (.istore_n 2, 1) := dk_61 (dk_at dksX9_clicksOf_1 11 rfl rfl)
theorem dX9_clicksOf_36 : decode cX9_clicksOf 36 = .ok (.iinc 3 1, 3) := dk_132 3 1 (dk_at dksX9_clicksOf_1 12 rfl rfl)
theorem dX9_clicksOf_39 : decode cX9_clicksOf 39 = .ok (.goto (-35), 3) := dk_167 255 221 (dk_at dksX9_clicksOf_1 15 rfl rfl)
theorem dX9_clicksOf_42 : decode cX9_clicksOf 42 = .ok (.iload_n 2, 1) := dk_28 (dk_at dksX9_clicksOf_1 18 rfl rfl)
theorem dX9_clicksOf_43 : decode cX9_clicksOf 43 = .ok (.ireturn, 1) := dk_172 (dk_at dksX9_clicksOf_1 19 rfl rfl)
abbrev cX9_wrong : ByteArray := prog_16_method_55_code
def yX9_wrong : MethodName := ⟨RX9, "wrong", "(II)I"⟩
def dkwX9_wrong_1 : List UInt8 := [180, 0, 19, 27, 28, 184, 0, 186, 167, 0, 5, 18, 68, 172]
abbrev dktX9_wrong_1 : List UInt8 := dkwX9_wrong_1 ++ []
def dkwX9_wrong_0 : List UInt8 := [42, 3, 181, 0, 48, 42, 27, 182, 0, 189, 153, 0, 23, 42, 28, 182, 0, 192, 153, 0, 15, 42]
abbrev dktX9_wrong_0 : List UInt8 := dkwX9_wrong_0 ++ dktX9_wrong_1
theorem dksX9_wrong_0 : cX9_wrong.data.toList.drop 0 = dktX9_wrong_0 := by decide +kernel
theorem dksX9_wrong_1 : cX9_wrong.data.toList.drop 22 = dktX9_wrong_1 := dk_seg dksX9_wrong_0 22 rfl rfl
theorem dX9_wrong_0 : decode cX9_wrong 0 = .ok (.aload_n 0, 1) := dk_42 (dk_at dksX9_wrong_0 0 rfl rfl)
theorem dX9_wrong_1 : decode cX9_wrong 1 = .ok (.iconst 0, 1) := dk_3 (dk_at dksX9_wrong_0 1 rfl rfl)
theorem dX9_wrong_2 : decode cX9_wrong 2 = .ok (.putfield 48, 3) := dk_181 0 48 (dk_at dksX9_wrong_0 2 rfl rfl)
theorem dX9_wrong_5 : decode cX9_wrong 5 = .ok (.aload_n 0, 1) := dk_42 (dk_at dksX9_wrong_0 5 rfl rfl)
theorem dX9_wrong_6 : decode cX9_wrong 6 = .ok (.iload_n 1, 1) := dk_27 (dk_at dksX9_wrong_0 6 rfl rfl)
theorem dX9_wrong_7 : decode cX9_wrong 7 = .ok (.invokevirtual 189, 3) := dk_182 0 189 (dk_at dksX9_wrong_0 7 rfl rfl)
theorem dX9_wrong_10 : decode cX9_wrong 10 = .ok (.ifCond .eq 23, 3) := dk_153 0 23 (dk_at dksX9_wrong_0 10 rfl rfl)
theorem dX9_wrong_13 : decode cX9_wrong 13 = .ok (.aload_n 0, 1) := dk_42 (dk_at dksX9_wrong_0 13 rfl rfl)
theorem dX9_wrong_14 : decode cX9_wrong 14 = .ok (.iload_n 2, 1) := dk_28 (dk_at dksX9_wrong_0 14 rfl rfl)
theorem dX9_wrong_15 : decode cX9_wrong 15 = .ok (.invokevirtual 192, 3) := dk_182 0 192 (dk_at dksX9_wrong_0 15 rfl rfl)
theorem dX9_wrong_18 : decode cX9_wrong 18 = .ok (.ifCond .eq 15, 3) := dk_153 0 15 (dk_at dksX9_wrong_0 18 rfl rfl)
theorem dX9_wrong_21 : decode cX9_wrong 21 = .ok (.aload_n 0, 1) := dk_42 (dk_at dksX9_wrong_0 21 rfl rfl)
theorem dX9_wrong_22 : decode cX9_wrong 22 = .ok (.getfield 19, 3) := dk_180 0 19 (dk_at dksX9_wrong_1 0 rfl rfl)
theorem dX9_wrong_25 : decode cX9_wrong 25 = .ok (.iload_n 1, 1) := dk_27 (dk_at dksX9_wrong_1 3 rfl rfl)
theorem dX9_wrong_26 : decode cX9_wrong 26 = .ok (.iload_n 2, 1) := dk_28 (dk_at dksX9_wrong_1 4 rfl rfl)
theorem dX9_wrong_27 : decode cX9_wrong 27 = .ok (.invokestatic 186, 3) := dk_184 0 186 (dk_at dksX9_wrong_1 5 rfl rfl)
theorem dX9_wrong_30 : decode cX9_wrong 30 = .ok (.goto 5, 3) := dk_167 0 5 (dk_at dksX9_wrong_1 8 rfl rfl)
theorem dX9_wrong_33 : decode cX9_wrong 33 = .ok (.ldc 68, 2) := dk_18 68 (dk_at dksX9_wrong_1 11 rfl rfl)
theorem dX9_wrong_35 : decode cX9_wrong 35 = .ok (.ireturn, 1) := dk_172 (dk_at dksX9_wrong_1 13 rfl rfl)
abbrev cX9_guests : ByteArray := prog_16_method_56_code
def yX9_guests : MethodName := ⟨RX9, "guests", "(I)I"⟩
def dkwX9_guests_1 : List UInt8 := [27, 182, 0, 217, 167, 0, 5, 18, 68, 172]
abbrev dktX9_guests_1 : List UInt8 := dkwX9_guests_1 ++ []
def dkwX9_guests_0 : List UInt8 := [42, 3, 181, 0, 48, 42, 182, 0, 201, 154, 0, 6, 18, 204, 172, 42, 27, 182, 0, 192, 153, 0, 11, 42]
abbrev dktX9_guests_0 : List UInt8 := dkwX9_guests_0 ++ dktX9_guests_1
theorem dksX9_guests_0 : cX9_guests.data.toList.drop 0 = dktX9_guests_0 := by decide +kernel
theorem dksX9_guests_1 : cX9_guests.data.toList.drop 24 = dktX9_guests_1 := dk_seg dksX9_guests_0 24 rfl rfl
theorem dX9_guests_0 : decode cX9_guests 0 = .ok (.aload_n 0, 1) := dk_42 (dk_at dksX9_guests_0 0 rfl rfl)
theorem dX9_guests_1 : decode cX9_guests 1 = .ok (.iconst 0, 1) := dk_3 (dk_at dksX9_guests_0 1 rfl rfl)
theorem dX9_guests_2 : decode cX9_guests 2 = .ok (.putfield 48, 3) := dk_181 0 48 (dk_at dksX9_guests_0 2 rfl rfl)
theorem dX9_guests_5 : decode cX9_guests 5 = .ok (.aload_n 0, 1) := dk_42 (dk_at dksX9_guests_0 5 rfl rfl)
theorem dX9_guests_6 : decode cX9_guests 6 = .ok (.invokevirtual 201, 3) := dk_182 0 201 (dk_at dksX9_guests_0 6 rfl rfl)
theorem dX9_guests_9 : decode cX9_guests 9 = .ok (.ifCond .ne 6, 3) := dk_154 0 6 (dk_at dksX9_guests_0 9 rfl rfl)
theorem dX9_guests_12 : decode cX9_guests 12 = .ok (.ldc 204, 2) := dk_18 204 (dk_at dksX9_guests_0 12 rfl rfl)
theorem dX9_guests_14 : decode cX9_guests 14 = .ok (.ireturn, 1) := dk_172 (dk_at dksX9_guests_0 14 rfl rfl)
theorem dX9_guests_15 : decode cX9_guests 15 = .ok (.aload_n 0, 1) := dk_42 (dk_at dksX9_guests_0 15 rfl rfl)
theorem dX9_guests_16 : decode cX9_guests 16 = .ok (.iload_n 1, 1) := dk_27 (dk_at dksX9_guests_0 16 rfl rfl)
theorem dX9_guests_17 : decode cX9_guests 17 = .ok (.invokevirtual 192, 3) := dk_182 0 192 (dk_at dksX9_guests_0 17 rfl rfl)
theorem dX9_guests_20 : decode cX9_guests 20 = .ok (.ifCond .eq 11, 3) := dk_153 0 11 (dk_at dksX9_guests_0 20 rfl rfl)
theorem dX9_guests_23 : decode cX9_guests 23 = .ok (.aload_n 0, 1) := dk_42 (dk_at dksX9_guests_0 23 rfl rfl)
theorem dX9_guests_24 : decode cX9_guests 24 = .ok (.iload_n 1, 1) := dk_27 (dk_at dksX9_guests_1 0 rfl rfl)
theorem dX9_guests_25 : decode cX9_guests 25 = .ok (.invokevirtual 217, 3) := dk_182 0 217 (dk_at dksX9_guests_1 1 rfl rfl)
theorem dX9_guests_28 : decode cX9_guests 28 = .ok (.goto 5, 3) := dk_167 0 5 (dk_at dksX9_guests_1 4 rfl rfl)
theorem dX9_guests_31 : decode cX9_guests 31 = .ok (.ldc 68, 2) := dk_18 68 (dk_at dksX9_guests_1 7 rfl rfl)
theorem dX9_guests_33 : decode cX9_guests 33 = .ok (.ireturn, 1) := dk_172 (dk_at dksX9_guests_1 9 rfl rfl)
abbrev cX9_guestsOf : ByteArray := prog_16_method_41_code
def yX9_guestsOf : MethodName := ⟨RX9, "guestsOf", "(I)I"⟩
def dkwX9_guestsOf_2 : List UInt8 := [28, 172]
abbrev dktX9_guestsOf_2 : List UInt8 := dkwX9_guestsOf_2 ++ []
def dkwX9_guestsOf_1 : List UInt8 := [42, 180, 0, 19, 4, 46, 163, 0, 9, 4, 29, 120, 167, 0, 4, 3, 128, 61, 132, 3, 1, 167, 255, 215]
abbrev dktX9_guestsOf_1 : List UInt8 := dkwX9_guestsOf_1 ++ dktX9_guestsOf_2
def dkwX9_guestsOf_0 : List UInt8 := [3, 61, 3, 62, 29, 42, 180, 0, 19, 6, 46, 162, 0, 37, 28, 42, 180, 0, 19, 29, 27, 184, 0, 186]
abbrev dktX9_guestsOf_0 : List UInt8 := dkwX9_guestsOf_0 ++ dktX9_guestsOf_1
theorem dksX9_guestsOf_0 : cX9_guestsOf.data.toList.drop 0 = dktX9_guestsOf_0 := by decide +kernel
theorem dksX9_guestsOf_1 : cX9_guestsOf.data.toList.drop 24 = dktX9_guestsOf_1 := dk_seg dksX9_guestsOf_0 24 rfl rfl
theorem dksX9_guestsOf_2 : cX9_guestsOf.data.toList.drop 48 = dktX9_guestsOf_2 := dk_seg dksX9_guestsOf_1 24 rfl rfl
theorem dX9_guestsOf_0 : decode cX9_guestsOf 0 = .ok (.iconst 0, 1) := dk_3 (dk_at dksX9_guestsOf_0 0 rfl rfl)
theorem dX9_guestsOf_1 : decode cX9_guestsOf 1 = .ok (.istore_n 2, 1) := dk_61 (dk_at dksX9_guestsOf_0 1 rfl rfl)
theorem dX9_guestsOf_2 : decode cX9_guestsOf 2 = .ok (.iconst 0, 1) := dk_3 (dk_at dksX9_guestsOf_0 2 rfl rfl)
theorem dX9_guestsOf_3 : decode cX9_guestsOf 3 = .ok (.istore_n 3, 1) := dk_62 (dk_at dksX9_guestsOf_0 3 rfl rfl)
theorem dX9_guestsOf_4 : decode cX9_guestsOf 4 = .ok (.iload_n 3, 1) := dk_29 (dk_at dksX9_guestsOf_0 4 rfl rfl)
theorem dX9_guestsOf_5 : decode cX9_guestsOf 5 = .ok (.aload_n 0, 1) := dk_42 (dk_at dksX9_guestsOf_0 5 rfl rfl)
theorem dX9_guestsOf_6 : decode cX9_guestsOf 6 = .ok (.getfield 19, 3) := dk_180 0 19 (dk_at dksX9_guestsOf_0 6 rfl rfl)
theorem dX9_guestsOf_9 : decode cX9_guestsOf 9 = .ok (.iconst 3, 1) := dk_6 (dk_at dksX9_guestsOf_0 9 rfl rfl)
theorem dX9_guestsOf_10 : decode cX9_guestsOf 10 = .ok (.iaload, 1) := dk_46 (dk_at dksX9_guestsOf_0 10 rfl rfl)
theorem dX9_guestsOf_11 : decode cX9_guestsOf 11 = .ok (.if_icmp .ge 37, 3) := dk_162 0 37 (dk_at dksX9_guestsOf_0 11 rfl rfl)
theorem dX9_guestsOf_14 : decode cX9_guestsOf 14 = .ok (.iload_n 2, 1) := dk_28 (dk_at dksX9_guestsOf_0 14 rfl rfl)
theorem dX9_guestsOf_15 : decode cX9_guestsOf 15 = .ok (.aload_n 0, 1) := dk_42 (dk_at dksX9_guestsOf_0 15 rfl rfl)
theorem dX9_guestsOf_16 : decode cX9_guestsOf 16 = .ok (.getfield 19, 3) := dk_180 0 19 (dk_at dksX9_guestsOf_0 16 rfl rfl)
theorem dX9_guestsOf_19 : decode cX9_guestsOf 19 = .ok (.iload_n 3, 1) := dk_29 (dk_at dksX9_guestsOf_0 19 rfl rfl)
theorem dX9_guestsOf_20 : decode cX9_guestsOf 20 = .ok (.iload_n 1, 1) := dk_27 (dk_at dksX9_guestsOf_0 20 rfl rfl)
theorem dX9_guestsOf_21 : decode cX9_guestsOf 21 = .ok (.invokestatic 186, 3) := dk_184 0 186 (dk_at dksX9_guestsOf_0 21 rfl rfl)
theorem dX9_guestsOf_24 : decode cX9_guestsOf 24 = .ok (.aload_n 0, 1) := dk_42 (dk_at dksX9_guestsOf_1 0 rfl rfl)
theorem dX9_guestsOf_25 : decode cX9_guestsOf 25 = .ok (.getfield 19, 3) := dk_180 0 19 (dk_at dksX9_guestsOf_1 1 rfl rfl)
theorem dX9_guestsOf_28 : decode cX9_guestsOf 28 = .ok (.iconst 1, 1) := dk_4 (dk_at dksX9_guestsOf_1 4 rfl rfl)
theorem dX9_guestsOf_29 : decode cX9_guestsOf 29 = .ok (.iaload, 1) := dk_46 (dk_at dksX9_guestsOf_1 5 rfl rfl)
theorem dX9_guestsOf_30 : decode cX9_guestsOf 30 = .ok (.if_icmp .gt 9, 3) := dk_163 0 9 (dk_at dksX9_guestsOf_1 6 rfl rfl)
theorem dX9_guestsOf_33 : decode cX9_guestsOf 33 = .ok (.iconst 1, 1) := dk_4 (dk_at dksX9_guestsOf_1 9 rfl rfl)
theorem dX9_guestsOf_34 : decode cX9_guestsOf 34 = .ok (.iload_n 3, 1) := dk_29 (dk_at dksX9_guestsOf_1 10 rfl rfl)
theorem dX9_guestsOf_35 : decode cX9_guestsOf 35 = .ok (.ishl, 1) := dk_120 (dk_at dksX9_guestsOf_1 11 rfl rfl)
theorem dX9_guestsOf_36 : decode cX9_guestsOf 36 = .ok (.goto 4, 3) := dk_167 0 4 (dk_at dksX9_guestsOf_1 12 rfl rfl)
theorem dX9_guestsOf_39 : decode cX9_guestsOf 39 = .ok (.iconst 0, 1) := dk_3 (dk_at dksX9_guestsOf_1 15 rfl rfl)
theorem dX9_guestsOf_40 : decode cX9_guestsOf 40 = .ok (.ior, 1) := dk_128 (dk_at dksX9_guestsOf_1 16 rfl rfl)
theorem dX9_guestsOf_41 : decode cX9_guestsOf 41 = .ok (.istore_n 2, 1) := dk_61 (dk_at dksX9_guestsOf_1 17 rfl rfl)
theorem dX9_guestsOf_42 : decode cX9_guestsOf 42 = .ok (.iinc 3 1, 3) := dk_132 3 1 (dk_at dksX9_guestsOf_1 18 rfl rfl)
theorem dX9_guestsOf_45 : decode cX9_guestsOf 45 = .ok (.goto (-41), 3) := dk_167 255 215 (dk_at dksX9_guestsOf_1 21 rfl rfl)
theorem dX9_guestsOf_48 : decode cX9_guestsOf 48 = .ok (.iload_n 2, 1) := dk_28 (dk_at dksX9_guestsOf_2 0 rfl rfl)
theorem dX9_guestsOf_49 : decode cX9_guestsOf 49 = .ok (.ireturn, 1) := dk_172 (dk_at dksX9_guestsOf_2 1 rfl rfl)
abbrev cX9_fewest : ByteArray := prog_16_method_58_code
def yX9_fewest : MethodName := ⟨RX9, "fewest", "(II)I"⟩
def dkwX9_fewest_2 : List UInt8 := [182, 0, 226, 62, 29, 18, 91, 159, 0, 8, 28, 4, 160, 0, 7, 29, 167, 0, 7, 29, 184, 0, 220, 172]
abbrev dktX9_fewest_2 : List UInt8 := dkwX9_fewest_2 ++ []
def dkwX9_fewest_1 : List UInt8 := [133, 9, 10, 184, 0, 58, 154, 0, 6, 18, 68, 172, 42, 4, 42, 180, 0, 19, 5, 46, 120, 4, 100, 27]
abbrev dktX9_fewest_1 : List UInt8 := dkwX9_fewest_1 ++ dktX9_fewest_2
def dkwX9_fewest_0 : List UInt8 := [42, 3, 181, 0, 48, 42, 182, 0, 201, 154, 0, 6, 18, 204, 172, 42, 27, 182, 0, 223, 153, 0, 13, 28]
abbrev dktX9_fewest_0 : List UInt8 := dkwX9_fewest_0 ++ dktX9_fewest_1
theorem dksX9_fewest_0 : cX9_fewest.data.toList.drop 0 = dktX9_fewest_0 := by decide +kernel
theorem dksX9_fewest_1 : cX9_fewest.data.toList.drop 24 = dktX9_fewest_1 := dk_seg dksX9_fewest_0 24 rfl rfl
theorem dksX9_fewest_2 : cX9_fewest.data.toList.drop 48 = dktX9_fewest_2 := dk_seg dksX9_fewest_1 24 rfl rfl
theorem dX9_fewest_0 : decode cX9_fewest 0 = .ok (.aload_n 0, 1) := dk_42 (dk_at dksX9_fewest_0 0 rfl rfl)
theorem dX9_fewest_1 : decode cX9_fewest 1 = .ok (.iconst 0, 1) := dk_3 (dk_at dksX9_fewest_0 1 rfl rfl)
theorem dX9_fewest_2 : decode cX9_fewest 2 = .ok (.putfield 48, 3) := dk_181 0 48 (dk_at dksX9_fewest_0 2 rfl rfl)
theorem dX9_fewest_5 : decode cX9_fewest 5 = .ok (.aload_n 0, 1) := dk_42 (dk_at dksX9_fewest_0 5 rfl rfl)
theorem dX9_fewest_6 : decode cX9_fewest 6 = .ok (.invokevirtual 201, 3) := dk_182 0 201 (dk_at dksX9_fewest_0 6 rfl rfl)
theorem dX9_fewest_9 : decode cX9_fewest 9 = .ok (.ifCond .ne 6, 3) := dk_154 0 6 (dk_at dksX9_fewest_0 9 rfl rfl)
theorem dX9_fewest_12 : decode cX9_fewest 12 = .ok (.ldc 204, 2) := dk_18 204 (dk_at dksX9_fewest_0 12 rfl rfl)
theorem dX9_fewest_14 : decode cX9_fewest 14 = .ok (.ireturn, 1) := dk_172 (dk_at dksX9_fewest_0 14 rfl rfl)
theorem dX9_fewest_15 : decode cX9_fewest 15 = .ok (.aload_n 0, 1) := dk_42 (dk_at dksX9_fewest_0 15 rfl rfl)
theorem dX9_fewest_16 : decode cX9_fewest 16 = .ok (.iload_n 1, 1) := dk_27 (dk_at dksX9_fewest_0 16 rfl rfl)
theorem dX9_fewest_17 : decode cX9_fewest 17 = .ok (.invokevirtual 223, 3) := dk_182 0 223 (dk_at dksX9_fewest_0 17 rfl rfl)
theorem dX9_fewest_20 : decode cX9_fewest 20 = .ok (.ifCond .eq 13, 3) := dk_153 0 13 (dk_at dksX9_fewest_0 20 rfl rfl)
theorem dX9_fewest_23 : decode cX9_fewest 23 = .ok (.iload_n 2, 1) := dk_28 (dk_at dksX9_fewest_0 23 rfl rfl)
theorem dX9_fewest_24 : decode cX9_fewest 24 = .ok (.i2l, 1) := dk_133 (dk_at dksX9_fewest_1 0 rfl rfl)
theorem dX9_fewest_25 : decode cX9_fewest 25 = .ok (.lconst 0, 1) := dk_9 (dk_at dksX9_fewest_1 1 rfl rfl)
theorem dX9_fewest_26 : decode cX9_fewest 26 = .ok (.lconst 1, 1) := dk_10 (dk_at dksX9_fewest_1 2 rfl rfl)
theorem dX9_fewest_27 : decode cX9_fewest 27 = .ok (.invokestatic 58, 3) := dk_184 0 58 (dk_at dksX9_fewest_1 3 rfl rfl)
theorem dX9_fewest_30 : decode cX9_fewest 30 = .ok (.ifCond .ne 6, 3) := dk_154 0 6 (dk_at dksX9_fewest_1 6 rfl rfl)
theorem dX9_fewest_33 : decode cX9_fewest 33 = .ok (.ldc 68, 2) := dk_18 68 (dk_at dksX9_fewest_1 9 rfl rfl)
theorem dX9_fewest_35 : decode cX9_fewest 35 = .ok (.ireturn, 1) := dk_172 (dk_at dksX9_fewest_1 11 rfl rfl)
theorem dX9_fewest_36 : decode cX9_fewest 36 = .ok (.aload_n 0, 1) := dk_42 (dk_at dksX9_fewest_1 12 rfl rfl)
theorem dX9_fewest_37 : decode cX9_fewest 37 = .ok (.iconst 1, 1) := dk_4 (dk_at dksX9_fewest_1 13 rfl rfl)
theorem dX9_fewest_38 : decode cX9_fewest 38 = .ok (.aload_n 0, 1) := dk_42 (dk_at dksX9_fewest_1 14 rfl rfl)
theorem dX9_fewest_39 : decode cX9_fewest 39 = .ok (.getfield 19, 3) := dk_180 0 19 (dk_at dksX9_fewest_1 15 rfl rfl)
theorem dX9_fewest_42 : decode cX9_fewest 42 = .ok (.iconst 2, 1) := dk_5 (dk_at dksX9_fewest_1 18 rfl rfl)
theorem dX9_fewest_43 : decode cX9_fewest 43 = .ok (.iaload, 1) := dk_46 (dk_at dksX9_fewest_1 19 rfl rfl)
theorem dX9_fewest_44 : decode cX9_fewest 44 = .ok (.ishl, 1) := dk_120 (dk_at dksX9_fewest_1 20 rfl rfl)
theorem dX9_fewest_45 : decode cX9_fewest 45 = .ok (.iconst 1, 1) := dk_4 (dk_at dksX9_fewest_1 21 rfl rfl)
theorem dX9_fewest_46 : decode cX9_fewest 46 = .ok (.isub, 1) := dk_100 (dk_at dksX9_fewest_1 22 rfl rfl)
theorem dX9_fewest_47 : decode cX9_fewest 47 = .ok (.iload_n 1, 1) := dk_27 (dk_at dksX9_fewest_1 23 rfl rfl)
theorem dX9_fewest_48 : decode cX9_fewest 48 = .ok (.invokevirtual 226, 3) := dk_182 0 226 (dk_at dksX9_fewest_2 0 rfl rfl)
theorem dX9_fewest_51 : decode cX9_fewest 51 = .ok (.istore_n 3, 1) := dk_62 (dk_at dksX9_fewest_2 3 rfl rfl)
theorem dX9_fewest_52 : decode cX9_fewest 52 = .ok (.iload_n 3, 1) := dk_29 (dk_at dksX9_fewest_2 4 rfl rfl)
theorem dX9_fewest_53 : decode cX9_fewest 53 = .ok (.ldc 91, 2) := dk_18 91 (dk_at dksX9_fewest_2 5 rfl rfl)
theorem dX9_fewest_55 : decode cX9_fewest 55 = .ok (.if_icmp .eq 8, 3) := dk_159 0 8 (dk_at dksX9_fewest_2 7 rfl rfl)
theorem dX9_fewest_58 : decode cX9_fewest 58 = .ok (.iload_n 2, 1) := dk_28 (dk_at dksX9_fewest_2 10 rfl rfl)
theorem dX9_fewest_59 : decode cX9_fewest 59 = .ok (.iconst 1, 1) := dk_4 (dk_at dksX9_fewest_2 11 rfl rfl)
theorem dX9_fewest_60 : decode cX9_fewest 60 = .ok (.if_icmp .ne 7, 3) := dk_160 0 7 (dk_at dksX9_fewest_2 12 rfl rfl)
theorem dX9_fewest_63 : decode cX9_fewest 63 = .ok (.iload_n 3, 1) := dk_29 (dk_at dksX9_fewest_2 15 rfl rfl)
theorem dX9_fewest_64 : decode cX9_fewest 64 = .ok (.goto 7, 3) := dk_167 0 7 (dk_at dksX9_fewest_2 16 rfl rfl)
theorem dX9_fewest_67 : decode cX9_fewest 67 = .ok (.iload_n 3, 1) := dk_29 (dk_at dksX9_fewest_2 19 rfl rfl)
theorem dX9_fewest_68 : decode cX9_fewest 68 = .ok (.invokestatic 220, 3) := dk_184 0 220 (dk_at dksX9_fewest_2 20 rfl rfl)
theorem dX9_fewest_71 : decode cX9_fewest 71 = .ok (.ireturn, 1) := dk_172 (dk_at dksX9_fewest_2 23 rfl rfl)
abbrev cX9_areVisitors : ByteArray := prog_16_method_29_code
def yX9_areVisitors : MethodName := ⟨RX9, "areVisitors", "(I)Z"⟩
def dkwX9_areVisitors_0 : List UInt8 := [27, 133, 9, 4, 42, 180, 0, 19, 6, 46, 120, 4, 100, 133, 184, 0, 58, 172]
abbrev dktX9_areVisitors_0 : List UInt8 := dkwX9_areVisitors_0 ++ []
theorem dksX9_areVisitors_0 : cX9_areVisitors.data.toList.drop 0 = dktX9_areVisitors_0 := by decide +kernel
theorem dX9_areVisitors_0 : decode cX9_areVisitors 0 = .ok (.iload_n 1, 1) := dk_27 (dk_at dksX9_areVisitors_0 0 rfl rfl)
theorem dX9_areVisitors_1 : decode cX9_areVisitors 1 = .ok (.i2l, 1) := dk_133 (dk_at dksX9_areVisitors_0 1 rfl rfl)
theorem dX9_areVisitors_2 : decode cX9_areVisitors 2 = .ok (.lconst 0, 1) := dk_9 (dk_at dksX9_areVisitors_0 2 rfl rfl)
theorem dX9_areVisitors_3 : decode cX9_areVisitors 3 = .ok (.iconst 1, 1) := dk_4 (dk_at dksX9_areVisitors_0 3 rfl rfl)
theorem dX9_areVisitors_4 : decode cX9_areVisitors 4 = .ok (.aload_n 0, 1) := dk_42 (dk_at dksX9_areVisitors_0 4 rfl rfl)
theorem dX9_areVisitors_5 : decode cX9_areVisitors 5 = .ok (.getfield 19, 3) := dk_180 0 19 (dk_at dksX9_areVisitors_0 5 rfl rfl)
theorem dX9_areVisitors_8 : decode cX9_areVisitors 8 = .ok (.iconst 3, 1) := dk_6 (dk_at dksX9_areVisitors_0 8 rfl rfl)
theorem dX9_areVisitors_9 : decode cX9_areVisitors 9 = .ok (.iaload, 1) := dk_46 (dk_at dksX9_areVisitors_0 9 rfl rfl)
theorem dX9_areVisitors_10 : decode cX9_areVisitors 10 = .ok (.ishl, 1) := dk_120 (dk_at dksX9_areVisitors_0 10 rfl rfl)
theorem dX9_areVisitors_11 : decode cX9_areVisitors 11 = .ok (.iconst 1, 1) := dk_4 (dk_at dksX9_areVisitors_0 11 rfl rfl)
theorem dX9_areVisitors_12 : decode cX9_areVisitors 12 = .ok (.isub, 1) := dk_100 (dk_at dksX9_areVisitors_0 12 rfl rfl)
theorem dX9_areVisitors_13 : decode cX9_areVisitors 13 = .ok (.i2l, 1) := dk_133 (dk_at dksX9_areVisitors_0 13 rfl rfl)
theorem dX9_areVisitors_14 : decode cX9_areVisitors 14 = .ok (.invokestatic 58, 3) := dk_184 0 58 (dk_at dksX9_areVisitors_0 14 rfl rfl)
theorem dX9_areVisitors_17 : decode cX9_areVisitors 17 = .ok (.ireturn, 1) := dk_172 (dk_at dksX9_areVisitors_0 17 rfl rfl)
abbrev cX9_fewestOf : ByteArray := prog_16_method_57_code
def yX9_fewestOf : MethodName := ⟨RX9, "fewestOf", "(II)I"⟩
def dkwX9_fewestOf_3 : List UInt8 := [167, 255, 191, 29, 172]
abbrev dktX9_fewestOf_3 : List UInt8 := dkwX9_fewestOf_3 ++ []
def dkwX9_fewestOf_2 : List UInt8 := [153, 0, 18, 42, 21, 4, 182, 0, 217, 28, 160, 0, 8, 21, 4, 167, 0, 4, 29, 62, 132, 4, 1]
abbrev dktX9_fewestOf_2 : List UInt8 := dkwX9_fewestOf_2 ++ dktX9_fewestOf_3
def dkwX9_fewestOf_1 : List UInt8 := [159, 0, 15, 21, 4, 184, 0, 220, 29, 184, 0, 220, 162, 0, 7, 4, 167, 0, 4, 3, 54, 5, 21, 5]
abbrev dktX9_fewestOf_1 : List UInt8 := dkwX9_fewestOf_1 ++ dktX9_fewestOf_2
def dkwX9_fewestOf_0 : List UInt8 := [18, 91, 62, 3, 54, 4, 21, 4, 27, 163, 0, 65, 21, 4, 27, 2, 130, 126, 154, 0, 25, 29, 18, 91]
abbrev dktX9_fewestOf_0 : List UInt8 := dkwX9_fewestOf_0 ++ dktX9_fewestOf_1
theorem dksX9_fewestOf_0 : cX9_fewestOf.data.toList.drop 0 = dktX9_fewestOf_0 := by decide +kernel
theorem dksX9_fewestOf_1 : cX9_fewestOf.data.toList.drop 24 = dktX9_fewestOf_1 := dk_seg dksX9_fewestOf_0 24 rfl rfl
theorem dksX9_fewestOf_2 : cX9_fewestOf.data.toList.drop 48 = dktX9_fewestOf_2 := dk_seg dksX9_fewestOf_1 24 rfl rfl
theorem dksX9_fewestOf_3 : cX9_fewestOf.data.toList.drop 71 = dktX9_fewestOf_3 := dk_seg dksX9_fewestOf_2 23 rfl rfl
theorem dX9_fewestOf_0 : decode cX9_fewestOf 0 = .ok (.ldc 91, 2) := dk_18 91 (dk_at dksX9_fewestOf_0 0 rfl rfl)
theorem dX9_fewestOf_2 : decode cX9_fewestOf 2 = .ok (.istore_n 3, 1) := dk_62 (dk_at dksX9_fewestOf_0 2 rfl rfl)
theorem dX9_fewestOf_3 : decode cX9_fewestOf 3 = .ok (.iconst 0, 1) := dk_3 (dk_at dksX9_fewestOf_0 3 rfl rfl)
theorem dX9_fewestOf_4 : decode cX9_fewestOf 4 = .ok (.istore 4, 2) := dk_54 4 (dk_at dksX9_fewestOf_0 4 rfl rfl)
theorem dX9_fewestOf_6 : decode cX9_fewestOf 6 = .ok (.iload 4, 2) := dk_21 4 (dk_at dksX9_fewestOf_0 6 rfl rfl)
theorem dX9_fewestOf_8 : decode cX9_fewestOf 8 = .ok (.iload_n 1, 1) := dk_27 (dk_at dksX9_fewestOf_0 8 rfl rfl)
theorem dX9_fewestOf_9 : decode cX9_fewestOf 9 = .ok (.if_icmp .gt 65, 3) := dk_163 0 65 (dk_at dksX9_fewestOf_0 9 rfl rfl)
theorem dX9_fewestOf_12 : decode cX9_fewestOf 12 = .ok (.iload 4, 2) := dk_21 4 (dk_at dksX9_fewestOf_0 12 rfl rfl)
theorem dX9_fewestOf_14 : decode cX9_fewestOf 14 = .ok (.iload_n 1, 1) := dk_27 (dk_at dksX9_fewestOf_0 14 rfl rfl)
theorem dX9_fewestOf_15 : decode cX9_fewestOf 15 = .ok (.iconst (-1), 1) := dk_2 (dk_at dksX9_fewestOf_0 15 rfl rfl)
theorem dX9_fewestOf_16 : decode cX9_fewestOf 16 = .ok (.ixor, 1) := dk_130 (dk_at dksX9_fewestOf_0 16 rfl rfl)
theorem dX9_fewestOf_17 : decode cX9_fewestOf 17 = .ok (.iand, 1) := dk_126 (dk_at dksX9_fewestOf_0 17 rfl rfl)
theorem dX9_fewestOf_18 : decode cX9_fewestOf 18 = .ok (.ifCond .ne 25, 3) := dk_154 0 25 (dk_at dksX9_fewestOf_0 18 rfl rfl)
theorem dX9_fewestOf_21 : decode cX9_fewestOf 21 = .ok (.iload_n 3, 1) := dk_29 (dk_at dksX9_fewestOf_0 21 rfl rfl)
theorem dX9_fewestOf_22 : decode cX9_fewestOf 22 = .ok (.ldc 91, 2) := dk_18 91 (dk_at dksX9_fewestOf_0 22 rfl rfl)
theorem dX9_fewestOf_24 : decode cX9_fewestOf 24 = .ok (.if_icmp .eq 15, 3) := dk_159 0 15 (dk_at dksX9_fewestOf_1 0 rfl rfl)
theorem dX9_fewestOf_27 : decode cX9_fewestOf 27 = .ok (.iload 4, 2) := dk_21 4 (dk_at dksX9_fewestOf_1 3 rfl rfl)
theorem dX9_fewestOf_29 : decode cX9_fewestOf 29 = .ok (.invokestatic 220, 3) := dk_184 0 220 (dk_at dksX9_fewestOf_1 5 rfl rfl)
theorem dX9_fewestOf_32 : decode cX9_fewestOf 32 = .ok (.iload_n 3, 1) := dk_29 (dk_at dksX9_fewestOf_1 8 rfl rfl)
theorem dX9_fewestOf_33 : decode cX9_fewestOf 33 = .ok (.invokestatic 220, 3) := dk_184 0 220 (dk_at dksX9_fewestOf_1 9 rfl rfl)
theorem dX9_fewestOf_36 : decode cX9_fewestOf 36 = .ok (.if_icmp .ge 7, 3) := dk_162 0 7 (dk_at dksX9_fewestOf_1 12 rfl rfl)
theorem dX9_fewestOf_39 : decode cX9_fewestOf 39 = .ok (.iconst 1, 1) := dk_4 (dk_at dksX9_fewestOf_1 15 rfl rfl)
theorem dX9_fewestOf_40 : decode cX9_fewestOf 40 = .ok (.goto 4, 3) := dk_167 0 4 (dk_at dksX9_fewestOf_1 16 rfl rfl)
theorem dX9_fewestOf_43 : decode cX9_fewestOf 43 = .ok (.iconst 0, 1) := dk_3 (dk_at dksX9_fewestOf_1 19 rfl rfl)
theorem dX9_fewestOf_44 : decode cX9_fewestOf 44 = .ok (.istore 5, 2) := dk_54 5 (dk_at dksX9_fewestOf_1 20 rfl rfl)
theorem dX9_fewestOf_46 : decode cX9_fewestOf 46 = .ok (.iload 5, 2) := dk_21 5 (dk_at dksX9_fewestOf_1 22 rfl rfl)
theorem dX9_fewestOf_48 : decode cX9_fewestOf 48 = .ok (.ifCond .eq 18, 3) := dk_153 0 18 (dk_at dksX9_fewestOf_2 0 rfl rfl)
theorem dX9_fewestOf_51 : decode cX9_fewestOf 51 = .ok (.aload_n 0, 1) := dk_42 (dk_at dksX9_fewestOf_2 3 rfl rfl)
theorem dX9_fewestOf_52 : decode cX9_fewestOf 52 = .ok (.iload 4, 2) := dk_21 4 (dk_at dksX9_fewestOf_2 4 rfl rfl)
theorem dX9_fewestOf_54 : decode cX9_fewestOf 54 = .ok (.invokevirtual 217, 3) := dk_182 0 217 (dk_at dksX9_fewestOf_2 6 rfl rfl)
theorem dX9_fewestOf_57 : decode cX9_fewestOf 57 = .ok (.iload_n 2, 1) := dk_28 (dk_at dksX9_fewestOf_2 9 rfl rfl)
theorem dX9_fewestOf_58 : decode cX9_fewestOf 58 = .ok (.if_icmp .ne 8, 3) := dk_160 0 8 (dk_at dksX9_fewestOf_2 10 rfl rfl)
theorem dX9_fewestOf_61 : decode cX9_fewestOf 61 = .ok (.iload 4, 2) := dk_21 4 (dk_at dksX9_fewestOf_2 13 rfl rfl)
theorem dX9_fewestOf_63 : decode cX9_fewestOf 63 = .ok (.goto 4, 3) := dk_167 0 4 (dk_at dksX9_fewestOf_2 15 rfl rfl)
theorem dX9_fewestOf_66 : decode cX9_fewestOf 66 = .ok (.iload_n 3, 1) := dk_29 (dk_at dksX9_fewestOf_2 18 rfl rfl)
theorem dX9_fewestOf_67 : decode cX9_fewestOf 67 = .ok (.istore_n 3, 1) := dk_62 (dk_at dksX9_fewestOf_2 19 rfl rfl)
theorem dX9_fewestOf_68 : decode cX9_fewestOf 68 = .ok (.iinc 4 1, 3) := dk_132 4 1 (dk_at dksX9_fewestOf_2 20 rfl rfl)
theorem dX9_fewestOf_71 : decode cX9_fewestOf 71 = .ok (.goto (-65), 3) := dk_167 255 191 (dk_at dksX9_fewestOf_3 0 rfl rfl)
theorem dX9_fewestOf_74 : decode cX9_fewestOf 74 = .ok (.iload_n 3, 1) := dk_29 (dk_at dksX9_fewestOf_3 3 rfl rfl)
theorem dX9_fewestOf_75 : decode cX9_fewestOf 75 = .ok (.ireturn, 1) := dk_172 (dk_at dksX9_fewestOf_3 4 rfl rfl)
abbrev cX9_bits : ByteArray := prog_16_method_31_code
def yX9_bits : MethodName := ⟨RX9, "bits", "(I)I"⟩
def dkwX9_bits_1 : List UInt8 := [27, 172]
abbrev dktX9_bits_1 : List UInt8 := dkwX9_bits_1 ++ []
def dkwX9_bits_0 : List UInt8 := [3, 60, 3, 61, 28, 16, 8, 162, 0, 17, 27, 26, 28, 122, 4, 126, 96, 60, 132, 2, 1, 167, 255, 239]
abbrev dktX9_bits_0 : List UInt8 := dkwX9_bits_0 ++ dktX9_bits_1
theorem dksX9_bits_0 : cX9_bits.data.toList.drop 0 = dktX9_bits_0 := by decide +kernel
theorem dksX9_bits_1 : cX9_bits.data.toList.drop 24 = dktX9_bits_1 := dk_seg dksX9_bits_0 24 rfl rfl
theorem dX9_bits_0 : decode cX9_bits 0 = .ok (.iconst 0, 1) := dk_3 (dk_at dksX9_bits_0 0 rfl rfl)
theorem dX9_bits_1 : decode cX9_bits 1 = .ok (.istore_n 1, 1) := dk_60 (dk_at dksX9_bits_0 1 rfl rfl)
theorem dX9_bits_2 : decode cX9_bits 2 = .ok (.iconst 0, 1) := dk_3 (dk_at dksX9_bits_0 2 rfl rfl)
theorem dX9_bits_3 : decode cX9_bits 3 = .ok (.istore_n 2, 1) := dk_61 (dk_at dksX9_bits_0 3 rfl rfl)
theorem dX9_bits_4 : decode cX9_bits 4 = .ok (.iload_n 2, 1) := dk_28 (dk_at dksX9_bits_0 4 rfl rfl)
theorem dX9_bits_5 : decode cX9_bits 5 = .ok (.bipush 8, 2) := dk_16 8 (dk_at dksX9_bits_0 5 rfl rfl)
theorem dX9_bits_7 : decode cX9_bits 7 = .ok (.if_icmp .ge 17, 3) := dk_162 0 17 (dk_at dksX9_bits_0 7 rfl rfl)
theorem dX9_bits_10 : decode cX9_bits 10 = .ok (.iload_n 1, 1) := dk_27 (dk_at dksX9_bits_0 10 rfl rfl)
theorem dX9_bits_11 : decode cX9_bits 11 = .ok (.iload_n 0, 1) := dk_26 (dk_at dksX9_bits_0 11 rfl rfl)
theorem dX9_bits_12 : decode cX9_bits 12 = .ok (.iload_n 2, 1) := dk_28 (dk_at dksX9_bits_0 12 rfl rfl)
theorem dX9_bits_13 : decode cX9_bits 13 = .ok (.ishr, 1) := dk_122 (dk_at dksX9_bits_0 13 rfl rfl)
theorem dX9_bits_14 : decode cX9_bits 14 = .ok (.iconst 1, 1) := dk_4 (dk_at dksX9_bits_0 14 rfl rfl)
theorem dX9_bits_15 : decode cX9_bits 15 = .ok (.iand, 1) := dk_126 (dk_at dksX9_bits_0 15 rfl rfl)
theorem dX9_bits_16 : decode cX9_bits 16 = .ok (.iadd, 1) := dk_96 (dk_at dksX9_bits_0 16 rfl rfl)
theorem dX9_bits_17 : decode cX9_bits 17 = .ok (.istore_n 1, 1) := dk_60 (dk_at dksX9_bits_0 17 rfl rfl)
theorem dX9_bits_18 : decode cX9_bits 18 = .ok (.iinc 2 1, 3) := dk_132 2 1 (dk_at dksX9_bits_0 18 rfl rfl)
theorem dX9_bits_21 : decode cX9_bits 21 = .ok (.goto (-17), 3) := dk_167 255 239 (dk_at dksX9_bits_0 21 rfl rfl)
theorem dX9_bits_24 : decode cX9_bits 24 = .ok (.iload_n 1, 1) := dk_27 (dk_at dksX9_bits_1 0 rfl rfl)
theorem dX9_bits_25 : decode cX9_bits 25 = .ok (.ireturn, 1) := dk_172 (dk_at dksX9_bits_1 1 rfl rfl)
abbrev cX9_harsh : ByteArray := prog_16_method_59_code
def yX9_harsh : MethodName := ⟨RX9, "harsh", "(II)I"⟩
def dkwX9_harsh_4 : List UInt8 := [167, 255, 204, 29, 172]
abbrev dktX9_harsh_4 : List UInt8 := dkwX9_harsh_4 ++ []
def dkwX9_harsh_3 : List UInt8 := [167, 0, 4, 3, 54, 5, 21, 5, 29, 164, 0, 8, 21, 5, 167, 0, 4, 29, 62, 132, 4, 1]
abbrev dktX9_harsh_3 : List UInt8 := dkwX9_harsh_3 ++ dktX9_harsh_4
def dkwX9_harsh_2 : List UInt8 := [162, 0, 47, 27, 21, 4, 184, 0, 179, 153, 0, 16, 42, 180, 0, 19, 21, 4, 28, 184, 0, 186]
abbrev dktX9_harsh_2 : List UInt8 := dkwX9_harsh_2 ++ dktX9_harsh_3
def dkwX9_harsh_1 : List UInt8 := [28, 182, 0, 192, 154, 0, 6, 18, 68, 172, 3, 62, 3, 54, 4, 21, 4, 42, 180, 0, 19, 6, 46]
abbrev dktX9_harsh_1 : List UInt8 := dkwX9_harsh_1 ++ dktX9_harsh_2
def dkwX9_harsh_0 : List UInt8 := [42, 3, 181, 0, 48, 42, 182, 0, 201, 154, 0, 6, 18, 204, 172, 42, 27, 182, 0, 223, 153, 0, 11, 42]
abbrev dktX9_harsh_0 : List UInt8 := dkwX9_harsh_0 ++ dktX9_harsh_1
theorem dksX9_harsh_0 : cX9_harsh.data.toList.drop 0 = dktX9_harsh_0 := by decide +kernel
theorem dksX9_harsh_1 : cX9_harsh.data.toList.drop 24 = dktX9_harsh_1 := dk_seg dksX9_harsh_0 24 rfl rfl
theorem dksX9_harsh_2 : cX9_harsh.data.toList.drop 47 = dktX9_harsh_2 := dk_seg dksX9_harsh_1 23 rfl rfl
theorem dksX9_harsh_3 : cX9_harsh.data.toList.drop 69 = dktX9_harsh_3 := dk_seg dksX9_harsh_2 22 rfl rfl
theorem dksX9_harsh_4 : cX9_harsh.data.toList.drop 91 = dktX9_harsh_4 := dk_seg dksX9_harsh_3 22 rfl rfl
theorem dX9_harsh_0 : decode cX9_harsh 0 = .ok (.aload_n 0, 1) := dk_42 (dk_at dksX9_harsh_0 0 rfl rfl)
theorem dX9_harsh_1 : decode cX9_harsh 1 = .ok (.iconst 0, 1) := dk_3 (dk_at dksX9_harsh_0 1 rfl rfl)
theorem dX9_harsh_2 : decode cX9_harsh 2 = .ok (.putfield 48, 3) := dk_181 0 48 (dk_at dksX9_harsh_0 2 rfl rfl)
theorem dX9_harsh_5 : decode cX9_harsh 5 = .ok (.aload_n 0, 1) := dk_42 (dk_at dksX9_harsh_0 5 rfl rfl)
theorem dX9_harsh_6 : decode cX9_harsh 6 = .ok (.invokevirtual 201, 3) := dk_182 0 201 (dk_at dksX9_harsh_0 6 rfl rfl)
theorem dX9_harsh_9 : decode cX9_harsh 9 = .ok (.ifCond .ne 6, 3) := dk_154 0 6 (dk_at dksX9_harsh_0 9 rfl rfl)
theorem dX9_harsh_12 : decode cX9_harsh 12 = .ok (.ldc 204, 2) := dk_18 204 (dk_at dksX9_harsh_0 12 rfl rfl)
theorem dX9_harsh_14 : decode cX9_harsh 14 = .ok (.ireturn, 1) := dk_172 (dk_at dksX9_harsh_0 14 rfl rfl)
theorem dX9_harsh_15 : decode cX9_harsh 15 = .ok (.aload_n 0, 1) := dk_42 (dk_at dksX9_harsh_0 15 rfl rfl)
theorem dX9_harsh_16 : decode cX9_harsh 16 = .ok (.iload_n 1, 1) := dk_27 (dk_at dksX9_harsh_0 16 rfl rfl)
theorem dX9_harsh_17 : decode cX9_harsh 17 = .ok (.invokevirtual 223, 3) := dk_182 0 223 (dk_at dksX9_harsh_0 17 rfl rfl)
theorem dX9_harsh_20 : decode cX9_harsh 20 = .ok (.ifCond .eq 11, 3) := dk_153 0 11 (dk_at dksX9_harsh_0 20 rfl rfl)
theorem dX9_harsh_23 : decode cX9_harsh 23 = .ok (.aload_n 0, 1) := dk_42 (dk_at dksX9_harsh_0 23 rfl rfl)
theorem dX9_harsh_24 : decode cX9_harsh 24 = .ok (.iload_n 2, 1) := dk_28 (dk_at dksX9_harsh_1 0 rfl rfl)
theorem dX9_harsh_25 : decode cX9_harsh 25 = .ok (.invokevirtual 192, 3) := dk_182 0 192 (dk_at dksX9_harsh_1 1 rfl rfl)
theorem dX9_harsh_28 : decode cX9_harsh 28 = .ok (.ifCond .ne 6, 3) := dk_154 0 6 (dk_at dksX9_harsh_1 4 rfl rfl)
theorem dX9_harsh_31 : decode cX9_harsh 31 = .ok (.ldc 68, 2) := dk_18 68 (dk_at dksX9_harsh_1 7 rfl rfl)
theorem dX9_harsh_33 : decode cX9_harsh 33 = .ok (.ireturn, 1) := dk_172 (dk_at dksX9_harsh_1 9 rfl rfl)
theorem dX9_harsh_34 : decode cX9_harsh 34 = .ok (.iconst 0, 1) := dk_3 (dk_at dksX9_harsh_1 10 rfl rfl)
theorem dX9_harsh_35 : decode cX9_harsh 35 = .ok (.istore_n 3, 1) := dk_62 (dk_at dksX9_harsh_1 11 rfl rfl)
theorem dX9_harsh_36 : decode cX9_harsh 36 = .ok (.iconst 0, 1) := dk_3 (dk_at dksX9_harsh_1 12 rfl rfl)
theorem dX9_harsh_37 : decode cX9_harsh 37 = .ok (.istore 4, 2) := dk_54 4 (dk_at dksX9_harsh_1 13 rfl rfl)
theorem dX9_harsh_39 : decode cX9_harsh 39 = .ok (.iload 4, 2) := dk_21 4 (dk_at dksX9_harsh_1 15 rfl rfl)
theorem dX9_harsh_41 : decode cX9_harsh 41 = .ok (.aload_n 0, 1) := dk_42 (dk_at dksX9_harsh_1 17 rfl rfl)
theorem dX9_harsh_42 : decode cX9_harsh 42 = .ok (.getfield 19, 3) := dk_180 0 19 (dk_at dksX9_harsh_1 18 rfl rfl)
theorem dX9_harsh_45 : decode cX9_harsh 45 = .ok (.iconst 3, 1) := dk_6 (dk_at dksX9_harsh_1 21 rfl rfl)
theorem dX9_harsh_46 : decode cX9_harsh 46 = .ok (.iaload, 1) := dk_46 (dk_at dksX9_harsh_1 22 rfl rfl)
theorem dX9_harsh_47 : decode cX9_harsh 47 = .ok (.if_icmp .ge 47, 3) := dk_162 0 47 (dk_at dksX9_harsh_2 0 rfl rfl)
theorem dX9_harsh_50 : decode cX9_harsh 50 = .ok (.iload_n 1, 1) := dk_27 (dk_at dksX9_harsh_2 3 rfl rfl)
theorem dX9_harsh_51 : decode cX9_harsh 51 = .ok (.iload 4, 2) := dk_21 4 (dk_at dksX9_harsh_2 4 rfl rfl)
theorem dX9_harsh_53 : decode cX9_harsh 53 = .ok (.invokestatic 179, 3) := dk_184 0 179 (dk_at dksX9_harsh_2 6 rfl rfl)
theorem dX9_harsh_56 : decode cX9_harsh 56 = .ok (.ifCond .eq 16, 3) := dk_153 0 16 (dk_at dksX9_harsh_2 9 rfl rfl)
theorem dX9_harsh_59 : decode cX9_harsh 59 = .ok (.aload_n 0, 1) := dk_42 (dk_at dksX9_harsh_2 12 rfl rfl)
theorem dX9_harsh_60 : decode cX9_harsh 60 = .ok (.getfield 19, 3) := dk_180 0 19 (dk_at dksX9_harsh_2 13 rfl rfl)
theorem dX9_harsh_63 : decode cX9_harsh 63 = .ok (.iload 4, 2) := dk_21 4 (dk_at dksX9_harsh_2 16 rfl rfl)
theorem dX9_harsh_65 : decode cX9_harsh 65 = .ok (.iload_n 2, 1) := dk_28 (dk_at dksX9_harsh_2 18 rfl rfl)
theorem dX9_harsh_66 : decode cX9_harsh 66 = .ok (.invokestatic 186, 3) := dk_184 0 186 (dk_at dksX9_harsh_2 19 rfl rfl)
theorem dX9_harsh_69 : decode cX9_harsh 69 = .ok (.goto 4, 3) := dk_167 0 4 (dk_at dksX9_harsh_3 0 rfl rfl)
theorem dX9_harsh_72 : decode cX9_harsh 72 = .ok (.iconst 0, 1) := dk_3 (dk_at dksX9_harsh_3 3 rfl rfl)
theorem dX9_harsh_73 : decode cX9_harsh 73 = .ok (.istore 5, 2) := dk_54 5 (dk_at dksX9_harsh_3 4 rfl rfl)
theorem dX9_harsh_75 : decode cX9_harsh 75 = .ok (.iload 5, 2) := dk_21 5 (dk_at dksX9_harsh_3 6 rfl rfl)
theorem dX9_harsh_77 : decode cX9_harsh 77 = .ok (.iload_n 3, 1) := dk_29 (dk_at dksX9_harsh_3 8 rfl rfl)
theorem dX9_harsh_78 : decode cX9_harsh 78 = .ok (.if_icmp .le 8, 3) := dk_164 0 8 (dk_at dksX9_harsh_3 9 rfl rfl)
theorem dX9_harsh_81 : decode cX9_harsh 81 = .ok (.iload 5, 2) := dk_21 5 (dk_at dksX9_harsh_3 12 rfl rfl)
theorem dX9_harsh_83 : decode cX9_harsh 83 = .ok (.goto 4, 3) := dk_167 0 4 (dk_at dksX9_harsh_3 14 rfl rfl)
theorem dX9_harsh_86 : decode cX9_harsh 86 = .ok (.iload_n 3, 1) := dk_29 (dk_at dksX9_harsh_3 17 rfl rfl)
theorem dX9_harsh_87 : decode cX9_harsh 87 = .ok (.istore_n 3, 1) := dk_62 (dk_at dksX9_harsh_3 18 rfl rfl)
theorem dX9_harsh_88 : decode cX9_harsh 88 = .ok (.iinc 4 1, 3) := dk_132 4 1 (dk_at dksX9_harsh_3 19 rfl rfl)
theorem dX9_harsh_91 : decode cX9_harsh 91 = .ok (.goto (-52), 3) := dk_167 255 204 (dk_at dksX9_harsh_4 0 rfl rfl)
theorem dX9_harsh_94 : decode cX9_harsh 94 = .ok (.iload_n 3, 1) := dk_29 (dk_at dksX9_harsh_4 3 rfl rfl)
theorem dX9_harsh_95 : decode cX9_harsh 95 = .ok (.ireturn, 1) := dk_172 (dk_at dksX9_harsh_4 4 rfl rfl)
abbrev cX9_keen : ByteArray := prog_16_method_60_code
def yX9_keen : MethodName := ⟨RX9, "keen", "(I)I"⟩
def dkwX9_keen_7 : List UInt8 := [29, 62, 132, 4, 1, 167, 255, 125, 27, 154, 0, 7, 28, 167, 0, 4, 29, 172]
abbrev dktX9_keen_7 : List UInt8 := dkwX9_keen_7 ++ []
def dkwX9_keen_6 : List UInt8 := [54, 6, 21, 6, 153, 0, 8, 21, 4, 167, 0, 4, 28, 61, 21, 6, 153, 0, 8, 21, 5, 167, 0, 4]
abbrev dktX9_keen_6 : List UInt8 := dkwX9_keen_6 ++ dktX9_keen_7
def dkwX9_keen_5 : List UInt8 := [184, 0, 168, 153, 0, 19, 28, 18, 91, 159, 0, 9, 21, 5, 29, 162, 0, 7, 4, 167, 0, 4, 3]
abbrev dktX9_keen_5 : List UInt8 := dkwX9_keen_5 ++ dktX9_keen_6
def dkwX9_keen_4 : List UInt8 := [167, 255, 218, 21, 5, 156, 0, 9, 21, 5, 116, 167, 0, 5, 21, 5, 54, 5, 42, 180, 0, 19, 21, 4]
abbrev dktX9_keen_4 : List UInt8 := dkwX9_keen_4 ++ dktX9_keen_5
def dkwX9_keen_3 : List UInt8 := [180, 0, 19, 21, 6, 21, 4, 184, 0, 183, 153, 0, 7, 4, 167, 0, 4, 2, 96, 54, 5, 132, 6, 1]
abbrev dktX9_keen_3 : List UInt8 := dkwX9_keen_3 ++ dktX9_keen_4
def dkwX9_keen_2 : List UInt8 := [162, 0, 126, 3, 54, 5, 3, 54, 6, 21, 6, 42, 180, 0, 19, 6, 46, 162, 0, 33, 21, 5, 42]
abbrev dktX9_keen_2 : List UInt8 := dkwX9_keen_2 ++ dktX9_keen_3
def dkwX9_keen_1 : List UInt8 := [154, 0, 6, 18, 68, 172, 18, 91, 61, 18, 91, 62, 3, 54, 4, 21, 4, 42, 180, 0, 19, 5, 46]
abbrev dktX9_keen_1 : List UInt8 := dkwX9_keen_1 ++ dktX9_keen_2
def dkwX9_keen_0 : List UInt8 := [42, 3, 181, 0, 48, 42, 182, 0, 201, 154, 0, 6, 18, 204, 172, 27, 133, 9, 10, 184, 0, 58]
abbrev dktX9_keen_0 : List UInt8 := dkwX9_keen_0 ++ dktX9_keen_1
theorem dksX9_keen_0 : cX9_keen.data.toList.drop 0 = dktX9_keen_0 := by decide +kernel
theorem dksX9_keen_1 : cX9_keen.data.toList.drop 22 = dktX9_keen_1 := dk_seg dksX9_keen_0 22 rfl rfl
theorem dksX9_keen_2 : cX9_keen.data.toList.drop 45 = dktX9_keen_2 := dk_seg dksX9_keen_1 23 rfl rfl
theorem dksX9_keen_3 : cX9_keen.data.toList.drop 68 = dktX9_keen_3 := dk_seg dksX9_keen_2 23 rfl rfl
theorem dksX9_keen_4 : cX9_keen.data.toList.drop 92 = dktX9_keen_4 := dk_seg dksX9_keen_3 24 rfl rfl
theorem dksX9_keen_5 : cX9_keen.data.toList.drop 116 = dktX9_keen_5 := dk_seg dksX9_keen_4 24 rfl rfl
theorem dksX9_keen_6 : cX9_keen.data.toList.drop 139 = dktX9_keen_6 := dk_seg dksX9_keen_5 23 rfl rfl
theorem dksX9_keen_7 : cX9_keen.data.toList.drop 163 = dktX9_keen_7 := dk_seg dksX9_keen_6 24 rfl rfl
theorem dX9_keen_0 : decode cX9_keen 0 = .ok (.aload_n 0, 1) := dk_42 (dk_at dksX9_keen_0 0 rfl rfl)
theorem dX9_keen_1 : decode cX9_keen 1 = .ok (.iconst 0, 1) := dk_3 (dk_at dksX9_keen_0 1 rfl rfl)
theorem dX9_keen_2 : decode cX9_keen 2 = .ok (.putfield 48, 3) := dk_181 0 48 (dk_at dksX9_keen_0 2 rfl rfl)
theorem dX9_keen_5 : decode cX9_keen 5 = .ok (.aload_n 0, 1) := dk_42 (dk_at dksX9_keen_0 5 rfl rfl)
theorem dX9_keen_6 : decode cX9_keen 6 = .ok (.invokevirtual 201, 3) := dk_182 0 201 (dk_at dksX9_keen_0 6 rfl rfl)
theorem dX9_keen_9 : decode cX9_keen 9 = .ok (.ifCond .ne 6, 3) := dk_154 0 6 (dk_at dksX9_keen_0 9 rfl rfl)
theorem dX9_keen_12 : decode cX9_keen 12 = .ok (.ldc 204, 2) := dk_18 204 (dk_at dksX9_keen_0 12 rfl rfl)
theorem dX9_keen_14 : decode cX9_keen 14 = .ok (.ireturn, 1) := dk_172 (dk_at dksX9_keen_0 14 rfl rfl)
theorem dX9_keen_15 : decode cX9_keen 15 = .ok (.iload_n 1, 1) := dk_27 (dk_at dksX9_keen_0 15 rfl rfl)
theorem dX9_keen_16 : decode cX9_keen 16 = .ok (.i2l, 1) := dk_133 (dk_at dksX9_keen_0 16 rfl rfl)
theorem dX9_keen_17 : decode cX9_keen 17 = .ok (.lconst 0, 1) := dk_9 (dk_at dksX9_keen_0 17 rfl rfl)
theorem dX9_keen_18 : decode cX9_keen 18 = .ok (.lconst 1, 1) := dk_10 (dk_at dksX9_keen_0 18 rfl rfl)
theorem dX9_keen_19 : decode cX9_keen 19 = .ok (.invokestatic 58, 3) := dk_184 0 58 (dk_at dksX9_keen_0 19 rfl rfl)
theorem dX9_keen_22 : decode cX9_keen 22 = .ok (.ifCond .ne 6, 3) := dk_154 0 6 (dk_at dksX9_keen_1 0 rfl rfl)
theorem dX9_keen_25 : decode cX9_keen 25 = .ok (.ldc 68, 2) := dk_18 68 (dk_at dksX9_keen_1 3 rfl rfl)
theorem dX9_keen_27 : decode cX9_keen 27 = .ok (.ireturn, 1) := dk_172 (dk_at dksX9_keen_1 5 rfl rfl)
theorem dX9_keen_28 : decode cX9_keen 28 = .ok (.ldc 91, 2) := dk_18 91 (dk_at dksX9_keen_1 6 rfl rfl)
theorem dX9_keen_30 : decode cX9_keen 30 = .ok (.istore_n 2, 1) := dk_61 (dk_at dksX9_keen_1 8 rfl rfl)
theorem dX9_keen_31 : decode cX9_keen 31 = .ok (.ldc 91, 2) := dk_18 91 (dk_at dksX9_keen_1 9 rfl rfl)
theorem dX9_keen_33 : decode cX9_keen 33 = .ok (.istore_n 3, 1) := dk_62 (dk_at dksX9_keen_1 11 rfl rfl)
theorem dX9_keen_34 : decode cX9_keen 34 = .ok (.iconst 0, 1) := dk_3 (dk_at dksX9_keen_1 12 rfl rfl)
theorem dX9_keen_35 : decode cX9_keen 35 = .ok (.istore 4, 2) := dk_54 4 (dk_at dksX9_keen_1 13 rfl rfl)
theorem dX9_keen_37 : decode cX9_keen 37 = .ok (.iload 4, 2) := dk_21 4 (dk_at dksX9_keen_1 15 rfl rfl)
theorem dX9_keen_39 : decode cX9_keen 39 = .ok (.aload_n 0, 1) := dk_42 (dk_at dksX9_keen_1 17 rfl rfl)
theorem dX9_keen_40 : decode cX9_keen 40 = .ok (.getfield 19, 3) := dk_180 0 19 (dk_at dksX9_keen_1 18 rfl rfl)
theorem dX9_keen_43 : decode cX9_keen 43 = .ok (.iconst 2, 1) := dk_5 (dk_at dksX9_keen_1 21 rfl rfl)
theorem dX9_keen_44 : decode cX9_keen 44 = .ok (.iaload, 1) := dk_46 (dk_at dksX9_keen_1 22 rfl rfl)
theorem dX9_keen_45 : decode cX9_keen 45 = .ok (.if_icmp .ge 126, 3) := dk_162 0 126 (dk_at dksX9_keen_2 0 rfl rfl)
theorem dX9_keen_48 : decode cX9_keen 48 = .ok (.iconst 0, 1) := dk_3 (dk_at dksX9_keen_2 3 rfl rfl)
theorem dX9_keen_49 : decode cX9_keen 49 = .ok (.istore 5, 2) := dk_54 5 (dk_at dksX9_keen_2 4 rfl rfl)
theorem dX9_keen_51 : decode cX9_keen 51 = .ok (.iconst 0, 1) := dk_3 (dk_at dksX9_keen_2 6 rfl rfl)
theorem dX9_keen_52 : decode cX9_keen 52 = .ok (.istore 6, 2) := dk_54 6 (dk_at dksX9_keen_2 7 rfl rfl)
theorem dX9_keen_54 : decode cX9_keen 54 = .ok (.iload 6, 2) := dk_21 6 (dk_at dksX9_keen_2 9 rfl rfl)
theorem dX9_keen_56 : decode cX9_keen 56 = .ok (.aload_n 0, 1) := dk_42 (dk_at dksX9_keen_2 11 rfl rfl)
theorem dX9_keen_57 : decode cX9_keen 57 = .ok (.getfield 19, 3) := dk_180 0 19 (dk_at dksX9_keen_2 12 rfl rfl)
theorem dX9_keen_60 : decode cX9_keen 60 = .ok (.iconst 3, 1) := dk_6 (dk_at dksX9_keen_2 15 rfl rfl)
theorem dX9_keen_61 : decode cX9_keen 61 = .ok (.iaload, 1) := dk_46 (dk_at dksX9_keen_2 16 rfl rfl)
theorem dX9_keen_62 : decode cX9_keen 62 = .ok (.if_icmp .ge 33, 3) := dk_162 0 33 (dk_at dksX9_keen_2 17 rfl rfl)
theorem dX9_keen_65 : decode cX9_keen 65 = .ok (.iload 5, 2) := dk_21 5 (dk_at dksX9_keen_2 20 rfl rfl)
theorem dX9_keen_67 : decode cX9_keen 67 = .ok (.aload_n 0, 1) := dk_42 (dk_at dksX9_keen_2 22 rfl rfl)
theorem dX9_keen_68 : decode cX9_keen 68 = .ok (.getfield 19, 3) := dk_180 0 19 (dk_at dksX9_keen_3 0 rfl rfl)
theorem dX9_keen_71 : decode cX9_keen 71 = .ok (.iload 6, 2) := dk_21 6 (dk_at dksX9_keen_3 3 rfl rfl)
theorem dX9_keen_73 : decode cX9_keen 73 = .ok (.iload 4, 2) := dk_21 4 (dk_at dksX9_keen_3 5 rfl rfl)
theorem dX9_keen_75 : decode cX9_keen 75 = .ok (.invokestatic 183, 3) := dk_184 0 183 (dk_at dksX9_keen_3 7 rfl rfl)
theorem dX9_keen_78 : decode cX9_keen 78 = .ok (.ifCond .eq 7, 3) := dk_153 0 7 (dk_at dksX9_keen_3 10 rfl rfl)
theorem dX9_keen_81 : decode cX9_keen 81 = .ok (.iconst 1, 1) := dk_4 (dk_at dksX9_keen_3 13 rfl rfl)
theorem dX9_keen_82 : decode cX9_keen 82 = .ok (.goto 4, 3) := dk_167 0 4 (dk_at dksX9_keen_3 14 rfl rfl)
theorem dX9_keen_85 : decode cX9_keen 85 = .ok (.iconst (-1), 1) := dk_2 (dk_at dksX9_keen_3 17 rfl rfl)
theorem dX9_keen_86 : decode cX9_keen 86 = .ok (.iadd, 1) := dk_96 (dk_at dksX9_keen_3 18 rfl rfl)
theorem dX9_keen_87 : decode cX9_keen 87 = .ok (.istore 5, 2) := dk_54 5 (dk_at dksX9_keen_3 19 rfl rfl)
theorem dX9_keen_89 : decode cX9_keen 89 = .ok (.iinc 6 1, 3) := dk_132 6 1 (dk_at dksX9_keen_3 21 rfl rfl)
theorem dX9_keen_92 : decode cX9_keen 92 = .ok (.goto (-38), 3) := dk_167 255 218 (dk_at dksX9_keen_4 0 rfl rfl)
theorem dX9_keen_95 : decode cX9_keen 95 = .ok (.iload 5, 2) := dk_21 5 (dk_at dksX9_keen_4 3 rfl rfl)
theorem dX9_keen_97 : decode cX9_keen 97 = .ok (.ifCond .ge 9, 3) := dk_156 0 9 (dk_at dksX9_keen_4 5 rfl rfl)
theorem dX9_keen_100 : decode cX9_keen 100 = .ok (.iload 5, 2) := dk_21 5 (dk_at dksX9_keen_4 8 rfl rfl)
theorem dX9_keen_102 : decode cX9_keen 102 = .ok (.ineg, 1) := dk_116 (dk_at dksX9_keen_4 10 rfl rfl)
theorem dX9_keen_103 : decode cX9_keen 103 = .ok (.goto 5, 3) := dk_167 0 5 (dk_at dksX9_keen_4 11 rfl rfl)
theorem dX9_keen_106 : decode cX9_keen 106 = .ok (.iload 5, 2) := dk_21 5 (dk_at dksX9_keen_4 14 rfl rfl)
theorem dX9_keen_108 : decode cX9_keen 108 = .ok (.istore 5, 2) := dk_54 5 (dk_at dksX9_keen_4 16 rfl rfl)
theorem dX9_keen_110 : decode cX9_keen 110 = .ok (.aload_n 0, 1) := dk_42 (dk_at dksX9_keen_4 18 rfl rfl)
theorem dX9_keen_111 : decode cX9_keen 111 = .ok (.getfield 19, 3) := dk_180 0 19 (dk_at dksX9_keen_4 19 rfl rfl)
theorem dX9_keen_114 : decode cX9_keen 114 = .ok (.iload 4, 2) := dk_21 4 (dk_at dksX9_keen_4 22 rfl rfl)
theorem dX9_keen_116 : decode cX9_keen 116 = .ok (.invokestatic 168, 3) := dk_184 0 168 (dk_at dksX9_keen_5 0 rfl rfl)
theorem dX9_keen_119 : decode cX9_keen 119 = .ok (.ifCond .eq 19, 3) := dk_153 0 19 (dk_at dksX9_keen_5 3 rfl rfl)
theorem dX9_keen_122 : decode cX9_keen 122 = .ok (.iload_n 2, 1) := dk_28 (dk_at dksX9_keen_5 6 rfl rfl)
theorem dX9_keen_123 : decode cX9_keen 123 = .ok (.ldc 91, 2) := dk_18 91 (dk_at dksX9_keen_5 7 rfl rfl)
theorem dX9_keen_125 : decode cX9_keen 125 = .ok (.if_icmp .eq 9, 3) := dk_159 0 9 (dk_at dksX9_keen_5 9 rfl rfl)
theorem dX9_keen_128 : decode cX9_keen 128 = .ok (.iload 5, 2) := dk_21 5 (dk_at dksX9_keen_5 12 rfl rfl)
theorem dX9_keen_130 : decode cX9_keen 130 = .ok (.iload_n 3, 1) := dk_29 (dk_at dksX9_keen_5 14 rfl rfl)
theorem dX9_keen_131 : decode cX9_keen 131 = .ok (.if_icmp .ge 7, 3) := dk_162 0 7 (dk_at dksX9_keen_5 15 rfl rfl)
theorem dX9_keen_134 : decode cX9_keen 134 = .ok (.iconst 1, 1) := dk_4 (dk_at dksX9_keen_5 18 rfl rfl)
theorem dX9_keen_135 : decode cX9_keen 135 = .ok (.goto 4, 3) := dk_167 0 4 (dk_at dksX9_keen_5 19 rfl rfl)
theorem dX9_keen_138 : decode cX9_keen 138 = .ok (.iconst 0, 1) := dk_3 (dk_at dksX9_keen_5 22 rfl rfl)
theorem dX9_keen_139 : decode cX9_keen 139 = .ok (.istore 6, 2) := dk_54 6 (dk_at dksX9_keen_6 0 rfl rfl)
theorem dX9_keen_141 : decode cX9_keen 141 = .ok (.iload 6, 2) := dk_21 6 (dk_at dksX9_keen_6 2 rfl rfl)
theorem dX9_keen_143 : decode cX9_keen 143 = .ok (.ifCond .eq 8, 3) := dk_153 0 8 (dk_at dksX9_keen_6 4 rfl rfl)
theorem dX9_keen_146 : decode cX9_keen 146 = .ok (.iload 4, 2) := dk_21 4 (dk_at dksX9_keen_6 7 rfl rfl)
theorem dX9_keen_148 : decode cX9_keen 148 = .ok (.goto 4, 3) := dk_167 0 4 (dk_at dksX9_keen_6 9 rfl rfl)
theorem dX9_keen_151 : decode cX9_keen 151 = .ok (.iload_n 2, 1) := dk_28 (dk_at dksX9_keen_6 12 rfl rfl)
theorem dX9_keen_152 : decode cX9_keen 152 = .ok (.istore_n 2, 1) := dk_61 (dk_at dksX9_keen_6 13 rfl rfl)
theorem dX9_keen_153 : decode cX9_keen 153 = .ok (.iload 6, 2) := dk_21 6 (dk_at dksX9_keen_6 14 rfl rfl)
theorem dX9_keen_155 : decode cX9_keen 155 = .ok (.ifCond .eq 8, 3) := dk_153 0 8 (dk_at dksX9_keen_6 16 rfl rfl)
theorem dX9_keen_158 : decode cX9_keen 158 = .ok (.iload 5, 2) := dk_21 5 (dk_at dksX9_keen_6 19 rfl rfl)
theorem dX9_keen_160 : decode cX9_keen 160 = .ok (.goto 4, 3) := dk_167 0 4 (dk_at dksX9_keen_6 21 rfl rfl)
theorem dX9_keen_163 : decode cX9_keen 163 = .ok (.iload_n 3, 1) := dk_29 (dk_at dksX9_keen_7 0 rfl rfl)
theorem dX9_keen_164 : decode cX9_keen 164 = .ok (.istore_n 3, 1) := dk_62 (dk_at dksX9_keen_7 1 rfl rfl)
theorem dX9_keen_165 : decode cX9_keen 165 = .ok (.iinc 4 1, 3) := dk_132 4 1 (dk_at dksX9_keen_7 2 rfl rfl)
theorem dX9_keen_168 : decode cX9_keen 168 = .ok (.goto (-131), 3) := dk_167 255 125 (dk_at dksX9_keen_7 5 rfl rfl)
theorem dX9_keen_171 : decode cX9_keen 171 = .ok (.iload_n 1, 1) := dk_27 (dk_at dksX9_keen_7 8 rfl rfl)
theorem dX9_keen_172 : decode cX9_keen 172 = .ok (.ifCond .ne 7, 3) := dk_154 0 7 (dk_at dksX9_keen_7 9 rfl rfl)
theorem dX9_keen_175 : decode cX9_keen 175 = .ok (.iload_n 2, 1) := dk_28 (dk_at dksX9_keen_7 12 rfl rfl)
theorem dX9_keen_176 : decode cX9_keen 176 = .ok (.goto 4, 3) := dk_167 0 4 (dk_at dksX9_keen_7 13 rfl rfl)
theorem dX9_keen_179 : decode cX9_keen 179 = .ok (.iload_n 3, 1) := dk_29 (dk_at dksX9_keen_7 16 rfl rfl)
theorem dX9_keen_180 : decode cX9_keen 180 = .ok (.ireturn, 1) := dk_172 (dk_at dksX9_keen_7 17 rfl rfl)
abbrev cX9_tells : ByteArray := prog_16_method_61_code
def yX9_tells : MethodName := ⟨RX9, "tells", "(II)I"⟩
def dkwX9_tells_6 : List UInt8 := [167, 255, 167, 28, 154, 0, 7, 29, 167, 0, 5, 21, 4, 172]
abbrev dktX9_tells_6 : List UInt8 := dkwX9_tells_6 ++ []
def dkwX9_tells_5 : List UInt8 := [16, 10, 21, 5, 104, 21, 6, 96, 167, 0, 5, 21, 4, 54, 4, 132, 6, 255, 167, 255, 188, 132, 5, 255]
abbrev dktX9_tells_5 : List UInt8 := dkwX9_tells_5 ++ dktX9_tells_6
def dkwX9_tells_4 : List UInt8 := [167, 0, 4, 3, 54, 7, 29, 21, 7, 153, 0, 7, 3, 167, 0, 4, 4, 96, 62, 21, 7, 153, 0, 14]
abbrev dktX9_tells_4 : List UInt8 := dkwX9_tells_4 ++ dktX9_tells_5
def dkwX9_tells_3 : List UInt8 := [164, 0, 67, 42, 21, 5, 182, 0, 214, 42, 21, 6, 182, 0, 214, 130, 27, 126, 154, 0, 7, 4]
abbrev dktX9_tells_3 : List UInt8 := dkwX9_tells_3 ++ dktX9_tells_4
def dkwX9_tells_2 : List UInt8 := [4, 100, 54, 5, 21, 5, 155, 0, 90, 42, 180, 0, 19, 6, 46, 4, 100, 54, 6, 21, 6, 21, 5]
abbrev dktX9_tells_2 : List UInt8 := dkwX9_tells_2 ++ dktX9_tells_3
def dkwX9_tells_1 : List UInt8 := [133, 9, 10, 184, 0, 58, 154, 0, 6, 18, 68, 172, 3, 62, 18, 91, 54, 4, 42, 180, 0, 19, 6, 46]
abbrev dktX9_tells_1 : List UInt8 := dkwX9_tells_1 ++ dktX9_tells_2
def dkwX9_tells_0 : List UInt8 := [42, 3, 181, 0, 48, 42, 182, 0, 201, 154, 0, 6, 18, 204, 172, 42, 27, 182, 0, 192, 153, 0, 13, 28]
abbrev dktX9_tells_0 : List UInt8 := dkwX9_tells_0 ++ dktX9_tells_1
theorem dksX9_tells_0 : cX9_tells.data.toList.drop 0 = dktX9_tells_0 := by decide +kernel
theorem dksX9_tells_1 : cX9_tells.data.toList.drop 24 = dktX9_tells_1 := dk_seg dksX9_tells_0 24 rfl rfl
theorem dksX9_tells_2 : cX9_tells.data.toList.drop 48 = dktX9_tells_2 := dk_seg dksX9_tells_1 24 rfl rfl
theorem dksX9_tells_3 : cX9_tells.data.toList.drop 71 = dktX9_tells_3 := dk_seg dksX9_tells_2 23 rfl rfl
theorem dksX9_tells_4 : cX9_tells.data.toList.drop 93 = dktX9_tells_4 := dk_seg dksX9_tells_3 22 rfl rfl
theorem dksX9_tells_5 : cX9_tells.data.toList.drop 117 = dktX9_tells_5 := dk_seg dksX9_tells_4 24 rfl rfl
theorem dksX9_tells_6 : cX9_tells.data.toList.drop 141 = dktX9_tells_6 := dk_seg dksX9_tells_5 24 rfl rfl
theorem dX9_tells_0 : decode cX9_tells 0 = .ok (.aload_n 0, 1) := dk_42 (dk_at dksX9_tells_0 0 rfl rfl)
theorem dX9_tells_1 : decode cX9_tells 1 = .ok (.iconst 0, 1) := dk_3 (dk_at dksX9_tells_0 1 rfl rfl)
theorem dX9_tells_2 : decode cX9_tells 2 = .ok (.putfield 48, 3) := dk_181 0 48 (dk_at dksX9_tells_0 2 rfl rfl)
theorem dX9_tells_5 : decode cX9_tells 5 = .ok (.aload_n 0, 1) := dk_42 (dk_at dksX9_tells_0 5 rfl rfl)
theorem dX9_tells_6 : decode cX9_tells 6 = .ok (.invokevirtual 201, 3) := dk_182 0 201 (dk_at dksX9_tells_0 6 rfl rfl)
theorem dX9_tells_9 : decode cX9_tells 9 = .ok (.ifCond .ne 6, 3) := dk_154 0 6 (dk_at dksX9_tells_0 9 rfl rfl)
theorem dX9_tells_12 : decode cX9_tells 12 = .ok (.ldc 204, 2) := dk_18 204 (dk_at dksX9_tells_0 12 rfl rfl)
theorem dX9_tells_14 : decode cX9_tells 14 = .ok (.ireturn, 1) := dk_172 (dk_at dksX9_tells_0 14 rfl rfl)
theorem dX9_tells_15 : decode cX9_tells 15 = .ok (.aload_n 0, 1) := dk_42 (dk_at dksX9_tells_0 15 rfl rfl)
theorem dX9_tells_16 : decode cX9_tells 16 = .ok (.iload_n 1, 1) := dk_27 (dk_at dksX9_tells_0 16 rfl rfl)
theorem dX9_tells_17 : decode cX9_tells 17 = .ok (.invokevirtual 192, 3) := dk_182 0 192 (dk_at dksX9_tells_0 17 rfl rfl)
theorem dX9_tells_20 : decode cX9_tells 20 = .ok (.ifCond .eq 13, 3) := dk_153 0 13 (dk_at dksX9_tells_0 20 rfl rfl)
theorem dX9_tells_23 : decode cX9_tells 23 = .ok (.iload_n 2, 1) := dk_28 (dk_at dksX9_tells_0 23 rfl rfl)
theorem dX9_tells_24 : decode cX9_tells 24 = .ok (.i2l, 1) := dk_133 (dk_at dksX9_tells_1 0 rfl rfl)
theorem dX9_tells_25 : decode cX9_tells 25 = .ok (.lconst 0, 1) := dk_9 (dk_at dksX9_tells_1 1 rfl rfl)
theorem dX9_tells_26 : decode cX9_tells 26 = .ok (.lconst 1, 1) := dk_10 (dk_at dksX9_tells_1 2 rfl rfl)
theorem dX9_tells_27 : decode cX9_tells 27 = .ok (.invokestatic 58, 3) := dk_184 0 58 (dk_at dksX9_tells_1 3 rfl rfl)
theorem dX9_tells_30 : decode cX9_tells 30 = .ok (.ifCond .ne 6, 3) := dk_154 0 6 (dk_at dksX9_tells_1 6 rfl rfl)
theorem dX9_tells_33 : decode cX9_tells 33 = .ok (.ldc 68, 2) := dk_18 68 (dk_at dksX9_tells_1 9 rfl rfl)
theorem dX9_tells_35 : decode cX9_tells 35 = .ok (.ireturn, 1) := dk_172 (dk_at dksX9_tells_1 11 rfl rfl)
theorem dX9_tells_36 : decode cX9_tells 36 = .ok (.iconst 0, 1) := dk_3 (dk_at dksX9_tells_1 12 rfl rfl)
theorem dX9_tells_37 : decode cX9_tells 37 = .ok (.istore_n 3, 1) := dk_62 (dk_at dksX9_tells_1 13 rfl rfl)
theorem dX9_tells_38 : decode cX9_tells 38 = .ok (.ldc 91, 2) := dk_18 91 (dk_at dksX9_tells_1 14 rfl rfl)
theorem dX9_tells_40 : decode cX9_tells 40 = .ok (.istore 4, 2) := dk_54 4 (dk_at dksX9_tells_1 16 rfl rfl)
theorem dX9_tells_42 : decode cX9_tells 42 = .ok (.aload_n 0, 1) := dk_42 (dk_at dksX9_tells_1 18 rfl rfl)
theorem dX9_tells_43 : decode cX9_tells 43 = .ok (.getfield 19, 3) := dk_180 0 19 (dk_at dksX9_tells_1 19 rfl rfl)
theorem dX9_tells_46 : decode cX9_tells 46 = .ok (.iconst 3, 1) := dk_6 (dk_at dksX9_tells_1 22 rfl rfl)
theorem dX9_tells_47 : decode cX9_tells 47 = .ok (.iaload, 1) := dk_46 (dk_at dksX9_tells_1 23 rfl rfl)
theorem dX9_tells_48 : decode cX9_tells 48 = .ok (.iconst 1, 1) := dk_4 (dk_at dksX9_tells_2 0 rfl rfl)
theorem dX9_tells_49 : decode cX9_tells 49 = .ok (.isub, 1) := dk_100 (dk_at dksX9_tells_2 1 rfl rfl)
theorem dX9_tells_50 : decode cX9_tells 50 = .ok (.istore 5, 2) := dk_54 5 (dk_at dksX9_tells_2 2 rfl rfl)
theorem dX9_tells_52 : decode cX9_tells 52 = .ok (.iload 5, 2) := dk_21 5 (dk_at dksX9_tells_2 4 rfl rfl)
theorem dX9_tells_54 : decode cX9_tells 54 = .ok (.ifCond .lt 90, 3) := dk_155 0 90 (dk_at dksX9_tells_2 6 rfl rfl)
theorem dX9_tells_57 : decode cX9_tells 57 = .ok (.aload_n 0, 1) := dk_42 (dk_at dksX9_tells_2 9 rfl rfl)
theorem dX9_tells_58 : decode cX9_tells 58 = .ok (.getfield 19, 3) := dk_180 0 19 (dk_at dksX9_tells_2 10 rfl rfl)
theorem dX9_tells_61 : decode cX9_tells 61 = .ok (.iconst 3, 1) := dk_6 (dk_at dksX9_tells_2 13 rfl rfl)
theorem dX9_tells_62 : decode cX9_tells 62 = .ok (.iaload, 1) := dk_46 (dk_at dksX9_tells_2 14 rfl rfl)
theorem dX9_tells_63 : decode cX9_tells 63 = .ok (.iconst 1, 1) := dk_4 (dk_at dksX9_tells_2 15 rfl rfl)
theorem dX9_tells_64 : decode cX9_tells 64 = .ok (.isub, 1) := dk_100 (dk_at dksX9_tells_2 16 rfl rfl)
theorem dX9_tells_65 : decode cX9_tells 65 = .ok (.istore 6, 2) := dk_54 6 (dk_at dksX9_tells_2 17 rfl rfl)
theorem dX9_tells_67 : decode cX9_tells 67 = .ok (.iload 6, 2) := dk_21 6 (dk_at dksX9_tells_2 19 rfl rfl)
theorem dX9_tells_69 : decode cX9_tells 69 = .ok (.iload 5, 2) := dk_21 5 (dk_at dksX9_tells_2 21 rfl rfl)
theorem dX9_tells_71 : decode cX9_tells 71 = .ok (.if_icmp .le 67, 3) := dk_164 0 67 (dk_at dksX9_tells_3 0 rfl rfl)
theorem dX9_tells_74 : decode cX9_tells 74 = .ok (.aload_n 0, 1) := dk_42 (dk_at dksX9_tells_3 3 rfl rfl)
theorem dX9_tells_75 : decode cX9_tells 75 = .ok (.iload 5, 2) := dk_21 5 (dk_at dksX9_tells_3 4 rfl rfl)
theorem dX9_tells_77 : decode cX9_tells 77 = .ok (.invokevirtual 214, 3) := dk_182 0 214 (dk_at dksX9_tells_3 6 rfl rfl)
theorem dX9_tells_80 : decode cX9_tells 80 = .ok (.aload_n 0, 1) := dk_42 (dk_at dksX9_tells_3 9 rfl rfl)
theorem dX9_tells_81 : decode cX9_tells 81 = .ok (.iload 6, 2) := dk_21 6 (dk_at dksX9_tells_3 10 rfl rfl)
theorem dX9_tells_83 : decode cX9_tells 83 = .ok (.invokevirtual 214, 3) := dk_182 0 214 (dk_at dksX9_tells_3 12 rfl rfl)
theorem dX9_tells_86 : decode cX9_tells 86 = .ok (.ixor, 1) := dk_130 (dk_at dksX9_tells_3 15 rfl rfl)
theorem dX9_tells_87 : decode cX9_tells 87 = .ok (.iload_n 1, 1) := dk_27 (dk_at dksX9_tells_3 16 rfl rfl)
theorem dX9_tells_88 : decode cX9_tells 88 = .ok (.iand, 1) := dk_126 (dk_at dksX9_tells_3 17 rfl rfl)
theorem dX9_tells_89 : decode cX9_tells 89 = .ok (.ifCond .ne 7, 3) := dk_154 0 7 (dk_at dksX9_tells_3 18 rfl rfl)
theorem dX9_tells_92 : decode cX9_tells 92 = .ok (.iconst 1, 1) := dk_4 (dk_at dksX9_tells_3 21 rfl rfl)
theorem dX9_tells_93 : decode cX9_tells 93 = .ok (.goto 4, 3) := dk_167 0 4 (dk_at dksX9_tells_4 0 rfl rfl)
theorem dX9_tells_96 : decode cX9_tells 96 = .ok (.iconst 0, 1) := dk_3 (dk_at dksX9_tells_4 3 rfl rfl)
theorem dX9_tells_97 : decode cX9_tells 97 = .ok (.istore 7, 2) := dk_54 7 (dk_at dksX9_tells_4 4 rfl rfl)
theorem dX9_tells_99 : decode cX9_tells 99 = .ok (.iload_n 3, 1) := dk_29 (dk_at dksX9_tells_4 6 rfl rfl)
theorem dX9_tells_100 : decode cX9_tells 100 = .ok (.iload 7, 2) := dk_21 7 (dk_at dksX9_tells_4 7 rfl rfl)
theorem dX9_tells_102 : decode cX9_tells 102 = .ok (.ifCond .eq 7, 3) := dk_153 0 7 (dk_at dksX9_tells_4 9 rfl rfl)
theorem dX9_tells_105 : decode cX9_tells 105 = .ok (.iconst 0, 1) := dk_3 (dk_at dksX9_tells_4 12 rfl rfl)
theorem dX9_tells_106 : decode cX9_tells 106 = .ok (.goto 4, 3) := dk_167 0 4 (dk_at dksX9_tells_4 13 rfl rfl)
theorem dX9_tells_109 : decode cX9_tells 109 = .ok (.iconst 1, 1) := dk_4 (dk_at dksX9_tells_4 16 rfl rfl)
theorem dX9_tells_110 : decode cX9_tells 110 = .ok (.iadd, 1) := dk_96 (dk_at dksX9_tells_4 17 rfl rfl)
theorem dX9_tells_111 : decode cX9_tells 111 = .ok (.istore_n 3, 1) := dk_62 (dk_at dksX9_tells_4 18 rfl rfl)
theorem dX9_tells_112 : decode cX9_tells 112 = .ok (.iload 7, 2) := dk_21 7 (dk_at dksX9_tells_4 19 rfl rfl)
theorem dX9_tells_114 : decode cX9_tells 114 = .ok (.ifCond .eq 14, 3) := dk_153 0 14 (dk_at dksX9_tells_4 21 rfl rfl)
theorem dX9_tells_117 : decode cX9_tells 117 = .ok (.bipush 10, 2) := dk_16 10 (dk_at dksX9_tells_5 0 rfl rfl)
theorem dX9_tells_119 : decode cX9_tells 119 = .ok (.iload 5, 2) := dk_21 5 (dk_at dksX9_tells_5 2 rfl rfl)
theorem dX9_tells_121 : decode cX9_tells 121 = .ok (.imul, 1) := dk_104 (dk_at dksX9_tells_5 4 rfl rfl)
theorem dX9_tells_122 : decode cX9_tells 122 = .ok (.iload 6, 2) := dk_21 6 (dk_at dksX9_tells_5 5 rfl rfl)
theorem dX9_tells_124 : decode cX9_tells 124 = .ok (.iadd, 1) := dk_96 (dk_at dksX9_tells_5 7 rfl rfl)
theorem dX9_tells_125 : decode cX9_tells 125 = .ok (.goto 5, 3) := dk_167 0 5 (dk_at dksX9_tells_5 8 rfl rfl)
theorem dX9_tells_128 : decode cX9_tells 128 = .ok (.iload 4, 2) := dk_21 4 (dk_at dksX9_tells_5 11 rfl rfl)
theorem dX9_tells_130 : decode cX9_tells 130 = .ok (.istore 4, 2) := dk_54 4 (dk_at dksX9_tells_5 13 rfl rfl)
theorem dX9_tells_132 : decode cX9_tells 132 = .ok (.iinc 6 (-1), 3) := dk_132 6 255 (dk_at dksX9_tells_5 15 rfl rfl)
theorem dX9_tells_135 : decode cX9_tells 135 = .ok (.goto (-68), 3) := dk_167 255 188 (dk_at dksX9_tells_5 18 rfl rfl)
theorem dX9_tells_138 : decode cX9_tells 138 = .ok (.iinc 5 (-1), 3) := dk_132 5 255 (dk_at dksX9_tells_5 21 rfl rfl)
theorem dX9_tells_141 : decode cX9_tells 141 = .ok (.goto (-89), 3) := dk_167 255 167 (dk_at dksX9_tells_6 0 rfl rfl)
theorem dX9_tells_144 : decode cX9_tells 144 = .ok (.iload_n 2, 1) := dk_28 (dk_at dksX9_tells_6 3 rfl rfl)
theorem dX9_tells_145 : decode cX9_tells 145 = .ok (.ifCond .ne 7, 3) := dk_154 0 7 (dk_at dksX9_tells_6 4 rfl rfl)
theorem dX9_tells_148 : decode cX9_tells 148 = .ok (.iload_n 3, 1) := dk_29 (dk_at dksX9_tells_6 7 rfl rfl)
theorem dX9_tells_149 : decode cX9_tells 149 = .ok (.goto 5, 3) := dk_167 0 5 (dk_at dksX9_tells_6 8 rfl rfl)
theorem dX9_tells_152 : decode cX9_tells 152 = .ok (.iload 4, 2) := dk_21 4 (dk_at dksX9_tells_6 11 rfl rfl)
theorem dX9_tells_154 : decode cX9_tells 154 = .ok (.ireturn, 1) := dk_172 (dk_at dksX9_tells_6 13 rfl rfl)
abbrev cX9_learned : ByteArray := prog_16_method_62_code
def yX9_learned : MethodName := ⟨RX9, "learned", "(I)I"⟩
def dkwX9_learned_2 : List UInt8 := [154, 0, 7, 4, 167, 0, 4, 3, 172]
abbrev dktX9_learned_2 : List UInt8 := dkwX9_learned_2 ++ []
def dkwX9_learned_1 : List UInt8 := [184, 0, 157, 42, 180, 0, 19, 27, 6, 184, 0, 157, 100, 61, 28, 158, 0, 7, 5, 167, 0, 12, 28]
abbrev dktX9_learned_1 : List UInt8 := dkwX9_learned_1 ++ dktX9_learned_2
def dkwX9_learned_0 : List UInt8 := [42, 3, 181, 0, 48, 42, 27, 182, 0, 207, 154, 0, 6, 18, 68, 172, 42, 180, 0, 19, 27, 5]
abbrev dktX9_learned_0 : List UInt8 := dkwX9_learned_0 ++ dktX9_learned_1
theorem dksX9_learned_0 : cX9_learned.data.toList.drop 0 = dktX9_learned_0 := by decide +kernel
theorem dksX9_learned_1 : cX9_learned.data.toList.drop 22 = dktX9_learned_1 := dk_seg dksX9_learned_0 22 rfl rfl
theorem dksX9_learned_2 : cX9_learned.data.toList.drop 45 = dktX9_learned_2 := dk_seg dksX9_learned_1 23 rfl rfl
theorem dX9_learned_0 : decode cX9_learned 0 = .ok (.aload_n 0, 1) := dk_42 (dk_at dksX9_learned_0 0 rfl rfl)
theorem dX9_learned_1 : decode cX9_learned 1 = .ok (.iconst 0, 1) := dk_3 (dk_at dksX9_learned_0 1 rfl rfl)
theorem dX9_learned_2 : decode cX9_learned 2 = .ok (.putfield 48, 3) := dk_181 0 48 (dk_at dksX9_learned_0 2 rfl rfl)
theorem dX9_learned_5 : decode cX9_learned 5 = .ok (.aload_n 0, 1) := dk_42 (dk_at dksX9_learned_0 5 rfl rfl)
theorem dX9_learned_6 : decode cX9_learned 6 = .ok (.iload_n 1, 1) := dk_27 (dk_at dksX9_learned_0 6 rfl rfl)
theorem dX9_learned_7 : decode cX9_learned 7 = .ok (.invokevirtual 207, 3) := dk_182 0 207 (dk_at dksX9_learned_0 7 rfl rfl)
theorem dX9_learned_10 : decode cX9_learned 10 = .ok (.ifCond .ne 6, 3) := dk_154 0 6 (dk_at dksX9_learned_0 10 rfl rfl)
theorem dX9_learned_13 : decode cX9_learned 13 = .ok (.ldc 68, 2) := dk_18 68 (dk_at dksX9_learned_0 13 rfl rfl)
theorem dX9_learned_15 : decode cX9_learned 15 = .ok (.ireturn, 1) := dk_172 (dk_at dksX9_learned_0 15 rfl rfl)
theorem dX9_learned_16 : decode cX9_learned 16 = .ok (.aload_n 0, 1) := dk_42 (dk_at dksX9_learned_0 16 rfl rfl)
theorem dX9_learned_17 : decode cX9_learned 17 = .ok (.getfield 19, 3) := dk_180 0 19 (dk_at dksX9_learned_0 17 rfl rfl)
theorem dX9_learned_20 : decode cX9_learned 20 = .ok (.iload_n 1, 1) := dk_27 (dk_at dksX9_learned_0 20 rfl rfl)
theorem dX9_learned_21 : decode cX9_learned 21 = .ok (.iconst 2, 1) := dk_5 (dk_at dksX9_learned_0 21 rfl rfl)
theorem dX9_learned_22 : decode cX9_learned 22 = .ok (.invokestatic 157, 3) := dk_184 0 157 (dk_at dksX9_learned_1 0 rfl rfl)
theorem dX9_learned_25 : decode cX9_learned 25 = .ok (.aload_n 0, 1) := dk_42 (dk_at dksX9_learned_1 3 rfl rfl)
theorem dX9_learned_26 : decode cX9_learned 26 = .ok (.getfield 19, 3) := dk_180 0 19 (dk_at dksX9_learned_1 4 rfl rfl)
theorem dX9_learned_29 : decode cX9_learned 29 = .ok (.iload_n 1, 1) := dk_27 (dk_at dksX9_learned_1 7 rfl rfl)
theorem dX9_learned_30 : decode cX9_learned 30 = .ok (.iconst 3, 1) := dk_6 (dk_at dksX9_learned_1 8 rfl rfl)
theorem dX9_learned_31 : decode cX9_learned 31 = .ok (.invokestatic 157, 3) := dk_184 0 157 (dk_at dksX9_learned_1 9 rfl rfl)
theorem dX9_learned_34 : decode cX9_learned 34 = .ok (.isub, 1) := dk_100 (dk_at dksX9_learned_1 12 rfl rfl)
theorem dX9_learned_35 : decode cX9_learned 35 = .ok (.istore_n 2, 1) := dk_61 (dk_at dksX9_learned_1 13 rfl rfl)
theorem dX9_learned_36 : decode cX9_learned 36 = .ok (.iload_n 2, 1) := dk_28 (dk_at dksX9_learned_1 14 rfl rfl)
theorem dX9_learned_37 : decode cX9_learned 37 = .ok (.ifCond .le 7, 3) := dk_158 0 7 (dk_at dksX9_learned_1 15 rfl rfl)
theorem dX9_learned_40 : decode cX9_learned 40 = .ok (.iconst 2, 1) := dk_5 (dk_at dksX9_learned_1 18 rfl rfl)
theorem dX9_learned_41 : decode cX9_learned 41 = .ok (.goto 12, 3) := dk_167 0 12 (dk_at dksX9_learned_1 19 rfl rfl)
theorem dX9_learned_44 : decode cX9_learned 44 = .ok (.iload_n 2, 1) := dk_28 (dk_at dksX9_learned_1 22 rfl rfl)
theorem dX9_learned_45 : decode cX9_learned 45 = .ok (.ifCond .ne 7, 3) := dk_154 0 7 (dk_at dksX9_learned_2 0 rfl rfl)
theorem dX9_learned_48 : decode cX9_learned 48 = .ok (.iconst 1, 1) := dk_4 (dk_at dksX9_learned_2 3 rfl rfl)
theorem dX9_learned_49 : decode cX9_learned 49 = .ok (.goto 4, 3) := dk_167 0 4 (dk_at dksX9_learned_2 4 rfl rfl)
theorem dX9_learned_52 : decode cX9_learned 52 = .ok (.iconst 0, 1) := dk_3 (dk_at dksX9_learned_2 7 rfl rfl)
theorem dX9_learned_53 : decode cX9_learned 53 = .ok (.ireturn, 1) := dk_172 (dk_at dksX9_learned_2 8 rfl rfl)
abbrev cX9_needs : ByteArray := prog_16_method_63_code
def yX9_needs : MethodName := ⟨RX9, "needs", "(I)I"⟩
def dkwX9_needs_2 : List UInt8 := [100, 61, 28, 158, 0, 7, 28, 167, 0, 6, 4, 28, 100, 172]
abbrev dktX9_needs_2 : List UInt8 := dkwX9_needs_2 ++ []
def dkwX9_needs_1 : List UInt8 := [153, 0, 6, 18, 204, 172, 42, 180, 0, 19, 27, 5, 184, 0, 157, 42, 180, 0, 19, 27, 6, 184, 0, 157]
abbrev dktX9_needs_1 : List UInt8 := dkwX9_needs_1 ++ dktX9_needs_2
def dkwX9_needs_0 : List UInt8 := [42, 3, 181, 0, 48, 42, 27, 182, 0, 207, 154, 0, 6, 18, 68, 172, 42, 180, 0, 19, 27, 184, 0, 168]
abbrev dktX9_needs_0 : List UInt8 := dkwX9_needs_0 ++ dktX9_needs_1
theorem dksX9_needs_0 : cX9_needs.data.toList.drop 0 = dktX9_needs_0 := by decide +kernel
theorem dksX9_needs_1 : cX9_needs.data.toList.drop 24 = dktX9_needs_1 := dk_seg dksX9_needs_0 24 rfl rfl
theorem dksX9_needs_2 : cX9_needs.data.toList.drop 48 = dktX9_needs_2 := dk_seg dksX9_needs_1 24 rfl rfl
theorem dX9_needs_0 : decode cX9_needs 0 = .ok (.aload_n 0, 1) := dk_42 (dk_at dksX9_needs_0 0 rfl rfl)
theorem dX9_needs_1 : decode cX9_needs 1 = .ok (.iconst 0, 1) := dk_3 (dk_at dksX9_needs_0 1 rfl rfl)
theorem dX9_needs_2 : decode cX9_needs 2 = .ok (.putfield 48, 3) := dk_181 0 48 (dk_at dksX9_needs_0 2 rfl rfl)
theorem dX9_needs_5 : decode cX9_needs 5 = .ok (.aload_n 0, 1) := dk_42 (dk_at dksX9_needs_0 5 rfl rfl)
theorem dX9_needs_6 : decode cX9_needs 6 = .ok (.iload_n 1, 1) := dk_27 (dk_at dksX9_needs_0 6 rfl rfl)
theorem dX9_needs_7 : decode cX9_needs 7 = .ok (.invokevirtual 207, 3) := dk_182 0 207 (dk_at dksX9_needs_0 7 rfl rfl)
theorem dX9_needs_10 : decode cX9_needs 10 = .ok (.ifCond .ne 6, 3) := dk_154 0 6 (dk_at dksX9_needs_0 10 rfl rfl)
theorem dX9_needs_13 : decode cX9_needs 13 = .ok (.ldc 68, 2) := dk_18 68 (dk_at dksX9_needs_0 13 rfl rfl)
theorem dX9_needs_15 : decode cX9_needs 15 = .ok (.ireturn, 1) := dk_172 (dk_at dksX9_needs_0 15 rfl rfl)
theorem dX9_needs_16 : decode cX9_needs 16 = .ok (.aload_n 0, 1) := dk_42 (dk_at dksX9_needs_0 16 rfl rfl)
theorem dX9_needs_17 : decode cX9_needs 17 = .ok (.getfield 19, 3) := dk_180 0 19 (dk_at dksX9_needs_0 17 rfl rfl)
theorem dX9_needs_20 : decode cX9_needs 20 = .ok (.iload_n 1, 1) := dk_27 (dk_at dksX9_needs_0 20 rfl rfl)
theorem dX9_needs_21 : decode cX9_needs 21 = .ok (.invokestatic 168, 3) := dk_184 0 168 (dk_at dksX9_needs_0 21 rfl rfl)
theorem dX9_needs_24 : decode cX9_needs 24 = .ok (.ifCond .eq 6, 3) := dk_153 0 6 (dk_at dksX9_needs_1 0 rfl rfl)
theorem dX9_needs_27 : decode cX9_needs 27 = .ok (.ldc 204, 2) := dk_18 204 (dk_at dksX9_needs_1 3 rfl rfl)
theorem dX9_needs_29 : decode cX9_needs 29 = .ok (.ireturn, 1) := dk_172 (dk_at dksX9_needs_1 5 rfl rfl)
theorem dX9_needs_30 : decode cX9_needs 30 = .ok (.aload_n 0, 1) := dk_42 (dk_at dksX9_needs_1 6 rfl rfl)
theorem dX9_needs_31 : decode cX9_needs 31 = .ok (.getfield 19, 3) := dk_180 0 19 (dk_at dksX9_needs_1 7 rfl rfl)
theorem dX9_needs_34 : decode cX9_needs 34 = .ok (.iload_n 1, 1) := dk_27 (dk_at dksX9_needs_1 10 rfl rfl)
theorem dX9_needs_35 : decode cX9_needs 35 = .ok (.iconst 2, 1) := dk_5 (dk_at dksX9_needs_1 11 rfl rfl)
theorem dX9_needs_36 : decode cX9_needs 36 = .ok (.invokestatic 157, 3) := dk_184 0 157 (dk_at dksX9_needs_1 12 rfl rfl)
theorem dX9_needs_39 : decode cX9_needs 39 = .ok (.aload_n 0, 1) := dk_42 (dk_at dksX9_needs_1 15 rfl rfl)
theorem dX9_needs_40 : decode cX9_needs 40 = .ok (.getfield 19, 3) := dk_180 0 19 (dk_at dksX9_needs_1 16 rfl rfl)
theorem dX9_needs_43 : decode cX9_needs 43 = .ok (.iload_n 1, 1) := dk_27 (dk_at dksX9_needs_1 19 rfl rfl)
theorem dX9_needs_44 : decode cX9_needs 44 = .ok (.iconst 3, 1) := dk_6 (dk_at dksX9_needs_1 20 rfl rfl)
theorem dX9_needs_45 : decode cX9_needs 45 = .ok (.invokestatic 157, 3) := dk_184 0 157 (dk_at dksX9_needs_1 21 rfl rfl)
theorem dX9_needs_48 : decode cX9_needs 48 = .ok (.isub, 1) := dk_100 (dk_at dksX9_needs_2 0 rfl rfl)
theorem dX9_needs_49 : decode cX9_needs 49 = .ok (.istore_n 2, 1) := dk_61 (dk_at dksX9_needs_2 1 rfl rfl)
theorem dX9_needs_50 : decode cX9_needs 50 = .ok (.iload_n 2, 1) := dk_28 (dk_at dksX9_needs_2 2 rfl rfl)
theorem dX9_needs_51 : decode cX9_needs 51 = .ok (.ifCond .le 7, 3) := dk_158 0 7 (dk_at dksX9_needs_2 3 rfl rfl)
theorem dX9_needs_54 : decode cX9_needs 54 = .ok (.iload_n 2, 1) := dk_28 (dk_at dksX9_needs_2 6 rfl rfl)
theorem dX9_needs_55 : decode cX9_needs 55 = .ok (.goto 6, 3) := dk_167 0 6 (dk_at dksX9_needs_2 7 rfl rfl)
theorem dX9_needs_58 : decode cX9_needs 58 = .ok (.iconst 1, 1) := dk_4 (dk_at dksX9_needs_2 10 rfl rfl)
theorem dX9_needs_59 : decode cX9_needs 59 = .ok (.iload_n 2, 1) := dk_28 (dk_at dksX9_needs_2 11 rfl rfl)
theorem dX9_needs_60 : decode cX9_needs 60 = .ok (.isub, 1) := dk_100 (dk_at dksX9_needs_2 12 rfl rfl)
theorem dX9_needs_61 : decode cX9_needs 61 = .ok (.ireturn, 1) := dk_172 (dk_at dksX9_needs_2 13 rfl rfl)
abbrev cX9_save : ByteArray := prog_16_method_64_code
def yX9_save : MethodName := ⟨RX9, "save", "(II)I"⟩
def dkwX9_save_2 : List UInt8 := [4, 160, 0, 7, 29, 167, 0, 7, 29, 184, 0, 220, 172]
abbrev dktX9_save_2 : List UInt8 := dkwX9_save_2 ++ []
def dkwX9_save_1 : List UInt8 := [133, 9, 10, 184, 0, 58, 154, 0, 6, 18, 68, 172, 42, 27, 42, 27, 182, 0, 217, 182, 0, 226, 62, 28]
abbrev dktX9_save_1 : List UInt8 := dkwX9_save_1 ++ dktX9_save_2
def dkwX9_save_0 : List UInt8 := [42, 3, 181, 0, 48, 42, 182, 0, 201, 154, 0, 6, 18, 204, 172, 42, 27, 182, 0, 192, 153, 0, 13, 28]
abbrev dktX9_save_0 : List UInt8 := dkwX9_save_0 ++ dktX9_save_1
theorem dksX9_save_0 : cX9_save.data.toList.drop 0 = dktX9_save_0 := by decide +kernel
theorem dksX9_save_1 : cX9_save.data.toList.drop 24 = dktX9_save_1 := dk_seg dksX9_save_0 24 rfl rfl
theorem dksX9_save_2 : cX9_save.data.toList.drop 48 = dktX9_save_2 := dk_seg dksX9_save_1 24 rfl rfl
theorem dX9_save_0 : decode cX9_save 0 = .ok (.aload_n 0, 1) := dk_42 (dk_at dksX9_save_0 0 rfl rfl)
theorem dX9_save_1 : decode cX9_save 1 = .ok (.iconst 0, 1) := dk_3 (dk_at dksX9_save_0 1 rfl rfl)
theorem dX9_save_2 : decode cX9_save 2 = .ok (.putfield 48, 3) := dk_181 0 48 (dk_at dksX9_save_0 2 rfl rfl)
theorem dX9_save_5 : decode cX9_save 5 = .ok (.aload_n 0, 1) := dk_42 (dk_at dksX9_save_0 5 rfl rfl)
theorem dX9_save_6 : decode cX9_save 6 = .ok (.invokevirtual 201, 3) := dk_182 0 201 (dk_at dksX9_save_0 6 rfl rfl)
theorem dX9_save_9 : decode cX9_save 9 = .ok (.ifCond .ne 6, 3) := dk_154 0 6 (dk_at dksX9_save_0 9 rfl rfl)
theorem dX9_save_12 : decode cX9_save 12 = .ok (.ldc 204, 2) := dk_18 204 (dk_at dksX9_save_0 12 rfl rfl)
theorem dX9_save_14 : decode cX9_save 14 = .ok (.ireturn, 1) := dk_172 (dk_at dksX9_save_0 14 rfl rfl)
theorem dX9_save_15 : decode cX9_save 15 = .ok (.aload_n 0, 1) := dk_42 (dk_at dksX9_save_0 15 rfl rfl)
theorem dX9_save_16 : decode cX9_save 16 = .ok (.iload_n 1, 1) := dk_27 (dk_at dksX9_save_0 16 rfl rfl)
theorem dX9_save_17 : decode cX9_save 17 = .ok (.invokevirtual 192, 3) := dk_182 0 192 (dk_at dksX9_save_0 17 rfl rfl)
theorem dX9_save_20 : decode cX9_save 20 = .ok (.ifCond .eq 13, 3) := dk_153 0 13 (dk_at dksX9_save_0 20 rfl rfl)
theorem dX9_save_23 : decode cX9_save 23 = .ok (.iload_n 2, 1) := dk_28 (dk_at dksX9_save_0 23 rfl rfl)
theorem dX9_save_24 : decode cX9_save 24 = .ok (.i2l, 1) := dk_133 (dk_at dksX9_save_1 0 rfl rfl)
theorem dX9_save_25 : decode cX9_save 25 = .ok (.lconst 0, 1) := dk_9 (dk_at dksX9_save_1 1 rfl rfl)
theorem dX9_save_26 : decode cX9_save 26 = .ok (.lconst 1, 1) := dk_10 (dk_at dksX9_save_1 2 rfl rfl)
theorem dX9_save_27 : decode cX9_save 27 = .ok (.invokestatic 58, 3) := dk_184 0 58 (dk_at dksX9_save_1 3 rfl rfl)
theorem dX9_save_30 : decode cX9_save 30 = .ok (.ifCond .ne 6, 3) := dk_154 0 6 (dk_at dksX9_save_1 6 rfl rfl)
theorem dX9_save_33 : decode cX9_save 33 = .ok (.ldc 68, 2) := dk_18 68 (dk_at dksX9_save_1 9 rfl rfl)
theorem dX9_save_35 : decode cX9_save 35 = .ok (.ireturn, 1) := dk_172 (dk_at dksX9_save_1 11 rfl rfl)
theorem dX9_save_36 : decode cX9_save 36 = .ok (.aload_n 0, 1) := dk_42 (dk_at dksX9_save_1 12 rfl rfl)
theorem dX9_save_37 : decode cX9_save 37 = .ok (.iload_n 1, 1) := dk_27 (dk_at dksX9_save_1 13 rfl rfl)
theorem dX9_save_38 : decode cX9_save 38 = .ok (.aload_n 0, 1) := dk_42 (dk_at dksX9_save_1 14 rfl rfl)
theorem dX9_save_39 : decode cX9_save 39 = .ok (.iload_n 1, 1) := dk_27 (dk_at dksX9_save_1 15 rfl rfl)
theorem dX9_save_40 : decode cX9_save 40 = .ok (.invokevirtual 217, 3) := dk_182 0 217 (dk_at dksX9_save_1 16 rfl rfl)
theorem dX9_save_43 : decode cX9_save 43 = .ok (.invokevirtual 226, 3) := dk_182 0 226 (dk_at dksX9_save_1 19 rfl rfl)
theorem dX9_save_46 : decode cX9_save 46 = .ok (.istore_n 3, 1) := dk_62 (dk_at dksX9_save_1 22 rfl rfl)
theorem dX9_save_47 : decode cX9_save 47 = .ok (.iload_n 2, 1) := dk_28 (dk_at dksX9_save_1 23 rfl rfl)
theorem dX9_save_48 : decode cX9_save 48 = .ok (.iconst 1, 1) := dk_4 (dk_at dksX9_save_2 0 rfl rfl)
theorem dX9_save_49 : decode cX9_save 49 = .ok (.if_icmp .ne 7, 3) := dk_160 0 7 (dk_at dksX9_save_2 1 rfl rfl)
theorem dX9_save_52 : decode cX9_save 52 = .ok (.iload_n 3, 1) := dk_29 (dk_at dksX9_save_2 4 rfl rfl)
theorem dX9_save_53 : decode cX9_save 53 = .ok (.goto 7, 3) := dk_167 0 7 (dk_at dksX9_save_2 5 rfl rfl)
theorem dX9_save_56 : decode cX9_save 56 = .ok (.iload_n 3, 1) := dk_29 (dk_at dksX9_save_2 8 rfl rfl)
theorem dX9_save_57 : decode cX9_save 57 = .ok (.invokestatic 220, 3) := dk_184 0 220 (dk_at dksX9_save_2 9 rfl rfl)
theorem dX9_save_60 : decode cX9_save 60 = .ok (.ireturn, 1) := dk_172 (dk_at dksX9_save_2 12 rfl rfl)
abbrev cX9_shares : ByteArray := prog_16_method_68_code
def yX9_shares : MethodName := ⟨RX9, "shares", "(III)I"⟩
def dkwX9_shares_4 : List UInt8 := [132, 6, 1, 167, 255, 209, 21, 5, 172]
abbrev dktX9_shares_4 : List UInt8 := dkwX9_shares_4 ++ []
def dkwX9_shares_3 : List UInt8 := [16, 40, 28, 104, 29, 96, 182, 0, 233, 153, 0, 10, 4, 21, 6, 120, 167, 0, 4, 3, 128, 54, 5]
abbrev dktX9_shares_3 : List UInt8 := dkwX9_shares_3 ++ dktX9_shares_4
def dkwX9_shares_2 : List UInt8 := [3, 54, 6, 21, 6, 16, 10, 162, 0, 46, 21, 5, 42, 42, 180, 0, 19, 27, 3, 184, 0, 157, 21, 6]
abbrev dktX9_shares_2 : List UInt8 := dkwX9_shares_2 ++ dktX9_shares_3
def dkwX9_shares_1 : List UInt8 := [28, 29, 42, 180, 0, 19, 6, 46, 182, 0, 229, 54, 4, 21, 4, 153, 0, 6, 21, 4, 172, 3, 54, 5]
abbrev dktX9_shares_1 : List UInt8 := dkwX9_shares_1 ++ dktX9_shares_2
def dkwX9_shares_0 : List UInt8 := [42, 3, 181, 0, 48, 42, 27, 182, 0, 207, 153, 0, 10, 28, 184, 0, 62, 154, 0, 6, 18, 68, 172, 42]
abbrev dktX9_shares_0 : List UInt8 := dkwX9_shares_0 ++ dktX9_shares_1
theorem dksX9_shares_0 : cX9_shares.data.toList.drop 0 = dktX9_shares_0 := by decide +kernel
theorem dksX9_shares_1 : cX9_shares.data.toList.drop 24 = dktX9_shares_1 := dk_seg dksX9_shares_0 24 rfl rfl
theorem dksX9_shares_2 : cX9_shares.data.toList.drop 48 = dktX9_shares_2 := dk_seg dksX9_shares_1 24 rfl rfl
theorem dksX9_shares_3 : cX9_shares.data.toList.drop 72 = dktX9_shares_3 := dk_seg dksX9_shares_2 24 rfl rfl
theorem dksX9_shares_4 : cX9_shares.data.toList.drop 95 = dktX9_shares_4 := dk_seg dksX9_shares_3 23 rfl rfl
theorem dX9_shares_0 : decode cX9_shares 0 = .ok (.aload_n 0, 1) := dk_42 (dk_at dksX9_shares_0 0 rfl rfl)
theorem dX9_shares_1 : decode cX9_shares 1 = .ok (.iconst 0, 1) := dk_3 (dk_at dksX9_shares_0 1 rfl rfl)
theorem dX9_shares_2 : decode cX9_shares 2 = .ok (.putfield 48, 3) := dk_181 0 48 (dk_at dksX9_shares_0 2 rfl rfl)
theorem dX9_shares_5 : decode cX9_shares 5 = .ok (.aload_n 0, 1) := dk_42 (dk_at dksX9_shares_0 5 rfl rfl)
theorem dX9_shares_6 : decode cX9_shares 6 = .ok (.iload_n 1, 1) := dk_27 (dk_at dksX9_shares_0 6 rfl rfl)
theorem dX9_shares_7 : decode cX9_shares 7 = .ok (.invokevirtual 207, 3) := dk_182 0 207 (dk_at dksX9_shares_0 7 rfl rfl)
theorem dX9_shares_10 : decode cX9_shares 10 = .ok (.ifCond .eq 10, 3) := dk_153 0 10 (dk_at dksX9_shares_0 10 rfl rfl)
theorem dX9_shares_13 : decode cX9_shares 13 = .ok (.iload_n 2, 1) := dk_28 (dk_at dksX9_shares_0 13 rfl rfl)
theorem dX9_shares_14 : decode cX9_shares 14 = .ok (.invokestatic 62, 3) := dk_184 0 62 (dk_at dksX9_shares_0 14 rfl rfl)
theorem dX9_shares_17 : decode cX9_shares 17 = .ok (.ifCond .ne 6, 3) := dk_154 0 6 (dk_at dksX9_shares_0 17 rfl rfl)
theorem dX9_shares_20 : decode cX9_shares 20 = .ok (.ldc 68, 2) := dk_18 68 (dk_at dksX9_shares_0 20 rfl rfl)
theorem dX9_shares_22 : decode cX9_shares 22 = .ok (.ireturn, 1) := dk_172 (dk_at dksX9_shares_0 22 rfl rfl)
theorem dX9_shares_23 : decode cX9_shares 23 = .ok (.aload_n 0, 1) := dk_42 (dk_at dksX9_shares_0 23 rfl rfl)
theorem dX9_shares_24 : decode cX9_shares 24 = .ok (.iload_n 2, 1) := dk_28 (dk_at dksX9_shares_1 0 rfl rfl)
theorem dX9_shares_25 : decode cX9_shares 25 = .ok (.iload_n 3, 1) := dk_29 (dk_at dksX9_shares_1 1 rfl rfl)
theorem dX9_shares_26 : decode cX9_shares 26 = .ok (.aload_n 0, 1) := dk_42 (dk_at dksX9_shares_1 2 rfl rfl)
theorem dX9_shares_27 : decode cX9_shares 27 = .ok (.getfield 19, 3) := dk_180 0 19 (dk_at dksX9_shares_1 3 rfl rfl)
theorem dX9_shares_30 : decode cX9_shares 30 = .ok (.iconst 3, 1) := dk_6 (dk_at dksX9_shares_1 6 rfl rfl)
theorem dX9_shares_31 : decode cX9_shares 31 = .ok (.iaload, 1) := dk_46 (dk_at dksX9_shares_1 7 rfl rfl)
theorem dX9_shares_32 : decode cX9_shares 32 = .ok (.invokevirtual 229, 3) := dk_182 0 229 (dk_at dksX9_shares_1 8 rfl rfl)
theorem dX9_shares_35 : decode cX9_shares 35 = .ok (.istore 4, 2) := dk_54 4 (dk_at dksX9_shares_1 11 rfl rfl)
theorem dX9_shares_37 : decode cX9_shares 37 = .ok (.iload 4, 2) := dk_21 4 (dk_at dksX9_shares_1 13 rfl rfl)
theorem dX9_shares_39 : decode cX9_shares 39 = .ok (.ifCond .eq 6, 3) := dk_153 0 6 (dk_at dksX9_shares_1 15 rfl rfl)
theorem dX9_shares_42 : decode cX9_shares 42 = .ok (.iload 4, 2) := dk_21 4 (dk_at dksX9_shares_1 18 rfl rfl)
theorem dX9_shares_44 : decode cX9_shares 44 = .ok (.ireturn, 1) := dk_172 (dk_at dksX9_shares_1 20 rfl rfl)
theorem dX9_shares_45 : decode cX9_shares 45 = .ok (.iconst 0, 1) := dk_3 (dk_at dksX9_shares_1 21 rfl rfl)
theorem dX9_shares_46 : decode cX9_shares 46 = .ok (.istore 5, 2) := dk_54 5 (dk_at dksX9_shares_1 22 rfl rfl)
theorem dX9_shares_48 : decode cX9_shares 48 = .ok (.iconst 0, 1) := dk_3 (dk_at dksX9_shares_2 0 rfl rfl)
theorem dX9_shares_49 : decode cX9_shares 49 = .ok (.istore 6, 2) := dk_54 6 (dk_at dksX9_shares_2 1 rfl rfl)
theorem dX9_shares_51 : decode cX9_shares 51 = .ok (.iload 6, 2) := dk_21 6 (dk_at dksX9_shares_2 3 rfl rfl)
theorem dX9_shares_53 : decode cX9_shares 53 = .ok (.bipush 10, 2) := dk_16 10 (dk_at dksX9_shares_2 5 rfl rfl)
theorem dX9_shares_55 : decode cX9_shares 55 = .ok (.if_icmp .ge 46, 3) := dk_162 0 46 (dk_at dksX9_shares_2 7 rfl rfl)
theorem dX9_shares_58 : decode cX9_shares 58 = .ok (.iload 5, 2) := dk_21 5 (dk_at dksX9_shares_2 10 rfl rfl)
theorem dX9_shares_60 : decode cX9_shares 60 = .ok (.aload_n 0, 1) := dk_42 (dk_at dksX9_shares_2 12 rfl rfl)
theorem dX9_shares_61 : decode cX9_shares 61 = .ok (.aload_n 0, 1) := dk_42 (dk_at dksX9_shares_2 13 rfl rfl)
theorem dX9_shares_62 : decode cX9_shares 62 = .ok (.getfield 19, 3) := dk_180 0 19 (dk_at dksX9_shares_2 14 rfl rfl)
theorem dX9_shares_65 : decode cX9_shares 65 = .ok (.iload_n 1, 1) := dk_27 (dk_at dksX9_shares_2 17 rfl rfl)
theorem dX9_shares_66 : decode cX9_shares 66 = .ok (.iconst 0, 1) := dk_3 (dk_at dksX9_shares_2 18 rfl rfl)
theorem dX9_shares_67 : decode cX9_shares 67 = .ok (.invokestatic 157, 3) := dk_184 0 157 (dk_at dksX9_shares_2 19 rfl rfl)
theorem dX9_shares_70 : decode cX9_shares 70 = .ok (.iload 6, 2) := dk_21 6 (dk_at dksX9_shares_2 22 rfl rfl)
theorem dX9_shares_72 : decode cX9_shares 72 = .ok (.bipush 40, 2) := dk_16 40 (dk_at dksX9_shares_3 0 rfl rfl)
theorem dX9_shares_74 : decode cX9_shares 74 = .ok (.iload_n 2, 1) := dk_28 (dk_at dksX9_shares_3 2 rfl rfl)
theorem dX9_shares_75 : decode cX9_shares 75 = .ok (.imul, 1) := dk_104 (dk_at dksX9_shares_3 3 rfl rfl)
theorem dX9_shares_76 : decode cX9_shares 76 = .ok (.iload_n 3, 1) := dk_29 (dk_at dksX9_shares_3 4 rfl rfl)
theorem dX9_shares_77 : decode cX9_shares 77 = .ok (.iadd, 1) := dk_96 (dk_at dksX9_shares_3 5 rfl rfl)
theorem dX9_shares_78 : decode cX9_shares 78 = .ok (.invokevirtual 233, 3) := dk_182 0 233 (dk_at dksX9_shares_3 6 rfl rfl)
theorem dX9_shares_81 : decode cX9_shares 81 = .ok (.ifCond .eq 10, 3) := dk_153 0 10 (dk_at dksX9_shares_3 9 rfl rfl)
theorem dX9_shares_84 : decode cX9_shares 84 = .ok (.iconst 1, 1) := dk_4 (dk_at dksX9_shares_3 12 rfl rfl)
theorem dX9_shares_85 : decode cX9_shares 85 = .ok (.iload 6, 2) := dk_21 6 (dk_at dksX9_shares_3 13 rfl rfl)
theorem dX9_shares_87 : decode cX9_shares 87 = .ok (.ishl, 1) := dk_120 (dk_at dksX9_shares_3 15 rfl rfl)
theorem dX9_shares_88 : decode cX9_shares 88 = .ok (.goto 4, 3) := dk_167 0 4 (dk_at dksX9_shares_3 16 rfl rfl)
theorem dX9_shares_91 : decode cX9_shares 91 = .ok (.iconst 0, 1) := dk_3 (dk_at dksX9_shares_3 19 rfl rfl)
theorem dX9_shares_92 : decode cX9_shares 92 = .ok (.ior, 1) := dk_128 (dk_at dksX9_shares_3 20 rfl rfl)
theorem dX9_shares_93 : decode cX9_shares 93 = .ok (.istore 5, 2) := dk_54 5 (dk_at dksX9_shares_3 21 rfl rfl)
theorem dX9_shares_95 : decode cX9_shares 95 = .ok (.iinc 6 1, 3) := dk_132 6 1 (dk_at dksX9_shares_4 0 rfl rfl)
theorem dX9_shares_98 : decode cX9_shares 98 = .ok (.goto (-47), 3) := dk_167 255 209 (dk_at dksX9_shares_4 3 rfl rfl)
theorem dX9_shares_101 : decode cX9_shares 101 = .ok (.iload 5, 2) := dk_21 5 (dk_at dksX9_shares_4 6 rfl rfl)
theorem dX9_shares_103 : decode cX9_shares 103 = .ok (.ireturn, 1) := dk_172 (dk_at dksX9_shares_4 8 rfl rfl)
abbrev cX9_rowFound : ByteArray := prog_16_method_67_code
def yX9_rowFound : MethodName := ⟨RX9, "rowFound", "(III)I"⟩
def dkwX9_rowFound_1 : List UInt8 := [42, 180, 0, 13, 27, 46, 133, 148, 158, 0, 9, 42, 5, 182, 0, 69, 172, 42, 3, 181, 0, 52, 3, 172]
abbrev dktX9_rowFound_1 : List UInt8 := dkwX9_rowFound_1 ++ []
def dkwX9_rowFound_0 : List UInt8 := [42, 180, 0, 7, 27, 46, 156, 0, 9, 42, 4, 182, 0, 69, 172, 28, 155, 0, 19, 28, 133, 29, 133, 97]
abbrev dktX9_rowFound_0 : List UInt8 := dkwX9_rowFound_0 ++ dktX9_rowFound_1
theorem dksX9_rowFound_0 : cX9_rowFound.data.toList.drop 0 = dktX9_rowFound_0 := by decide +kernel
theorem dksX9_rowFound_1 : cX9_rowFound.data.toList.drop 24 = dktX9_rowFound_1 := dk_seg dksX9_rowFound_0 24 rfl rfl
theorem dX9_rowFound_0 : decode cX9_rowFound 0 = .ok (.aload_n 0, 1) := dk_42 (dk_at dksX9_rowFound_0 0 rfl rfl)
theorem dX9_rowFound_1 : decode cX9_rowFound 1 = .ok (.getfield 7, 3) := dk_180 0 7 (dk_at dksX9_rowFound_0 1 rfl rfl)
theorem dX9_rowFound_4 : decode cX9_rowFound 4 = .ok (.iload_n 1, 1) := dk_27 (dk_at dksX9_rowFound_0 4 rfl rfl)
theorem dX9_rowFound_5 : decode cX9_rowFound 5 = .ok (.iaload, 1) := dk_46 (dk_at dksX9_rowFound_0 5 rfl rfl)
theorem dX9_rowFound_6 : decode cX9_rowFound 6 = .ok (.ifCond .ge 9, 3) := dk_156 0 9 (dk_at dksX9_rowFound_0 6 rfl rfl)
theorem dX9_rowFound_9 : decode cX9_rowFound 9 = .ok (.aload_n 0, 1) := dk_42 (dk_at dksX9_rowFound_0 9 rfl rfl)
theorem dX9_rowFound_10 : decode cX9_rowFound 10 = .ok (.iconst 1, 1) := dk_4 (dk_at dksX9_rowFound_0 10 rfl rfl)
theorem dX9_rowFound_11 : decode cX9_rowFound 11 = .ok (.invokevirtual 69, 3) := dk_182 0 69 (dk_at dksX9_rowFound_0 11 rfl rfl)
theorem dX9_rowFound_14 : decode cX9_rowFound 14 = .ok (.ireturn, 1) := dk_172 (dk_at dksX9_rowFound_0 14 rfl rfl)
theorem dX9_rowFound_15 : decode cX9_rowFound 15 = .ok (.iload_n 2, 1) := dk_28 (dk_at dksX9_rowFound_0 15 rfl rfl)
theorem dX9_rowFound_16 : decode cX9_rowFound 16 = .ok (.ifCond .lt 19, 3) := dk_155 0 19 (dk_at dksX9_rowFound_0 16 rfl rfl)
theorem dX9_rowFound_19 : decode cX9_rowFound 19 = .ok (.iload_n 2, 1) := dk_28 (dk_at dksX9_rowFound_0 19 rfl rfl)
theorem dX9_rowFound_20 : decode cX9_rowFound 20 = .ok (.i2l, 1) := dk_133 (dk_at dksX9_rowFound_0 20 rfl rfl)
theorem dX9_rowFound_21 : decode cX9_rowFound 21 = .ok (.iload_n 3, 1) := dk_29 (dk_at dksX9_rowFound_0 21 rfl rfl)
theorem dX9_rowFound_22 : decode cX9_rowFound 22 = .ok (.i2l, 1) := dk_133 (dk_at dksX9_rowFound_0 22 rfl rfl)
theorem dX9_rowFound_23 : decode cX9_rowFound 23 = .ok (.ladd, 1) := dk_97 (dk_at dksX9_rowFound_0 23 rfl rfl)
theorem dX9_rowFound_24 : decode cX9_rowFound 24 = .ok (.aload_n 0, 1) := dk_42 (dk_at dksX9_rowFound_1 0 rfl rfl)
theorem dX9_rowFound_25 : decode cX9_rowFound 25 = .ok (.getfield 13, 3) := dk_180 0 13 (dk_at dksX9_rowFound_1 1 rfl rfl)
theorem dX9_rowFound_28 : decode cX9_rowFound 28 = .ok (.iload_n 1, 1) := dk_27 (dk_at dksX9_rowFound_1 4 rfl rfl)
theorem dX9_rowFound_29 : decode cX9_rowFound 29 = .ok (.iaload, 1) := dk_46 (dk_at dksX9_rowFound_1 5 rfl rfl)
theorem dX9_rowFound_30 : decode cX9_rowFound 30 = .ok (.i2l, 1) := dk_133 (dk_at dksX9_rowFound_1 6 rfl rfl)
theorem dX9_rowFound_31 : decode cX9_rowFound 31 = .ok (.lcmp, 1) := dk_148 (dk_at dksX9_rowFound_1 7 rfl rfl)
theorem dX9_rowFound_32 : decode cX9_rowFound 32 = .ok (.ifCond .le 9, 3) := dk_158 0 9 (dk_at dksX9_rowFound_1 8 rfl rfl)
theorem dX9_rowFound_35 : decode cX9_rowFound 35 = .ok (.aload_n 0, 1) := dk_42 (dk_at dksX9_rowFound_1 11 rfl rfl)
theorem dX9_rowFound_36 : decode cX9_rowFound 36 = .ok (.iconst 2, 1) := dk_5 (dk_at dksX9_rowFound_1 12 rfl rfl)
theorem dX9_rowFound_37 : decode cX9_rowFound 37 = .ok (.invokevirtual 69, 3) := dk_182 0 69 (dk_at dksX9_rowFound_1 13 rfl rfl)
theorem dX9_rowFound_40 : decode cX9_rowFound 40 = .ok (.ireturn, 1) := dk_172 (dk_at dksX9_rowFound_1 16 rfl rfl)
theorem dX9_rowFound_41 : decode cX9_rowFound 41 = .ok (.aload_n 0, 1) := dk_42 (dk_at dksX9_rowFound_1 17 rfl rfl)
theorem dX9_rowFound_42 : decode cX9_rowFound 42 = .ok (.iconst 0, 1) := dk_3 (dk_at dksX9_rowFound_1 18 rfl rfl)
theorem dX9_rowFound_43 : decode cX9_rowFound 43 = .ok (.putfield 52, 3) := dk_181 0 52 (dk_at dksX9_rowFound_1 19 rfl rfl)
theorem dX9_rowFound_46 : decode cX9_rowFound 46 = .ok (.iconst 0, 1) := dk_3 (dk_at dksX9_rowFound_1 22 rfl rfl)
theorem dX9_rowFound_47 : decode cX9_rowFound 47 = .ok (.ireturn, 1) := dk_172 (dk_at dksX9_rowFound_1 23 rfl rfl)
abbrev cX9_allClickSo : ByteArray := prog_16_method_65_code
def yX9_allClickSo : MethodName := ⟨RX9, "allClickSo", "(III)Z"⟩
def dkwX9_allClickSo_3 : List UInt8 := [3, 54, 4, 132, 5, 1, 167, 255, 185, 21, 4, 172]
abbrev dktX9_allClickSo_3 : List UInt8 := dkwX9_allClickSo_3 ++ []
def dkwX9_allClickSo_2 : List UInt8 := [153, 0, 7, 4, 167, 0, 4, 3, 42, 180, 0, 16, 29, 21, 5, 96, 46, 160, 0, 7, 4, 167, 0, 4]
abbrev dktX9_allClickSo_2 : List UInt8 := dkwX9_allClickSo_2 ++ dktX9_allClickSo_3
def dkwX9_allClickSo_1 : List UInt8 := [42, 180, 0, 19, 21, 5, 3, 184, 0, 161, 42, 180, 0, 19, 21, 5, 4, 184, 0, 161, 184, 0, 164]
abbrev dktX9_allClickSo_1 : List UInt8 := dkwX9_allClickSo_1 ++ dktX9_allClickSo_2
def dkwX9_allClickSo_0 : List UInt8 := [4, 54, 4, 3, 54, 5, 21, 5, 42, 180, 0, 19, 6, 46, 162, 0, 66, 21, 4, 153, 0, 52, 27, 28]
abbrev dktX9_allClickSo_0 : List UInt8 := dkwX9_allClickSo_0 ++ dktX9_allClickSo_1
theorem dksX9_allClickSo_0 : cX9_allClickSo.data.toList.drop 0 = dktX9_allClickSo_0 := by decide +kernel
theorem dksX9_allClickSo_1 : cX9_allClickSo.data.toList.drop 24 = dktX9_allClickSo_1 := dk_seg dksX9_allClickSo_0 24 rfl rfl
theorem dksX9_allClickSo_2 : cX9_allClickSo.data.toList.drop 47 = dktX9_allClickSo_2 := dk_seg dksX9_allClickSo_1 23 rfl rfl
theorem dksX9_allClickSo_3 : cX9_allClickSo.data.toList.drop 71 = dktX9_allClickSo_3 := dk_seg dksX9_allClickSo_2 24 rfl rfl
theorem dX9_allClickSo_0 : decode cX9_allClickSo 0 = .ok (.iconst 1, 1) := dk_4 (dk_at dksX9_allClickSo_0 0 rfl rfl)
theorem dX9_allClickSo_1 : decode cX9_allClickSo 1 = .ok (.istore 4, 2) := dk_54 4 (dk_at dksX9_allClickSo_0 1 rfl rfl)
theorem dX9_allClickSo_3 : decode cX9_allClickSo 3 = .ok (.iconst 0, 1) := dk_3 (dk_at dksX9_allClickSo_0 3 rfl rfl)
theorem dX9_allClickSo_4 : decode cX9_allClickSo 4 = .ok (.istore 5, 2) := dk_54 5 (dk_at dksX9_allClickSo_0 4 rfl rfl)
theorem dX9_allClickSo_6 : decode cX9_allClickSo 6 = .ok (.iload 5, 2) := dk_21 5 (dk_at dksX9_allClickSo_0 6 rfl rfl)
theorem dX9_allClickSo_8 : decode cX9_allClickSo 8 = .ok (.aload_n 0, 1) := dk_42 (dk_at dksX9_allClickSo_0 8 rfl rfl)
theorem dX9_allClickSo_9 : decode cX9_allClickSo 9 = .ok (.getfield 19, 3) := dk_180 0 19 (dk_at dksX9_allClickSo_0 9 rfl rfl)
theorem dX9_allClickSo_12 : decode cX9_allClickSo 12 = .ok (.iconst 3, 1) := dk_6 (dk_at dksX9_allClickSo_0 12 rfl rfl)
theorem dX9_allClickSo_13 : decode cX9_allClickSo 13 = .ok (.iaload, 1) := dk_46 (dk_at dksX9_allClickSo_0 13 rfl rfl)
theorem dX9_allClickSo_14 : decode cX9_allClickSo 14 = .ok (.if_icmp .ge 66, 3) := dk_162 0 66 (dk_at dksX9_allClickSo_0 14 rfl rfl)
theorem dX9_allClickSo_17 : decode cX9_allClickSo 17 = .ok (.iload 4, 2) := dk_21 4 (dk_at dksX9_allClickSo_0 17 rfl rfl)
theorem dX9_allClickSo_19 : decode cX9_allClickSo 19 = .ok (.ifCond .eq 52, 3) := dk_153 0 52 (dk_at dksX9_allClickSo_0 19 rfl rfl)
theorem dX9_allClickSo_22 : decode cX9_allClickSo 22 = .ok (.iload_n 1, 1) := dk_27 (dk_at dksX9_allClickSo_0 22 rfl rfl)
theorem dX9_allClickSo_23 : decode cX9_allClickSo 23 = .ok (.iload_n 2, 1) := dk_28 (dk_at dksX9_allClickSo_0 23 rfl rfl)
theorem dX9_allClickSo_24 : decode cX9_allClickSo 24 = .ok (.aload_n 0, 1) := dk_42 (dk_at dksX9_allClickSo_1 0 rfl rfl)
theorem dX9_allClickSo_25 : decode cX9_allClickSo 25 = .ok (.getfield 19, 3) := dk_180 0 19 (dk_at dksX9_allClickSo_1 1 rfl rfl)
theorem dX9_allClickSo_28 : decode cX9_allClickSo 28 = .ok (.iload 5, 2) := dk_21 5 (dk_at dksX9_allClickSo_1 4 rfl rfl)
theorem dX9_allClickSo_30 : decode cX9_allClickSo 30 = .ok (.iconst 0, 1) := dk_3 (dk_at dksX9_allClickSo_1 6 rfl rfl)
theorem dX9_allClickSo_31 : decode cX9_allClickSo 31 = .ok (.invokestatic 161, 3) := dk_184 0 161 (dk_at dksX9_allClickSo_1 7 rfl rfl)
theorem dX9_allClickSo_34 : decode cX9_allClickSo 34 = .ok (.aload_n 0, 1) := dk_42 (dk_at dksX9_allClickSo_1 10 rfl rfl)
theorem dX9_allClickSo_35 : decode cX9_allClickSo 35 = .ok (.getfield 19, 3) := dk_180 0 19 (dk_at dksX9_allClickSo_1 11 rfl rfl)
theorem dX9_allClickSo_38 : decode cX9_allClickSo 38 = .ok (.iload 5, 2) := dk_21 5 (dk_at dksX9_allClickSo_1 14 rfl rfl)
theorem dX9_allClickSo_40 : decode cX9_allClickSo 40 = .ok (.iconst 1, 1) := dk_4 (dk_at dksX9_allClickSo_1 16 rfl rfl)
theorem dX9_allClickSo_41 : decode cX9_allClickSo 41 = .ok (.invokestatic 161, 3) := dk_184 0 161 (dk_at dksX9_allClickSo_1 17 rfl rfl)
theorem dX9_allClickSo_44 : decode cX9_allClickSo 44 = .ok (.invokestatic 164, 3) := dk_184 0 164 (dk_at dksX9_allClickSo_1 20 rfl rfl)
theorem dX9_allClickSo_47 : decode cX9_allClickSo 47 = .ok (.ifCond .eq 7, 3) := dk_153 0 7 (dk_at dksX9_allClickSo_2 0 rfl rfl)
theorem dX9_allClickSo_50 : decode cX9_allClickSo 50 = .ok (.iconst 1, 1) := dk_4 (dk_at dksX9_allClickSo_2 3 rfl rfl)
theorem dX9_allClickSo_51 : decode cX9_allClickSo 51 = .ok (.goto 4, 3) := dk_167 0 4 (dk_at dksX9_allClickSo_2 4 rfl rfl)
theorem dX9_allClickSo_54 : decode cX9_allClickSo 54 = .ok (.iconst 0, 1) := dk_3 (dk_at dksX9_allClickSo_2 7 rfl rfl)
theorem dX9_allClickSo_55 : decode cX9_allClickSo 55 = .ok (.aload_n 0, 1) := dk_42 (dk_at dksX9_allClickSo_2 8 rfl rfl)
theorem dX9_allClickSo_56 : decode cX9_allClickSo 56 = .ok (.getfield 16, 3) := dk_180 0 16 (dk_at dksX9_allClickSo_2 9 rfl rfl)
theorem dX9_allClickSo_59 : decode cX9_allClickSo 59 = .ok (.iload_n 3, 1) := dk_29 (dk_at dksX9_allClickSo_2 12 rfl rfl)
theorem dX9_allClickSo_60 : decode cX9_allClickSo 60 = .ok (.iload 5, 2) := dk_21 5 (dk_at dksX9_allClickSo_2 13 rfl rfl)
theorem dX9_allClickSo_62 : decode cX9_allClickSo 62 = .ok (.iadd, 1) := dk_96 (dk_at dksX9_allClickSo_2 15 rfl rfl)
theorem dX9_allClickSo_63 : decode cX9_allClickSo 63 = .ok (.iaload, 1) := dk_46 (dk_at dksX9_allClickSo_2 16 rfl rfl)
theorem dX9_allClickSo_64 : decode cX9_allClickSo 64 = .ok (.if_icmp .ne 7, 3) := dk_160 0 7 (dk_at dksX9_allClickSo_2 17 rfl rfl)
theorem dX9_allClickSo_67 : decode cX9_allClickSo 67 = .ok (.iconst 1, 1) := dk_4 (dk_at dksX9_allClickSo_2 20 rfl rfl)
theorem dX9_allClickSo_68 : decode cX9_allClickSo 68 = .ok (.goto 4, 3) := dk_167 0 4 (dk_at dksX9_allClickSo_2 21 rfl rfl)
theorem dX9_allClickSo_71 : decode cX9_allClickSo 71 = .ok (.iconst 0, 1) := dk_3 (dk_at dksX9_allClickSo_3 0 rfl rfl)
theorem dX9_allClickSo_72 : decode cX9_allClickSo 72 = .ok (.istore 4, 2) := dk_54 4 (dk_at dksX9_allClickSo_3 1 rfl rfl)
theorem dX9_allClickSo_74 : decode cX9_allClickSo 74 = .ok (.iinc 5 1, 3) := dk_132 5 1 (dk_at dksX9_allClickSo_3 3 rfl rfl)
theorem dX9_allClickSo_77 : decode cX9_allClickSo 77 = .ok (.goto (-71), 3) := dk_167 255 185 (dk_at dksX9_allClickSo_3 6 rfl rfl)
theorem dX9_allClickSo_80 : decode cX9_allClickSo 80 = .ok (.iload 4, 2) := dk_21 4 (dk_at dksX9_allClickSo_3 9 rfl rfl)
theorem dX9_allClickSo_82 : decode cX9_allClickSo 82 = .ok (.ireturn, 1) := dk_172 (dk_at dksX9_allClickSo_3 11 rfl rfl)
abbrev cX9_kinds : ByteArray := prog_16_method_69_code
def yX9_kinds : MethodName := ⟨RX9, "kinds", "(III)I"⟩
def dkwX9_kinds_4 : List UInt8 := [132, 6, 1, 167, 255, 210, 21, 5, 172]
abbrev dktX9_kinds_4 : List UInt8 := dkwX9_kinds_4 ++ []
def dkwX9_kinds_3 : List UInt8 := [16, 40, 28, 104, 29, 96, 182, 0, 233, 153, 0, 10, 4, 21, 6, 120, 167, 0, 4, 3, 128, 54, 5]
abbrev dktX9_kinds_3 : List UInt8 := dkwX9_kinds_3 ++ dktX9_kinds_4
def dkwX9_kinds_2 : List UInt8 := [4, 54, 6, 21, 6, 8, 163, 0, 46, 21, 5, 42, 21, 6, 42, 180, 0, 19, 27, 4, 184, 0, 157]
abbrev dktX9_kinds_2 : List UInt8 := dkwX9_kinds_2 ++ dktX9_kinds_3
def dkwX9_kinds_1 : List UInt8 := [28, 29, 42, 180, 0, 19, 6, 46, 182, 0, 229, 54, 4, 21, 4, 153, 0, 6, 21, 4, 172, 3, 54, 5]
abbrev dktX9_kinds_1 : List UInt8 := dkwX9_kinds_1 ++ dktX9_kinds_2
def dkwX9_kinds_0 : List UInt8 := [42, 3, 181, 0, 48, 42, 27, 182, 0, 207, 153, 0, 10, 28, 184, 0, 62, 154, 0, 6, 18, 68, 172, 42]
abbrev dktX9_kinds_0 : List UInt8 := dkwX9_kinds_0 ++ dktX9_kinds_1
theorem dksX9_kinds_0 : cX9_kinds.data.toList.drop 0 = dktX9_kinds_0 := by decide +kernel
theorem dksX9_kinds_1 : cX9_kinds.data.toList.drop 24 = dktX9_kinds_1 := dk_seg dksX9_kinds_0 24 rfl rfl
theorem dksX9_kinds_2 : cX9_kinds.data.toList.drop 48 = dktX9_kinds_2 := dk_seg dksX9_kinds_1 24 rfl rfl
theorem dksX9_kinds_3 : cX9_kinds.data.toList.drop 71 = dktX9_kinds_3 := dk_seg dksX9_kinds_2 23 rfl rfl
theorem dksX9_kinds_4 : cX9_kinds.data.toList.drop 94 = dktX9_kinds_4 := dk_seg dksX9_kinds_3 23 rfl rfl
theorem dX9_kinds_0 : decode cX9_kinds 0 = .ok (.aload_n 0, 1) := dk_42 (dk_at dksX9_kinds_0 0 rfl rfl)
theorem dX9_kinds_1 : decode cX9_kinds 1 = .ok (.iconst 0, 1) := dk_3 (dk_at dksX9_kinds_0 1 rfl rfl)
theorem dX9_kinds_2 : decode cX9_kinds 2 = .ok (.putfield 48, 3) := dk_181 0 48 (dk_at dksX9_kinds_0 2 rfl rfl)
theorem dX9_kinds_5 : decode cX9_kinds 5 = .ok (.aload_n 0, 1) := dk_42 (dk_at dksX9_kinds_0 5 rfl rfl)
theorem dX9_kinds_6 : decode cX9_kinds 6 = .ok (.iload_n 1, 1) := dk_27 (dk_at dksX9_kinds_0 6 rfl rfl)
theorem dX9_kinds_7 : decode cX9_kinds 7 = .ok (.invokevirtual 207, 3) := dk_182 0 207 (dk_at dksX9_kinds_0 7 rfl rfl)
theorem dX9_kinds_10 : decode cX9_kinds 10 = .ok (.ifCond .eq 10, 3) := dk_153 0 10 (dk_at dksX9_kinds_0 10 rfl rfl)
theorem dX9_kinds_13 : decode cX9_kinds 13 = .ok (.iload_n 2, 1) := dk_28 (dk_at dksX9_kinds_0 13 rfl rfl)
theorem dX9_kinds_14 : decode cX9_kinds 14 = .ok (.invokestatic 62, 3) := dk_184 0 62 (dk_at dksX9_kinds_0 14 rfl rfl)
theorem dX9_kinds_17 : decode cX9_kinds 17 = .ok (.ifCond .ne 6, 3) := dk_154 0 6 (dk_at dksX9_kinds_0 17 rfl rfl)
theorem dX9_kinds_20 : decode cX9_kinds 20 = .ok (.ldc 68, 2) := dk_18 68 (dk_at dksX9_kinds_0 20 rfl rfl)
theorem dX9_kinds_22 : decode cX9_kinds 22 = .ok (.ireturn, 1) := dk_172 (dk_at dksX9_kinds_0 22 rfl rfl)
theorem dX9_kinds_23 : decode cX9_kinds 23 = .ok (.aload_n 0, 1) := dk_42 (dk_at dksX9_kinds_0 23 rfl rfl)
theorem dX9_kinds_24 : decode cX9_kinds 24 = .ok (.iload_n 2, 1) := dk_28 (dk_at dksX9_kinds_1 0 rfl rfl)
theorem dX9_kinds_25 : decode cX9_kinds 25 = .ok (.iload_n 3, 1) := dk_29 (dk_at dksX9_kinds_1 1 rfl rfl)
theorem dX9_kinds_26 : decode cX9_kinds 26 = .ok (.aload_n 0, 1) := dk_42 (dk_at dksX9_kinds_1 2 rfl rfl)
theorem dX9_kinds_27 : decode cX9_kinds 27 = .ok (.getfield 19, 3) := dk_180 0 19 (dk_at dksX9_kinds_1 3 rfl rfl)
theorem dX9_kinds_30 : decode cX9_kinds 30 = .ok (.iconst 3, 1) := dk_6 (dk_at dksX9_kinds_1 6 rfl rfl)
theorem dX9_kinds_31 : decode cX9_kinds 31 = .ok (.iaload, 1) := dk_46 (dk_at dksX9_kinds_1 7 rfl rfl)
theorem dX9_kinds_32 : decode cX9_kinds 32 = .ok (.invokevirtual 229, 3) := dk_182 0 229 (dk_at dksX9_kinds_1 8 rfl rfl)
theorem dX9_kinds_35 : decode cX9_kinds 35 = .ok (.istore 4, 2) := dk_54 4 (dk_at dksX9_kinds_1 11 rfl rfl)
theorem dX9_kinds_37 : decode cX9_kinds 37 = .ok (.iload 4, 2) := dk_21 4 (dk_at dksX9_kinds_1 13 rfl rfl)
theorem dX9_kinds_39 : decode cX9_kinds 39 = .ok (.ifCond .eq 6, 3) := dk_153 0 6 (dk_at dksX9_kinds_1 15 rfl rfl)
theorem dX9_kinds_42 : decode cX9_kinds 42 = .ok (.iload 4, 2) := dk_21 4 (dk_at dksX9_kinds_1 18 rfl rfl)
theorem dX9_kinds_44 : decode cX9_kinds 44 = .ok (.ireturn, 1) := dk_172 (dk_at dksX9_kinds_1 20 rfl rfl)
theorem dX9_kinds_45 : decode cX9_kinds 45 = .ok (.iconst 0, 1) := dk_3 (dk_at dksX9_kinds_1 21 rfl rfl)
theorem dX9_kinds_46 : decode cX9_kinds 46 = .ok (.istore 5, 2) := dk_54 5 (dk_at dksX9_kinds_1 22 rfl rfl)
theorem dX9_kinds_48 : decode cX9_kinds 48 = .ok (.iconst 1, 1) := dk_4 (dk_at dksX9_kinds_2 0 rfl rfl)
theorem dX9_kinds_49 : decode cX9_kinds 49 = .ok (.istore 6, 2) := dk_54 6 (dk_at dksX9_kinds_2 1 rfl rfl)
theorem dX9_kinds_51 : decode cX9_kinds 51 = .ok (.iload 6, 2) := dk_21 6 (dk_at dksX9_kinds_2 3 rfl rfl)
theorem dX9_kinds_53 : decode cX9_kinds 53 = .ok (.iconst 5, 1) := dk_8 (dk_at dksX9_kinds_2 5 rfl rfl)
theorem dX9_kinds_54 : decode cX9_kinds 54 = .ok (.if_icmp .gt 46, 3) := dk_163 0 46 (dk_at dksX9_kinds_2 6 rfl rfl)
theorem dX9_kinds_57 : decode cX9_kinds 57 = .ok (.iload 5, 2) := dk_21 5 (dk_at dksX9_kinds_2 9 rfl rfl)
theorem dX9_kinds_59 : decode cX9_kinds 59 = .ok (.aload_n 0, 1) := dk_42 (dk_at dksX9_kinds_2 11 rfl rfl)
theorem dX9_kinds_60 : decode cX9_kinds 60 = .ok (.iload 6, 2) := dk_21 6 (dk_at dksX9_kinds_2 12 rfl rfl)
theorem dX9_kinds_62 : decode cX9_kinds 62 = .ok (.aload_n 0, 1) := dk_42 (dk_at dksX9_kinds_2 14 rfl rfl)
theorem dX9_kinds_63 : decode cX9_kinds 63 = .ok (.getfield 19, 3) := dk_180 0 19 (dk_at dksX9_kinds_2 15 rfl rfl)
theorem dX9_kinds_66 : decode cX9_kinds 66 = .ok (.iload_n 1, 1) := dk_27 (dk_at dksX9_kinds_2 18 rfl rfl)
theorem dX9_kinds_67 : decode cX9_kinds 67 = .ok (.iconst 1, 1) := dk_4 (dk_at dksX9_kinds_2 19 rfl rfl)
theorem dX9_kinds_68 : decode cX9_kinds 68 = .ok (.invokestatic 157, 3) := dk_184 0 157 (dk_at dksX9_kinds_2 20 rfl rfl)
theorem dX9_kinds_71 : decode cX9_kinds 71 = .ok (.bipush 40, 2) := dk_16 40 (dk_at dksX9_kinds_3 0 rfl rfl)
theorem dX9_kinds_73 : decode cX9_kinds 73 = .ok (.iload_n 2, 1) := dk_28 (dk_at dksX9_kinds_3 2 rfl rfl)
theorem dX9_kinds_74 : decode cX9_kinds 74 = .ok (.imul, 1) := dk_104 (dk_at dksX9_kinds_3 3 rfl rfl)
theorem dX9_kinds_75 : decode cX9_kinds 75 = .ok (.iload_n 3, 1) := dk_29 (dk_at dksX9_kinds_3 4 rfl rfl)
theorem dX9_kinds_76 : decode cX9_kinds 76 = .ok (.iadd, 1) := dk_96 (dk_at dksX9_kinds_3 5 rfl rfl)
theorem dX9_kinds_77 : decode cX9_kinds 77 = .ok (.invokevirtual 233, 3) := dk_182 0 233 (dk_at dksX9_kinds_3 6 rfl rfl)
theorem dX9_kinds_80 : decode cX9_kinds 80 = .ok (.ifCond .eq 10, 3) := dk_153 0 10 (dk_at dksX9_kinds_3 9 rfl rfl)
theorem dX9_kinds_83 : decode cX9_kinds 83 = .ok (.iconst 1, 1) := dk_4 (dk_at dksX9_kinds_3 12 rfl rfl)
theorem dX9_kinds_84 : decode cX9_kinds 84 = .ok (.iload 6, 2) := dk_21 6 (dk_at dksX9_kinds_3 13 rfl rfl)
theorem dX9_kinds_86 : decode cX9_kinds 86 = .ok (.ishl, 1) := dk_120 (dk_at dksX9_kinds_3 15 rfl rfl)
theorem dX9_kinds_87 : decode cX9_kinds 87 = .ok (.goto 4, 3) := dk_167 0 4 (dk_at dksX9_kinds_3 16 rfl rfl)
theorem dX9_kinds_90 : decode cX9_kinds 90 = .ok (.iconst 0, 1) := dk_3 (dk_at dksX9_kinds_3 19 rfl rfl)
theorem dX9_kinds_91 : decode cX9_kinds 91 = .ok (.ior, 1) := dk_128 (dk_at dksX9_kinds_3 20 rfl rfl)
theorem dX9_kinds_92 : decode cX9_kinds 92 = .ok (.istore 5, 2) := dk_54 5 (dk_at dksX9_kinds_3 21 rfl rfl)
theorem dX9_kinds_94 : decode cX9_kinds 94 = .ok (.iinc 6 1, 3) := dk_132 6 1 (dk_at dksX9_kinds_4 0 rfl rfl)
theorem dX9_kinds_97 : decode cX9_kinds 97 = .ok (.goto (-46), 3) := dk_167 255 210 (dk_at dksX9_kinds_4 3 rfl rfl)
theorem dX9_kinds_100 : decode cX9_kinds 100 = .ok (.iload 5, 2) := dk_21 5 (dk_at dksX9_kinds_4 6 rfl rfl)
theorem dX9_kinds_102 : decode cX9_kinds 102 = .ok (.ireturn, 1) := dk_172 (dk_at dksX9_kinds_4 8 rfl rfl)
abbrev cX9_who : ByteArray := prog_16_method_70_code
def yX9_who : MethodName := ⟨RX9, "who", "(II)I"⟩
def dkwX9_who_4 : List UInt8 := [153, 0, 10, 4, 21, 5, 120, 167, 0, 4, 3, 128, 54, 4, 132, 5, 1, 167, 255, 196, 21, 4, 172]
abbrev dktX9_who_4 : List UInt8 := dkwX9_who_4 ++ []
def dkwX9_who_3 : List UInt8 := [184, 0, 161, 42, 180, 0, 19, 21, 5, 4, 184, 0, 161, 16, 40, 27, 104, 28, 96, 182, 0, 237]
abbrev dktX9_who_3 : List UInt8 := dkwX9_who_3 ++ dktX9_who_4
def dkwX9_who_2 : List UInt8 := [54, 5, 21, 5, 42, 180, 0, 19, 6, 46, 162, 0, 55, 21, 4, 42, 42, 180, 0, 19, 21, 5, 3]
abbrev dktX9_who_2 : List UInt8 := dkwX9_who_2 ++ dktX9_who_3
def dkwX9_who_1 : List UInt8 := [172, 42, 27, 28, 42, 180, 0, 19, 5, 46, 182, 0, 229, 62, 29, 153, 0, 5, 29, 172, 3, 54, 4, 3]
abbrev dktX9_who_1 : List UInt8 := dkwX9_who_1 ++ dktX9_who_2
def dkwX9_who_0 : List UInt8 := [42, 3, 181, 0, 48, 42, 182, 0, 201, 154, 0, 6, 18, 204, 172, 27, 184, 0, 62, 154, 0, 6, 18, 68]
abbrev dktX9_who_0 : List UInt8 := dkwX9_who_0 ++ dktX9_who_1
theorem dksX9_who_0 : cX9_who.data.toList.drop 0 = dktX9_who_0 := by decide +kernel
theorem dksX9_who_1 : cX9_who.data.toList.drop 24 = dktX9_who_1 := dk_seg dksX9_who_0 24 rfl rfl
theorem dksX9_who_2 : cX9_who.data.toList.drop 48 = dktX9_who_2 := dk_seg dksX9_who_1 24 rfl rfl
theorem dksX9_who_3 : cX9_who.data.toList.drop 71 = dktX9_who_3 := dk_seg dksX9_who_2 23 rfl rfl
theorem dksX9_who_4 : cX9_who.data.toList.drop 93 = dktX9_who_4 := dk_seg dksX9_who_3 22 rfl rfl
theorem dX9_who_0 : decode cX9_who 0 = .ok (.aload_n 0, 1) := dk_42 (dk_at dksX9_who_0 0 rfl rfl)
theorem dX9_who_1 : decode cX9_who 1 = .ok (.iconst 0, 1) := dk_3 (dk_at dksX9_who_0 1 rfl rfl)
theorem dX9_who_2 : decode cX9_who 2 = .ok (.putfield 48, 3) := dk_181 0 48 (dk_at dksX9_who_0 2 rfl rfl)
theorem dX9_who_5 : decode cX9_who 5 = .ok (.aload_n 0, 1) := dk_42 (dk_at dksX9_who_0 5 rfl rfl)
theorem dX9_who_6 : decode cX9_who 6 = .ok (.invokevirtual 201, 3) := dk_182 0 201 (dk_at dksX9_who_0 6 rfl rfl)
theorem dX9_who_9 : decode cX9_who 9 = .ok (.ifCond .ne 6, 3) := dk_154 0 6 (dk_at dksX9_who_0 9 rfl rfl)
theorem dX9_who_12 : decode cX9_who 12 = .ok (.ldc 204, 2) := dk_18 204 (dk_at dksX9_who_0 12 rfl rfl)
theorem dX9_who_14 : decode cX9_who 14 = .ok (.ireturn, 1) := dk_172 (dk_at dksX9_who_0 14 rfl rfl)
theorem dX9_who_15 : decode cX9_who 15 = .ok (.iload_n 1, 1) := dk_27 (dk_at dksX9_who_0 15 rfl rfl)
theorem dX9_who_16 : decode cX9_who 16 = .ok (.invokestatic 62, 3) := dk_184 0 62 (dk_at dksX9_who_0 16 rfl rfl)
theorem dX9_who_19 : decode cX9_who 19 = .ok (.ifCond .ne 6, 3) := dk_154 0 6 (dk_at dksX9_who_0 19 rfl rfl)
theorem dX9_who_22 : decode cX9_who 22 = .ok (.ldc 68, 2) := dk_18 68 (dk_at dksX9_who_0 22 rfl rfl)
theorem dX9_who_24 : decode cX9_who 24 = .ok (.ireturn, 1) := dk_172 (dk_at dksX9_who_1 0 rfl rfl)
theorem dX9_who_25 : decode cX9_who 25 = .ok (.aload_n 0, 1) := dk_42 (dk_at dksX9_who_1 1 rfl rfl)
theorem dX9_who_26 : decode cX9_who 26 = .ok (.iload_n 1, 1) := dk_27 (dk_at dksX9_who_1 2 rfl rfl)
theorem dX9_who_27 : decode cX9_who 27 = .ok (.iload_n 2, 1) := dk_28 (dk_at dksX9_who_1 3 rfl rfl)
theorem dX9_who_28 : decode cX9_who 28 = .ok (.aload_n 0, 1) := dk_42 (dk_at dksX9_who_1 4 rfl rfl)
theorem dX9_who_29 : decode cX9_who 29 = .ok (.getfield 19, 3) := dk_180 0 19 (dk_at dksX9_who_1 5 rfl rfl)
theorem dX9_who_32 : decode cX9_who 32 = .ok (.iconst 2, 1) := dk_5 (dk_at dksX9_who_1 8 rfl rfl)
theorem dX9_who_33 : decode cX9_who 33 = .ok (.iaload, 1) := dk_46 (dk_at dksX9_who_1 9 rfl rfl)
theorem dX9_who_34 : decode cX9_who 34 = .ok (.invokevirtual 229, 3) := dk_182 0 229 (dk_at dksX9_who_1 10 rfl rfl)
theorem dX9_who_37 : decode cX9_who 37 = .ok (.istore_n 3, 1) := dk_62 (dk_at dksX9_who_1 13 rfl rfl)
theorem dX9_who_38 : decode cX9_who 38 = .ok (.iload_n 3, 1) := dk_29 (dk_at dksX9_who_1 14 rfl rfl)
theorem dX9_who_39 : decode cX9_who 39 = .ok (.ifCond .eq 5, 3) := dk_153 0 5 (dk_at dksX9_who_1 15 rfl rfl)
theorem dX9_who_42 : decode cX9_who 42 = .ok (.iload_n 3, 1) := dk_29 (dk_at dksX9_who_1 18 rfl rfl)
theorem dX9_who_43 : decode cX9_who 43 = .ok (.ireturn, 1) := dk_172 (dk_at dksX9_who_1 19 rfl rfl)
theorem dX9_who_44 : decode cX9_who 44 = .ok (.iconst 0, 1) := dk_3 (dk_at dksX9_who_1 20 rfl rfl)
theorem dX9_who_45 : decode cX9_who 45 = .ok (.istore 4, 2) := dk_54 4 (dk_at dksX9_who_1 21 rfl rfl)
theorem dX9_who_47 : decode cX9_who 47 = .ok (.iconst 0, 1) := dk_3 (dk_at dksX9_who_1 23 rfl rfl)
theorem dX9_who_48 : decode cX9_who 48 = .ok (.istore 5, 2) := dk_54 5 (dk_at dksX9_who_2 0 rfl rfl)
theorem dX9_who_50 : decode cX9_who 50 = .ok (.iload 5, 2) := dk_21 5 (dk_at dksX9_who_2 2 rfl rfl)
theorem dX9_who_52 : decode cX9_who 52 = .ok (.aload_n 0, 1) := dk_42 (dk_at dksX9_who_2 4 rfl rfl)
theorem dX9_who_53 : decode cX9_who 53 = .ok (.getfield 19, 3) := dk_180 0 19 (dk_at dksX9_who_2 5 rfl rfl)
theorem dX9_who_56 : decode cX9_who 56 = .ok (.iconst 3, 1) := dk_6 (dk_at dksX9_who_2 8 rfl rfl)
theorem dX9_who_57 : decode cX9_who 57 = .ok (.iaload, 1) := dk_46 (dk_at dksX9_who_2 9 rfl rfl)
theorem dX9_who_58 : decode cX9_who 58 = .ok (.if_icmp .ge 55, 3) := dk_162 0 55 (dk_at dksX9_who_2 10 rfl rfl)
theorem dX9_who_61 : decode cX9_who 61 = .ok (.iload 4, 2) := dk_21 4 (dk_at dksX9_who_2 13 rfl rfl)
theorem dX9_who_63 : decode cX9_who 63 = .ok (.aload_n 0, 1) := dk_42 (dk_at dksX9_who_2 15 rfl rfl)
theorem dX9_who_64 : decode cX9_who 64 = .ok (.aload_n 0, 1) := dk_42 (dk_at dksX9_who_2 16 rfl rfl)
theorem dX9_who_65 : decode cX9_who 65 = .ok (.getfield 19, 3) := dk_180 0 19 (dk_at dksX9_who_2 17 rfl rfl)
theorem dX9_who_68 : decode cX9_who 68 = .ok (.iload 5, 2) := dk_21 5 (dk_at dksX9_who_2 20 rfl rfl)
theorem dX9_who_70 : decode cX9_who 70 = .ok (.iconst 0, 1) := dk_3 (dk_at dksX9_who_2 22 rfl rfl)
theorem dX9_who_71 : decode cX9_who 71 = .ok (.invokestatic 161, 3) := dk_184 0 161 (dk_at dksX9_who_3 0 rfl rfl)
theorem dX9_who_74 : decode cX9_who 74 = .ok (.aload_n 0, 1) := dk_42 (dk_at dksX9_who_3 3 rfl rfl)
theorem dX9_who_75 : decode cX9_who 75 = .ok (.getfield 19, 3) := dk_180 0 19 (dk_at dksX9_who_3 4 rfl rfl)
theorem dX9_who_78 : decode cX9_who 78 = .ok (.iload 5, 2) := dk_21 5 (dk_at dksX9_who_3 7 rfl rfl)
theorem dX9_who_80 : decode cX9_who 80 = .ok (.iconst 1, 1) := dk_4 (dk_at dksX9_who_3 9 rfl rfl)
theorem dX9_who_81 : decode cX9_who 81 = .ok (.invokestatic 161, 3) := dk_184 0 161 (dk_at dksX9_who_3 10 rfl rfl)
theorem dX9_who_84 : decode cX9_who 84 = .ok (.bipush 40, 2) := dk_16 40 (dk_at dksX9_who_3 13 rfl rfl)
theorem dX9_who_86 : decode cX9_who 86 = .ok (.iload_n 1, 1) := dk_27 (dk_at dksX9_who_3 15 rfl rfl)
theorem dX9_who_87 : decode cX9_who 87 = .ok (.imul, 1) := dk_104 (dk_at dksX9_who_3 16 rfl rfl)
theorem dX9_who_88 : decode cX9_who 88 = .ok (.iload_n 2, 1) := dk_28 (dk_at dksX9_who_3 17 rfl rfl)
theorem dX9_who_89 : decode cX9_who 89 = .ok (.iadd, 1) := dk_96 (dk_at dksX9_who_3 18 rfl rfl)
theorem dX9_who_90 : decode cX9_who 90 = .ok (.invokevirtual 237, 3) := dk_182 0 237 (dk_at dksX9_who_3 19 rfl rfl)
theorem dX9_who_93 : decode cX9_who 93 = .ok (.ifCond .eq 10, 3) := dk_153 0 10 (dk_at dksX9_who_4 0 rfl rfl)
theorem dX9_who_96 : decode cX9_who 96 = .ok (.iconst 1, 1) := dk_4 (dk_at dksX9_who_4 3 rfl rfl)
theorem dX9_who_97 : decode cX9_who 97 = .ok (.iload 5, 2) := dk_21 5 (dk_at dksX9_who_4 4 rfl rfl)
theorem dX9_who_99 : decode cX9_who 99 = .ok (.ishl, 1) := dk_120 (dk_at dksX9_who_4 6 rfl rfl)
theorem dX9_who_100 : decode cX9_who 100 = .ok (.goto 4, 3) := dk_167 0 4 (dk_at dksX9_who_4 7 rfl rfl)
theorem dX9_who_103 : decode cX9_who 103 = .ok (.iconst 0, 1) := dk_3 (dk_at dksX9_who_4 10 rfl rfl)
theorem dX9_who_104 : decode cX9_who 104 = .ok (.ior, 1) := dk_128 (dk_at dksX9_who_4 11 rfl rfl)
theorem dX9_who_105 : decode cX9_who 105 = .ok (.istore 4, 2) := dk_54 4 (dk_at dksX9_who_4 12 rfl rfl)
theorem dX9_who_107 : decode cX9_who 107 = .ok (.iinc 5 1, 3) := dk_132 5 1 (dk_at dksX9_who_4 14 rfl rfl)
theorem dX9_who_110 : decode cX9_who 110 = .ok (.goto (-60), 3) := dk_167 255 196 (dk_at dksX9_who_4 17 rfl rfl)
theorem dX9_who_113 : decode cX9_who 113 = .ok (.iload 4, 2) := dk_21 4 (dk_at dksX9_who_4 20 rfl rfl)
theorem dX9_who_115 : decode cX9_who 115 = .ok (.ireturn, 1) := dk_172 (dk_at dksX9_who_4 22 rfl rfl)
abbrev cX9_clicksSo : ByteArray := prog_16_method_66_code
def yX9_clicksSo : MethodName := ⟨RX9, "clicksSo", "(III)Z"⟩
def dkwX9_clicksSo_3 : List UInt8 := [3, 54, 4, 132, 5, 1, 167, 255, 185, 21, 4, 172]
abbrev dktX9_clicksSo_3 : List UInt8 := dkwX9_clicksSo_3 ++ []
def dkwX9_clicksSo_2 : List UInt8 := [153, 0, 7, 4, 167, 0, 4, 3, 42, 180, 0, 16, 29, 21, 5, 96, 46, 160, 0, 7, 4, 167, 0, 4]
abbrev dktX9_clicksSo_2 : List UInt8 := dkwX9_clicksSo_2 ++ dktX9_clicksSo_3
def dkwX9_clicksSo_1 : List UInt8 := [180, 0, 19, 21, 5, 3, 184, 0, 157, 42, 180, 0, 19, 21, 5, 4, 184, 0, 157, 27, 28, 184, 0, 164]
abbrev dktX9_clicksSo_1 : List UInt8 := dkwX9_clicksSo_1 ++ dktX9_clicksSo_2
def dkwX9_clicksSo_0 : List UInt8 := [4, 54, 4, 3, 54, 5, 21, 5, 42, 180, 0, 19, 5, 46, 162, 0, 66, 21, 4, 153, 0, 52, 42]
abbrev dktX9_clicksSo_0 : List UInt8 := dkwX9_clicksSo_0 ++ dktX9_clicksSo_1
theorem dksX9_clicksSo_0 : cX9_clicksSo.data.toList.drop 0 = dktX9_clicksSo_0 := by decide +kernel
theorem dksX9_clicksSo_1 : cX9_clicksSo.data.toList.drop 23 = dktX9_clicksSo_1 := dk_seg dksX9_clicksSo_0 23 rfl rfl
theorem dksX9_clicksSo_2 : cX9_clicksSo.data.toList.drop 47 = dktX9_clicksSo_2 := dk_seg dksX9_clicksSo_1 24 rfl rfl
theorem dksX9_clicksSo_3 : cX9_clicksSo.data.toList.drop 71 = dktX9_clicksSo_3 := dk_seg dksX9_clicksSo_2 24 rfl rfl
theorem dX9_clicksSo_0 : decode cX9_clicksSo 0 = .ok (.iconst 1, 1) := dk_4 (dk_at dksX9_clicksSo_0 0 rfl rfl)
theorem dX9_clicksSo_1 : decode cX9_clicksSo 1 = .ok (.istore 4, 2) := dk_54 4 (dk_at dksX9_clicksSo_0 1 rfl rfl)
theorem dX9_clicksSo_3 : decode cX9_clicksSo 3 = .ok (.iconst 0, 1) := dk_3 (dk_at dksX9_clicksSo_0 3 rfl rfl)
theorem dX9_clicksSo_4 : decode cX9_clicksSo 4 = .ok (.istore 5, 2) := dk_54 5 (dk_at dksX9_clicksSo_0 4 rfl rfl)
theorem dX9_clicksSo_6 : decode cX9_clicksSo 6 = .ok (.iload 5, 2) := dk_21 5 (dk_at dksX9_clicksSo_0 6 rfl rfl)
theorem dX9_clicksSo_8 : decode cX9_clicksSo 8 = .ok (.aload_n 0, 1) := dk_42 (dk_at dksX9_clicksSo_0 8 rfl rfl)
theorem dX9_clicksSo_9 : decode cX9_clicksSo 9 = .ok (.getfield 19, 3) := dk_180 0 19 (dk_at dksX9_clicksSo_0 9 rfl rfl)
theorem dX9_clicksSo_12 : decode cX9_clicksSo 12 = .ok (.iconst 2, 1) := dk_5 (dk_at dksX9_clicksSo_0 12 rfl rfl)
theorem dX9_clicksSo_13 : decode cX9_clicksSo 13 = .ok (.iaload, 1) := dk_46 (dk_at dksX9_clicksSo_0 13 rfl rfl)
theorem dX9_clicksSo_14 : decode cX9_clicksSo 14 = .ok (.if_icmp .ge 66, 3) := dk_162 0 66 (dk_at dksX9_clicksSo_0 14 rfl rfl)
theorem dX9_clicksSo_17 : decode cX9_clicksSo 17 = .ok (.iload 4, 2) := dk_21 4 (dk_at dksX9_clicksSo_0 17 rfl rfl)
theorem dX9_clicksSo_19 : decode cX9_clicksSo 19 = .ok (.ifCond .eq 52, 3) := dk_153 0 52 (dk_at dksX9_clicksSo_0 19 rfl rfl)
theorem dX9_clicksSo_22 : decode cX9_clicksSo 22 = .ok (.aload_n 0, 1) := dk_42 (dk_at dksX9_clicksSo_0 22 rfl rfl)
theorem dX9_clicksSo_23 : decode cX9_clicksSo 23 = .ok (.getfield 19, 3) := dk_180 0 19 (dk_at dksX9_clicksSo_1 0 rfl rfl)
theorem dX9_clicksSo_26 : decode cX9_clicksSo 26 = .ok (.iload 5, 2) := dk_21 5 (dk_at dksX9_clicksSo_1 3 rfl rfl)
theorem dX9_clicksSo_28 : decode cX9_clicksSo 28 = .ok (.iconst 0, 1) := dk_3 (dk_at dksX9_clicksSo_1 5 rfl rfl)
theorem dX9_clicksSo_29 : decode cX9_clicksSo 29 = .ok (.invokestatic 157, 3) := dk_184 0 157 (dk_at dksX9_clicksSo_1 6 rfl rfl)
theorem dX9_clicksSo_32 : decode cX9_clicksSo 32 = .ok (.aload_n 0, 1) := dk_42 (dk_at dksX9_clicksSo_1 9 rfl rfl)
theorem dX9_clicksSo_33 : decode cX9_clicksSo 33 = .ok (.getfield 19, 3) := dk_180 0 19 (dk_at dksX9_clicksSo_1 10 rfl rfl)
theorem dX9_clicksSo_36 : decode cX9_clicksSo 36 = .ok (.iload 5, 2) := dk_21 5 (dk_at dksX9_clicksSo_1 13 rfl rfl)
theorem dX9_clicksSo_38 : decode cX9_clicksSo 38 = .ok (.iconst 1, 1) := dk_4 (dk_at dksX9_clicksSo_1 15 rfl rfl)
theorem dX9_clicksSo_39 : decode cX9_clicksSo 39 = .ok (.invokestatic 157, 3) := dk_184 0 157 (dk_at dksX9_clicksSo_1 16 rfl rfl)
theorem dX9_clicksSo_42 : decode cX9_clicksSo 42 = .ok (.iload_n 1, 1) := dk_27 (dk_at dksX9_clicksSo_1 19 rfl rfl)
theorem dX9_clicksSo_43 : decode cX9_clicksSo 43 = .ok (.iload_n 2, 1) := dk_28 (dk_at dksX9_clicksSo_1 20 rfl rfl)
theorem dX9_clicksSo_44 : decode cX9_clicksSo 44 = .ok (.invokestatic 164, 3) := dk_184 0 164 (dk_at dksX9_clicksSo_1 21 rfl rfl)
theorem dX9_clicksSo_47 : decode cX9_clicksSo 47 = .ok (.ifCond .eq 7, 3) := dk_153 0 7 (dk_at dksX9_clicksSo_2 0 rfl rfl)
theorem dX9_clicksSo_50 : decode cX9_clicksSo 50 = .ok (.iconst 1, 1) := dk_4 (dk_at dksX9_clicksSo_2 3 rfl rfl)
theorem dX9_clicksSo_51 : decode cX9_clicksSo 51 = .ok (.goto 4, 3) := dk_167 0 4 (dk_at dksX9_clicksSo_2 4 rfl rfl)
theorem dX9_clicksSo_54 : decode cX9_clicksSo 54 = .ok (.iconst 0, 1) := dk_3 (dk_at dksX9_clicksSo_2 7 rfl rfl)
theorem dX9_clicksSo_55 : decode cX9_clicksSo 55 = .ok (.aload_n 0, 1) := dk_42 (dk_at dksX9_clicksSo_2 8 rfl rfl)
theorem dX9_clicksSo_56 : decode cX9_clicksSo 56 = .ok (.getfield 16, 3) := dk_180 0 16 (dk_at dksX9_clicksSo_2 9 rfl rfl)
theorem dX9_clicksSo_59 : decode cX9_clicksSo 59 = .ok (.iload_n 3, 1) := dk_29 (dk_at dksX9_clicksSo_2 12 rfl rfl)
theorem dX9_clicksSo_60 : decode cX9_clicksSo 60 = .ok (.iload 5, 2) := dk_21 5 (dk_at dksX9_clicksSo_2 13 rfl rfl)
theorem dX9_clicksSo_62 : decode cX9_clicksSo 62 = .ok (.iadd, 1) := dk_96 (dk_at dksX9_clicksSo_2 15 rfl rfl)
theorem dX9_clicksSo_63 : decode cX9_clicksSo 63 = .ok (.iaload, 1) := dk_46 (dk_at dksX9_clicksSo_2 16 rfl rfl)
theorem dX9_clicksSo_64 : decode cX9_clicksSo 64 = .ok (.if_icmp .ne 7, 3) := dk_160 0 7 (dk_at dksX9_clicksSo_2 17 rfl rfl)
theorem dX9_clicksSo_67 : decode cX9_clicksSo 67 = .ok (.iconst 1, 1) := dk_4 (dk_at dksX9_clicksSo_2 20 rfl rfl)
theorem dX9_clicksSo_68 : decode cX9_clicksSo 68 = .ok (.goto 4, 3) := dk_167 0 4 (dk_at dksX9_clicksSo_2 21 rfl rfl)
theorem dX9_clicksSo_71 : decode cX9_clicksSo 71 = .ok (.iconst 0, 1) := dk_3 (dk_at dksX9_clicksSo_3 0 rfl rfl)
theorem dX9_clicksSo_72 : decode cX9_clicksSo 72 = .ok (.istore 4, 2) := dk_54 4 (dk_at dksX9_clicksSo_3 1 rfl rfl)
theorem dX9_clicksSo_74 : decode cX9_clicksSo 74 = .ok (.iinc 5 1, 3) := dk_132 5 1 (dk_at dksX9_clicksSo_3 3 rfl rfl)
theorem dX9_clicksSo_77 : decode cX9_clicksSo 77 = .ok (.goto (-71), 3) := dk_167 255 185 (dk_at dksX9_clicksSo_3 6 rfl rfl)
theorem dX9_clicksSo_80 : decode cX9_clicksSo 80 = .ok (.iload 4, 2) := dk_21 4 (dk_at dksX9_clicksSo_3 9 rfl rfl)
theorem dX9_clicksSo_82 : decode cX9_clicksSo 82 = .ok (.ireturn, 1) := dk_172 (dk_at dksX9_clicksSo_3 11 rfl rfl)
abbrev cX9_cares : ByteArray := prog_16_method_71_code
def yX9_cares : MethodName := ⟨RX9, "cares", "(III)I"⟩
def dkwX9_cares_4 : List UInt8 := [120, 167, 0, 4, 3, 128, 54, 5, 132, 6, 1, 167, 255, 217, 21, 5, 172]
abbrev dktX9_cares_4 : List UInt8 := dkwX9_cares_4 ++ []
def dkwX9_cares_3 : List UInt8 := [162, 0, 38, 21, 5, 42, 21, 6, 27, 16, 40, 28, 104, 29, 96, 182, 0, 237, 153, 0, 10, 4, 21, 6]
abbrev dktX9_cares_3 : List UInt8 := dkwX9_cares_3 ++ dktX9_cares_4
def dkwX9_cares_2 : List UInt8 := [182, 0, 229, 54, 4, 21, 4, 153, 0, 6, 21, 4, 172, 3, 54, 5, 3, 54, 6, 21, 6, 16, 10]
abbrev dktX9_cares_2 : List UInt8 := dkwX9_cares_2 ++ dktX9_cares_3
def dkwX9_cares_1 : List UInt8 := [153, 0, 10, 28, 184, 0, 62, 154, 0, 6, 18, 68, 172, 42, 28, 29, 42, 180, 0, 19, 5, 46]
abbrev dktX9_cares_1 : List UInt8 := dkwX9_cares_1 ++ dktX9_cares_2
def dkwX9_cares_0 : List UInt8 := [42, 3, 181, 0, 48, 42, 182, 0, 201, 154, 0, 6, 18, 204, 172, 27, 133, 9, 20, 0, 210, 184, 0, 58]
abbrev dktX9_cares_0 : List UInt8 := dkwX9_cares_0 ++ dktX9_cares_1
theorem dksX9_cares_0 : cX9_cares.data.toList.drop 0 = dktX9_cares_0 := by decide +kernel
theorem dksX9_cares_1 : cX9_cares.data.toList.drop 24 = dktX9_cares_1 := dk_seg dksX9_cares_0 24 rfl rfl
theorem dksX9_cares_2 : cX9_cares.data.toList.drop 46 = dktX9_cares_2 := dk_seg dksX9_cares_1 22 rfl rfl
theorem dksX9_cares_3 : cX9_cares.data.toList.drop 69 = dktX9_cares_3 := dk_seg dksX9_cares_2 23 rfl rfl
theorem dksX9_cares_4 : cX9_cares.data.toList.drop 93 = dktX9_cares_4 := dk_seg dksX9_cares_3 24 rfl rfl
theorem dX9_cares_0 : decode cX9_cares 0 = .ok (.aload_n 0, 1) := dk_42 (dk_at dksX9_cares_0 0 rfl rfl)
theorem dX9_cares_1 : decode cX9_cares 1 = .ok (.iconst 0, 1) := dk_3 (dk_at dksX9_cares_0 1 rfl rfl)
theorem dX9_cares_2 : decode cX9_cares 2 = .ok (.putfield 48, 3) := dk_181 0 48 (dk_at dksX9_cares_0 2 rfl rfl)
theorem dX9_cares_5 : decode cX9_cares 5 = .ok (.aload_n 0, 1) := dk_42 (dk_at dksX9_cares_0 5 rfl rfl)
theorem dX9_cares_6 : decode cX9_cares 6 = .ok (.invokevirtual 201, 3) := dk_182 0 201 (dk_at dksX9_cares_0 6 rfl rfl)
theorem dX9_cares_9 : decode cX9_cares 9 = .ok (.ifCond .ne 6, 3) := dk_154 0 6 (dk_at dksX9_cares_0 9 rfl rfl)
theorem dX9_cares_12 : decode cX9_cares 12 = .ok (.ldc 204, 2) := dk_18 204 (dk_at dksX9_cares_0 12 rfl rfl)
theorem dX9_cares_14 : decode cX9_cares 14 = .ok (.ireturn, 1) := dk_172 (dk_at dksX9_cares_0 14 rfl rfl)
theorem dX9_cares_15 : decode cX9_cares 15 = .ok (.iload_n 1, 1) := dk_27 (dk_at dksX9_cares_0 15 rfl rfl)
theorem dX9_cares_16 : decode cX9_cares 16 = .ok (.i2l, 1) := dk_133 (dk_at dksX9_cares_0 16 rfl rfl)
theorem dX9_cares_17 : decode cX9_cares 17 = .ok (.lconst 0, 1) := dk_9 (dk_at dksX9_cares_0 17 rfl rfl)
theorem dX9_cares_18 : decode cX9_cares 18 = .ok (.ldc2_w 210, 3) := dk_20 0 210 (dk_at dksX9_cares_0 18 rfl rfl)
theorem dX9_cares_21 : decode cX9_cares 21 = .ok (.invokestatic 58, 3) := dk_184 0 58 (dk_at dksX9_cares_0 21 rfl rfl)
theorem dX9_cares_24 : decode cX9_cares 24 = .ok (.ifCond .eq 10, 3) := dk_153 0 10 (dk_at dksX9_cares_1 0 rfl rfl)
theorem dX9_cares_27 : decode cX9_cares 27 = .ok (.iload_n 2, 1) := dk_28 (dk_at dksX9_cares_1 3 rfl rfl)
theorem dX9_cares_28 : decode cX9_cares 28 = .ok (.invokestatic 62, 3) := dk_184 0 62 (dk_at dksX9_cares_1 4 rfl rfl)
theorem dX9_cares_31 : decode cX9_cares 31 = .ok (.ifCond .ne 6, 3) := dk_154 0 6 (dk_at dksX9_cares_1 7 rfl rfl)
theorem dX9_cares_34 : decode cX9_cares 34 = .ok (.ldc 68, 2) := dk_18 68 (dk_at dksX9_cares_1 10 rfl rfl)
theorem dX9_cares_36 : decode cX9_cares 36 = .ok (.ireturn, 1) := dk_172 (dk_at dksX9_cares_1 12 rfl rfl)
theorem dX9_cares_37 : decode cX9_cares 37 = .ok (.aload_n 0, 1) := dk_42 (dk_at dksX9_cares_1 13 rfl rfl)
theorem dX9_cares_38 : decode cX9_cares 38 = .ok (.iload_n 2, 1) := dk_28 (dk_at dksX9_cares_1 14 rfl rfl)
theorem dX9_cares_39 : decode cX9_cares 39 = .ok (.iload_n 3, 1) := dk_29 (dk_at dksX9_cares_1 15 rfl rfl)
theorem dX9_cares_40 : decode cX9_cares 40 = .ok (.aload_n 0, 1) := dk_42 (dk_at dksX9_cares_1 16 rfl rfl)
theorem dX9_cares_41 : decode cX9_cares 41 = .ok (.getfield 19, 3) := dk_180 0 19 (dk_at dksX9_cares_1 17 rfl rfl)
theorem dX9_cares_44 : decode cX9_cares 44 = .ok (.iconst 2, 1) := dk_5 (dk_at dksX9_cares_1 20 rfl rfl)
theorem dX9_cares_45 : decode cX9_cares 45 = .ok (.iaload, 1) := dk_46 (dk_at dksX9_cares_1 21 rfl rfl)
theorem dX9_cares_46 : decode cX9_cares 46 = .ok (.invokevirtual 229, 3) := dk_182 0 229 (dk_at dksX9_cares_2 0 rfl rfl)
theorem dX9_cares_49 : decode cX9_cares 49 = .ok (.istore 4, 2) := dk_54 4 (dk_at dksX9_cares_2 3 rfl rfl)
theorem dX9_cares_51 : decode cX9_cares 51 = .ok (.iload 4, 2) := dk_21 4 (dk_at dksX9_cares_2 5 rfl rfl)
theorem dX9_cares_53 : decode cX9_cares 53 = .ok (.ifCond .eq 6, 3) := dk_153 0 6 (dk_at dksX9_cares_2 7 rfl rfl)
theorem dX9_cares_56 : decode cX9_cares 56 = .ok (.iload 4, 2) := dk_21 4 (dk_at dksX9_cares_2 10 rfl rfl)
theorem dX9_cares_58 : decode cX9_cares 58 = .ok (.ireturn, 1) := dk_172 (dk_at dksX9_cares_2 12 rfl rfl)
theorem dX9_cares_59 : decode cX9_cares 59 = .ok (.iconst 0, 1) := dk_3 (dk_at dksX9_cares_2 13 rfl rfl)
theorem dX9_cares_60 : decode cX9_cares 60 = .ok (.istore 5, 2) := dk_54 5 (dk_at dksX9_cares_2 14 rfl rfl)
theorem dX9_cares_62 : decode cX9_cares 62 = .ok (.iconst 0, 1) := dk_3 (dk_at dksX9_cares_2 16 rfl rfl)
theorem dX9_cares_63 : decode cX9_cares 63 = .ok (.istore 6, 2) := dk_54 6 (dk_at dksX9_cares_2 17 rfl rfl)
theorem dX9_cares_65 : decode cX9_cares 65 = .ok (.iload 6, 2) := dk_21 6 (dk_at dksX9_cares_2 19 rfl rfl)
theorem dX9_cares_67 : decode cX9_cares 67 = .ok (.bipush 10, 2) := dk_16 10 (dk_at dksX9_cares_2 21 rfl rfl)
theorem dX9_cares_69 : decode cX9_cares 69 = .ok (.if_icmp .ge 38, 3) := dk_162 0 38 (dk_at dksX9_cares_3 0 rfl rfl)
theorem dX9_cares_72 : decode cX9_cares 72 = .ok (.iload 5, 2) := dk_21 5 (dk_at dksX9_cares_3 3 rfl rfl)
theorem dX9_cares_74 : decode cX9_cares 74 = .ok (.aload_n 0, 1) := dk_42 (dk_at dksX9_cares_3 5 rfl rfl)
theorem dX9_cares_75 : decode cX9_cares 75 = .ok (.iload 6, 2) := dk_21 6 (dk_at dksX9_cares_3 6 rfl rfl)
theorem dX9_cares_77 : decode cX9_cares 77 = .ok (.iload_n 1, 1) := dk_27 (dk_at dksX9_cares_3 8 rfl rfl)
theorem dX9_cares_78 : decode cX9_cares 78 = .ok (.bipush 40, 2) := dk_16 40 (dk_at dksX9_cares_3 9 rfl rfl)
theorem dX9_cares_80 : decode cX9_cares 80 = .ok (.iload_n 2, 1) := dk_28 (dk_at dksX9_cares_3 11 rfl rfl)
theorem dX9_cares_81 : decode cX9_cares 81 = .ok (.imul, 1) := dk_104 (dk_at dksX9_cares_3 12 rfl rfl)
theorem dX9_cares_82 : decode cX9_cares 82 = .ok (.iload_n 3, 1) := dk_29 (dk_at dksX9_cares_3 13 rfl rfl)
theorem dX9_cares_83 : decode cX9_cares 83 = .ok (.iadd, 1) := dk_96 (dk_at dksX9_cares_3 14 rfl rfl)
theorem dX9_cares_84 : decode cX9_cares 84 = .ok (.invokevirtual 237, 3) := dk_182 0 237 (dk_at dksX9_cares_3 15 rfl rfl)
theorem dX9_cares_87 : decode cX9_cares 87 = .ok (.ifCond .eq 10, 3) := dk_153 0 10 (dk_at dksX9_cares_3 18 rfl rfl)
theorem dX9_cares_90 : decode cX9_cares 90 = .ok (.iconst 1, 1) := dk_4 (dk_at dksX9_cares_3 21 rfl rfl)
theorem dX9_cares_91 : decode cX9_cares 91 = .ok (.iload 6, 2) := dk_21 6 (dk_at dksX9_cares_3 22 rfl rfl)
theorem dX9_cares_93 : decode cX9_cares 93 = .ok (.ishl, 1) := dk_120 (dk_at dksX9_cares_4 0 rfl rfl)
theorem dX9_cares_94 : decode cX9_cares 94 = .ok (.goto 4, 3) := dk_167 0 4 (dk_at dksX9_cares_4 1 rfl rfl)
theorem dX9_cares_97 : decode cX9_cares 97 = .ok (.iconst 0, 1) := dk_3 (dk_at dksX9_cares_4 4 rfl rfl)
theorem dX9_cares_98 : decode cX9_cares 98 = .ok (.ior, 1) := dk_128 (dk_at dksX9_cares_4 5 rfl rfl)
theorem dX9_cares_99 : decode cX9_cares 99 = .ok (.istore 5, 2) := dk_54 5 (dk_at dksX9_cares_4 6 rfl rfl)
theorem dX9_cares_101 : decode cX9_cares 101 = .ok (.iinc 6 1, 3) := dk_132 6 1 (dk_at dksX9_cares_4 8 rfl rfl)
theorem dX9_cares_104 : decode cX9_cares 104 = .ok (.goto (-39), 3) := dk_167 255 217 (dk_at dksX9_cares_4 11 rfl rfl)
theorem dX9_cares_107 : decode cX9_cares 107 = .ok (.iload 5, 2) := dk_21 5 (dk_at dksX9_cares_4 14 rfl rfl)
theorem dX9_cares_109 : decode cX9_cares 109 = .ok (.ireturn, 1) := dk_172 (dk_at dksX9_cares_4 16 rfl rfl)
abbrev cX9_slip : ByteArray := prog_16_method_72_code
def yX9_slip : MethodName := ⟨RX9, "slip", "(IIII)J"⟩
def dkwX9_slip_12 : List UInt8 := [167, 255, 234, 21, 4, 154, 0, 8, 22, 7, 167, 0, 5, 22, 5, 22, 9, 109, 173]
abbrev dktX9_slip_12 : List UInt8 := dkwX9_slip_12 ++ []
def dkwX9_slip_11 : List UInt8 := [55, 11, 22, 11, 9, 148, 153, 0, 21, 22, 9, 22, 11, 113, 55, 13, 22, 11, 55, 9, 22, 13, 55, 11]
abbrev dktX9_slip_11 : List UInt8 := dkwX9_slip_11 ++ dktX9_slip_12
def dkwX9_slip_10 : List UInt8 := [22, 7, 42, 180, 0, 34, 21, 9, 47, 97, 55, 7, 132, 9, 1, 167, 255, 230, 22, 7, 55, 9, 22, 5]
abbrev dktX9_slip_10 : List UInt8 := dkwX9_slip_10 ++ dktX9_slip_11
def dkwX9_slip_9 : List UInt8 := [132, 7, 1, 167, 255, 131, 9, 55, 7, 3, 54, 9, 21, 9, 42, 180, 0, 19, 4, 46, 163, 0, 21]
abbrev dktX9_slip_9 : List UInt8 := dkwX9_slip_9 ++ dktX9_slip_10
def dkwX9_slip_8 : List UInt8 := [180, 0, 34, 21, 9, 4, 100, 47, 21, 8, 133, 105, 167, 0, 4, 9, 97, 80, 132, 9, 255, 167, 255, 204]
abbrev dktX9_slip_8 : List UInt8 := dkwX9_slip_8 ++ dktX9_slip_9
def dkwX9_slip_7 : List UInt8 := [21, 9, 42, 180, 0, 34, 21, 9, 47, 16, 10, 21, 8, 100, 133, 105, 21, 9, 158, 0, 19, 42]
abbrev dktX9_slip_7 : List UInt8 := dkwX9_slip_7 ++ dktX9_slip_8
def dkwX9_slip_6 : List UInt8 := [54, 8, 22, 5, 20, 0, 240, 105, 55, 5, 16, 8, 54, 9, 21, 9, 155, 0, 53, 42, 180, 0, 34]
abbrev dktX9_slip_6 : List UInt8 := dkwX9_slip_6 ++ dktX9_slip_7
def dkwX9_slip_5 : List UInt8 := [153, 0, 93, 42, 180, 0, 19, 27, 21, 7, 184, 0, 183, 153, 0, 10, 16, 10, 29, 100, 167, 0, 4, 29]
abbrev dktX9_slip_5 : List UInt8 := dkwX9_slip_5 ++ dktX9_slip_6
def dkwX9_slip_4 : List UInt8 := [46, 162, 0, 120, 28, 21, 7, 184, 0, 179, 153, 0, 105, 42, 180, 0, 19, 21, 7, 184, 0, 168]
abbrev dktX9_slip_4 : List UInt8 := dkwX9_slip_4 ++ dktX9_slip_5
def dkwX9_slip_3 : List UInt8 := [167, 0, 4, 9, 80, 132, 5, 1, 167, 255, 229, 10, 55, 5, 3, 54, 7, 21, 7, 42, 180, 0, 19, 5]
abbrev dktX9_slip_3 : List UInt8 := dkwX9_slip_3 ++ dktX9_slip_4
def dkwX9_slip_2 : List UInt8 := [3, 54, 5, 21, 5, 16, 9, 162, 0, 26, 42, 180, 0, 34, 21, 5, 21, 5, 154, 0, 7, 10]
abbrev dktX9_slip_2 : List UInt8 := dkwX9_slip_2 ++ dktX9_slip_3
def dkwX9_slip_1 : List UInt8 := [20, 0, 240, 184, 0, 58, 153, 0, 14, 21, 4, 133, 9, 10, 184, 0, 58, 154, 0, 7, 20, 0, 242, 173]
abbrev dktX9_slip_1 : List UInt8 := dkwX9_slip_1 ++ dktX9_slip_2
def dkwX9_slip_0 : List UInt8 := [42, 3, 181, 0, 48, 42, 27, 182, 0, 189, 153, 0, 34, 42, 28, 182, 0, 192, 153, 0, 26, 29, 133, 9]
abbrev dktX9_slip_0 : List UInt8 := dkwX9_slip_0 ++ dktX9_slip_1
theorem dksX9_slip_0 : cX9_slip.data.toList.drop 0 = dktX9_slip_0 := by decide +kernel
theorem dksX9_slip_1 : cX9_slip.data.toList.drop 24 = dktX9_slip_1 := dk_seg dksX9_slip_0 24 rfl rfl
theorem dksX9_slip_2 : cX9_slip.data.toList.drop 48 = dktX9_slip_2 := dk_seg dksX9_slip_1 24 rfl rfl
theorem dksX9_slip_3 : cX9_slip.data.toList.drop 70 = dktX9_slip_3 := dk_seg dksX9_slip_2 22 rfl rfl
theorem dksX9_slip_4 : cX9_slip.data.toList.drop 94 = dktX9_slip_4 := dk_seg dksX9_slip_3 24 rfl rfl
theorem dksX9_slip_5 : cX9_slip.data.toList.drop 116 = dktX9_slip_5 := dk_seg dksX9_slip_4 22 rfl rfl
theorem dksX9_slip_6 : cX9_slip.data.toList.drop 140 = dktX9_slip_6 := dk_seg dksX9_slip_5 24 rfl rfl
theorem dksX9_slip_7 : cX9_slip.data.toList.drop 163 = dktX9_slip_7 := dk_seg dksX9_slip_6 23 rfl rfl
theorem dksX9_slip_8 : cX9_slip.data.toList.drop 185 = dktX9_slip_8 := dk_seg dksX9_slip_7 22 rfl rfl
theorem dksX9_slip_9 : cX9_slip.data.toList.drop 209 = dktX9_slip_9 := dk_seg dksX9_slip_8 24 rfl rfl
theorem dksX9_slip_10 : cX9_slip.data.toList.drop 232 = dktX9_slip_10 := dk_seg dksX9_slip_9 23 rfl rfl
theorem dksX9_slip_11 : cX9_slip.data.toList.drop 256 = dktX9_slip_11 := dk_seg dksX9_slip_10 24 rfl rfl
theorem dksX9_slip_12 : cX9_slip.data.toList.drop 280 = dktX9_slip_12 := dk_seg dksX9_slip_11 24 rfl rfl
theorem dX9_slip_0 : decode cX9_slip 0 = .ok (.aload_n 0, 1) := dk_42 (dk_at dksX9_slip_0 0 rfl rfl)
theorem dX9_slip_1 : decode cX9_slip 1 = .ok (.iconst 0, 1) := dk_3 (dk_at dksX9_slip_0 1 rfl rfl)
theorem dX9_slip_2 : decode cX9_slip 2 = .ok (.putfield 48, 3) := dk_181 0 48 (dk_at dksX9_slip_0 2 rfl rfl)
theorem dX9_slip_5 : decode cX9_slip 5 = .ok (.aload_n 0, 1) := dk_42 (dk_at dksX9_slip_0 5 rfl rfl)
theorem dX9_slip_6 : decode cX9_slip 6 = .ok (.iload_n 1, 1) := dk_27 (dk_at dksX9_slip_0 6 rfl rfl)
theorem dX9_slip_7 : decode cX9_slip 7 = .ok (.invokevirtual 189, 3) := dk_182 0 189 (dk_at dksX9_slip_0 7 rfl rfl)
theorem dX9_slip_10 : decode cX9_slip 10 = .ok (.ifCond .eq 34, 3) := dk_153 0 34 (dk_at dksX9_slip_0 10 rfl rfl)
theorem dX9_slip_13 : decode cX9_slip 13 = .ok (.aload_n 0, 1) := dk_42 (dk_at dksX9_slip_0 13 rfl rfl)
theorem dX9_slip_14 : decode cX9_slip 14 = .ok (.iload_n 2, 1) := dk_28 (dk_at dksX9_slip_0 14 rfl rfl)
theorem dX9_slip_15 : decode cX9_slip 15 = .ok (.invokevirtual 192, 3) := dk_182 0 192 (dk_at dksX9_slip_0 15 rfl rfl)
theorem dX9_slip_18 : decode cX9_slip 18 = .ok (.ifCond .eq 26, 3) := dk_153 0 26 (dk_at dksX9_slip_0 18 rfl rfl)
theorem dX9_slip_21 : decode cX9_slip 21 = .ok (.iload_n 3, 1) := dk_29 (dk_at dksX9_slip_0 21 rfl rfl)
theorem dX9_slip_22 : decode cX9_slip 22 = .ok (.i2l, 1) := dk_133 (dk_at dksX9_slip_0 22 rfl rfl)
theorem dX9_slip_23 : decode cX9_slip 23 = .ok (.lconst 0, 1) := dk_9 (dk_at dksX9_slip_0 23 rfl rfl)
theorem dX9_slip_24 : decode cX9_slip 24 = .ok (.ldc2_w 240, 3) := dk_20 0 240 (dk_at dksX9_slip_1 0 rfl rfl)
theorem dX9_slip_27 : decode cX9_slip 27 = .ok (.invokestatic 58, 3) := dk_184 0 58 (dk_at dksX9_slip_1 3 rfl rfl)
theorem dX9_slip_30 : decode cX9_slip 30 = .ok (.ifCond .eq 14, 3) := dk_153 0 14 (dk_at dksX9_slip_1 6 rfl rfl)
theorem dX9_slip_33 : decode cX9_slip 33 = .ok (.iload 4, 2) := dk_21 4 (dk_at dksX9_slip_1 9 rfl rfl)
theorem dX9_slip_35 : decode cX9_slip 35 = .ok (.i2l, 1) := dk_133 (dk_at dksX9_slip_1 11 rfl rfl)
theorem dX9_slip_36 : decode cX9_slip 36 = .ok (.lconst 0, 1) := dk_9 (dk_at dksX9_slip_1 12 rfl rfl)
theorem dX9_slip_37 : decode cX9_slip 37 = .ok (.lconst 1, 1) := dk_10 (dk_at dksX9_slip_1 13 rfl rfl)
theorem dX9_slip_38 : decode cX9_slip 38 = .ok (.invokestatic 58, 3) := dk_184 0 58 (dk_at dksX9_slip_1 14 rfl rfl)
theorem dX9_slip_41 : decode cX9_slip 41 = .ok (.ifCond .ne 7, 3) := dk_154 0 7 (dk_at dksX9_slip_1 17 rfl rfl)
theorem dX9_slip_44 : decode cX9_slip 44 = .ok (.ldc2_w 242, 3) := dk_20 0 242 (dk_at dksX9_slip_1 20 rfl rfl)
theorem dX9_slip_47 : decode cX9_slip 47 = .ok (.lreturn, 1) := dk_173 (dk_at dksX9_slip_1 23 rfl rfl)
theorem dX9_slip_48 : decode cX9_slip 48 = .ok (.iconst 0, 1) := dk_3 (dk_at dksX9_slip_2 0 rfl rfl)
theorem dX9_slip_49 : decode cX9_slip 49 = .ok (.istore 5, 2) := dk_54 5 (dk_at dksX9_slip_2 1 rfl rfl)
theorem dX9_slip_51 : decode cX9_slip 51 = .ok (.iload 5, 2) := dk_21 5 (dk_at dksX9_slip_2 3 rfl rfl)
theorem dX9_slip_53 : decode cX9_slip 53 = .ok (.bipush 9, 2) := dk_16 9 (dk_at dksX9_slip_2 5 rfl rfl)
theorem dX9_slip_55 : decode cX9_slip 55 = .ok (.if_icmp .ge 26, 3) := dk_162 0 26 (dk_at dksX9_slip_2 7 rfl rfl)
theorem dX9_slip_58 : decode cX9_slip 58 = .ok (.aload_n 0, 1) := dk_42 (dk_at dksX9_slip_2 10 rfl rfl)
theorem dX9_slip_59 : decode cX9_slip 59 = .ok (.getfield 34, 3) := dk_180 0 34 (dk_at dksX9_slip_2 11 rfl rfl)
theorem dX9_slip_62 : decode cX9_slip 62 = .ok (.iload 5, 2) := dk_21 5 (dk_at dksX9_slip_2 14 rfl rfl)
theorem dX9_slip_64 : decode cX9_slip 64 = .ok (.iload 5, 2) := dk_21 5 (dk_at dksX9_slip_2 16 rfl rfl)
theorem dX9_slip_66 : decode cX9_slip 66 = .ok (.ifCond .ne 7, 3) := dk_154 0 7 (dk_at dksX9_slip_2 18 rfl rfl)
theorem dX9_slip_69 : decode cX9_slip 69 = .ok (.lconst 1, 1) := dk_10 (dk_at dksX9_slip_2 21 rfl rfl)
theorem dX9_slip_70 : decode cX9_slip 70 = .ok (.goto 4, 3) := dk_167 0 4 (dk_at dksX9_slip_3 0 rfl rfl)
theorem dX9_slip_73 : decode cX9_slip 73 = .ok (.lconst 0, 1) := dk_9 (dk_at dksX9_slip_3 3 rfl rfl)
theorem dX9_slip_74 : decode cX9_slip 74 = .ok (.lastore, 1) := dk_80 (dk_at dksX9_slip_3 4 rfl rfl)
theorem dX9_slip_75 : decode cX9_slip 75 = .ok (.iinc 5 1, 3) := dk_132 5 1 (dk_at dksX9_slip_3 5 rfl rfl)
theorem dX9_slip_78 : decode cX9_slip 78 = .ok (.goto (-27), 3) := dk_167 255 229 (dk_at dksX9_slip_3 8 rfl rfl)
theorem dX9_slip_81 : decode cX9_slip 81 = .ok (.lconst 1, 1) := dk_10 (dk_at dksX9_slip_3 11 rfl rfl)
theorem dX9_slip_82 : decode cX9_slip 82 = .ok (.lstore 5, 2) := dk_55 5 (dk_at dksX9_slip_3 12 rfl rfl)
theorem dX9_slip_84 : decode cX9_slip 84 = .ok (.iconst 0, 1) := dk_3 (dk_at dksX9_slip_3 14 rfl rfl)
theorem dX9_slip_85 : decode cX9_slip 85 = .ok (.istore 7, 2) := dk_54 7 (dk_at dksX9_slip_3 15 rfl rfl)
theorem dX9_slip_87 : decode cX9_slip 87 = .ok (.iload 7, 2) := dk_21 7 (dk_at dksX9_slip_3 17 rfl rfl)
theorem dX9_slip_89 : decode cX9_slip 89 = .ok (.aload_n 0, 1) := dk_42 (dk_at dksX9_slip_3 19 rfl rfl)
theorem dX9_slip_90 : decode cX9_slip 90 = .ok (.getfield 19, 3) := dk_180 0 19 (dk_at dksX9_slip_3 20 rfl rfl)
theorem dX9_slip_93 : decode cX9_slip 93 = .ok (.iconst 2, 1) := dk_5 (dk_at dksX9_slip_3 23 rfl rfl)
theorem dX9_slip_94 : decode cX9_slip 94 = .ok (.iaload, 1) := dk_46 (dk_at dksX9_slip_4 0 rfl rfl)
theorem dX9_slip_95 : decode cX9_slip 95 = .ok (.if_icmp .ge 120, 3) := dk_162 0 120 (dk_at dksX9_slip_4 1 rfl rfl)
theorem dX9_slip_98 : decode cX9_slip 98 = .ok (.iload_n 2, 1) := dk_28 (dk_at dksX9_slip_4 4 rfl rfl)
theorem dX9_slip_99 : decode cX9_slip 99 = .ok (.iload 7, 2) := dk_21 7 (dk_at dksX9_slip_4 5 rfl rfl)
theorem dX9_slip_101 : decode cX9_slip 101 = .ok (.invokestatic 179, 3) := dk_184 0 179 (dk_at dksX9_slip_4 7 rfl rfl)
theorem dX9_slip_104 : decode cX9_slip 104 = .ok (.ifCond .eq 105, 3) := dk_153 0 105 (dk_at dksX9_slip_4 10 rfl rfl)
theorem dX9_slip_107 : decode cX9_slip 107 = .ok (.aload_n 0, 1) := dk_42 (dk_at dksX9_slip_4 13 rfl rfl)
theorem dX9_slip_108 : decode cX9_slip 108 = .ok (.getfield 19, 3) := dk_180 0 19 (dk_at dksX9_slip_4 14 rfl rfl)
theorem dX9_slip_111 : decode cX9_slip 111 = .ok (.iload 7, 2) := dk_21 7 (dk_at dksX9_slip_4 17 rfl rfl)
theorem dX9_slip_113 : decode cX9_slip 113 = .ok (.invokestatic 168, 3) := dk_184 0 168 (dk_at dksX9_slip_4 19 rfl rfl)
theorem dX9_slip_116 : decode cX9_slip 116 = .ok (.ifCond .eq 93, 3) := dk_153 0 93 (dk_at dksX9_slip_5 0 rfl rfl)
theorem dX9_slip_119 : decode cX9_slip 119 = .ok (.aload_n 0, 1) := dk_42 (dk_at dksX9_slip_5 3 rfl rfl)
theorem dX9_slip_120 : decode cX9_slip 120 = .ok (.getfield 19, 3) := dk_180 0 19 (dk_at dksX9_slip_5 4 rfl rfl)
theorem dX9_slip_123 : decode cX9_slip 123 = .ok (.iload_n 1, 1) := dk_27 (dk_at dksX9_slip_5 7 rfl rfl)
theorem dX9_slip_124 : decode cX9_slip 124 = .ok (.iload 7, 2) := dk_21 7 (dk_at dksX9_slip_5 8 rfl rfl)
theorem dX9_slip_126 : decode cX9_slip 126 = .ok (.invokestatic 183, 3) := dk_184 0 183 (dk_at dksX9_slip_5 10 rfl rfl)
theorem dX9_slip_129 : decode cX9_slip 129 = .ok (.ifCond .eq 10, 3) := dk_153 0 10 (dk_at dksX9_slip_5 13 rfl rfl)
theorem dX9_slip_132 : decode cX9_slip 132 = .ok (.bipush 10, 2) := dk_16 10 (dk_at dksX9_slip_5 16 rfl rfl)
theorem dX9_slip_134 : decode cX9_slip 134 = .ok (.iload_n 3, 1) := dk_29 (dk_at dksX9_slip_5 18 rfl rfl)
theorem dX9_slip_135 : decode cX9_slip 135 = .ok (.isub, 1) := dk_100 (dk_at dksX9_slip_5 19 rfl rfl)
theorem dX9_slip_136 : decode cX9_slip 136 = .ok (.goto 4, 3) := dk_167 0 4 (dk_at dksX9_slip_5 20 rfl rfl)
theorem dX9_slip_139 : decode cX9_slip 139 = .ok (.iload_n 3, 1) := dk_29 (dk_at dksX9_slip_5 23 rfl rfl)
theorem dX9_slip_140 : decode cX9_slip 140 = .ok (.istore 8, 2) := dk_54 8 (dk_at dksX9_slip_6 0 rfl rfl)
theorem dX9_slip_142 : decode cX9_slip 142 = .ok (.lload 5, 2) := dk_22 5 (dk_at dksX9_slip_6 2 rfl rfl)
theorem dX9_slip_144 : decode cX9_slip 144 = .ok (.ldc2_w 240, 3) := dk_20 0 240 (dk_at dksX9_slip_6 4 rfl rfl)
theorem dX9_slip_147 : decode cX9_slip 147 = .ok (.lmul, 1) := dk_105 (dk_at dksX9_slip_6 7 rfl rfl)
theorem dX9_slip_148 : decode cX9_slip 148 = .ok (.lstore 5, 2) := dk_55 5 (dk_at dksX9_slip_6 8 rfl rfl)
theorem dX9_slip_150 : decode cX9_slip 150 = .ok (.bipush 8, 2) := dk_16 8 (dk_at dksX9_slip_6 10 rfl rfl)
theorem dX9_slip_152 : decode cX9_slip 152 = .ok (.istore 9, 2) := dk_54 9 (dk_at dksX9_slip_6 12 rfl rfl)
theorem dX9_slip_154 : decode cX9_slip 154 = .ok (.iload 9, 2) := dk_21 9 (dk_at dksX9_slip_6 14 rfl rfl)
theorem dX9_slip_156 : decode cX9_slip 156 = .ok (.ifCond .lt 53, 3) := dk_155 0 53 (dk_at dksX9_slip_6 16 rfl rfl)
theorem dX9_slip_159 : decode cX9_slip 159 = .ok (.aload_n 0, 1) := dk_42 (dk_at dksX9_slip_6 19 rfl rfl)
theorem dX9_slip_160 : decode cX9_slip 160 = .ok (.getfield 34, 3) := dk_180 0 34 (dk_at dksX9_slip_6 20 rfl rfl)
theorem dX9_slip_163 : decode cX9_slip 163 = .ok (.iload 9, 2) := dk_21 9 (dk_at dksX9_slip_7 0 rfl rfl)
theorem dX9_slip_165 : decode cX9_slip 165 = .ok (.aload_n 0, 1) := dk_42 (dk_at dksX9_slip_7 2 rfl rfl)
theorem dX9_slip_166 : decode cX9_slip 166 = .ok (.getfield 34, 3) := dk_180 0 34 (dk_at dksX9_slip_7 3 rfl rfl)
theorem dX9_slip_169 : decode cX9_slip 169 = .ok (.iload 9, 2) := dk_21 9 (dk_at dksX9_slip_7 6 rfl rfl)
theorem dX9_slip_171 : decode cX9_slip 171 = .ok (.laload, 1) := dk_47 (dk_at dksX9_slip_7 8 rfl rfl)
theorem dX9_slip_172 : decode cX9_slip 172 = .ok (.bipush 10, 2) := dk_16 10 (dk_at dksX9_slip_7 9 rfl rfl)
theorem dX9_slip_174 : decode cX9_slip 174 = .ok (.iload 8, 2) := dk_21 8 (dk_at dksX9_slip_7 11 rfl rfl)
theorem dX9_slip_176 : decode cX9_slip 176 = .ok (.isub, 1) := dk_100 (dk_at dksX9_slip_7 13 rfl rfl)
theorem dX9_slip_177 : decode cX9_slip 177 = .ok (.i2l, 1) := dk_133 (dk_at dksX9_slip_7 14 rfl rfl)
theorem dX9_slip_178 : decode cX9_slip 178 = .ok (.lmul, 1) := dk_105 (dk_at dksX9_slip_7 15 rfl rfl)
theorem dX9_slip_179 : decode cX9_slip 179 = .ok (.iload 9, 2) := dk_21 9 (dk_at dksX9_slip_7 16 rfl rfl)
theorem dX9_slip_181 : decode cX9_slip 181 = .ok (.ifCond .le 19, 3) := dk_158 0 19 (dk_at dksX9_slip_7 18 rfl rfl)
theorem dX9_slip_184 : decode cX9_slip 184 = .ok (.aload_n 0, 1) := dk_42 (dk_at dksX9_slip_7 21 rfl rfl)
theorem dX9_slip_185 : decode cX9_slip 185 = .ok (.getfield 34, 3) := dk_180 0 34 (dk_at dksX9_slip_8 0 rfl rfl)
theorem dX9_slip_188 : decode cX9_slip 188 = .ok (.iload 9, 2) := dk_21 9 (dk_at dksX9_slip_8 3 rfl rfl)
theorem dX9_slip_190 : decode cX9_slip 190 = .ok (.iconst 1, 1) := dk_4 (dk_at dksX9_slip_8 5 rfl rfl)
theorem dX9_slip_191 : decode cX9_slip 191 = .ok (.isub, 1) := dk_100 (dk_at dksX9_slip_8 6 rfl rfl)
theorem dX9_slip_192 : decode cX9_slip 192 = .ok (.laload, 1) := dk_47 (dk_at dksX9_slip_8 7 rfl rfl)
theorem dX9_slip_193 : decode cX9_slip 193 = .ok (.iload 8, 2) := dk_21 8 (dk_at dksX9_slip_8 8 rfl rfl)
theorem dX9_slip_195 : decode cX9_slip 195 = .ok (.i2l, 1) := dk_133 (dk_at dksX9_slip_8 10 rfl rfl)
theorem dX9_slip_196 : decode cX9_slip 196 = .ok (.lmul, 1) := dk_105 (dk_at dksX9_slip_8 11 rfl rfl)
theorem dX9_slip_197 : decode cX9_slip 197 = .ok (.goto 4, 3) := dk_167 0 4 (dk_at dksX9_slip_8 12 rfl rfl)
theorem dX9_slip_200 : decode cX9_slip 200 = .ok (.lconst 0, 1) := dk_9 (dk_at dksX9_slip_8 15 rfl rfl)
theorem dX9_slip_201 : decode cX9_slip 201 = .ok (.ladd, 1) := dk_97 (dk_at dksX9_slip_8 16 rfl rfl)
theorem dX9_slip_202 : decode cX9_slip 202 = .ok (.lastore, 1) := dk_80 (dk_at dksX9_slip_8 17 rfl rfl)
theorem dX9_slip_203 : decode cX9_slip 203 = .ok (.iinc 9 (-1), 3) := dk_132 9 255 (dk_at dksX9_slip_8 18 rfl rfl)
theorem dX9_slip_206 : decode cX9_slip 206 = .ok (.goto (-52), 3) := dk_167 255 204 (dk_at dksX9_slip_8 21 rfl rfl)
theorem dX9_slip_209 : decode cX9_slip 209 = .ok (.iinc 7 1, 3) := dk_132 7 1 (dk_at dksX9_slip_9 0 rfl rfl)
theorem dX9_slip_212 : decode cX9_slip 212 = .ok (.goto (-125), 3) := dk_167 255 131 (dk_at dksX9_slip_9 3 rfl rfl)
theorem dX9_slip_215 : decode cX9_slip 215 = .ok (.lconst 0, 1) := dk_9 (dk_at dksX9_slip_9 6 rfl rfl)
theorem dX9_slip_216 : decode cX9_slip 216 = .ok (.lstore 7, 2) := dk_55 7 (dk_at dksX9_slip_9 7 rfl rfl)
theorem dX9_slip_218 : decode cX9_slip 218 = .ok (.iconst 0, 1) := dk_3 (dk_at dksX9_slip_9 9 rfl rfl)
theorem dX9_slip_219 : decode cX9_slip 219 = .ok (.istore 9, 2) := dk_54 9 (dk_at dksX9_slip_9 10 rfl rfl)
theorem dX9_slip_221 : decode cX9_slip 221 = .ok (.iload 9, 2) := dk_21 9 (dk_at dksX9_slip_9 12 rfl rfl)
theorem dX9_slip_223 : decode cX9_slip 223 = .ok (.aload_n 0, 1) := dk_42 (dk_at dksX9_slip_9 14 rfl rfl)
theorem dX9_slip_224 : decode cX9_slip 224 = .ok (.getfield 19, 3) := dk_180 0 19 (dk_at dksX9_slip_9 15 rfl rfl)
theorem dX9_slip_227 : decode cX9_slip 227 = .ok (.iconst 1, 1) := dk_4 (dk_at dksX9_slip_9 18 rfl rfl)
theorem dX9_slip_228 : decode cX9_slip 228 = .ok (.iaload, 1) := dk_46 (dk_at dksX9_slip_9 19 rfl rfl)
theorem dX9_slip_229 : decode cX9_slip 229 = .ok (.if_icmp .gt 21, 3) := dk_163 0 21 (dk_at dksX9_slip_9 20 rfl rfl)
theorem dX9_slip_232 : decode cX9_slip 232 = .ok (.lload 7, 2) := dk_22 7 (dk_at dksX9_slip_10 0 rfl rfl)
theorem dX9_slip_234 : decode cX9_slip 234 = .ok (.aload_n 0, 1) := dk_42 (dk_at dksX9_slip_10 2 rfl rfl)
theorem dX9_slip_235 : decode cX9_slip 235 = .ok (.getfield 34, 3) := dk_180 0 34 (dk_at dksX9_slip_10 3 rfl rfl)
theorem dX9_slip_238 : decode cX9_slip 238 = .ok (.iload 9, 2) := dk_21 9 (dk_at dksX9_slip_10 6 rfl rfl)
theorem dX9_slip_240 : decode cX9_slip 240 = .ok (.laload, 1) := dk_47 (dk_at dksX9_slip_10 8 rfl rfl)
theorem dX9_slip_241 : decode cX9_slip 241 = .ok (.ladd, 1) := dk_97 (dk_at dksX9_slip_10 9 rfl rfl)
theorem dX9_slip_242 : decode cX9_slip 242 = .ok (.lstore 7, 2) := dk_55 7 (dk_at dksX9_slip_10 10 rfl rfl)
theorem dX9_slip_244 : decode cX9_slip 244 = .ok (.iinc 9 1, 3) := dk_132 9 1 (dk_at dksX9_slip_10 12 rfl rfl)
theorem dX9_slip_247 : decode cX9_slip 247 = .ok (.goto (-26), 3) := dk_167 255 230 (dk_at dksX9_slip_10 15 rfl rfl)
theorem dX9_slip_250 : decode cX9_slip 250 = .ok (.lload 7, 2) := dk_22 7 (dk_at dksX9_slip_10 18 rfl rfl)
theorem dX9_slip_252 : decode cX9_slip 252 = .ok (.lstore 9, 2) := dk_55 9 (dk_at dksX9_slip_10 20 rfl rfl)
theorem dX9_slip_254 : decode cX9_slip 254 = .ok (.lload 5, 2) := dk_22 5 (dk_at dksX9_slip_10 22 rfl rfl)
theorem dX9_slip_256 : decode cX9_slip 256 = .ok (.lstore 11, 2) := dk_55 11 (dk_at dksX9_slip_11 0 rfl rfl)
theorem dX9_slip_258 : decode cX9_slip 258 = .ok (.lload 11, 2) := dk_22 11 (dk_at dksX9_slip_11 2 rfl rfl)
theorem dX9_slip_260 : decode cX9_slip 260 = .ok (.lconst 0, 1) := dk_9 (dk_at dksX9_slip_11 4 rfl rfl)
theorem dX9_slip_261 : decode cX9_slip 261 = .ok (.lcmp, 1) := dk_148 (dk_at dksX9_slip_11 5 rfl rfl)
theorem dX9_slip_262 : decode cX9_slip 262 = .ok (.ifCond .eq 21, 3) := dk_153 0 21 (dk_at dksX9_slip_11 6 rfl rfl)
theorem dX9_slip_265 : decode cX9_slip 265 = .ok (.lload 9, 2) := dk_22 9 (dk_at dksX9_slip_11 9 rfl rfl)
theorem dX9_slip_267 : decode cX9_slip 267 = .ok (.lload 11, 2) := dk_22 11 (dk_at dksX9_slip_11 11 rfl rfl)
theorem dX9_slip_269 : decode cX9_slip 269 = .ok (.lrem, 1) := dk_113 (dk_at dksX9_slip_11 13 rfl rfl)
theorem dX9_slip_270 : decode cX9_slip 270 = .ok (.lstore 13, 2) := dk_55 13 (dk_at dksX9_slip_11 14 rfl rfl)
theorem dX9_slip_272 : decode cX9_slip 272 = .ok (.lload 11, 2) := dk_22 11 (dk_at dksX9_slip_11 16 rfl rfl)
theorem dX9_slip_274 : decode cX9_slip 274 = .ok (.lstore 9, 2) := dk_55 9 (dk_at dksX9_slip_11 18 rfl rfl)
theorem dX9_slip_276 : decode cX9_slip 276 = .ok (.lload 13, 2) := dk_22 13 (dk_at dksX9_slip_11 20 rfl rfl)
theorem dX9_slip_278 : decode cX9_slip 278 = .ok (.lstore 11, 2) := dk_55 11 (dk_at dksX9_slip_11 22 rfl rfl)
theorem dX9_slip_280 : decode cX9_slip 280 = .ok (.goto (-22), 3) := dk_167 255 234 (dk_at dksX9_slip_12 0 rfl rfl)
theorem dX9_slip_283 : decode cX9_slip 283 = .ok (.iload 4, 2) := dk_21 4 (dk_at dksX9_slip_12 3 rfl rfl)
theorem dX9_slip_285 : decode cX9_slip 285 = .ok (.ifCond .ne 8, 3) := dk_154 0 8 (dk_at dksX9_slip_12 5 rfl rfl)
theorem dX9_slip_288 : decode cX9_slip 288 = .ok (.lload 7, 2) := dk_22 7 (dk_at dksX9_slip_12 8 rfl rfl)
theorem dX9_slip_290 : decode cX9_slip 290 = .ok (.goto 5, 3) := dk_167 0 5 (dk_at dksX9_slip_12 10 rfl rfl)
theorem dX9_slip_293 : decode cX9_slip 293 = .ok (.lload 5, 2) := dk_22 5 (dk_at dksX9_slip_12 13 rfl rfl)
theorem dX9_slip_295 : decode cX9_slip 295 = .ok (.lload 9, 2) := dk_22 9 (dk_at dksX9_slip_12 15 rfl rfl)
theorem dX9_slip_297 : decode cX9_slip 297 = .ok (.ldiv, 1) := dk_109 (dk_at dksX9_slip_12 17 rfl rfl)
theorem dX9_slip_298 : decode cX9_slip 298 = .ok (.lreturn, 1) := dk_173 (dk_at dksX9_slip_12 18 rfl rfl)
abbrev cX9_drawn : ByteArray := prog_16_method_73_code
def yX9_drawn : MethodName := ⟨RX9, "drawn", "(III)I"⟩
def dkwX9_drawn_7 : List UInt8 := [167, 255, 186, 29, 154, 0, 8, 21, 6, 167, 0, 10, 42, 180, 0, 25, 184, 0, 254, 172]
abbrev dktX9_drawn_7 : List UInt8 := dkwX9_drawn_7 ++ []
def dkwX9_drawn_6 : List UInt8 := [46, 120, 4, 100, 126, 184, 0, 198, 153, 0, 7, 4, 167, 0, 4, 3, 96, 54, 6, 132, 7, 1]
abbrev dktX9_drawn_6 : List UInt8 := dkwX9_drawn_6 ++ dktX9_drawn_7
def dkwX9_drawn_5 : List UInt8 := [22, 4, 42, 180, 0, 25, 6, 46, 133, 113, 136, 22, 4, 20, 0, 252, 113, 136, 4, 42, 180, 0, 25, 5]
abbrev dktX9_drawn_5 : List UInt8 := dkwX9_drawn_5 ++ dktX9_drawn_6
def dkwX9_drawn_4 : List UInt8 := [21, 7, 27, 162, 0, 70, 22, 4, 20, 0, 248, 105, 20, 0, 250, 113, 55, 4, 21, 6, 42, 180, 0, 25]
abbrev dktX9_drawn_4 : List UInt8 := dkwX9_drawn_4 ++ dktX9_drawn_5
def dkwX9_drawn_3 : List UInt8 := [180, 0, 19, 21, 4, 46, 79, 132, 4, 1, 167, 255, 232, 28, 133, 55, 4, 3, 54, 6, 3, 54, 7]
abbrev dktX9_drawn_3 : List UInt8 := dkwX9_drawn_3 ++ dktX9_drawn_4
def dkwX9_drawn_2 : List UInt8 := [154, 0, 6, 18, 68, 172, 3, 54, 4, 21, 4, 16, 64, 162, 0, 23, 42, 180, 0, 25, 21, 4, 42]
abbrev dktX9_drawn_2 : List UInt8 := dkwX9_drawn_2 ++ dktX9_drawn_3
def dkwX9_drawn_1 : List UInt8 := [153, 0, 25, 28, 133, 10, 20, 0, 246, 184, 0, 58, 153, 0, 13, 29, 133, 9, 10, 184, 0, 58]
abbrev dktX9_drawn_1 : List UInt8 := dkwX9_drawn_1 ++ dktX9_drawn_2
def dkwX9_drawn_0 : List UInt8 := [42, 3, 181, 0, 48, 42, 182, 0, 201, 154, 0, 6, 18, 204, 172, 27, 133, 9, 20, 0, 244, 184, 0, 58]
abbrev dktX9_drawn_0 : List UInt8 := dkwX9_drawn_0 ++ dktX9_drawn_1
theorem dksX9_drawn_0 : cX9_drawn.data.toList.drop 0 = dktX9_drawn_0 := by decide +kernel
theorem dksX9_drawn_1 : cX9_drawn.data.toList.drop 24 = dktX9_drawn_1 := dk_seg dksX9_drawn_0 24 rfl rfl
theorem dksX9_drawn_2 : cX9_drawn.data.toList.drop 46 = dktX9_drawn_2 := dk_seg dksX9_drawn_1 22 rfl rfl
theorem dksX9_drawn_3 : cX9_drawn.data.toList.drop 69 = dktX9_drawn_3 := dk_seg dksX9_drawn_2 23 rfl rfl
theorem dksX9_drawn_4 : cX9_drawn.data.toList.drop 92 = dktX9_drawn_4 := dk_seg dksX9_drawn_3 23 rfl rfl
theorem dksX9_drawn_5 : cX9_drawn.data.toList.drop 116 = dktX9_drawn_5 := dk_seg dksX9_drawn_4 24 rfl rfl
theorem dksX9_drawn_6 : cX9_drawn.data.toList.drop 140 = dktX9_drawn_6 := dk_seg dksX9_drawn_5 24 rfl rfl
theorem dksX9_drawn_7 : cX9_drawn.data.toList.drop 162 = dktX9_drawn_7 := dk_seg dksX9_drawn_6 22 rfl rfl
theorem dX9_drawn_0 : decode cX9_drawn 0 = .ok (.aload_n 0, 1) := dk_42 (dk_at dksX9_drawn_0 0 rfl rfl)
theorem dX9_drawn_1 : decode cX9_drawn 1 = .ok (.iconst 0, 1) := dk_3 (dk_at dksX9_drawn_0 1 rfl rfl)
theorem dX9_drawn_2 : decode cX9_drawn 2 = .ok (.putfield 48, 3) := dk_181 0 48 (dk_at dksX9_drawn_0 2 rfl rfl)
theorem dX9_drawn_5 : decode cX9_drawn 5 = .ok (.aload_n 0, 1) := dk_42 (dk_at dksX9_drawn_0 5 rfl rfl)
theorem dX9_drawn_6 : decode cX9_drawn 6 = .ok (.invokevirtual 201, 3) := dk_182 0 201 (dk_at dksX9_drawn_0 6 rfl rfl)
theorem dX9_drawn_9 : decode cX9_drawn 9 = .ok (.ifCond .ne 6, 3) := dk_154 0 6 (dk_at dksX9_drawn_0 9 rfl rfl)
theorem dX9_drawn_12 : decode cX9_drawn 12 = .ok (.ldc 204, 2) := dk_18 204 (dk_at dksX9_drawn_0 12 rfl rfl)
theorem dX9_drawn_14 : decode cX9_drawn 14 = .ok (.ireturn, 1) := dk_172 (dk_at dksX9_drawn_0 14 rfl rfl)
theorem dX9_drawn_15 : decode cX9_drawn 15 = .ok (.iload_n 1, 1) := dk_27 (dk_at dksX9_drawn_0 15 rfl rfl)
theorem dX9_drawn_16 : decode cX9_drawn 16 = .ok (.i2l, 1) := dk_133 (dk_at dksX9_drawn_0 16 rfl rfl)
theorem dX9_drawn_17 : decode cX9_drawn 17 = .ok (.lconst 0, 1) := dk_9 (dk_at dksX9_drawn_0 17 rfl rfl)
theorem dX9_drawn_18 : decode cX9_drawn 18 = .ok (.ldc2_w 244, 3) := dk_20 0 244 (dk_at dksX9_drawn_0 18 rfl rfl)
theorem dX9_drawn_21 : decode cX9_drawn 21 = .ok (.invokestatic 58, 3) := dk_184 0 58 (dk_at dksX9_drawn_0 21 rfl rfl)
theorem dX9_drawn_24 : decode cX9_drawn 24 = .ok (.ifCond .eq 25, 3) := dk_153 0 25 (dk_at dksX9_drawn_1 0 rfl rfl)
theorem dX9_drawn_27 : decode cX9_drawn 27 = .ok (.iload_n 2, 1) := dk_28 (dk_at dksX9_drawn_1 3 rfl rfl)
theorem dX9_drawn_28 : decode cX9_drawn 28 = .ok (.i2l, 1) := dk_133 (dk_at dksX9_drawn_1 4 rfl rfl)
theorem dX9_drawn_29 : decode cX9_drawn 29 = .ok (.lconst 1, 1) := dk_10 (dk_at dksX9_drawn_1 5 rfl rfl)
theorem dX9_drawn_30 : decode cX9_drawn 30 = .ok (.ldc2_w 246, 3) := dk_20 0 246 (dk_at dksX9_drawn_1 6 rfl rfl)
theorem dX9_drawn_33 : decode cX9_drawn 33 = .ok (.invokestatic 58, 3) := dk_184 0 58 (dk_at dksX9_drawn_1 9 rfl rfl)
theorem dX9_drawn_36 : decode cX9_drawn 36 = .ok (.ifCond .eq 13, 3) := dk_153 0 13 (dk_at dksX9_drawn_1 12 rfl rfl)
theorem dX9_drawn_39 : decode cX9_drawn 39 = .ok (.iload_n 3, 1) := dk_29 (dk_at dksX9_drawn_1 15 rfl rfl)
theorem dX9_drawn_40 : decode cX9_drawn 40 = .ok (.i2l, 1) := dk_133 (dk_at dksX9_drawn_1 16 rfl rfl)
theorem dX9_drawn_41 : decode cX9_drawn 41 = .ok (.lconst 0, 1) := dk_9 (dk_at dksX9_drawn_1 17 rfl rfl)
theorem dX9_drawn_42 : decode cX9_drawn 42 = .ok (.lconst 1, 1) := dk_10 (dk_at dksX9_drawn_1 18 rfl rfl)
theorem dX9_drawn_43 : decode cX9_drawn 43 = .ok (.invokestatic 58, 3) := dk_184 0 58 (dk_at dksX9_drawn_1 19 rfl rfl)
theorem dX9_drawn_46 : decode cX9_drawn 46 = .ok (.ifCond .ne 6, 3) := dk_154 0 6 (dk_at dksX9_drawn_2 0 rfl rfl)
theorem dX9_drawn_49 : decode cX9_drawn 49 = .ok (.ldc 68, 2) := dk_18 68 (dk_at dksX9_drawn_2 3 rfl rfl)
theorem dX9_drawn_51 : decode cX9_drawn 51 = .ok (.ireturn, 1) := dk_172 (dk_at dksX9_drawn_2 5 rfl rfl)
theorem dX9_drawn_52 : decode cX9_drawn 52 = .ok (.iconst 0, 1) := dk_3 (dk_at dksX9_drawn_2 6 rfl rfl)
theorem dX9_drawn_53 : decode cX9_drawn 53 = .ok (.istore 4, 2) := dk_54 4 (dk_at dksX9_drawn_2 7 rfl rfl)
theorem dX9_drawn_55 : decode cX9_drawn 55 = .ok (.iload 4, 2) := dk_21 4 (dk_at dksX9_drawn_2 9 rfl rfl)
theorem dX9_drawn_57 : decode cX9_drawn 57 = .ok (.bipush 64, 2) := dk_16 64 (dk_at dksX9_drawn_2 11 rfl rfl)
theorem dX9_drawn_59 : decode cX9_drawn 59 = .ok (.if_icmp .ge 23, 3) := dk_162 0 23 (dk_at dksX9_drawn_2 13 rfl rfl)
theorem dX9_drawn_62 : decode cX9_drawn 62 = .ok (.aload_n 0, 1) := dk_42 (dk_at dksX9_drawn_2 16 rfl rfl)
theorem dX9_drawn_63 : decode cX9_drawn 63 = .ok (.getfield 25, 3) := dk_180 0 25 (dk_at dksX9_drawn_2 17 rfl rfl)
theorem dX9_drawn_66 : decode cX9_drawn 66 = .ok (.iload 4, 2) := dk_21 4 (dk_at dksX9_drawn_2 20 rfl rfl)
theorem dX9_drawn_68 : decode cX9_drawn 68 = .ok (.aload_n 0, 1) := dk_42 (dk_at dksX9_drawn_2 22 rfl rfl)
theorem dX9_drawn_69 : decode cX9_drawn 69 = .ok (.getfield 19, 3) := dk_180 0 19 (dk_at dksX9_drawn_3 0 rfl rfl)
theorem dX9_drawn_72 : decode cX9_drawn 72 = .ok (.iload 4, 2) := dk_21 4 (dk_at dksX9_drawn_3 3 rfl rfl)
theorem dX9_drawn_74 : decode cX9_drawn 74 = .ok (.iaload, 1) := dk_46 (dk_at dksX9_drawn_3 5 rfl rfl)
theorem dX9_drawn_75 : decode cX9_drawn 75 = .ok (.iastore, 1) := dk_79 (dk_at dksX9_drawn_3 6 rfl rfl)
theorem dX9_drawn_76 : decode cX9_drawn 76 = .ok (.iinc 4 1, 3) := dk_132 4 1 (dk_at dksX9_drawn_3 7 rfl rfl)
theorem dX9_drawn_79 : decode cX9_drawn 79 = .ok (.goto (-24), 3) := dk_167 255 232 (dk_at dksX9_drawn_3 10 rfl rfl)
theorem dX9_drawn_82 : decode cX9_drawn 82 = .ok (.iload_n 2, 1) := dk_28 (dk_at dksX9_drawn_3 13 rfl rfl)
theorem dX9_drawn_83 : decode cX9_drawn 83 = .ok (.i2l, 1) := dk_133 (dk_at dksX9_drawn_3 14 rfl rfl)
theorem dX9_drawn_84 : decode cX9_drawn 84 = .ok (.lstore 4, 2) := dk_55 4 (dk_at dksX9_drawn_3 15 rfl rfl)
theorem dX9_drawn_86 : decode cX9_drawn 86 = .ok (.iconst 0, 1) := dk_3 (dk_at dksX9_drawn_3 17 rfl rfl)
theorem dX9_drawn_87 : decode cX9_drawn 87 = .ok (.istore 6, 2) := dk_54 6 (dk_at dksX9_drawn_3 18 rfl rfl)
theorem dX9_drawn_89 : decode cX9_drawn 89 = .ok (.iconst 0, 1) := dk_3 (dk_at dksX9_drawn_3 20 rfl rfl)
theorem dX9_drawn_90 : decode cX9_drawn 90 = .ok (.istore 7, 2) := dk_54 7 (dk_at dksX9_drawn_3 21 rfl rfl)
theorem dX9_drawn_92 : decode cX9_drawn 92 = .ok (.iload 7, 2) := dk_21 7 (dk_at dksX9_drawn_4 0 rfl rfl)
theorem dX9_drawn_94 : decode cX9_drawn 94 = .ok (.iload_n 1, 1) := dk_27 (dk_at dksX9_drawn_4 2 rfl rfl)
theorem dX9_drawn_95 : decode cX9_drawn 95 = .ok (.if_icmp .ge 70, 3) := dk_162 0 70 (dk_at dksX9_drawn_4 3 rfl rfl)
theorem dX9_drawn_98 : decode cX9_drawn 98 = .ok (.lload 4, 2) := dk_22 4 (dk_at dksX9_drawn_4 6 rfl rfl)
theorem dX9_drawn_100 : decode cX9_drawn 100 = .ok (.ldc2_w 248, 3) := dk_20 0 248 (dk_at dksX9_drawn_4 8 rfl rfl)
theorem dX9_drawn_103 : decode cX9_drawn 103 = .ok (.lmul, 1) := dk_105 (dk_at dksX9_drawn_4 11 rfl rfl)
theorem dX9_drawn_104 : decode cX9_drawn 104 = .ok (.ldc2_w 250, 3) := dk_20 0 250 (dk_at dksX9_drawn_4 12 rfl rfl)
theorem dX9_drawn_107 : decode cX9_drawn 107 = .ok (.lrem, 1) := dk_113 (dk_at dksX9_drawn_4 15 rfl rfl)
theorem dX9_drawn_108 : decode cX9_drawn 108 = .ok (.lstore 4, 2) := dk_55 4 (dk_at dksX9_drawn_4 16 rfl rfl)
theorem dX9_drawn_110 : decode cX9_drawn 110 = .ok (.iload 6, 2) := dk_21 6 (dk_at dksX9_drawn_4 18 rfl rfl)
theorem dX9_drawn_112 : decode cX9_drawn 112 = .ok (.aload_n 0, 1) := dk_42 (dk_at dksX9_drawn_4 20 rfl rfl)
theorem dX9_drawn_113 : decode cX9_drawn 113 = .ok (.getfield 25, 3) := dk_180 0 25 (dk_at dksX9_drawn_4 21 rfl rfl)
theorem dX9_drawn_116 : decode cX9_drawn 116 = .ok (.lload 4, 2) := dk_22 4 (dk_at dksX9_drawn_5 0 rfl rfl)
theorem dX9_drawn_118 : decode cX9_drawn 118 = .ok (.aload_n 0, 1) := dk_42 (dk_at dksX9_drawn_5 2 rfl rfl)
theorem dX9_drawn_119 : decode cX9_drawn 119 = .ok (.getfield 25, 3) := dk_180 0 25 (dk_at dksX9_drawn_5 3 rfl rfl)
theorem dX9_drawn_122 : decode cX9_drawn 122 = .ok (.iconst 3, 1) := dk_6 (dk_at dksX9_drawn_5 6 rfl rfl)
theorem dX9_drawn_123 : decode cX9_drawn 123 = .ok (.iaload, 1) := dk_46 (dk_at dksX9_drawn_5 7 rfl rfl)
theorem dX9_drawn_124 : decode cX9_drawn 124 = .ok (.i2l, 1) := dk_133 (dk_at dksX9_drawn_5 8 rfl rfl)
theorem dX9_drawn_125 : decode cX9_drawn 125 = .ok (.lrem, 1) := dk_113 (dk_at dksX9_drawn_5 9 rfl rfl)
theorem dX9_drawn_126 : decode cX9_drawn 126 = .ok (.l2i, 1) := dk_136 (dk_at dksX9_drawn_5 10 rfl rfl)
theorem dX9_drawn_127 : decode cX9_drawn 127 = .ok (.lload 4, 2) := dk_22 4 (dk_at dksX9_drawn_5 11 rfl rfl)
theorem dX9_drawn_129 : decode cX9_drawn 129 = .ok (.ldc2_w 252, 3) := dk_20 0 252 (dk_at dksX9_drawn_5 13 rfl rfl)
theorem dX9_drawn_132 : decode cX9_drawn 132 = .ok (.lrem, 1) := dk_113 (dk_at dksX9_drawn_5 16 rfl rfl)
theorem dX9_drawn_133 : decode cX9_drawn 133 = .ok (.l2i, 1) := dk_136 (dk_at dksX9_drawn_5 17 rfl rfl)
theorem dX9_drawn_134 : decode cX9_drawn 134 = .ok (.iconst 1, 1) := dk_4 (dk_at dksX9_drawn_5 18 rfl rfl)
theorem dX9_drawn_135 : decode cX9_drawn 135 = .ok (.aload_n 0, 1) := dk_42 (dk_at dksX9_drawn_5 19 rfl rfl)
theorem dX9_drawn_136 : decode cX9_drawn 136 = .ok (.getfield 25, 3) := dk_180 0 25 (dk_at dksX9_drawn_5 20 rfl rfl)
theorem dX9_drawn_139 : decode cX9_drawn 139 = .ok (.iconst 2, 1) := dk_5 (dk_at dksX9_drawn_5 23 rfl rfl)
theorem dX9_drawn_140 : decode cX9_drawn 140 = .ok (.iaload, 1) := dk_46 (dk_at dksX9_drawn_6 0 rfl rfl)
theorem dX9_drawn_141 : decode cX9_drawn 141 = .ok (.ishl, 1) := dk_120 (dk_at dksX9_drawn_6 1 rfl rfl)
theorem dX9_drawn_142 : decode cX9_drawn 142 = .ok (.iconst 1, 1) := dk_4 (dk_at dksX9_drawn_6 2 rfl rfl)
theorem dX9_drawn_143 : decode cX9_drawn 143 = .ok (.isub, 1) := dk_100 (dk_at dksX9_drawn_6 3 rfl rfl)
theorem dX9_drawn_144 : decode cX9_drawn 144 = .ok (.iand, 1) := dk_126 (dk_at dksX9_drawn_6 4 rfl rfl)
theorem dX9_drawn_145 : decode cX9_drawn 145 = .ok (.invokestatic 198, 3) := dk_184 0 198 (dk_at dksX9_drawn_6 5 rfl rfl)
theorem dX9_drawn_148 : decode cX9_drawn 148 = .ok (.ifCond .eq 7, 3) := dk_153 0 7 (dk_at dksX9_drawn_6 8 rfl rfl)
theorem dX9_drawn_151 : decode cX9_drawn 151 = .ok (.iconst 1, 1) := dk_4 (dk_at dksX9_drawn_6 11 rfl rfl)
theorem dX9_drawn_152 : decode cX9_drawn 152 = .ok (.goto 4, 3) := dk_167 0 4 (dk_at dksX9_drawn_6 12 rfl rfl)
theorem dX9_drawn_155 : decode cX9_drawn 155 = .ok (.iconst 0, 1) := dk_3 (dk_at dksX9_drawn_6 15 rfl rfl)
theorem dX9_drawn_156 : decode cX9_drawn 156 = .ok (.iadd, 1) := dk_96 (dk_at dksX9_drawn_6 16 rfl rfl)
theorem dX9_drawn_157 : decode cX9_drawn 157 = .ok (.istore 6, 2) := dk_54 6 (dk_at dksX9_drawn_6 17 rfl rfl)
theorem dX9_drawn_159 : decode cX9_drawn 159 = .ok (.iinc 7 1, 3) := dk_132 7 1 (dk_at dksX9_drawn_6 19 rfl rfl)
theorem dX9_drawn_162 : decode cX9_drawn 162 = .ok (.goto (-70), 3) := dk_167 255 186 (dk_at dksX9_drawn_7 0 rfl rfl)
theorem dX9_drawn_165 : decode cX9_drawn 165 = .ok (.iload_n 3, 1) := dk_29 (dk_at dksX9_drawn_7 3 rfl rfl)
theorem dX9_drawn_166 : decode cX9_drawn 166 = .ok (.ifCond .ne 8, 3) := dk_154 0 8 (dk_at dksX9_drawn_7 4 rfl rfl)
theorem dX9_drawn_169 : decode cX9_drawn 169 = .ok (.iload 6, 2) := dk_21 6 (dk_at dksX9_drawn_7 7 rfl rfl)
theorem dX9_drawn_171 : decode cX9_drawn 171 = .ok (.goto 10, 3) := dk_167 0 10 (dk_at dksX9_drawn_7 9 rfl rfl)
theorem dX9_drawn_174 : decode cX9_drawn 174 = .ok (.aload_n 0, 1) := dk_42 (dk_at dksX9_drawn_7 12 rfl rfl)
theorem dX9_drawn_175 : decode cX9_drawn 175 = .ok (.getfield 25, 3) := dk_180 0 25 (dk_at dksX9_drawn_7 13 rfl rfl)
theorem dX9_drawn_178 : decode cX9_drawn 178 = .ok (.invokestatic 254, 3) := dk_184 0 254 (dk_at dksX9_drawn_7 16 rfl rfl)
theorem dX9_drawn_181 : decode cX9_drawn 181 = .ok (.ireturn, 1) := dk_172 (dk_at dksX9_drawn_7 19 rfl rfl)
abbrev cX9_votesOf : ByteArray := prog_16_method_43_code
def yX9_votesOf : MethodName := ⟨RX9, "votesOf", "([I)I"⟩
def dkwX9_votesOf_1 : List UInt8 := [96, 96, 60, 132, 2, 1, 167, 255, 230, 27, 172]
abbrev dktX9_votesOf_1 : List UInt8 := dkwX9_votesOf_1 ++ []
def dkwX9_votesOf_0 : List UInt8 := [3, 60, 3, 61, 28, 42, 5, 46, 162, 0, 25, 27, 42, 28, 5, 184, 0, 157, 42, 28, 6, 184, 0, 157]
abbrev dktX9_votesOf_0 : List UInt8 := dkwX9_votesOf_0 ++ dktX9_votesOf_1
theorem dksX9_votesOf_0 : cX9_votesOf.data.toList.drop 0 = dktX9_votesOf_0 := by decide +kernel
theorem dksX9_votesOf_1 : cX9_votesOf.data.toList.drop 24 = dktX9_votesOf_1 := dk_seg dksX9_votesOf_0 24 rfl rfl
theorem dX9_votesOf_0 : decode cX9_votesOf 0 = .ok (.iconst 0, 1) := dk_3 (dk_at dksX9_votesOf_0 0 rfl rfl)
theorem dX9_votesOf_1 : decode cX9_votesOf 1 = .ok (.istore_n 1, 1) := dk_60 (dk_at dksX9_votesOf_0 1 rfl rfl)
theorem dX9_votesOf_2 : decode cX9_votesOf 2 = .ok (.iconst 0, 1) := dk_3 (dk_at dksX9_votesOf_0 2 rfl rfl)
theorem dX9_votesOf_3 : decode cX9_votesOf 3 = .ok (.istore_n 2, 1) := dk_61 (dk_at dksX9_votesOf_0 3 rfl rfl)
theorem dX9_votesOf_4 : decode cX9_votesOf 4 = .ok (.iload_n 2, 1) := dk_28 (dk_at dksX9_votesOf_0 4 rfl rfl)
theorem dX9_votesOf_5 : decode cX9_votesOf 5 = .ok (.aload_n 0, 1) := dk_42 (dk_at dksX9_votesOf_0 5 rfl rfl)
theorem dX9_votesOf_6 : decode cX9_votesOf 6 = .ok (.iconst 2, 1) := dk_5 (dk_at dksX9_votesOf_0 6 rfl rfl)
theorem dX9_votesOf_7 : decode cX9_votesOf 7 = .ok (.iaload, 1) := dk_46 (dk_at dksX9_votesOf_0 7 rfl rfl)
theorem dX9_votesOf_8 : decode cX9_votesOf 8 = .ok (.if_icmp .ge 25, 3) := dk_162 0 25 (dk_at dksX9_votesOf_0 8 rfl rfl)
theorem dX9_votesOf_11 : decode cX9_votesOf 11 = .ok (.iload_n 1, 1) := dk_27 (dk_at dksX9_votesOf_0 11 rfl rfl)
theorem dX9_votesOf_12 : decode cX9_votesOf 12 = .ok (.aload_n 0, 1) := dk_42 (dk_at dksX9_votesOf_0 12 rfl rfl)
theorem dX9_votesOf_13 : decode cX9_votesOf 13 = .ok (.iload_n 2, 1) := dk_28 (dk_at dksX9_votesOf_0 13 rfl rfl)
theorem dX9_votesOf_14 : decode cX9_votesOf 14 = .ok (.iconst 2, 1) := dk_5 (dk_at dksX9_votesOf_0 14 rfl rfl)
theorem dX9_votesOf_15 : decode cX9_votesOf 15 = .ok (.invokestatic 157, 3) := dk_184 0 157 (dk_at dksX9_votesOf_0 15 rfl rfl)
theorem dX9_votesOf_18 : decode cX9_votesOf 18 = .ok (.aload_n 0, 1) := dk_42 (dk_at dksX9_votesOf_0 18 rfl rfl)
theorem dX9_votesOf_19 : decode cX9_votesOf 19 = .ok (.iload_n 2, 1) := dk_28 (dk_at dksX9_votesOf_0 19 rfl rfl)
theorem dX9_votesOf_20 : decode cX9_votesOf 20 = .ok (.iconst 3, 1) := dk_6 (dk_at dksX9_votesOf_0 20 rfl rfl)
theorem dX9_votesOf_21 : decode cX9_votesOf 21 = .ok (.invokestatic 157, 3) := dk_184 0 157 (dk_at dksX9_votesOf_0 21 rfl rfl)
theorem dX9_votesOf_24 : decode cX9_votesOf 24 = .ok (.iadd, 1) := dk_96 (dk_at dksX9_votesOf_1 0 rfl rfl)
theorem dX9_votesOf_25 : decode cX9_votesOf 25 = .ok (.iadd, 1) := dk_96 (dk_at dksX9_votesOf_1 1 rfl rfl)
theorem dX9_votesOf_26 : decode cX9_votesOf 26 = .ok (.istore_n 1, 1) := dk_60 (dk_at dksX9_votesOf_1 2 rfl rfl)
theorem dX9_votesOf_27 : decode cX9_votesOf 27 = .ok (.iinc 2 1, 3) := dk_132 2 1 (dk_at dksX9_votesOf_1 3 rfl rfl)
theorem dX9_votesOf_30 : decode cX9_votesOf 30 = .ok (.goto (-26), 3) := dk_167 255 230 (dk_at dksX9_votesOf_1 6 rfl rfl)
theorem dX9_votesOf_33 : decode cX9_votesOf 33 = .ok (.iload_n 1, 1) := dk_27 (dk_at dksX9_votesOf_1 9 rfl rfl)
theorem dX9_votesOf_34 : decode cX9_votesOf 34 = .ok (.ireturn, 1) := dk_172 (dk_at dksX9_votesOf_1 10 rfl rfl)
abbrev cX9_image : ByteArray := prog_16_method_74_code
def yX9_image : MethodName := ⟨RX9, "image", "(I)I"⟩
def dkwX9_image_2 : List UInt8 := [42, 180, 0, 19, 28, 46, 79, 132, 2, 1, 167, 255, 230, 42, 180, 0, 38, 27, 4, 84, 4, 172]
abbrev dktX9_image_2 : List UInt8 := dkwX9_image_2 ++ []
def dkwX9_image_1 : List UInt8 := [154, 0, 6, 18, 204, 172, 3, 61, 28, 16, 64, 162, 0, 26, 42, 180, 0, 42, 16, 64, 27, 104, 28, 96]
abbrev dktX9_image_1 : List UInt8 := dkwX9_image_1 ++ dktX9_image_2
def dkwX9_image_0 : List UInt8 := [42, 3, 181, 0, 48, 27, 133, 9, 10, 184, 0, 58, 154, 0, 6, 18, 68, 172, 42, 182, 0, 201]
abbrev dktX9_image_0 : List UInt8 := dkwX9_image_0 ++ dktX9_image_1
theorem dksX9_image_0 : cX9_image.data.toList.drop 0 = dktX9_image_0 := by decide +kernel
theorem dksX9_image_1 : cX9_image.data.toList.drop 22 = dktX9_image_1 := dk_seg dksX9_image_0 22 rfl rfl
theorem dksX9_image_2 : cX9_image.data.toList.drop 46 = dktX9_image_2 := dk_seg dksX9_image_1 24 rfl rfl
theorem dX9_image_0 : decode cX9_image 0 = .ok (.aload_n 0, 1) := dk_42 (dk_at dksX9_image_0 0 rfl rfl)
theorem dX9_image_1 : decode cX9_image 1 = .ok (.iconst 0, 1) := dk_3 (dk_at dksX9_image_0 1 rfl rfl)
theorem dX9_image_2 : decode cX9_image 2 = .ok (.putfield 48, 3) := dk_181 0 48 (dk_at dksX9_image_0 2 rfl rfl)
theorem dX9_image_5 : decode cX9_image 5 = .ok (.iload_n 1, 1) := dk_27 (dk_at dksX9_image_0 5 rfl rfl)
theorem dX9_image_6 : decode cX9_image 6 = .ok (.i2l, 1) := dk_133 (dk_at dksX9_image_0 6 rfl rfl)
theorem dX9_image_7 : decode cX9_image 7 = .ok (.lconst 0, 1) := dk_9 (dk_at dksX9_image_0 7 rfl rfl)
theorem dX9_image_8 : decode cX9_image 8 = .ok (.lconst 1, 1) := dk_10 (dk_at dksX9_image_0 8 rfl rfl)
theorem dX9_image_9 : decode cX9_image 9 = .ok (.invokestatic 58, 3) := dk_184 0 58 (dk_at dksX9_image_0 9 rfl rfl)
theorem dX9_image_12 : decode cX9_image 12 = .ok (.ifCond .ne 6, 3) := dk_154 0 6 (dk_at dksX9_image_0 12 rfl rfl)
theorem dX9_image_15 : decode cX9_image 15 = .ok (.ldc 68, 2) := dk_18 68 (dk_at dksX9_image_0 15 rfl rfl)
theorem dX9_image_17 : decode cX9_image 17 = .ok (.ireturn, 1) := dk_172 (dk_at dksX9_image_0 17 rfl rfl)
theorem dX9_image_18 : decode cX9_image 18 = .ok (.aload_n 0, 1) := dk_42 (dk_at dksX9_image_0 18 rfl rfl)
theorem dX9_image_19 : decode cX9_image 19 = .ok (.invokevirtual 201, 3) := dk_182 0 201 (dk_at dksX9_image_0 19 rfl rfl)
theorem dX9_image_22 : decode cX9_image 22 = .ok (.ifCond .ne 6, 3) := dk_154 0 6 (dk_at dksX9_image_1 0 rfl rfl)
theorem dX9_image_25 : decode cX9_image 25 = .ok (.ldc 204, 2) := dk_18 204 (dk_at dksX9_image_1 3 rfl rfl)
theorem dX9_image_27 : decode cX9_image 27 = .ok (.ireturn, 1) := dk_172 (dk_at dksX9_image_1 5 rfl rfl)
theorem dX9_image_28 : decode cX9_image 28 = .ok (.iconst 0, 1) := dk_3 (dk_at dksX9_image_1 6 rfl rfl)
theorem dX9_image_29 : decode cX9_image 29 = .ok (.istore_n 2, 1) := dk_61 (dk_at dksX9_image_1 7 rfl rfl)
theorem dX9_image_30 : decode cX9_image 30 = .ok (.iload_n 2, 1) := dk_28 (dk_at dksX9_image_1 8 rfl rfl)
theorem dX9_image_31 : decode cX9_image 31 = .ok (.bipush 64, 2) := dk_16 64 (dk_at dksX9_image_1 9 rfl rfl)
theorem dX9_image_33 : decode cX9_image 33 = .ok (.if_icmp .ge 26, 3) := dk_162 0 26 (dk_at dksX9_image_1 11 rfl rfl)
theorem dX9_image_36 : decode cX9_image 36 = .ok (.aload_n 0, 1) := dk_42 (dk_at dksX9_image_1 14 rfl rfl)
theorem dX9_image_37 : decode cX9_image 37 = .ok (.getfield 42, 3) := dk_180 0 42 (dk_at dksX9_image_1 15 rfl rfl)
theorem dX9_image_40 : decode cX9_image 40 = .ok (.bipush 64, 2) := dk_16 64 (dk_at dksX9_image_1 18 rfl rfl)
theorem dX9_image_42 : decode cX9_image 42 = .ok (.iload_n 1, 1) := dk_27 (dk_at dksX9_image_1 20 rfl rfl)
theorem dX9_image_43 : decode cX9_image 43 = .ok (.imul, 1) := dk_104 (dk_at dksX9_image_1 21 rfl rfl)
theorem dX9_image_44 : decode cX9_image 44 = .ok (.iload_n 2, 1) := dk_28 (dk_at dksX9_image_1 22 rfl rfl)
theorem dX9_image_45 : decode cX9_image 45 = .ok (.iadd, 1) := dk_96 (dk_at dksX9_image_1 23 rfl rfl)
theorem dX9_image_46 : decode cX9_image 46 = .ok (.aload_n 0, 1) := dk_42 (dk_at dksX9_image_2 0 rfl rfl)
theorem dX9_image_47 : decode cX9_image 47 = .ok (.getfield 19, 3) := dk_180 0 19 (dk_at dksX9_image_2 1 rfl rfl)
theorem dX9_image_50 : decode cX9_image 50 = .ok (.iload_n 2, 1) := dk_28 (dk_at dksX9_image_2 4 rfl rfl)
theorem dX9_image_51 : decode cX9_image 51 = .ok (.iaload, 1) := dk_46 (dk_at dksX9_image_2 5 rfl rfl)
theorem dX9_image_52 : decode cX9_image 52 = .ok (.iastore, 1) := dk_79 (dk_at dksX9_image_2 6 rfl rfl)
theorem dX9_image_53 : decode cX9_image 53 = .ok (.iinc 2 1, 3) := dk_132 2 1 (dk_at dksX9_image_2 7 rfl rfl)
theorem dX9_image_56 : decode cX9_image 56 = .ok (.goto (-26), 3) := dk_167 255 230 (dk_at dksX9_image_2 10 rfl rfl)
theorem dX9_image_59 : decode cX9_image 59 = .ok (.aload_n 0, 1) := dk_42 (dk_at dksX9_image_2 13 rfl rfl)
theorem dX9_image_60 : decode cX9_image 60 = .ok (.getfield 38, 3) := dk_180 0 38 (dk_at dksX9_image_2 14 rfl rfl)
theorem dX9_image_63 : decode cX9_image 63 = .ok (.iload_n 1, 1) := dk_27 (dk_at dksX9_image_2 17 rfl rfl)
theorem dX9_image_64 : decode cX9_image 64 = .ok (.iconst 1, 1) := dk_4 (dk_at dksX9_image_2 18 rfl rfl)
theorem dX9_image_65 : decode cX9_image 65 = .ok (.bastore, 1) := dk_84 (dk_at dksX9_image_2 19 rfl rfl)
theorem dX9_image_66 : decode cX9_image 66 = .ok (.iconst 1, 1) := dk_4 (dk_at dksX9_image_2 20 rfl rfl)
theorem dX9_image_67 : decode cX9_image 67 = .ok (.ireturn, 1) := dk_172 (dk_at dksX9_image_2 21 rfl rfl)
abbrev cX9_restore : ByteArray := prog_16_method_75_code
def yX9_restore : MethodName := ⟨RX9, "restore", "(I)I"⟩
def dkwX9_restore_2 : List UInt8 := [16, 64, 27, 104, 28, 96, 46, 79, 132, 2, 1, 167, 255, 230, 42, 3, 181, 0, 150, 4, 172]
abbrev dktX9_restore_2 : List UInt8 := dkwX9_restore_2 ++ []
def dkwX9_restore_1 : List UInt8 := [154, 0, 6, 18, 204, 172, 3, 61, 28, 16, 64, 162, 0, 26, 42, 180, 0, 19, 28, 42, 180, 0, 42]
abbrev dktX9_restore_1 : List UInt8 := dkwX9_restore_1 ++ dktX9_restore_2
def dkwX9_restore_0 : List UInt8 := [42, 3, 181, 0, 48, 27, 133, 9, 10, 184, 0, 58, 154, 0, 6, 18, 68, 172, 42, 180, 0, 38, 27, 51]
abbrev dktX9_restore_0 : List UInt8 := dkwX9_restore_0 ++ dktX9_restore_1
theorem dksX9_restore_0 : cX9_restore.data.toList.drop 0 = dktX9_restore_0 := by decide +kernel
theorem dksX9_restore_1 : cX9_restore.data.toList.drop 24 = dktX9_restore_1 := dk_seg dksX9_restore_0 24 rfl rfl
theorem dksX9_restore_2 : cX9_restore.data.toList.drop 47 = dktX9_restore_2 := dk_seg dksX9_restore_1 23 rfl rfl
theorem dX9_restore_0 : decode cX9_restore 0 = .ok (.aload_n 0, 1) := dk_42 (dk_at dksX9_restore_0 0 rfl rfl)
theorem dX9_restore_1 : decode cX9_restore 1 = .ok (.iconst 0, 1) := dk_3 (dk_at dksX9_restore_0 1 rfl rfl)
theorem dX9_restore_2 : decode cX9_restore 2 = .ok (.putfield 48, 3) := dk_181 0 48 (dk_at dksX9_restore_0 2 rfl rfl)
theorem dX9_restore_5 : decode cX9_restore 5 = .ok (.iload_n 1, 1) := dk_27 (dk_at dksX9_restore_0 5 rfl rfl)
theorem dX9_restore_6 : decode cX9_restore 6 = .ok (.i2l, 1) := dk_133 (dk_at dksX9_restore_0 6 rfl rfl)
theorem dX9_restore_7 : decode cX9_restore 7 = .ok (.lconst 0, 1) := dk_9 (dk_at dksX9_restore_0 7 rfl rfl)
theorem dX9_restore_8 : decode cX9_restore 8 = .ok (.lconst 1, 1) := dk_10 (dk_at dksX9_restore_0 8 rfl rfl)
theorem dX9_restore_9 : decode cX9_restore 9 = .ok (.invokestatic 58, 3) := dk_184 0 58 (dk_at dksX9_restore_0 9 rfl rfl)
theorem dX9_restore_12 : decode cX9_restore 12 = .ok (.ifCond .ne 6, 3) := dk_154 0 6 (dk_at dksX9_restore_0 12 rfl rfl)
theorem dX9_restore_15 : decode cX9_restore 15 = .ok (.ldc 68, 2) := dk_18 68 (dk_at dksX9_restore_0 15 rfl rfl)
theorem dX9_restore_17 : decode cX9_restore 17 = .ok (.ireturn, 1) := dk_172 (dk_at dksX9_restore_0 17 rfl rfl)
theorem dX9_restore_18 : decode cX9_restore 18 = .ok (.aload_n 0, 1) := dk_42 (dk_at dksX9_restore_0 18 rfl rfl)
theorem dX9_restore_19 : decode cX9_restore 19 = .ok (.getfield 38, 3) := dk_180 0 38 (dk_at dksX9_restore_0 19 rfl rfl)
theorem dX9_restore_22 : decode cX9_restore 22 = .ok (.iload_n 1, 1) := dk_27 (dk_at dksX9_restore_0 22 rfl rfl)
theorem dX9_restore_23 : decode cX9_restore 23 = .ok (.baload, 1) := dk_51 (dk_at dksX9_restore_0 23 rfl rfl)
theorem dX9_restore_24 : decode cX9_restore 24 = .ok (.ifCond .ne 6, 3) := dk_154 0 6 (dk_at dksX9_restore_1 0 rfl rfl)
theorem dX9_restore_27 : decode cX9_restore 27 = .ok (.ldc 204, 2) := dk_18 204 (dk_at dksX9_restore_1 3 rfl rfl)
theorem dX9_restore_29 : decode cX9_restore 29 = .ok (.ireturn, 1) := dk_172 (dk_at dksX9_restore_1 5 rfl rfl)
theorem dX9_restore_30 : decode cX9_restore 30 = .ok (.iconst 0, 1) := dk_3 (dk_at dksX9_restore_1 6 rfl rfl)
theorem dX9_restore_31 : decode cX9_restore 31 = .ok (.istore_n 2, 1) := dk_61 (dk_at dksX9_restore_1 7 rfl rfl)
theorem dX9_restore_32 : decode cX9_restore 32 = .ok (.iload_n 2, 1) := dk_28 (dk_at dksX9_restore_1 8 rfl rfl)
theorem dX9_restore_33 : decode cX9_restore 33 = .ok (.bipush 64, 2) := dk_16 64 (dk_at dksX9_restore_1 9 rfl rfl)
theorem dX9_restore_35 : decode cX9_restore 35 = .ok (.if_icmp .ge 26, 3) := dk_162 0 26 (dk_at dksX9_restore_1 11 rfl rfl)
theorem dX9_restore_38 : decode cX9_restore 38 = .ok (.aload_n 0, 1) := dk_42 (dk_at dksX9_restore_1 14 rfl rfl)
theorem dX9_restore_39 : decode cX9_restore 39 = .ok (.getfield 19, 3) := dk_180 0 19 (dk_at dksX9_restore_1 15 rfl rfl)
theorem dX9_restore_42 : decode cX9_restore 42 = .ok (.iload_n 2, 1) := dk_28 (dk_at dksX9_restore_1 18 rfl rfl)
theorem dX9_restore_43 : decode cX9_restore 43 = .ok (.aload_n 0, 1) := dk_42 (dk_at dksX9_restore_1 19 rfl rfl)
theorem dX9_restore_44 : decode cX9_restore 44 = .ok (.getfield 42, 3) := dk_180 0 42 (dk_at dksX9_restore_1 20 rfl rfl)
theorem dX9_restore_47 : decode cX9_restore 47 = .ok (.bipush 64, 2) := dk_16 64 (dk_at dksX9_restore_2 0 rfl rfl)
theorem dX9_restore_49 : decode cX9_restore 49 = .ok (.iload_n 1, 1) := dk_27 (dk_at dksX9_restore_2 2 rfl rfl)
theorem dX9_restore_50 : decode cX9_restore 50 = .ok (.imul, 1) := dk_104 (dk_at dksX9_restore_2 3 rfl rfl)
theorem dX9_restore_51 : decode cX9_restore 51 = .ok (.iload_n 2, 1) := dk_28 (dk_at dksX9_restore_2 4 rfl rfl)
theorem dX9_restore_52 : decode cX9_restore 52 = .ok (.iadd, 1) := dk_96 (dk_at dksX9_restore_2 5 rfl rfl)
theorem dX9_restore_53 : decode cX9_restore 53 = .ok (.iaload, 1) := dk_46 (dk_at dksX9_restore_2 6 rfl rfl)
theorem dX9_restore_54 : decode cX9_restore 54 = .ok (.iastore, 1) := dk_79 (dk_at dksX9_restore_2 7 rfl rfl)
theorem dX9_restore_55 : decode cX9_restore 55 = .ok (.iinc 2 1, 3) := dk_132 2 1 (dk_at dksX9_restore_2 8 rfl rfl)
theorem dX9_restore_58 : decode cX9_restore 58 = .ok (.goto (-26), 3) := dk_167 255 230 (dk_at dksX9_restore_2 11 rfl rfl)
theorem dX9_restore_61 : decode cX9_restore 61 = .ok (.aload_n 0, 1) := dk_42 (dk_at dksX9_restore_2 14 rfl rfl)
theorem dX9_restore_62 : decode cX9_restore 62 = .ok (.iconst 0, 1) := dk_3 (dk_at dksX9_restore_2 15 rfl rfl)
theorem dX9_restore_63 : decode cX9_restore 63 = .ok (.putfield 150, 3) := dk_181 0 150 (dk_at dksX9_restore_2 16 rfl rfl)
theorem dX9_restore_66 : decode cX9_restore 66 = .ok (.iconst 1, 1) := dk_4 (dk_at dksX9_restore_2 19 rfl rfl)
theorem dX9_restore_67 : decode cX9_restore 67 = .ok (.ireturn, 1) := dk_172 (dk_at dksX9_restore_2 20 rfl rfl)
abbrev cX9_kind : ByteArray := prog_16_method_77_code
def yX9_kind : MethodName := ⟨RX9, "kind", "(I)I"⟩
def dkwX9_kind_1 : List UInt8 := [167, 0, 5, 18, 68, 172]
abbrev dktX9_kind_1 : List UInt8 := dkwX9_kind_1 ++ []
def dkwX9_kind_0 : List UInt8 := [42, 3, 181, 0, 48, 42, 27, 182, 0, 207, 153, 0, 15, 42, 180, 0, 19, 27, 3, 184, 0, 157]
abbrev dktX9_kind_0 : List UInt8 := dkwX9_kind_0 ++ dktX9_kind_1
theorem dksX9_kind_0 : cX9_kind.data.toList.drop 0 = dktX9_kind_0 := by decide +kernel
theorem dksX9_kind_1 : cX9_kind.data.toList.drop 22 = dktX9_kind_1 := dk_seg dksX9_kind_0 22 rfl rfl
theorem dX9_kind_0 : decode cX9_kind 0 = .ok (.aload_n 0, 1) := dk_42 (dk_at dksX9_kind_0 0 rfl rfl)
theorem dX9_kind_1 : decode cX9_kind 1 = .ok (.iconst 0, 1) := dk_3 (dk_at dksX9_kind_0 1 rfl rfl)
theorem dX9_kind_2 : decode cX9_kind 2 = .ok (.putfield 48, 3) := dk_181 0 48 (dk_at dksX9_kind_0 2 rfl rfl)
theorem dX9_kind_5 : decode cX9_kind 5 = .ok (.aload_n 0, 1) := dk_42 (dk_at dksX9_kind_0 5 rfl rfl)
theorem dX9_kind_6 : decode cX9_kind 6 = .ok (.iload_n 1, 1) := dk_27 (dk_at dksX9_kind_0 6 rfl rfl)
theorem dX9_kind_7 : decode cX9_kind 7 = .ok (.invokevirtual 207, 3) := dk_182 0 207 (dk_at dksX9_kind_0 7 rfl rfl)
theorem dX9_kind_10 : decode cX9_kind 10 = .ok (.ifCond .eq 15, 3) := dk_153 0 15 (dk_at dksX9_kind_0 10 rfl rfl)
theorem dX9_kind_13 : decode cX9_kind 13 = .ok (.aload_n 0, 1) := dk_42 (dk_at dksX9_kind_0 13 rfl rfl)
theorem dX9_kind_14 : decode cX9_kind 14 = .ok (.getfield 19, 3) := dk_180 0 19 (dk_at dksX9_kind_0 14 rfl rfl)
theorem dX9_kind_17 : decode cX9_kind 17 = .ok (.iload_n 1, 1) := dk_27 (dk_at dksX9_kind_0 17 rfl rfl)
theorem dX9_kind_18 : decode cX9_kind 18 = .ok (.iconst 0, 1) := dk_3 (dk_at dksX9_kind_0 18 rfl rfl)
theorem dX9_kind_19 : decode cX9_kind 19 = .ok (.invokestatic 157, 3) := dk_184 0 157 (dk_at dksX9_kind_0 19 rfl rfl)
theorem dX9_kind_22 : decode cX9_kind 22 = .ok (.goto 5, 3) := dk_167 0 5 (dk_at dksX9_kind_1 0 rfl rfl)
theorem dX9_kind_25 : decode cX9_kind 25 = .ok (.ldc 68, 2) := dk_18 68 (dk_at dksX9_kind_1 3 rfl rfl)
theorem dX9_kind_27 : decode cX9_kind 27 = .ok (.ireturn, 1) := dk_172 (dk_at dksX9_kind_1 5 rfl rfl)
abbrev cX9_as : ByteArray := prog_16_method_78_code
def yX9_as : MethodName := ⟨RX9, "as", "(II)I"⟩
def dkwX9_as_2 : List UInt8 := [153, 0, 7, 27, 167, 0, 8, 42, 6, 182, 0, 69, 172]
abbrev dktX9_as_2 : List UInt8 := dkwX9_as_2 ++ []
def dkwX9_as_1 : List UInt8 := [154, 0, 6, 18, 68, 172, 42, 3, 181, 0, 52, 42, 180, 0, 19, 27, 3, 184, 0, 157, 28, 184, 1, 4]
abbrev dktX9_as_1 : List UInt8 := dkwX9_as_1 ++ dktX9_as_2
def dkwX9_as_0 : List UInt8 := [42, 3, 181, 0, 48, 42, 27, 182, 0, 207, 153, 0, 15, 28, 133, 9, 20, 1, 2, 184, 0, 58]
abbrev dktX9_as_0 : List UInt8 := dkwX9_as_0 ++ dktX9_as_1
theorem dksX9_as_0 : cX9_as.data.toList.drop 0 = dktX9_as_0 := by decide +kernel
theorem dksX9_as_1 : cX9_as.data.toList.drop 22 = dktX9_as_1 := dk_seg dksX9_as_0 22 rfl rfl
theorem dksX9_as_2 : cX9_as.data.toList.drop 46 = dktX9_as_2 := dk_seg dksX9_as_1 24 rfl rfl
theorem dX9_as_0 : decode cX9_as 0 = .ok (.aload_n 0, 1) := dk_42 (dk_at dksX9_as_0 0 rfl rfl)
theorem dX9_as_1 : decode cX9_as 1 = .ok (.iconst 0, 1) := dk_3 (dk_at dksX9_as_0 1 rfl rfl)
theorem dX9_as_2 : decode cX9_as 2 = .ok (.putfield 48, 3) := dk_181 0 48 (dk_at dksX9_as_0 2 rfl rfl)
theorem dX9_as_5 : decode cX9_as 5 = .ok (.aload_n 0, 1) := dk_42 (dk_at dksX9_as_0 5 rfl rfl)
theorem dX9_as_6 : decode cX9_as 6 = .ok (.iload_n 1, 1) := dk_27 (dk_at dksX9_as_0 6 rfl rfl)
theorem dX9_as_7 : decode cX9_as 7 = .ok (.invokevirtual 207, 3) := dk_182 0 207 (dk_at dksX9_as_0 7 rfl rfl)
theorem dX9_as_10 : decode cX9_as 10 = .ok (.ifCond .eq 15, 3) := dk_153 0 15 (dk_at dksX9_as_0 10 rfl rfl)
theorem dX9_as_13 : decode cX9_as 13 = .ok (.iload_n 2, 1) := dk_28 (dk_at dksX9_as_0 13 rfl rfl)
theorem dX9_as_14 : decode cX9_as 14 = .ok (.i2l, 1) := dk_133 (dk_at dksX9_as_0 14 rfl rfl)
theorem dX9_as_15 : decode cX9_as 15 = .ok (.lconst 0, 1) := dk_9 (dk_at dksX9_as_0 15 rfl rfl)
theorem dX9_as_16 : decode cX9_as 16 = .ok (.ldc2_w 258, 3) := dk_20 1 2 (dk_at dksX9_as_0 16 rfl rfl)
theorem dX9_as_19 : decode cX9_as 19 = .ok (.invokestatic 58, 3) := dk_184 0 58 (dk_at dksX9_as_0 19 rfl rfl)
theorem dX9_as_22 : decode cX9_as 22 = .ok (.ifCond .ne 6, 3) := dk_154 0 6 (dk_at dksX9_as_1 0 rfl rfl)
theorem dX9_as_25 : decode cX9_as 25 = .ok (.ldc 68, 2) := dk_18 68 (dk_at dksX9_as_1 3 rfl rfl)
theorem dX9_as_27 : decode cX9_as 27 = .ok (.ireturn, 1) := dk_172 (dk_at dksX9_as_1 5 rfl rfl)
theorem dX9_as_28 : decode cX9_as 28 = .ok (.aload_n 0, 1) := dk_42 (dk_at dksX9_as_1 6 rfl rfl)
theorem dX9_as_29 : decode cX9_as 29 = .ok (.iconst 0, 1) := dk_3 (dk_at dksX9_as_1 7 rfl rfl)
theorem dX9_as_30 : decode cX9_as 30 = .ok (.putfield 52, 3) := dk_181 0 52 (dk_at dksX9_as_1 8 rfl rfl)
theorem dX9_as_33 : decode cX9_as 33 = .ok (.aload_n 0, 1) := dk_42 (dk_at dksX9_as_1 11 rfl rfl)
theorem dX9_as_34 : decode cX9_as 34 = .ok (.getfield 19, 3) := dk_180 0 19 (dk_at dksX9_as_1 12 rfl rfl)
theorem dX9_as_37 : decode cX9_as 37 = .ok (.iload_n 1, 1) := dk_27 (dk_at dksX9_as_1 15 rfl rfl)
theorem dX9_as_38 : decode cX9_as 38 = .ok (.iconst 0, 1) := dk_3 (dk_at dksX9_as_1 16 rfl rfl)
theorem dX9_as_39 : decode cX9_as 39 = .ok (.invokestatic 157, 3) := dk_184 0 157 (dk_at dksX9_as_1 17 rfl rfl)
theorem dX9_as_42 : decode cX9_as 42 = .ok (.iload_n 2, 1) := dk_28 (dk_at dksX9_as_1 20 rfl rfl)
theorem dX9_as_43 : decode cX9_as 43 = .ok (.invokestatic 260, 3) := dk_184 1 4 (dk_at dksX9_as_1 21 rfl rfl)
theorem dX9_as_46 : decode cX9_as 46 = .ok (.ifCond .eq 7, 3) := dk_153 0 7 (dk_at dksX9_as_2 0 rfl rfl)
theorem dX9_as_49 : decode cX9_as 49 = .ok (.iload_n 1, 1) := dk_27 (dk_at dksX9_as_2 3 rfl rfl)
theorem dX9_as_50 : decode cX9_as 50 = .ok (.goto 8, 3) := dk_167 0 8 (dk_at dksX9_as_2 4 rfl rfl)
theorem dX9_as_53 : decode cX9_as 53 = .ok (.aload_n 0, 1) := dk_42 (dk_at dksX9_as_2 7 rfl rfl)
theorem dX9_as_54 : decode cX9_as 54 = .ok (.iconst 3, 1) := dk_6 (dk_at dksX9_as_2 8 rfl rfl)
theorem dX9_as_55 : decode cX9_as 55 = .ok (.invokevirtual 69, 3) := dk_182 0 69 (dk_at dksX9_as_2 9 rfl rfl)
theorem dX9_as_58 : decode cX9_as 58 = .ok (.ireturn, 1) := dk_172 (dk_at dksX9_as_2 12 rfl rfl)
abbrev cX9_isOf : ByteArray := prog_16_method_76_code
def yX9_isOf : MethodName := ⟨RX9, "isOf", "(II)Z"⟩
def dkwX9_isOf_1 : List UInt8 := [26, 8, 160, 0, 7, 4, 167, 0, 4, 3, 172]
abbrev dktX9_isOf_1 : List UInt8 := dkwX9_isOf_1 ++ []
def dkwX9_isOf_0 : List UInt8 := [27, 153, 0, 28, 26, 27, 159, 0, 23, 27, 4, 160, 0, 8, 26, 7, 161, 0, 13, 27, 7, 160, 0, 12]
abbrev dktX9_isOf_0 : List UInt8 := dkwX9_isOf_0 ++ dktX9_isOf_1
theorem dksX9_isOf_0 : cX9_isOf.data.toList.drop 0 = dktX9_isOf_0 := by decide +kernel
theorem dksX9_isOf_1 : cX9_isOf.data.toList.drop 24 = dktX9_isOf_1 := dk_seg dksX9_isOf_0 24 rfl rfl
theorem dX9_isOf_0 : decode cX9_isOf 0 = .ok (.iload_n 1, 1) := dk_27 (dk_at dksX9_isOf_0 0 rfl rfl)
theorem dX9_isOf_1 : decode cX9_isOf 1 = .ok (.ifCond .eq 28, 3) := dk_153 0 28 (dk_at dksX9_isOf_0 1 rfl rfl)
theorem dX9_isOf_4 : decode cX9_isOf 4 = .ok (.iload_n 0, 1) := dk_26 (dk_at dksX9_isOf_0 4 rfl rfl)
theorem dX9_isOf_5 : decode cX9_isOf 5 = .ok (.iload_n 1, 1) := dk_27 (dk_at dksX9_isOf_0 5 rfl rfl)
theorem dX9_isOf_6 : decode cX9_isOf 6 = .ok (.if_icmp .eq 23, 3) := dk_159 0 23 (dk_at dksX9_isOf_0 6 rfl rfl)
theorem dX9_isOf_9 : decode cX9_isOf 9 = .ok (.iload_n 1, 1) := dk_27 (dk_at dksX9_isOf_0 9 rfl rfl)
theorem dX9_isOf_10 : decode cX9_isOf 10 = .ok (.iconst 1, 1) := dk_4 (dk_at dksX9_isOf_0 10 rfl rfl)
theorem dX9_isOf_11 : decode cX9_isOf 11 = .ok (.if_icmp .ne 8, 3) := dk_160 0 8 (dk_at dksX9_isOf_0 11 rfl rfl)
theorem dX9_isOf_14 : decode cX9_isOf 14 = .ok (.iload_n 0, 1) := dk_26 (dk_at dksX9_isOf_0 14 rfl rfl)
theorem dX9_isOf_15 : decode cX9_isOf 15 = .ok (.iconst 4, 1) := dk_7 (dk_at dksX9_isOf_0 15 rfl rfl)
theorem dX9_isOf_16 : decode cX9_isOf 16 = .ok (.if_icmp .lt 13, 3) := dk_161 0 13 (dk_at dksX9_isOf_0 16 rfl rfl)
theorem dX9_isOf_19 : decode cX9_isOf 19 = .ok (.iload_n 1, 1) := dk_27 (dk_at dksX9_isOf_0 19 rfl rfl)
theorem dX9_isOf_20 : decode cX9_isOf 20 = .ok (.iconst 4, 1) := dk_7 (dk_at dksX9_isOf_0 20 rfl rfl)
theorem dX9_isOf_21 : decode cX9_isOf 21 = .ok (.if_icmp .ne 12, 3) := dk_160 0 12 (dk_at dksX9_isOf_0 21 rfl rfl)
theorem dX9_isOf_24 : decode cX9_isOf 24 = .ok (.iload_n 0, 1) := dk_26 (dk_at dksX9_isOf_1 0 rfl rfl)
theorem dX9_isOf_25 : decode cX9_isOf 25 = .ok (.iconst 5, 1) := dk_8 (dk_at dksX9_isOf_1 1 rfl rfl)
theorem dX9_isOf_26 : decode cX9_isOf 26 = .ok (.if_icmp .ne 7, 3) := dk_160 0 7 (dk_at dksX9_isOf_1 2 rfl rfl)
theorem dX9_isOf_29 : decode cX9_isOf 29 = .ok (.iconst 1, 1) := dk_4 (dk_at dksX9_isOf_1 5 rfl rfl)
theorem dX9_isOf_30 : decode cX9_isOf 30 = .ok (.goto 4, 3) := dk_167 0 4 (dk_at dksX9_isOf_1 6 rfl rfl)
theorem dX9_isOf_33 : decode cX9_isOf 33 = .ok (.iconst 0, 1) := dk_3 (dk_at dksX9_isOf_1 9 rfl rfl)
theorem dX9_isOf_34 : decode cX9_isOf 34 = .ok (.ireturn, 1) := dk_172 (dk_at dksX9_isOf_1 10 rfl rfl)
abbrev cX9_ask : ByteArray := prog_16_method_84_code
def yX9_ask : MethodName := ⟨RX9, "ask", "(II)I"⟩
def dkwX9_ask_2 : List UInt8 := [182, 1, 19, 172]
abbrev dktX9_ask_2 : List UInt8 := dkwX9_ask_2 ++ []
def dkwX9_ask_1 : List UInt8 := [18, 68, 172, 42, 3, 181, 1, 7, 28, 154, 0, 11, 42, 27, 182, 1, 22, 167, 0, 8, 42, 27]
abbrev dktX9_ask_1 : List UInt8 := dkwX9_ask_1 ++ dktX9_ask_2
def dkwX9_ask_0 : List UInt8 := [42, 3, 181, 0, 48, 42, 27, 182, 0, 207, 153, 0, 13, 28, 133, 9, 10, 184, 0, 58, 154, 0, 6]
abbrev dktX9_ask_0 : List UInt8 := dkwX9_ask_0 ++ dktX9_ask_1
theorem dksX9_ask_0 : cX9_ask.data.toList.drop 0 = dktX9_ask_0 := by decide +kernel
theorem dksX9_ask_1 : cX9_ask.data.toList.drop 23 = dktX9_ask_1 := dk_seg dksX9_ask_0 23 rfl rfl
theorem dksX9_ask_2 : cX9_ask.data.toList.drop 45 = dktX9_ask_2 := dk_seg dksX9_ask_1 22 rfl rfl
theorem dX9_ask_0 : decode cX9_ask 0 = .ok (.aload_n 0, 1) := dk_42 (dk_at dksX9_ask_0 0 rfl rfl)
theorem dX9_ask_1 : decode cX9_ask 1 = .ok (.iconst 0, 1) := dk_3 (dk_at dksX9_ask_0 1 rfl rfl)
theorem dX9_ask_2 : decode cX9_ask 2 = .ok (.putfield 48, 3) := dk_181 0 48 (dk_at dksX9_ask_0 2 rfl rfl)
theorem dX9_ask_5 : decode cX9_ask 5 = .ok (.aload_n 0, 1) := dk_42 (dk_at dksX9_ask_0 5 rfl rfl)
theorem dX9_ask_6 : decode cX9_ask 6 = .ok (.iload_n 1, 1) := dk_27 (dk_at dksX9_ask_0 6 rfl rfl)
theorem dX9_ask_7 : decode cX9_ask 7 = .ok (.invokevirtual 207, 3) := dk_182 0 207 (dk_at dksX9_ask_0 7 rfl rfl)
theorem dX9_ask_10 : decode cX9_ask 10 = .ok (.ifCond .eq 13, 3) := dk_153 0 13 (dk_at dksX9_ask_0 10 rfl rfl)
theorem dX9_ask_13 : decode cX9_ask 13 = .ok (.iload_n 2, 1) := dk_28 (dk_at dksX9_ask_0 13 rfl rfl)
theorem dX9_ask_14 : decode cX9_ask 14 = .ok (.i2l, 1) := dk_133 (dk_at dksX9_ask_0 14 rfl rfl)
theorem dX9_ask_15 : decode cX9_ask 15 = .ok (.lconst 0, 1) := dk_9 (dk_at dksX9_ask_0 15 rfl rfl)
theorem dX9_ask_16 : decode cX9_ask 16 = .ok (.lconst 1, 1) := dk_10 (dk_at dksX9_ask_0 16 rfl rfl)
theorem dX9_ask_17 : decode cX9_ask 17 = .ok (.invokestatic 58, 3) := dk_184 0 58 (dk_at dksX9_ask_0 17 rfl rfl)
theorem dX9_ask_20 : decode cX9_ask 20 = .ok (.ifCond .ne 6, 3) := dk_154 0 6 (dk_at dksX9_ask_0 20 rfl rfl)
theorem dX9_ask_23 : decode cX9_ask 23 = .ok (.ldc 68, 2) := dk_18 68 (dk_at dksX9_ask_1 0 rfl rfl)
theorem dX9_ask_25 : decode cX9_ask 25 = .ok (.ireturn, 1) := dk_172 (dk_at dksX9_ask_1 2 rfl rfl)
theorem dX9_ask_26 : decode cX9_ask 26 = .ok (.aload_n 0, 1) := dk_42 (dk_at dksX9_ask_1 3 rfl rfl)
theorem dX9_ask_27 : decode cX9_ask 27 = .ok (.iconst 0, 1) := dk_3 (dk_at dksX9_ask_1 4 rfl rfl)
theorem dX9_ask_28 : decode cX9_ask 28 = .ok (.putfield 263, 3) := dk_181 1 7 (dk_at dksX9_ask_1 5 rfl rfl)
theorem dX9_ask_31 : decode cX9_ask 31 = .ok (.iload_n 2, 1) := dk_28 (dk_at dksX9_ask_1 8 rfl rfl)
theorem dX9_ask_32 : decode cX9_ask 32 = .ok (.ifCond .ne 11, 3) := dk_154 0 11 (dk_at dksX9_ask_1 9 rfl rfl)
theorem dX9_ask_35 : decode cX9_ask 35 = .ok (.aload_n 0, 1) := dk_42 (dk_at dksX9_ask_1 12 rfl rfl)
theorem dX9_ask_36 : decode cX9_ask 36 = .ok (.iload_n 1, 1) := dk_27 (dk_at dksX9_ask_1 13 rfl rfl)
theorem dX9_ask_37 : decode cX9_ask 37 = .ok (.invokevirtual 278, 3) := dk_182 1 22 (dk_at dksX9_ask_1 14 rfl rfl)
theorem dX9_ask_40 : decode cX9_ask 40 = .ok (.goto 8, 3) := dk_167 0 8 (dk_at dksX9_ask_1 17 rfl rfl)
theorem dX9_ask_43 : decode cX9_ask 43 = .ok (.aload_n 0, 1) := dk_42 (dk_at dksX9_ask_1 20 rfl rfl)
theorem dX9_ask_44 : decode cX9_ask 44 = .ok (.iload_n 1, 1) := dk_27 (dk_at dksX9_ask_1 21 rfl rfl)
theorem dX9_ask_45 : decode cX9_ask 45 = .ok (.invokevirtual 275, 3) := dk_182 1 19 (dk_at dksX9_ask_2 0 rfl rfl)
theorem dX9_ask_48 : decode cX9_ask 48 = .ok (.ireturn, 1) := dk_172 (dk_at dksX9_ask_2 3 rfl rfl)
abbrev cX9_sizeOf : ByteArray := prog_16_method_83_code
def yX9_sizeOf : MethodName := ⟨RX9, "sizeOf", "(I)I"⟩
def dkwX9_sizeOf_2 : List UInt8 := [182, 1, 19, 96, 62, 28, 5, 160, 0, 8, 29, 116, 167, 0, 4, 29, 172]
abbrev dktX9_sizeOf_2 : List UInt8 := dkwX9_sizeOf_2 ++ []
def dkwX9_sizeOf_1 : List UInt8 := [160, 0, 9, 42, 16, 12, 182, 1, 10, 42, 16, 11, 182, 1, 10, 42, 27, 182, 1, 13, 62, 29, 42, 27]
abbrev dktX9_sizeOf_1 : List UInt8 := dkwX9_sizeOf_1 ++ dktX9_sizeOf_2
def dkwX9_sizeOf_0 : List UInt8 := [42, 180, 0, 19, 27, 3, 184, 0, 157, 61, 28, 7, 161, 0, 9, 42, 27, 182, 1, 16, 172, 28, 5]
abbrev dktX9_sizeOf_0 : List UInt8 := dkwX9_sizeOf_0 ++ dktX9_sizeOf_1
theorem dksX9_sizeOf_0 : cX9_sizeOf.data.toList.drop 0 = dktX9_sizeOf_0 := by decide +kernel
theorem dksX9_sizeOf_1 : cX9_sizeOf.data.toList.drop 23 = dktX9_sizeOf_1 := dk_seg dksX9_sizeOf_0 23 rfl rfl
theorem dksX9_sizeOf_2 : cX9_sizeOf.data.toList.drop 47 = dktX9_sizeOf_2 := dk_seg dksX9_sizeOf_1 24 rfl rfl
theorem dX9_sizeOf_0 : decode cX9_sizeOf 0 = .ok (.aload_n 0, 1) := dk_42 (dk_at dksX9_sizeOf_0 0 rfl rfl)
theorem dX9_sizeOf_1 : decode cX9_sizeOf 1 = .ok (.getfield 19, 3) := dk_180 0 19 (dk_at dksX9_sizeOf_0 1 rfl rfl)
theorem dX9_sizeOf_4 : decode cX9_sizeOf 4 = .ok (.iload_n 1, 1) := dk_27 (dk_at dksX9_sizeOf_0 4 rfl rfl)
theorem dX9_sizeOf_5 : decode cX9_sizeOf 5 = .ok (.iconst 0, 1) := dk_3 (dk_at dksX9_sizeOf_0 5 rfl rfl)
theorem dX9_sizeOf_6 : decode cX9_sizeOf 6 = .ok (.invokestatic 157, 3) := dk_184 0 157 (dk_at dksX9_sizeOf_0 6 rfl rfl)
theorem dX9_sizeOf_9 : decode cX9_sizeOf 9 = .ok (.istore_n 2, 1) := dk_61 (dk_at dksX9_sizeOf_0 9 rfl rfl)
theorem dX9_sizeOf_10 : decode cX9_sizeOf 10 = .ok (.iload_n 2, 1) := dk_28 (dk_at dksX9_sizeOf_0 10 rfl rfl)
theorem dX9_sizeOf_11 : decode cX9_sizeOf 11 = .ok (.iconst 4, 1) := dk_7 (dk_at dksX9_sizeOf_0 11 rfl rfl)
theorem dX9_sizeOf_12 : decode cX9_sizeOf 12 = .ok (.if_icmp .lt 9, 3) := dk_161 0 9 (dk_at dksX9_sizeOf_0 12 rfl rfl)
theorem dX9_sizeOf_15 : decode cX9_sizeOf 15 = .ok (.aload_n 0, 1) := dk_42 (dk_at dksX9_sizeOf_0 15 rfl rfl)
theorem dX9_sizeOf_16 : decode cX9_sizeOf 16 = .ok (.iload_n 1, 1) := dk_27 (dk_at dksX9_sizeOf_0 16 rfl rfl)
theorem dX9_sizeOf_17 : decode cX9_sizeOf 17 = .ok (.invokevirtual 272, 3) := dk_182 1 16 (dk_at dksX9_sizeOf_0 17 rfl rfl)
theorem dX9_sizeOf_20 : decode cX9_sizeOf 20 = .ok (.ireturn, 1) := dk_172 (dk_at dksX9_sizeOf_0 20 rfl rfl)
theorem dX9_sizeOf_21 : decode cX9_sizeOf 21 = .ok (.iload_n 2, 1) := dk_28 (dk_at dksX9_sizeOf_0 21 rfl rfl)
theorem dX9_sizeOf_22 : decode cX9_sizeOf 22 = .ok (.iconst 2, 1) := dk_5 (dk_at dksX9_sizeOf_0 22 rfl rfl)
theorem dX9_sizeOf_23 : decode cX9_sizeOf 23 = .ok (.if_icmp .ne 9, 3) := dk_160 0 9 (dk_at dksX9_sizeOf_1 0 rfl rfl)
theorem dX9_sizeOf_26 : decode cX9_sizeOf 26 = .ok (.aload_n 0, 1) := dk_42 (dk_at dksX9_sizeOf_1 3 rfl rfl)
theorem dX9_sizeOf_27 : decode cX9_sizeOf 27 = .ok (.bipush 12, 2) := dk_16 12 (dk_at dksX9_sizeOf_1 4 rfl rfl)
theorem dX9_sizeOf_29 : decode cX9_sizeOf 29 = .ok (.invokevirtual 266, 3) := dk_182 1 10 (dk_at dksX9_sizeOf_1 6 rfl rfl)
theorem dX9_sizeOf_32 : decode cX9_sizeOf 32 = .ok (.aload_n 0, 1) := dk_42 (dk_at dksX9_sizeOf_1 9 rfl rfl)
theorem dX9_sizeOf_33 : decode cX9_sizeOf 33 = .ok (.bipush 11, 2) := dk_16 11 (dk_at dksX9_sizeOf_1 10 rfl rfl)
theorem dX9_sizeOf_35 : decode cX9_sizeOf 35 = .ok (.invokevirtual 266, 3) := dk_182 1 10 (dk_at dksX9_sizeOf_1 12 rfl rfl)
theorem dX9_sizeOf_38 : decode cX9_sizeOf 38 = .ok (.aload_n 0, 1) := dk_42 (dk_at dksX9_sizeOf_1 15 rfl rfl)
theorem dX9_sizeOf_39 : decode cX9_sizeOf 39 = .ok (.iload_n 1, 1) := dk_27 (dk_at dksX9_sizeOf_1 16 rfl rfl)
theorem dX9_sizeOf_40 : decode cX9_sizeOf 40 = .ok (.invokevirtual 269, 3) := dk_182 1 13 (dk_at dksX9_sizeOf_1 17 rfl rfl)
theorem dX9_sizeOf_43 : decode cX9_sizeOf 43 = .ok (.istore_n 3, 1) := dk_62 (dk_at dksX9_sizeOf_1 20 rfl rfl)
theorem dX9_sizeOf_44 : decode cX9_sizeOf 44 = .ok (.iload_n 3, 1) := dk_29 (dk_at dksX9_sizeOf_1 21 rfl rfl)
theorem dX9_sizeOf_45 : decode cX9_sizeOf 45 = .ok (.aload_n 0, 1) := dk_42 (dk_at dksX9_sizeOf_1 22 rfl rfl)
theorem dX9_sizeOf_46 : decode cX9_sizeOf 46 = .ok (.iload_n 1, 1) := dk_27 (dk_at dksX9_sizeOf_1 23 rfl rfl)
theorem dX9_sizeOf_47 : decode cX9_sizeOf 47 = .ok (.invokevirtual 275, 3) := dk_182 1 19 (dk_at dksX9_sizeOf_2 0 rfl rfl)
theorem dX9_sizeOf_50 : decode cX9_sizeOf 50 = .ok (.iadd, 1) := dk_96 (dk_at dksX9_sizeOf_2 3 rfl rfl)
theorem dX9_sizeOf_51 : decode cX9_sizeOf 51 = .ok (.istore_n 3, 1) := dk_62 (dk_at dksX9_sizeOf_2 4 rfl rfl)
theorem dX9_sizeOf_52 : decode cX9_sizeOf 52 = .ok (.iload_n 2, 1) := dk_28 (dk_at dksX9_sizeOf_2 5 rfl rfl)
theorem dX9_sizeOf_53 : decode cX9_sizeOf 53 = .ok (.iconst 2, 1) := dk_5 (dk_at dksX9_sizeOf_2 6 rfl rfl)
theorem dX9_sizeOf_54 : decode cX9_sizeOf 54 = .ok (.if_icmp .ne 8, 3) := dk_160 0 8 (dk_at dksX9_sizeOf_2 7 rfl rfl)
theorem dX9_sizeOf_57 : decode cX9_sizeOf 57 = .ok (.iload_n 3, 1) := dk_29 (dk_at dksX9_sizeOf_2 10 rfl rfl)
theorem dX9_sizeOf_58 : decode cX9_sizeOf 58 = .ok (.ineg, 1) := dk_116 (dk_at dksX9_sizeOf_2 11 rfl rfl)
theorem dX9_sizeOf_59 : decode cX9_sizeOf 59 = .ok (.goto 4, 3) := dk_167 0 4 (dk_at dksX9_sizeOf_2 12 rfl rfl)
theorem dX9_sizeOf_62 : decode cX9_sizeOf 62 = .ok (.iload_n 3, 1) := dk_29 (dk_at dksX9_sizeOf_2 15 rfl rfl)
theorem dX9_sizeOf_63 : decode cX9_sizeOf 63 = .ok (.ireturn, 1) := dk_172 (dk_at dksX9_sizeOf_2 16 rfl rfl)
abbrev cX9_unknownSize : ByteArray := prog_16_method_81_code
def yX9_unknownSize : MethodName := ⟨RX9, "unknownSize", "(I)I"⟩
def dkwX9_unknownSize_2 : List UInt8 := [5, 29, 104, 167, 0, 4, 29, 172]
abbrev dktX9_unknownSize_2 : List UInt8 := dkwX9_unknownSize_2 ++ []
def dkwX9_unknownSize_1 : List UInt8 := [16, 14, 182, 1, 10, 42, 16, 13, 182, 1, 10, 42, 27, 182, 1, 13, 16, 100, 100, 62, 28, 153, 0, 9]
abbrev dktX9_unknownSize_1 : List UInt8 := dkwX9_unknownSize_1 ++ dktX9_unknownSize_2
def dkwX9_unknownSize_0 : List UInt8 := [42, 180, 0, 19, 27, 3, 184, 0, 157, 8, 160, 0, 7, 4, 167, 0, 4, 3, 61, 28, 153, 0, 9, 42]
abbrev dktX9_unknownSize_0 : List UInt8 := dkwX9_unknownSize_0 ++ dktX9_unknownSize_1
theorem dksX9_unknownSize_0 : cX9_unknownSize.data.toList.drop 0 = dktX9_unknownSize_0 := by decide +kernel
theorem dksX9_unknownSize_1 : cX9_unknownSize.data.toList.drop 24 = dktX9_unknownSize_1 := dk_seg dksX9_unknownSize_0 24 rfl rfl
theorem dksX9_unknownSize_2 : cX9_unknownSize.data.toList.drop 48 = dktX9_unknownSize_2 := dk_seg dksX9_unknownSize_1 24 rfl rfl
theorem dX9_unknownSize_0 : decode cX9_unknownSize 0 = .ok (.aload_n 0, 1) := dk_42 (dk_at dksX9_unknownSize_0 0 rfl rfl)
theorem dX9_unknownSize_1 : decode cX9_unknownSize 1 = .ok (.getfield 19, 3) := dk_180 0 19 (dk_at dksX9_unknownSize_0 1 rfl rfl)
theorem dX9_unknownSize_4 : decode cX9_unknownSize 4 = .ok (.iload_n 1, 1) := dk_27 (dk_at dksX9_unknownSize_0 4 rfl rfl)
theorem dX9_unknownSize_5 : decode cX9_unknownSize 5 = .ok (.iconst 0, 1) := dk_3 (dk_at dksX9_unknownSize_0 5 rfl rfl)
theorem dX9_unknownSize_6 : decode cX9_unknownSize 6 = .ok (.invokestatic 157, 3) := dk_184 0 157 (dk_at dksX9_unknownSize_0 6 rfl rfl)
theorem dX9_unknownSize_9 : decode cX9_unknownSize 9 = .ok (.iconst 5, 1) := dk_8 (dk_at dksX9_unknownSize_0 9 rfl rfl)
theorem dX9_unknownSize_10 : decode cX9_unknownSize 10 = .ok (.if_icmp .ne 7, 3) := dk_160 0 7 (dk_at dksX9_unknownSize_0 10 rfl rfl)
theorem dX9_unknownSize_13 : decode cX9_unknownSize 13 = .ok (.iconst 1, 1) := dk_4 (dk_at dksX9_unknownSize_0 13 rfl rfl)
theorem dX9_unknownSize_14 : decode cX9_unknownSize 14 = .ok (.goto 4, 3) := dk_167 0 4 (dk_at dksX9_unknownSize_0 14 rfl rfl)
theorem dX9_unknownSize_17 : decode cX9_unknownSize 17 = .ok (.iconst 0, 1) := dk_3 (dk_at dksX9_unknownSize_0 17 rfl rfl)
theorem dX9_unknownSize_18 : decode cX9_unknownSize 18 = .ok (.istore_n 2, 1) := dk_61 (dk_at dksX9_unknownSize_0 18 rfl rfl)
theorem dX9_unknownSize_19 : decode cX9_unknownSize 19 = .ok (.iload_n 2, 1) := dk_28 (dk_at dksX9_unknownSize_0 19 rfl rfl)
theorem dX9_unknownSize_20 : decode cX9_unknownSize 20 = .ok (.ifCond .eq 9, 3) := dk_153 0 9 (dk_at dksX9_unknownSize_0 20 rfl rfl)
theorem dX9_unknownSize_23 : decode cX9_unknownSize 23 = .ok (.aload_n 0, 1) := dk_42 (dk_at dksX9_unknownSize_0 23 rfl rfl)
theorem dX9_unknownSize_24 : decode cX9_unknownSize 24 = .ok (.bipush 14, 2) := dk_16 14 (dk_at dksX9_unknownSize_1 0 rfl rfl)
theorem dX9_unknownSize_26 : decode cX9_unknownSize 26 = .ok (.invokevirtual 266, 3) := dk_182 1 10 (dk_at dksX9_unknownSize_1 2 rfl rfl)
theorem dX9_unknownSize_29 : decode cX9_unknownSize 29 = .ok (.aload_n 0, 1) := dk_42 (dk_at dksX9_unknownSize_1 5 rfl rfl)
theorem dX9_unknownSize_30 : decode cX9_unknownSize 30 = .ok (.bipush 13, 2) := dk_16 13 (dk_at dksX9_unknownSize_1 6 rfl rfl)
theorem dX9_unknownSize_32 : decode cX9_unknownSize 32 = .ok (.invokevirtual 266, 3) := dk_182 1 10 (dk_at dksX9_unknownSize_1 8 rfl rfl)
theorem dX9_unknownSize_35 : decode cX9_unknownSize 35 = .ok (.aload_n 0, 1) := dk_42 (dk_at dksX9_unknownSize_1 11 rfl rfl)
theorem dX9_unknownSize_36 : decode cX9_unknownSize 36 = .ok (.iload_n 1, 1) := dk_27 (dk_at dksX9_unknownSize_1 12 rfl rfl)
theorem dX9_unknownSize_37 : decode cX9_unknownSize 37 = .ok (.invokevirtual 269, 3) := dk_182 1 13 (dk_at dksX9_unknownSize_1 13 rfl rfl)
theorem dX9_unknownSize_40 : decode cX9_unknownSize 40 = .ok (.bipush 100, 2) := dk_16 100 (dk_at dksX9_unknownSize_1 16 rfl rfl)
theorem dX9_unknownSize_42 : decode cX9_unknownSize 42 = .ok (.isub, 1) := dk_100 (dk_at dksX9_unknownSize_1 18 rfl rfl)
theorem dX9_unknownSize_43 : decode cX9_unknownSize 43 = .ok (.istore_n 3, 1) := dk_62 (dk_at dksX9_unknownSize_1 19 rfl rfl)
theorem dX9_unknownSize_44 : decode cX9_unknownSize 44 = .ok (.iload_n 2, 1) := dk_28 (dk_at dksX9_unknownSize_1 20 rfl rfl)
theorem dX9_unknownSize_45 : decode cX9_unknownSize 45 = .ok (.ifCond .eq 9, 3) := dk_153 0 9 (dk_at dksX9_unknownSize_1 21 rfl rfl)
theorem dX9_unknownSize_48 : decode cX9_unknownSize 48 = .ok (.iconst 2, 1) := dk_5 (dk_at dksX9_unknownSize_2 0 rfl rfl)
theorem dX9_unknownSize_49 : decode cX9_unknownSize 49 = .ok (.iload_n 3, 1) := dk_29 (dk_at dksX9_unknownSize_2 1 rfl rfl)
theorem dX9_unknownSize_50 : decode cX9_unknownSize 50 = .ok (.imul, 1) := dk_104 (dk_at dksX9_unknownSize_2 2 rfl rfl)
theorem dX9_unknownSize_51 : decode cX9_unknownSize 51 = .ok (.goto 4, 3) := dk_167 0 4 (dk_at dksX9_unknownSize_2 3 rfl rfl)
theorem dX9_unknownSize_54 : decode cX9_unknownSize 54 = .ok (.iload_n 3, 1) := dk_29 (dk_at dksX9_unknownSize_2 6 rfl rfl)
theorem dX9_unknownSize_55 : decode cX9_unknownSize 55 = .ok (.ireturn, 1) := dk_172 (dk_at dksX9_unknownSize_2 7 rfl rfl)
abbrev cX9_began : ByteArray := prog_16_method_79_code
def yX9_began : MethodName := ⟨RX9, "began", "(I)V"⟩
def dkwX9_began_1 : List UInt8 := [4, 96, 181, 1, 7, 177]
abbrev dktX9_began_1 : List UInt8 := dkwX9_began_1 ++ []
def dkwX9_began_0 : List UInt8 := [42, 180, 1, 7, 16, 16, 162, 0, 23, 42, 180, 0, 45, 42, 180, 1, 7, 27, 79, 42, 89, 180, 1, 7]
abbrev dktX9_began_0 : List UInt8 := dkwX9_began_0 ++ dktX9_began_1
theorem dksX9_began_0 : cX9_began.data.toList.drop 0 = dktX9_began_0 := by decide +kernel
theorem dksX9_began_1 : cX9_began.data.toList.drop 24 = dktX9_began_1 := dk_seg dksX9_began_0 24 rfl rfl
theorem dX9_began_0 : decode cX9_began 0 = .ok (.aload_n 0, 1) := dk_42 (dk_at dksX9_began_0 0 rfl rfl)
theorem dX9_began_1 : decode cX9_began 1 = .ok (.getfield 263, 3) := dk_180 1 7 (dk_at dksX9_began_0 1 rfl rfl)
theorem dX9_began_4 : decode cX9_began 4 = .ok (.bipush 16, 2) := dk_16 16 (dk_at dksX9_began_0 4 rfl rfl)
theorem dX9_began_6 : decode cX9_began 6 = .ok (.if_icmp .ge 23, 3) := dk_162 0 23 (dk_at dksX9_began_0 6 rfl rfl)
theorem dX9_began_9 : decode cX9_began 9 = .ok (.aload_n 0, 1) := dk_42 (dk_at dksX9_began_0 9 rfl rfl)
theorem dX9_began_10 : decode cX9_began 10 = .ok (.getfield 45, 3) := dk_180 0 45 (dk_at dksX9_began_0 10 rfl rfl)
theorem dX9_began_13 : decode cX9_began 13 = .ok (.aload_n 0, 1) := dk_42 (dk_at dksX9_began_0 13 rfl rfl)
theorem dX9_began_14 : decode cX9_began 14 = .ok (.getfield 263, 3) := dk_180 1 7 (dk_at dksX9_began_0 14 rfl rfl)
theorem dX9_began_17 : decode cX9_began 17 = .ok (.iload_n 1, 1) := dk_27 (dk_at dksX9_began_0 17 rfl rfl)
theorem dX9_began_18 : decode cX9_began 18 = .ok (.iastore, 1) := dk_79 (dk_at dksX9_began_0 18 rfl rfl)
theorem dX9_began_19 : decode cX9_began 19 = .ok (.aload_n 0, 1) := dk_42 (dk_at dksX9_began_0 19 rfl rfl)
theorem dX9_began_20 : decode cX9_began 20 = .ok (.dup, 1) := dk_89 (dk_at dksX9_began_0 20 rfl rfl)
theorem dX9_began_21 : decode cX9_began 21 = .ok (.getfield 263, 3) := dk_180 1 7 (dk_at dksX9_began_0 21 rfl rfl)
theorem dX9_began_24 : decode cX9_began 24 = .ok (.iconst 1, 1) := dk_4 (dk_at dksX9_began_1 0 rfl rfl)
theorem dX9_began_25 : decode cX9_began 25 = .ok (.iadd, 1) := dk_96 (dk_at dksX9_began_1 1 rfl rfl)
theorem dX9_began_26 : decode cX9_began 26 = .ok (.putfield 263, 3) := dk_181 1 7 (dk_at dksX9_began_1 2 rfl rfl)
theorem dX9_began_29 : decode cX9_began 29 = .ok (.return_, 1) := dk_177 (dk_at dksX9_began_1 5 rfl rfl)
abbrev cX9_plainSize : ByteArray := prog_16_method_80_code
def yX9_plainSize : MethodName := ⟨RX9, "plainSize", "(I)I"⟩
def dkwX9_plainSize_0 : List UInt8 := [42, 16, 10, 182, 1, 10, 42, 180, 0, 19, 27, 4, 184, 0, 157, 172]
abbrev dktX9_plainSize_0 : List UInt8 := dkwX9_plainSize_0 ++ []
theorem dksX9_plainSize_0 : cX9_plainSize.data.toList.drop 0 = dktX9_plainSize_0 := by decide +kernel
theorem dX9_plainSize_0 : decode cX9_plainSize 0 = .ok (.aload_n 0, 1) := dk_42 (dk_at dksX9_plainSize_0 0 rfl rfl)
theorem dX9_plainSize_1 : decode cX9_plainSize 1 = .ok (.bipush 10, 2) := dk_16 10 (dk_at dksX9_plainSize_0 1 rfl rfl)
theorem dX9_plainSize_3 : decode cX9_plainSize 3 = .ok (.invokevirtual 266, 3) := dk_182 1 10 (dk_at dksX9_plainSize_0 3 rfl rfl)
theorem dX9_plainSize_6 : decode cX9_plainSize 6 = .ok (.aload_n 0, 1) := dk_42 (dk_at dksX9_plainSize_0 6 rfl rfl)
theorem dX9_plainSize_7 : decode cX9_plainSize 7 = .ok (.getfield 19, 3) := dk_180 0 19 (dk_at dksX9_plainSize_0 7 rfl rfl)
theorem dX9_plainSize_10 : decode cX9_plainSize 10 = .ok (.iload_n 1, 1) := dk_27 (dk_at dksX9_plainSize_0 10 rfl rfl)
theorem dX9_plainSize_11 : decode cX9_plainSize 11 = .ok (.iconst 1, 1) := dk_4 (dk_at dksX9_plainSize_0 11 rfl rfl)
theorem dX9_plainSize_12 : decode cX9_plainSize 12 = .ok (.invokestatic 157, 3) := dk_184 0 157 (dk_at dksX9_plainSize_0 12 rfl rfl)
theorem dX9_plainSize_15 : decode cX9_plainSize 15 = .ok (.ireturn, 1) := dk_172 (dk_at dksX9_plainSize_0 15 rfl rfl)
abbrev cX9_markOf : ByteArray := prog_16_method_82_code
def yX9_markOf : MethodName := ⟨RX9, "markOf", "(I)I"⟩
def dkwX9_markOf_5 : List UInt8 := [167, 0, 19, 28, 6, 160, 0, 11, 29, 17, 3, 232, 100, 167, 0, 6, 5, 29, 104, 172]
abbrev dktX9_markOf_5 : List UInt8 := dkwX9_markOf_5 ++ []
def dkwX9_markOf_4 : List UInt8 := [153, 0, 7, 4, 167, 0, 4, 3, 96, 62, 132, 4, 1, 167, 255, 221, 28, 4, 160, 0, 7, 29]
abbrev dktX9_markOf_4 : List UInt8 := dkwX9_markOf_4 ++ dktX9_markOf_5
def dkwX9_markOf_3 : List UInt8 := [54, 4, 21, 4, 42, 180, 0, 19, 6, 46, 162, 0, 30, 29, 42, 180, 0, 19, 21, 4, 27, 184, 0, 172]
abbrev dktX9_markOf_3 : List UInt8 := dkwX9_markOf_3 ++ dktX9_markOf_4
def dkwX9_markOf_2 : List UInt8 := [167, 0, 5, 16, 24, 182, 1, 10, 42, 16, 21, 182, 1, 10, 42, 16, 20, 182, 1, 10, 27, 62, 3]
abbrev dktX9_markOf_2 : List UInt8 := dkwX9_markOf_2 ++ dktX9_markOf_3
def dkwX9_markOf_1 : List UInt8 := [182, 1, 10, 27, 42, 27, 182, 1, 16, 100, 172, 28, 4, 159, 0, 19, 42, 28, 6, 160, 0, 8, 16, 22]
abbrev dktX9_markOf_1 : List UInt8 := dkwX9_markOf_1 ++ dktX9_markOf_2
def dkwX9_markOf_0 : List UInt8 := [42, 180, 0, 19, 27, 3, 184, 0, 157, 61, 28, 7, 161, 0, 23, 42, 16, 23, 182, 1, 10, 42, 16, 20]
abbrev dktX9_markOf_0 : List UInt8 := dkwX9_markOf_0 ++ dktX9_markOf_1
theorem dksX9_markOf_0 : cX9_markOf.data.toList.drop 0 = dktX9_markOf_0 := by decide +kernel
theorem dksX9_markOf_1 : cX9_markOf.data.toList.drop 24 = dktX9_markOf_1 := dk_seg dksX9_markOf_0 24 rfl rfl
theorem dksX9_markOf_2 : cX9_markOf.data.toList.drop 48 = dktX9_markOf_2 := dk_seg dksX9_markOf_1 24 rfl rfl
theorem dksX9_markOf_3 : cX9_markOf.data.toList.drop 71 = dktX9_markOf_3 := dk_seg dksX9_markOf_2 23 rfl rfl
theorem dksX9_markOf_4 : cX9_markOf.data.toList.drop 95 = dktX9_markOf_4 := dk_seg dksX9_markOf_3 24 rfl rfl
theorem dksX9_markOf_5 : cX9_markOf.data.toList.drop 117 = dktX9_markOf_5 := dk_seg dksX9_markOf_4 22 rfl rfl
theorem dX9_markOf_0 : decode cX9_markOf 0 = .ok (.aload_n 0, 1) := dk_42 (dk_at dksX9_markOf_0 0 rfl rfl)
theorem dX9_markOf_1 : decode cX9_markOf 1 = .ok (.getfield 19, 3) := dk_180 0 19 (dk_at dksX9_markOf_0 1 rfl rfl)
theorem dX9_markOf_4 : decode cX9_markOf 4 = .ok (.iload_n 1, 1) := dk_27 (dk_at dksX9_markOf_0 4 rfl rfl)
theorem dX9_markOf_5 : decode cX9_markOf 5 = .ok (.iconst 0, 1) := dk_3 (dk_at dksX9_markOf_0 5 rfl rfl)
theorem dX9_markOf_6 : decode cX9_markOf 6 = .ok (.invokestatic 157, 3) := dk_184 0 157 (dk_at dksX9_markOf_0 6 rfl rfl)
theorem dX9_markOf_9 : decode cX9_markOf 9 = .ok (.istore_n 2, 1) := dk_61 (dk_at dksX9_markOf_0 9 rfl rfl)
theorem dX9_markOf_10 : decode cX9_markOf 10 = .ok (.iload_n 2, 1) := dk_28 (dk_at dksX9_markOf_0 10 rfl rfl)
theorem dX9_markOf_11 : decode cX9_markOf 11 = .ok (.iconst 4, 1) := dk_7 (dk_at dksX9_markOf_0 11 rfl rfl)
theorem dX9_markOf_12 : decode cX9_markOf 12 = .ok (.if_icmp .lt 23, 3) := dk_161 0 23 (dk_at dksX9_markOf_0 12 rfl rfl)
theorem dX9_markOf_15 : decode cX9_markOf 15 = .ok (.aload_n 0, 1) := dk_42 (dk_at dksX9_markOf_0 15 rfl rfl)
theorem dX9_markOf_16 : decode cX9_markOf 16 = .ok (.bipush 23, 2) := dk_16 23 (dk_at dksX9_markOf_0 16 rfl rfl)
theorem dX9_markOf_18 : decode cX9_markOf 18 = .ok (.invokevirtual 266, 3) := dk_182 1 10 (dk_at dksX9_markOf_0 18 rfl rfl)
theorem dX9_markOf_21 : decode cX9_markOf 21 = .ok (.aload_n 0, 1) := dk_42 (dk_at dksX9_markOf_0 21 rfl rfl)
theorem dX9_markOf_22 : decode cX9_markOf 22 = .ok (.bipush 20, 2) := dk_16 20 (dk_at dksX9_markOf_0 22 rfl rfl)
theorem dX9_markOf_24 : decode cX9_markOf 24 = .ok (.invokevirtual 266, 3) := dk_182 1 10 (dk_at dksX9_markOf_1 0 rfl rfl)
theorem dX9_markOf_27 : decode cX9_markOf 27 = .ok (.iload_n 1, 1) := dk_27 (dk_at dksX9_markOf_1 3 rfl rfl)
theorem dX9_markOf_28 : decode cX9_markOf 28 = .ok (.aload_n 0, 1) := dk_42 (dk_at dksX9_markOf_1 4 rfl rfl)
theorem dX9_markOf_29 : decode cX9_markOf 29 = .ok (.iload_n 1, 1) := dk_27 (dk_at dksX9_markOf_1 5 rfl rfl)
theorem dX9_markOf_30 : decode cX9_markOf 30 = .ok (.invokevirtual 272, 3) := dk_182 1 16 (dk_at dksX9_markOf_1 6 rfl rfl)
theorem dX9_markOf_33 : decode cX9_markOf 33 = .ok (.isub, 1) := dk_100 (dk_at dksX9_markOf_1 9 rfl rfl)
theorem dX9_markOf_34 : decode cX9_markOf 34 = .ok (.ireturn, 1) := dk_172 (dk_at dksX9_markOf_1 10 rfl rfl)
theorem dX9_markOf_35 : decode cX9_markOf 35 = .ok (.iload_n 2, 1) := dk_28 (dk_at dksX9_markOf_1 11 rfl rfl)
theorem dX9_markOf_36 : decode cX9_markOf 36 = .ok (.iconst 1, 1) := dk_4 (dk_at dksX9_markOf_1 12 rfl rfl)
theorem dX9_markOf_37 : decode cX9_markOf 37 = .ok (.if_icmp .eq 19, 3) := dk_159 0 19 (dk_at dksX9_markOf_1 13 rfl rfl)
theorem dX9_markOf_40 : decode cX9_markOf 40 = .ok (.aload_n 0, 1) := dk_42 (dk_at dksX9_markOf_1 16 rfl rfl)
theorem dX9_markOf_41 : decode cX9_markOf 41 = .ok (.iload_n 2, 1) := dk_28 (dk_at dksX9_markOf_1 17 rfl rfl)
theorem dX9_markOf_42 : decode cX9_markOf 42 = .ok (.iconst 3, 1) := dk_6 (dk_at dksX9_markOf_1 18 rfl rfl)
theorem dX9_markOf_43 : decode cX9_markOf 43 = .ok (.if_icmp .ne 8, 3) := dk_160 0 8 (dk_at dksX9_markOf_1 19 rfl rfl)
theorem dX9_markOf_46 : decode cX9_markOf 46 = .ok (.bipush 22, 2) := dk_16 22 (dk_at dksX9_markOf_1 22 rfl rfl)
theorem dX9_markOf_48 : decode cX9_markOf 48 = .ok (.goto 5, 3) := dk_167 0 5 (dk_at dksX9_markOf_2 0 rfl rfl)
theorem dX9_markOf_51 : decode cX9_markOf 51 = .ok (.bipush 24, 2) := dk_16 24 (dk_at dksX9_markOf_2 3 rfl rfl)
theorem dX9_markOf_53 : decode cX9_markOf 53 = .ok (.invokevirtual 266, 3) := dk_182 1 10 (dk_at dksX9_markOf_2 5 rfl rfl)
theorem dX9_markOf_56 : decode cX9_markOf 56 = .ok (.aload_n 0, 1) := dk_42 (dk_at dksX9_markOf_2 8 rfl rfl)
theorem dX9_markOf_57 : decode cX9_markOf 57 = .ok (.bipush 21, 2) := dk_16 21 (dk_at dksX9_markOf_2 9 rfl rfl)
theorem dX9_markOf_59 : decode cX9_markOf 59 = .ok (.invokevirtual 266, 3) := dk_182 1 10 (dk_at dksX9_markOf_2 11 rfl rfl)
theorem dX9_markOf_62 : decode cX9_markOf 62 = .ok (.aload_n 0, 1) := dk_42 (dk_at dksX9_markOf_2 14 rfl rfl)
theorem dX9_markOf_63 : decode cX9_markOf 63 = .ok (.bipush 20, 2) := dk_16 20 (dk_at dksX9_markOf_2 15 rfl rfl)
theorem dX9_markOf_65 : decode cX9_markOf 65 = .ok (.invokevirtual 266, 3) := dk_182 1 10 (dk_at dksX9_markOf_2 17 rfl rfl)
theorem dX9_markOf_68 : decode cX9_markOf 68 = .ok (.iload_n 1, 1) := dk_27 (dk_at dksX9_markOf_2 20 rfl rfl)
theorem dX9_markOf_69 : decode cX9_markOf 69 = .ok (.istore_n 3, 1) := dk_62 (dk_at dksX9_markOf_2 21 rfl rfl)
theorem dX9_markOf_70 : decode cX9_markOf 70 = .ok (.iconst 0, 1) := dk_3 (dk_at dksX9_markOf_2 22 rfl rfl)
theorem dX9_markOf_71 : decode cX9_markOf 71 = .ok (.istore 4, 2) := dk_54 4 (dk_at dksX9_markOf_3 0 rfl rfl)
theorem dX9_markOf_73 : decode cX9_markOf 73 = .ok (.iload 4, 2) := dk_21 4 (dk_at dksX9_markOf_3 2 rfl rfl)
theorem dX9_markOf_75 : decode cX9_markOf 75 = .ok (.aload_n 0, 1) := dk_42 (dk_at dksX9_markOf_3 4 rfl rfl)
theorem dX9_markOf_76 : decode cX9_markOf 76 = .ok (.getfield 19, 3) := dk_180 0 19 (dk_at dksX9_markOf_3 5 rfl rfl)
theorem dX9_markOf_79 : decode cX9_markOf 79 = .ok (.iconst 3, 1) := dk_6 (dk_at dksX9_markOf_3 8 rfl rfl)
theorem dX9_markOf_80 : decode cX9_markOf 80 = .ok (.iaload, 1) := dk_46 (dk_at dksX9_markOf_3 9 rfl rfl)
theorem dX9_markOf_81 : decode cX9_markOf 81 = .ok (.if_icmp .ge 30, 3) := dk_162 0 30 (dk_at dksX9_markOf_3 10 rfl rfl)
theorem dX9_markOf_84 : decode cX9_markOf 84 = .ok (.iload_n 3, 1) := dk_29 (dk_at dksX9_markOf_3 13 rfl rfl)
theorem dX9_markOf_85 : decode cX9_markOf 85 = .ok (.aload_n 0, 1) := dk_42 (dk_at dksX9_markOf_3 14 rfl rfl)
theorem dX9_markOf_86 : decode cX9_markOf 86 = .ok (.getfield 19, 3) := dk_180 0 19 (dk_at dksX9_markOf_3 15 rfl rfl)
theorem dX9_markOf_89 : decode cX9_markOf 89 = .ok (.iload 4, 2) := dk_21 4 (dk_at dksX9_markOf_3 18 rfl rfl)
theorem dX9_markOf_91 : decode cX9_markOf 91 = .ok (.iload_n 1, 1) := dk_27 (dk_at dksX9_markOf_3 20 rfl rfl)
theorem dX9_markOf_92 : decode cX9_markOf 92 = .ok (.invokestatic 172, 3) := dk_184 0 172 (dk_at dksX9_markOf_3 21 rfl rfl)
theorem dX9_markOf_95 : decode cX9_markOf 95 = .ok (.ifCond .eq 7, 3) := dk_153 0 7 (dk_at dksX9_markOf_4 0 rfl rfl)
theorem dX9_markOf_98 : decode cX9_markOf 98 = .ok (.iconst 1, 1) := dk_4 (dk_at dksX9_markOf_4 3 rfl rfl)
theorem dX9_markOf_99 : decode cX9_markOf 99 = .ok (.goto 4, 3) := dk_167 0 4 (dk_at dksX9_markOf_4 4 rfl rfl)
theorem dX9_markOf_102 : decode cX9_markOf 102 = .ok (.iconst 0, 1) := dk_3 (dk_at dksX9_markOf_4 7 rfl rfl)
theorem dX9_markOf_103 : decode cX9_markOf 103 = .ok (.iadd, 1) := dk_96 (dk_at dksX9_markOf_4 8 rfl rfl)
theorem dX9_markOf_104 : decode cX9_markOf 104 = .ok (.istore_n 3, 1) := dk_62 (dk_at dksX9_markOf_4 9 rfl rfl)
theorem dX9_markOf_105 : decode cX9_markOf 105 = .ok (.iinc 4 1, 3) := dk_132 4 1 (dk_at dksX9_markOf_4 10 rfl rfl)
theorem dX9_markOf_108 : decode cX9_markOf 108 = .ok (.goto (-35), 3) := dk_167 255 221 (dk_at dksX9_markOf_4 13 rfl rfl)
theorem dX9_markOf_111 : decode cX9_markOf 111 = .ok (.iload_n 2, 1) := dk_28 (dk_at dksX9_markOf_4 16 rfl rfl)
theorem dX9_markOf_112 : decode cX9_markOf 112 = .ok (.iconst 1, 1) := dk_4 (dk_at dksX9_markOf_4 17 rfl rfl)
theorem dX9_markOf_113 : decode cX9_markOf 113 = .ok (.if_icmp .ne 7, 3) := dk_160 0 7 (dk_at dksX9_markOf_4 18 rfl rfl)
theorem dX9_markOf_116 : decode cX9_markOf 116 = .ok (.iload_n 3, 1) := dk_29 (dk_at dksX9_markOf_4 21 rfl rfl)
theorem dX9_markOf_117 : decode cX9_markOf 117 = .ok (.goto 19, 3) := dk_167 0 19 (dk_at dksX9_markOf_5 0 rfl rfl)
theorem dX9_markOf_120 : decode cX9_markOf 120 = .ok (.iload_n 2, 1) := dk_28 (dk_at dksX9_markOf_5 3 rfl rfl)
theorem dX9_markOf_121 : decode cX9_markOf 121 = .ok (.iconst 3, 1) := dk_6 (dk_at dksX9_markOf_5 4 rfl rfl)
theorem dX9_markOf_122 : decode cX9_markOf 122 = .ok (.if_icmp .ne 11, 3) := dk_160 0 11 (dk_at dksX9_markOf_5 5 rfl rfl)
theorem dX9_markOf_125 : decode cX9_markOf 125 = .ok (.iload_n 3, 1) := dk_29 (dk_at dksX9_markOf_5 8 rfl rfl)
theorem dX9_markOf_126 : decode cX9_markOf 126 = .ok (.sipush 1000, 3) := dk_17 3 232 (dk_at dksX9_markOf_5 9 rfl rfl)
theorem dX9_markOf_129 : decode cX9_markOf 129 = .ok (.isub, 1) := dk_100 (dk_at dksX9_markOf_5 12 rfl rfl)
theorem dX9_markOf_130 : decode cX9_markOf 130 = .ok (.goto 6, 3) := dk_167 0 6 (dk_at dksX9_markOf_5 13 rfl rfl)
theorem dX9_markOf_133 : decode cX9_markOf 133 = .ok (.iconst 2, 1) := dk_5 (dk_at dksX9_markOf_5 16 rfl rfl)
theorem dX9_markOf_134 : decode cX9_markOf 134 = .ok (.iload_n 3, 1) := dk_29 (dk_at dksX9_markOf_5 17 rfl rfl)
theorem dX9_markOf_135 : decode cX9_markOf 135 = .ok (.imul, 1) := dk_104 (dk_at dksX9_markOf_5 18 rfl rfl)
theorem dX9_markOf_136 : decode cX9_markOf 136 = .ok (.ireturn, 1) := dk_172 (dk_at dksX9_markOf_5 19 rfl rfl)
abbrev cX9_trace : ByteArray := prog_16_method_85_code
def yX9_trace : MethodName := ⟨RX9, "trace", "(I)I"⟩
def dkwX9_trace_1 : List UInt8 := [180, 0, 45, 27, 46, 167, 0, 5, 18, 91, 172]
abbrev dktX9_trace_1 : List UInt8 := dkwX9_trace_1 ++ []
def dkwX9_trace_0 : List UInt8 := [42, 3, 181, 0, 48, 27, 133, 9, 42, 180, 1, 7, 4, 100, 133, 184, 0, 58, 153, 0, 12, 42]
abbrev dktX9_trace_0 : List UInt8 := dkwX9_trace_0 ++ dktX9_trace_1
theorem dksX9_trace_0 : cX9_trace.data.toList.drop 0 = dktX9_trace_0 := by decide +kernel
theorem dksX9_trace_1 : cX9_trace.data.toList.drop 22 = dktX9_trace_1 := dk_seg dksX9_trace_0 22 rfl rfl
theorem dX9_trace_0 : decode cX9_trace 0 = .ok (.aload_n 0, 1) := dk_42 (dk_at dksX9_trace_0 0 rfl rfl)
theorem dX9_trace_1 : decode cX9_trace 1 = .ok (.iconst 0, 1) := dk_3 (dk_at dksX9_trace_0 1 rfl rfl)
theorem dX9_trace_2 : decode cX9_trace 2 = .ok (.putfield 48, 3) := dk_181 0 48 (dk_at dksX9_trace_0 2 rfl rfl)
theorem dX9_trace_5 : decode cX9_trace 5 = .ok (.iload_n 1, 1) := dk_27 (dk_at dksX9_trace_0 5 rfl rfl)
theorem dX9_trace_6 : decode cX9_trace 6 = .ok (.i2l, 1) := dk_133 (dk_at dksX9_trace_0 6 rfl rfl)
theorem dX9_trace_7 : decode cX9_trace 7 = .ok (.lconst 0, 1) := dk_9 (dk_at dksX9_trace_0 7 rfl rfl)
theorem dX9_trace_8 : decode cX9_trace 8 = .ok (.aload_n 0, 1) := dk_42 (dk_at dksX9_trace_0 8 rfl rfl)
theorem dX9_trace_9 : decode cX9_trace 9 = .ok (.getfield 263, 3) := dk_180 1 7 (dk_at dksX9_trace_0 9 rfl rfl)
theorem dX9_trace_12 : decode cX9_trace 12 = .ok (.iconst 1, 1) := dk_4 (dk_at dksX9_trace_0 12 rfl rfl)
theorem dX9_trace_13 : decode cX9_trace 13 = .ok (.isub, 1) := dk_100 (dk_at dksX9_trace_0 13 rfl rfl)
theorem dX9_trace_14 : decode cX9_trace 14 = .ok (.i2l, 1) := dk_133 (dk_at dksX9_trace_0 14 rfl rfl)
theorem dX9_trace_15 : decode cX9_trace 15 = .ok (.invokestatic 58, 3) := dk_184 0 58 (dk_at dksX9_trace_0 15 rfl rfl)
theorem dX9_trace_18 : decode cX9_trace 18 = .ok (.ifCond .eq 12, 3) := dk_153 0 12 (dk_at dksX9_trace_0 18 rfl rfl)
theorem dX9_trace_21 : decode cX9_trace 21 = .ok (.aload_n 0, 1) := dk_42 (dk_at dksX9_trace_0 21 rfl rfl)
theorem dX9_trace_22 : decode cX9_trace 22 = .ok (.getfield 45, 3) := dk_180 0 45 (dk_at dksX9_trace_1 0 rfl rfl)
theorem dX9_trace_25 : decode cX9_trace 25 = .ok (.iload_n 1, 1) := dk_27 (dk_at dksX9_trace_1 3 rfl rfl)
theorem dX9_trace_26 : decode cX9_trace 26 = .ok (.iaload, 1) := dk_46 (dk_at dksX9_trace_1 4 rfl rfl)
theorem dX9_trace_27 : decode cX9_trace 27 = .ok (.goto 5, 3) := dk_167 0 5 (dk_at dksX9_trace_1 5 rfl rfl)
theorem dX9_trace_30 : decode cX9_trace 30 = .ok (.ldc 91, 2) := dk_18 91 (dk_at dksX9_trace_1 8 rfl rfl)
theorem dX9_trace_32 : decode cX9_trace 32 = .ok (.ireturn, 1) := dk_172 (dk_at dksX9_trace_1 10 rfl rfl)
abbrev cX9_count : ByteArray := prog_16_method_86_code
def yX9_count : MethodName := ⟨RX9, "count", "(I)I"⟩
def dkwX9_count_6 : List UInt8 := [180, 0, 19, 184, 0, 254, 172, 42, 180, 0, 150, 172, 42, 180, 0, 75, 172, 18, 68, 172]
abbrev dktX9_count_6 : List UInt8 := dkwX9_count_6 ++ []
def dkwX9_count_5 : List UInt8 := [184, 0, 168, 153, 0, 9, 4, 29, 120, 167, 0, 4, 3, 128, 61, 132, 3, 1, 167, 255, 222, 28, 172, 42]
abbrev dktX9_count_5 : List UInt8 := dkwX9_count_5 ++ dktX9_count_6
def dkwX9_count_4 : List UInt8 := [180, 0, 19, 4, 46, 172, 3, 62, 29, 42, 180, 0, 19, 5, 46, 162, 0, 30, 28, 42, 180, 0, 19, 29]
abbrev dktX9_count_4 : List UInt8 := dkwX9_count_4 ++ dktX9_count_5
def dkwX9_count_3 : List UInt8 := [61, 132, 3, 1, 167, 255, 230, 28, 172, 42, 180, 0, 19, 5, 46, 172, 42, 180, 0, 19, 6, 46, 172, 42]
abbrev dktX9_count_3 : List UInt8 := dkwX9_count_3 ++ dktX9_count_4
def dkwX9_count_2 : List UInt8 := [3, 62, 29, 16, 8, 162, 0, 26, 28, 42, 180, 0, 7, 29, 46, 155, 0, 7, 4, 167, 0, 4, 3, 96]
abbrev dktX9_count_2 : List UInt8 := dkwX9_count_2 ++ dktX9_count_3
def dkwX9_count_1 : List UInt8 := [170, 0, 0, 0, 0, 0, 0, 161, 0, 0, 0, 0, 0, 0, 0, 7, 0, 0, 0, 48, 0, 0, 0, 81, 0, 0, 0, 88, 0, 0, 0, 95, 0, 0, 0, 102, 0, 0, 0, 143, 0, 0, 0, 151, 0, 0, 0, 156]
abbrev dktX9_count_1 : List UInt8 := dkwX9_count_1 ++ dktX9_count_2
def dkwX9_count_0 : List UInt8 := [42, 3, 181, 0, 48, 3, 61, 27]
abbrev dktX9_count_0 : List UInt8 := dkwX9_count_0 ++ dktX9_count_1
theorem dksX9_count_0 : cX9_count.data.toList.drop 0 = dktX9_count_0 := by decide +kernel
theorem dksX9_count_1 : cX9_count.data.toList.drop 8 = dktX9_count_1 := dk_seg dksX9_count_0 8 rfl rfl
theorem dksX9_count_2 : cX9_count.data.toList.drop 56 = dktX9_count_2 := dk_seg dksX9_count_1 48 rfl rfl
theorem dksX9_count_3 : cX9_count.data.toList.drop 80 = dktX9_count_3 := dk_seg dksX9_count_2 24 rfl rfl
theorem dksX9_count_4 : cX9_count.data.toList.drop 104 = dktX9_count_4 := dk_seg dksX9_count_3 24 rfl rfl
theorem dksX9_count_5 : cX9_count.data.toList.drop 128 = dktX9_count_5 := dk_seg dksX9_count_4 24 rfl rfl
theorem dksX9_count_6 : cX9_count.data.toList.drop 152 = dktX9_count_6 := dk_seg dksX9_count_5 24 rfl rfl
theorem dX9_count_0 : decode cX9_count 0 = .ok (.aload_n 0, 1) := dk_42 (dk_at dksX9_count_0 0 rfl rfl)
theorem dX9_count_1 : decode cX9_count 1 = .ok (.iconst 0, 1) := dk_3 (dk_at dksX9_count_0 1 rfl rfl)
theorem dX9_count_2 : decode cX9_count 2 = .ok (.putfield 48, 3) := dk_181 0 48 (dk_at dksX9_count_0 2 rfl rfl)
theorem dX9_count_5 : decode cX9_count 5 = .ok (.iconst 0, 1) := dk_3 (dk_at dksX9_count_0 5 rfl rfl)
theorem dX9_count_6 : decode cX9_count 6 = .ok (.istore_n 2, 1) := dk_61 (dk_at dksX9_count_0 6 rfl rfl)
theorem dX9_count_7 : decode cX9_count 7 = .ok (.iload_n 1, 1) := dk_27 (dk_at dksX9_count_0 7 rfl rfl)
theorem dX9_count_8 : decode cX9_count 8 = .ok (.tableswitch 161 0 7 #[48, 81, 88, 95, 102, 143, 151, 156], 48) := by decide +kernel
theorem dX9_count_56 : decode cX9_count 56 = .ok (.iconst 0, 1) := dk_3 (dk_at dksX9_count_2 0 rfl rfl)
theorem dX9_count_57 : decode cX9_count 57 = .ok (.istore_n 3, 1) := dk_62 (dk_at dksX9_count_2 1 rfl rfl)
theorem dX9_count_58 : decode cX9_count 58 = .ok (.iload_n 3, 1) := dk_29 (dk_at dksX9_count_2 2 rfl rfl)
theorem dX9_count_59 : decode cX9_count 59 = .ok (.bipush 8, 2) := dk_16 8 (dk_at dksX9_count_2 3 rfl rfl)
theorem dX9_count_61 : decode cX9_count 61 = .ok (.if_icmp .ge 26, 3) := dk_162 0 26 (dk_at dksX9_count_2 5 rfl rfl)
theorem dX9_count_64 : decode cX9_count 64 = .ok (.iload_n 2, 1) := dk_28 (dk_at dksX9_count_2 8 rfl rfl)
theorem dX9_count_65 : decode cX9_count 65 = .ok (.aload_n 0, 1) := dk_42 (dk_at dksX9_count_2 9 rfl rfl)
theorem dX9_count_66 : decode cX9_count 66 = .ok (.getfield 7, 3) := dk_180 0 7 (dk_at dksX9_count_2 10 rfl rfl)
theorem dX9_count_69 : decode cX9_count 69 = .ok (.iload_n 3, 1) := dk_29 (dk_at dksX9_count_2 13 rfl rfl)
theorem dX9_count_70 : decode cX9_count 70 = .ok (.iaload, 1) := dk_46 (dk_at dksX9_count_2 14 rfl rfl)
theorem dX9_count_71 : decode cX9_count 71 = .ok (.ifCond .lt 7, 3) := dk_155 0 7 (dk_at dksX9_count_2 15 rfl rfl)
theorem dX9_count_74 : decode cX9_count 74 = .ok (.iconst 1, 1) := dk_4 (dk_at dksX9_count_2 18 rfl rfl)
theorem dX9_count_75 : decode cX9_count 75 = .ok (.goto 4, 3) := dk_167 0 4 (dk_at dksX9_count_2 19 rfl rfl)
theorem dX9_count_78 : decode cX9_count 78 = .ok (.iconst 0, 1) := dk_3 (dk_at dksX9_count_2 22 rfl rfl)
theorem dX9_count_79 : decode cX9_count 79 = .ok (.iadd, 1) := dk_96 (dk_at dksX9_count_2 23 rfl rfl)
theorem dX9_count_80 : decode cX9_count 80 = .ok (.istore_n 2, 1) := dk_61 (dk_at dksX9_count_3 0 rfl rfl)
theorem dX9_count_81 : decode cX9_count 81 = .ok (.iinc 3 1, 3) := dk_132 3 1 (dk_at dksX9_count_3 1 rfl rfl)
theorem dX9_count_84 : decode cX9_count 84 = .ok (.goto (-26), 3) := dk_167 255 230 (dk_at dksX9_count_3 4 rfl rfl)
theorem dX9_count_87 : decode cX9_count 87 = .ok (.iload_n 2, 1) := dk_28 (dk_at dksX9_count_3 7 rfl rfl)
theorem dX9_count_88 : decode cX9_count 88 = .ok (.ireturn, 1) := dk_172 (dk_at dksX9_count_3 8 rfl rfl)
theorem dX9_count_89 : decode cX9_count 89 = .ok (.aload_n 0, 1) := dk_42 (dk_at dksX9_count_3 9 rfl rfl)
theorem dX9_count_90 : decode cX9_count 90 = .ok (.getfield 19, 3) := dk_180 0 19 (dk_at dksX9_count_3 10 rfl rfl)
theorem dX9_count_93 : decode cX9_count 93 = .ok (.iconst 2, 1) := dk_5 (dk_at dksX9_count_3 13 rfl rfl)
theorem dX9_count_94 : decode cX9_count 94 = .ok (.iaload, 1) := dk_46 (dk_at dksX9_count_3 14 rfl rfl)
theorem dX9_count_95 : decode cX9_count 95 = .ok (.ireturn, 1) := dk_172 (dk_at dksX9_count_3 15 rfl rfl)
theorem dX9_count_96 : decode cX9_count 96 = .ok (.aload_n 0, 1) := dk_42 (dk_at dksX9_count_3 16 rfl rfl)
theorem dX9_count_97 : decode cX9_count 97 = .ok (.getfield 19, 3) := dk_180 0 19 (dk_at dksX9_count_3 17 rfl rfl)
theorem dX9_count_100 : decode cX9_count 100 = .ok (.iconst 3, 1) := dk_6 (dk_at dksX9_count_3 20 rfl rfl)
theorem dX9_count_101 : decode cX9_count 101 = .ok (.iaload, 1) := dk_46 (dk_at dksX9_count_3 21 rfl rfl)
theorem dX9_count_102 : decode cX9_count 102 = .ok (.ireturn, 1) := dk_172 (dk_at dksX9_count_3 22 rfl rfl)
theorem dX9_count_103 : decode cX9_count 103 = .ok (.aload_n 0, 1) := dk_42 (dk_at dksX9_count_3 23 rfl rfl)
theorem dX9_count_104 : decode cX9_count 104 = .ok (.getfield 19, 3) := dk_180 0 19 (dk_at dksX9_count_4 0 rfl rfl)
theorem dX9_count_107 : decode cX9_count 107 = .ok (.iconst 1, 1) := dk_4 (dk_at dksX9_count_4 3 rfl rfl)
theorem dX9_count_108 : decode cX9_count 108 = .ok (.iaload, 1) := dk_46 (dk_at dksX9_count_4 4 rfl rfl)
theorem dX9_count_109 : decode cX9_count 109 = .ok (.ireturn, 1) := dk_172 (dk_at dksX9_count_4 5 rfl rfl)
theorem dX9_count_110 : decode cX9_count 110 = .ok (.iconst 0, 1) := dk_3 (dk_at dksX9_count_4 6 rfl rfl)
theorem dX9_count_111 : decode cX9_count 111 = .ok (.istore_n 3, 1) := dk_62 (dk_at dksX9_count_4 7 rfl rfl)
theorem dX9_count_112 : decode cX9_count 112 = .ok (.iload_n 3, 1) := dk_29 (dk_at dksX9_count_4 8 rfl rfl)
theorem dX9_count_113 : decode cX9_count 113 = .ok (.aload_n 0, 1) := dk_42 (dk_at dksX9_count_4 9 rfl rfl)
theorem dX9_count_114 : decode cX9_count 114 = .ok (.getfield 19, 3) := dk_180 0 19 (dk_at dksX9_count_4 10 rfl rfl)
theorem dX9_count_117 : decode cX9_count 117 = .ok (.iconst 2, 1) := dk_5 (dk_at dksX9_count_4 13 rfl rfl)
theorem dX9_count_118 : decode cX9_count 118 = .ok (.iaload, 1) := dk_46 (dk_at dksX9_count_4 14 rfl rfl)
theorem dX9_count_119 : decode cX9_count 119 = .ok (.if_icmp .ge 30, 3) := dk_162 0 30 (dk_at dksX9_count_4 15 rfl rfl)
theorem dX9_count_122 : decode cX9_count 122 = .ok (.iload_n 2, 1) := dk_28 (dk_at dksX9_count_4 18 rfl rfl)
theorem dX9_count_123 : decode cX9_count 123 = .ok (.aload_n 0, 1) := dk_42 (dk_at dksX9_count_4 19 rfl rfl)
theorem dX9_count_124 : decode cX9_count 124 = .ok (.getfield 19, 3) := dk_180 0 19 (dk_at dksX9_count_4 20 rfl rfl)
theorem dX9_count_127 : decode cX9_count 127 = .ok (.iload_n 3, 1) := dk_29 (dk_at dksX9_count_4 23 rfl rfl)
theorem dX9_count_128 : decode cX9_count 128 = .ok (.invokestatic 168, 3) := dk_184 0 168 (dk_at dksX9_count_5 0 rfl rfl)
theorem dX9_count_131 : decode cX9_count 131 = .ok (.ifCond .eq 9, 3) := dk_153 0 9 (dk_at dksX9_count_5 3 rfl rfl)
theorem dX9_count_134 : decode cX9_count 134 = .ok (.iconst 1, 1) := dk_4 (dk_at dksX9_count_5 6 rfl rfl)
theorem dX9_count_135 : decode cX9_count 135 = .ok (.iload_n 3, 1) := dk_29 (dk_at dksX9_count_5 7 rfl rfl)
theorem dX9_count_136 : decode cX9_count 136 = .ok (.ishl, 1) := dk_120 (dk_at dksX9_count_5 8 rfl rfl)
theorem dX9_count_137 : decode cX9_count 137 = .ok (.goto 4, 3) := dk_167 0 4 (dk_at dksX9_count_5 9 rfl rfl)
theorem dX9_count_140 : decode cX9_count 140 = .ok (.iconst 0, 1) := dk_3 (dk_at dksX9_count_5 12 rfl rfl)
theorem dX9_count_141 : decode cX9_count 141 = .ok (.ior, 1) := dk_128 (dk_at dksX9_count_5 13 rfl rfl)
theorem dX9_count_142 : decode cX9_count 142 = .ok (.istore_n 2, 1) := dk_61 (dk_at dksX9_count_5 14 rfl rfl)
theorem dX9_count_143 : decode cX9_count 143 = .ok (.iinc 3 1, 3) := dk_132 3 1 (dk_at dksX9_count_5 15 rfl rfl)
theorem dX9_count_146 : decode cX9_count 146 = .ok (.goto (-34), 3) := dk_167 255 222 (dk_at dksX9_count_5 18 rfl rfl)
theorem dX9_count_149 : decode cX9_count 149 = .ok (.iload_n 2, 1) := dk_28 (dk_at dksX9_count_5 21 rfl rfl)
theorem dX9_count_150 : decode cX9_count 150 = .ok (.ireturn, 1) := dk_172 (dk_at dksX9_count_5 22 rfl rfl)
theorem dX9_count_151 : decode cX9_count 151 = .ok (.aload_n 0, 1) := dk_42 (dk_at dksX9_count_5 23 rfl rfl)
theorem dX9_count_152 : decode cX9_count 152 = .ok (.getfield 19, 3) := dk_180 0 19 (dk_at dksX9_count_6 0 rfl rfl)
theorem dX9_count_155 : decode cX9_count 155 = .ok (.invokestatic 254, 3) := dk_184 0 254 (dk_at dksX9_count_6 3 rfl rfl)
theorem dX9_count_158 : decode cX9_count 158 = .ok (.ireturn, 1) := dk_172 (dk_at dksX9_count_6 6 rfl rfl)
theorem dX9_count_159 : decode cX9_count 159 = .ok (.aload_n 0, 1) := dk_42 (dk_at dksX9_count_6 7 rfl rfl)
theorem dX9_count_160 : decode cX9_count 160 = .ok (.getfield 150, 3) := dk_180 0 150 (dk_at dksX9_count_6 8 rfl rfl)
theorem dX9_count_163 : decode cX9_count 163 = .ok (.ireturn, 1) := dk_172 (dk_at dksX9_count_6 11 rfl rfl)
theorem dX9_count_164 : decode cX9_count 164 = .ok (.aload_n 0, 1) := dk_42 (dk_at dksX9_count_6 12 rfl rfl)
theorem dX9_count_165 : decode cX9_count 165 = .ok (.getfield 75, 3) := dk_180 0 75 (dk_at dksX9_count_6 13 rfl rfl)
theorem dX9_count_168 : decode cX9_count 168 = .ok (.ireturn, 1) := dk_172 (dk_at dksX9_count_6 16 rfl rfl)
theorem dX9_count_169 : decode cX9_count 169 = .ok (.ldc 68, 2) := dk_18 68 (dk_at dksX9_count_6 17 rfl rfl)
theorem dX9_count_171 : decode cX9_count 171 = .ok (.ireturn, 1) := dk_172 (dk_at dksX9_count_6 19 rfl rfl)
abbrev cX9_status : ByteArray := prog_16_method_87_code
def yX9_status : MethodName := ⟨RX9, "status", "()I"⟩
def dkwX9_status_0 : List UInt8 := [42, 3, 181, 0, 48, 42, 180, 0, 52, 172]
abbrev dktX9_status_0 : List UInt8 := dkwX9_status_0 ++ []
theorem dksX9_status_0 : cX9_status.data.toList.drop 0 = dktX9_status_0 := by decide +kernel
theorem dX9_status_0 : decode cX9_status 0 = .ok (.aload_n 0, 1) := dk_42 (dk_at dksX9_status_0 0 rfl rfl)
theorem dX9_status_1 : decode cX9_status 1 = .ok (.iconst 0, 1) := dk_3 (dk_at dksX9_status_0 1 rfl rfl)
theorem dX9_status_2 : decode cX9_status 2 = .ok (.putfield 48, 3) := dk_181 0 48 (dk_at dksX9_status_0 2 rfl rfl)
theorem dX9_status_5 : decode cX9_status 5 = .ok (.aload_n 0, 1) := dk_42 (dk_at dksX9_status_0 5 rfl rfl)
theorem dX9_status_6 : decode cX9_status 6 = .ok (.getfield 52, 3) := dk_180 0 52 (dk_at dksX9_status_0 6 rfl rfl)
theorem dX9_status_9 : decode cX9_status 9 = .ok (.ireturn, 1) := dk_172 (dk_at dksX9_status_0 9 rfl rfl)
theorem q70 : (Jvm.Cond.initialized "LampSquaresModel") ∈ lw_all := lw_g (lw_at lw_m1 13 rfl) rfl
theorem q688 : (Jvm.Cond.selects "LampSquaresModel" ({ cls := "java/lang/Object", name := "getClass", desc := "()Ljava/lang/Class;" } : Jvm.MethodName) ({ cls := "java/lang/Object", name := "getClass", desc := "()Ljava/lang/Class;" } : Jvm.MethodName)) ∈ lw_all := lw_g (lw_at lw_m3 151 rfl) rfl
theorem q1174 : (Jvm.Cond.instantiable "LampSquaresModel" (24 : Nat)) ∈ lw_all := lw_g (lw_at lw_m5 157 rfl) rfl
theorem q1176 : (Jvm.Cond.instanceMethod ({ cls := "LampSquaresModel", name := "<init>", desc := "()V" } : Jvm.MethodName)) ∈ lw_all := lw_g (lw_at lw_m5 159 rfl) rfl
theorem q1177 : (Jvm.Cond.code ({ cls := "LampSquaresModel", name := "<init>", desc := "()V" } : Jvm.MethodName) prog_16_method_1_code (1 : Nat) (Option.none : Option Jvm.ClassFile.FieldType)) ∈ lw_all := lw_g (lw_at lw_m5 160 rfl) rfl
theorem q1178 : (Jvm.Cond.methodLink "LampSquaresModel" (1 : Nat) ({ cls := "java/lang/Object", name := "<init>", desc := "()V" } : Jvm.MethodName)) ∈ lw_all := lw_g (lw_at lw_m5 161 rfl) rfl
theorem q1179 : (Jvm.Cond.fieldLink "LampSquaresModel" (48 : Nat) "LampSquaresModel" "thrown" "I") ∈ lw_all := lw_g (lw_at lw_m5 162 rfl) rfl
theorem q1180 : (Jvm.Cond.fieldLink "LampSquaresModel" (52 : Nat) "LampSquaresModel" "status" "I") ∈ lw_all := lw_g (lw_at lw_m5 163 rfl) rfl
theorem q1181 : (Jvm.Cond.fieldLink "LampSquaresModel" (7 : Nat) "LampSquaresModel" "lane" "[I") ∈ lw_all := lw_g (lw_at lw_m5 164 rfl) rfl
theorem q1182 : (Jvm.Cond.fieldLink "LampSquaresModel" (13 : Nat) "LampSquaresModel" "many" "[I") ∈ lw_all := lw_g (lw_at lw_m5 165 rfl) rfl
theorem q1183 : (Jvm.Cond.fieldLink "LampSquaresModel" (16 : Nat) "LampSquaresModel" "item" "[I") ∈ lw_all := lw_g (lw_at lw_m5 166 rfl) rfl
theorem q1184 : (Jvm.Cond.fieldLink "LampSquaresModel" (19 : Nat) "LampSquaresModel" "door" "[I") ∈ lw_all := lw_g (lw_at lw_m5 167 rfl) rfl
theorem q1185 : (Jvm.Cond.fieldLink "LampSquaresModel" (22 : Nat) "LampSquaresModel" "fresh" "[I") ∈ lw_all := lw_g (lw_at lw_m5 168 rfl) rfl
theorem q1186 : (Jvm.Cond.fieldLink "LampSquaresModel" (25 : Nat) "LampSquaresModel" "then" "[I") ∈ lw_all := lw_g (lw_at lw_m5 169 rfl) rfl
theorem q1187 : (Jvm.Cond.fieldLink "LampSquaresModel" (28 : Nat) "LampSquaresModel" "was" "[I") ∈ lw_all := lw_g (lw_at lw_m5 170 rfl) rfl
theorem q1188 : (Jvm.Cond.fieldLink "LampSquaresModel" (150 : Nat) "LampSquaresModel" "acts" "I") ∈ lw_all := lw_g (lw_at lw_m5 171 rfl) rfl
theorem q1189 : (Jvm.Cond.fieldLink "LampSquaresModel" (31 : Nat) "LampSquaresModel" "tape" "[I") ∈ lw_all := lw_g (lw_at lw_m5 172 rfl) rfl
theorem q1190 : (Jvm.Cond.fieldLink "LampSquaresModel" (75 : Nat) "LampSquaresModel" "taped" "I") ∈ lw_all := lw_g (lw_at lw_m5 173 rfl) rfl
theorem q1191 : (Jvm.Cond.fieldLink "LampSquaresModel" (88 : Nat) "LampSquaresModel" "cursor" "I") ∈ lw_all := lw_g (lw_at lw_m5 174 rfl) rfl
theorem q1192 : (Jvm.Cond.fieldLink "LampSquaresModel" (82 : Nat) "LampSquaresModel" "start" "I") ∈ lw_all := lw_g (lw_at lw_m5 175 rfl) rfl
theorem q1193 : (Jvm.Cond.fieldLink "LampSquaresModel" (103 : Nat) "LampSquaresModel" "token" "I") ∈ lw_all := lw_g (lw_at lw_m5 176 rfl) rfl
theorem q1194 : (Jvm.Cond.fieldLink "LampSquaresModel" (92 : Nat) "LampSquaresModel" "value" "I") ∈ lw_all := lw_g (lw_at lw_m5 177 rfl) rfl
theorem q1195 : (Jvm.Cond.fieldLink "LampSquaresModel" (79 : Nat) "LampSquaresModel" "fault" "I") ∈ lw_all := lw_g (lw_at lw_m5 178 rfl) rfl
theorem q1196 : (Jvm.Cond.fieldLink "LampSquaresModel" (85 : Nat) "LampSquaresModel" "faultAt" "I") ∈ lw_all := lw_g (lw_at lw_m5 179 rfl) rfl
theorem q1197 : (Jvm.Cond.fieldLink "LampSquaresModel" (117 : Nat) "LampSquaresModel" "latest" "I") ∈ lw_all := lw_g (lw_at lw_m5 180 rfl) rfl
theorem q1198 : (Jvm.Cond.fieldLink "LampSquaresModel" (34 : Nat) "LampSquaresModel" "ways" "[J") ∈ lw_all := lw_g (lw_at lw_m5 181 rfl) rfl
theorem q1199 : (Jvm.Cond.fieldLink "LampSquaresModel" (38 : Nat) "LampSquaresModel" "isKept" "[Z") ∈ lw_all := lw_g (lw_at lw_m5 182 rfl) rfl
theorem q1200 : (Jvm.Cond.fieldLink "LampSquaresModel" (42 : Nat) "LampSquaresModel" "kept" "[I") ∈ lw_all := lw_g (lw_at lw_m5 183 rfl) rfl
theorem q1201 : (Jvm.Cond.fieldLink "LampSquaresModel" (45 : Nat) "LampSquaresModel" "trace" "[I") ∈ lw_all := lw_g (lw_at lw_m5 184 rfl) rfl
theorem q1202 : (Jvm.Cond.fieldLink "LampSquaresModel" (263 : Nat) "LampSquaresModel" "traced" "I") ∈ lw_all := lw_g (lw_at lw_m5 185 rfl) rfl
theorem q1203 : (Jvm.Cond.lays "LampSquaresModel" "LampSquaresModel" "thrown" "I") ∈ lw_all := lw_g (lw_at lw_m5 186 rfl) rfl
theorem q1204 : (Jvm.Cond.soleField "LampSquaresModel" "thrown") ∈ lw_all := lw_g (lw_at lw_m5 187 rfl) rfl
theorem q1205 : (Jvm.Cond.lays "LampSquaresModel" "LampSquaresModel" "status" "I") ∈ lw_all := lw_g (lw_at lw_m5 188 rfl) rfl
theorem q1206 : (Jvm.Cond.soleField "LampSquaresModel" "status") ∈ lw_all := lw_g (lw_at lw_m5 189 rfl) rfl
theorem q1207 : (Jvm.Cond.laysFinal "LampSquaresModel" "LampSquaresModel" "lane" "[I") ∈ lw_all := lw_g (lw_at lw_m5 190 rfl) rfl
theorem q1208 : (Jvm.Cond.soleField "LampSquaresModel" "lane") ∈ lw_all := lw_g (lw_at lw_m5 191 rfl) rfl
theorem q1209 : (Jvm.Cond.laysFinal "LampSquaresModel" "LampSquaresModel" "many" "[I") ∈ lw_all := lw_g (lw_at lw_m5 192 rfl) rfl
theorem q1210 : (Jvm.Cond.soleField "LampSquaresModel" "many") ∈ lw_all := lw_g (lw_at lw_m5 193 rfl) rfl
theorem q1211 : (Jvm.Cond.laysFinal "LampSquaresModel" "LampSquaresModel" "item" "[I") ∈ lw_all := lw_g (lw_at lw_m5 194 rfl) rfl
theorem q1212 : (Jvm.Cond.soleField "LampSquaresModel" "item") ∈ lw_all := lw_g (lw_at lw_m5 195 rfl) rfl
theorem q1213 : (Jvm.Cond.laysFinal "LampSquaresModel" "LampSquaresModel" "door" "[I") ∈ lw_all := lw_g (lw_at lw_m5 196 rfl) rfl
theorem q1214 : (Jvm.Cond.soleField "LampSquaresModel" "door") ∈ lw_all := lw_g (lw_at lw_m5 197 rfl) rfl
theorem q1215 : (Jvm.Cond.laysFinal "LampSquaresModel" "LampSquaresModel" "fresh" "[I") ∈ lw_all := lw_g (lw_at lw_m5 198 rfl) rfl
theorem q1216 : (Jvm.Cond.soleField "LampSquaresModel" "fresh") ∈ lw_all := lw_g (lw_at lw_m5 199 rfl) rfl
theorem q1217 : (Jvm.Cond.laysFinal "LampSquaresModel" "LampSquaresModel" "then" "[I") ∈ lw_all := lw_g (lw_at lw_m5 200 rfl) rfl
theorem q1218 : (Jvm.Cond.soleField "LampSquaresModel" "then") ∈ lw_all := lw_g (lw_at lw_m5 201 rfl) rfl
theorem q1219 : (Jvm.Cond.laysFinal "LampSquaresModel" "LampSquaresModel" "was" "[I") ∈ lw_all := lw_g (lw_at lw_m5 202 rfl) rfl
theorem q1220 : (Jvm.Cond.soleField "LampSquaresModel" "was") ∈ lw_all := lw_g (lw_at lw_m5 203 rfl) rfl
theorem q1221 : (Jvm.Cond.lays "LampSquaresModel" "LampSquaresModel" "acts" "I") ∈ lw_all := lw_g (lw_at lw_m5 204 rfl) rfl
theorem q1222 : (Jvm.Cond.soleField "LampSquaresModel" "acts") ∈ lw_all := lw_g (lw_at lw_m5 205 rfl) rfl
theorem q1223 : (Jvm.Cond.laysFinal "LampSquaresModel" "LampSquaresModel" "tape" "[I") ∈ lw_all := lw_g (lw_at lw_m5 206 rfl) rfl
theorem q1224 : (Jvm.Cond.soleField "LampSquaresModel" "tape") ∈ lw_all := lw_g (lw_at lw_m5 207 rfl) rfl
theorem q1225 : (Jvm.Cond.lays "LampSquaresModel" "LampSquaresModel" "taped" "I") ∈ lw_all := lw_g (lw_at lw_m5 208 rfl) rfl
theorem q1226 : (Jvm.Cond.soleField "LampSquaresModel" "taped") ∈ lw_all := lw_g (lw_at lw_m5 209 rfl) rfl
theorem q1227 : (Jvm.Cond.lays "LampSquaresModel" "LampSquaresModel" "cursor" "I") ∈ lw_all := lw_g (lw_at lw_m5 210 rfl) rfl
theorem q1228 : (Jvm.Cond.soleField "LampSquaresModel" "cursor") ∈ lw_all := lw_g (lw_at lw_m5 211 rfl) rfl
theorem q1229 : (Jvm.Cond.lays "LampSquaresModel" "LampSquaresModel" "start" "I") ∈ lw_all := lw_g (lw_at lw_m5 212 rfl) rfl
theorem q1230 : (Jvm.Cond.soleField "LampSquaresModel" "start") ∈ lw_all := lw_g (lw_at lw_m5 213 rfl) rfl
theorem q1231 : (Jvm.Cond.lays "LampSquaresModel" "LampSquaresModel" "token" "I") ∈ lw_all := lw_g (lw_at lw_m5 214 rfl) rfl
theorem q1232 : (Jvm.Cond.soleField "LampSquaresModel" "token") ∈ lw_all := lw_g (lw_at lw_m5 215 rfl) rfl
theorem q1233 : (Jvm.Cond.lays "LampSquaresModel" "LampSquaresModel" "value" "I") ∈ lw_all := lw_g (lw_at lw_m5 216 rfl) rfl
theorem q1234 : (Jvm.Cond.soleField "LampSquaresModel" "value") ∈ lw_all := lw_g (lw_at lw_m5 217 rfl) rfl
theorem q1235 : (Jvm.Cond.lays "LampSquaresModel" "LampSquaresModel" "fault" "I") ∈ lw_all := lw_g (lw_at lw_m5 218 rfl) rfl
theorem q1236 : (Jvm.Cond.soleField "LampSquaresModel" "fault") ∈ lw_all := lw_g (lw_at lw_m5 219 rfl) rfl
theorem q1237 : (Jvm.Cond.lays "LampSquaresModel" "LampSquaresModel" "faultAt" "I") ∈ lw_all := lw_g (lw_at lw_m5 220 rfl) rfl
theorem q1238 : (Jvm.Cond.soleField "LampSquaresModel" "faultAt") ∈ lw_all := lw_g (lw_at lw_m5 221 rfl) rfl
theorem q1239 : (Jvm.Cond.lays "LampSquaresModel" "LampSquaresModel" "latest" "I") ∈ lw_all := lw_g (lw_at lw_m5 222 rfl) rfl
theorem q1240 : (Jvm.Cond.soleField "LampSquaresModel" "latest") ∈ lw_all := lw_g (lw_at lw_m5 223 rfl) rfl
theorem q1241 : (Jvm.Cond.laysFinal "LampSquaresModel" "LampSquaresModel" "ways" "[J") ∈ lw_all := lw_g (lw_at lw_m5 224 rfl) rfl
theorem q1242 : (Jvm.Cond.soleField "LampSquaresModel" "ways") ∈ lw_all := lw_g (lw_at lw_m5 225 rfl) rfl
theorem q1243 : (Jvm.Cond.laysFinal "LampSquaresModel" "LampSquaresModel" "isKept" "[Z") ∈ lw_all := lw_g (lw_at lw_m5 226 rfl) rfl
theorem q1244 : (Jvm.Cond.soleField "LampSquaresModel" "isKept") ∈ lw_all := lw_g (lw_at lw_m5 227 rfl) rfl
theorem q1245 : (Jvm.Cond.laysFinal "LampSquaresModel" "LampSquaresModel" "kept" "[I") ∈ lw_all := lw_g (lw_at lw_m5 228 rfl) rfl
theorem q1246 : (Jvm.Cond.soleField "LampSquaresModel" "kept") ∈ lw_all := lw_g (lw_at lw_m5 229 rfl) rfl
theorem q1247 : (Jvm.Cond.laysFinal "LampSquaresModel" "LampSquaresModel" "trace" "[I") ∈ lw_all := lw_g (lw_at lw_m5 230 rfl) rfl
theorem q1248 : (Jvm.Cond.soleField "LampSquaresModel" "trace") ∈ lw_all := lw_g (lw_at lw_m5 231 rfl) rfl
theorem q1249 : (Jvm.Cond.lays "LampSquaresModel" "LampSquaresModel" "traced" "I") ∈ lw_all := lw_g (lw_at lw_m5 232 rfl) rfl
theorem q1250 : (Jvm.Cond.soleField "LampSquaresModel" "traced") ∈ lw_all := lw_g (lw_at lw_m5 233 rfl) rfl
theorem q1251 : (Jvm.Cond.superclass "LampSquaresModel" "java/lang/Object") ∈ lw_all := lw_g (lw_at lw_m5 234 rfl) rfl
theorem q1255 : (Jvm.Cond.instanceMethod ({ cls := "LampSquaresModel", name := "row", desc := "(III)I" } : Jvm.MethodName)) ∈ lw_all := lw_g (lw_at lw_m5 238 rfl) rfl
theorem q1256 : (Jvm.Cond.selects "LampSquaresModel" ({ cls := "LampSquaresModel", name := "row", desc := "(III)I" } : Jvm.MethodName) ({ cls := "LampSquaresModel", name := "row", desc := "(III)I" } : Jvm.MethodName)) ∈ lw_all := lw_g (lw_at lw_m5 239 rfl) rfl
theorem q1257 : (Jvm.Cond.code ({ cls := "LampSquaresModel", name := "row", desc := "(III)I" } : Jvm.MethodName) prog_16_method_6_code (5 : Nat) (Option.some Jvm.ClassFile.FieldType.int)) ∈ lw_all := lw_g (lw_at lw_m6 0 rfl) rfl
theorem q1258 : (Jvm.Cond.methodLink "LampSquaresModel" (62 : Nat) ({ cls := "LampSquaresModel", name := "isRow", desc := "(I)Z" } : Jvm.MethodName)) ∈ lw_all := lw_g (lw_at lw_m6 1 rfl) rfl
theorem q1259 : (Jvm.Cond.static ({ cls := "LampSquaresModel", name := "isRow", desc := "(I)Z" } : Jvm.MethodName)) ∈ lw_all := lw_g (lw_at lw_m6 2 rfl) rfl
theorem q1260 : (Jvm.Cond.code ({ cls := "LampSquaresModel", name := "isRow", desc := "(I)Z" } : Jvm.MethodName) prog_16_method_5_code (1 : Nat) (Option.some Jvm.ClassFile.FieldType.boolean)) ∈ lw_all := lw_g (lw_at lw_m6 3 rfl) rfl
theorem q1261 : (Jvm.Cond.constantLong "LampSquaresModel" (56 : Nat) (7 : Int64)) ∈ lw_all := lw_g (lw_at lw_m6 4 rfl) rfl
theorem q1262 : (Jvm.Cond.methodLink "LampSquaresModel" (58 : Nat) ({ cls := "LampSquaresModel", name := "in", desc := "(JJJ)Z" } : Jvm.MethodName)) ∈ lw_all := lw_g (lw_at lw_m6 5 rfl) rfl
theorem q1263 : (Jvm.Cond.static ({ cls := "LampSquaresModel", name := "in", desc := "(JJJ)Z" } : Jvm.MethodName)) ∈ lw_all := lw_g (lw_at lw_m6 6 rfl) rfl
theorem q1264 : (Jvm.Cond.code ({ cls := "LampSquaresModel", name := "in", desc := "(JJJ)Z" } : Jvm.MethodName) prog_16_method_3_code (6 : Nat) (Option.some Jvm.ClassFile.FieldType.boolean)) ∈ lw_all := lw_g (lw_at lw_m6 7 rfl) rfl
theorem q1265 : (Jvm.Cond.constantLong "LampSquaresModel" (66 : Nat) (2 : Int64)) ∈ lw_all := lw_g (lw_at lw_m6 8 rfl) rfl
theorem q1266 : (Jvm.Cond.constant "LampSquaresModel" (68 : Nat) (-1000001 : Int32)) ∈ lw_all := lw_g (lw_at lw_m6 9 rfl) rfl
theorem q1267 : (Jvm.Cond.methodLink "LampSquaresModel" (69 : Nat) ({ cls := "LampSquaresModel", name := "finding", desc := "(I)I" } : Jvm.MethodName)) ∈ lw_all := lw_g (lw_at lw_m6 10 rfl) rfl
theorem q1268 : (Jvm.Cond.privateMethod ({ cls := "LampSquaresModel", name := "finding", desc := "(I)I" } : Jvm.MethodName)) ∈ lw_tbl := lw_at lw_m6 11 rfl
theorem q1269 : (Jvm.Cond.instanceMethod ({ cls := "LampSquaresModel", name := "finding", desc := "(I)I" } : Jvm.MethodName)) ∈ lw_all := lw_g (lw_at lw_m6 12 rfl) rfl
theorem q1270 : (Jvm.Cond.code ({ cls := "LampSquaresModel", name := "finding", desc := "(I)I" } : Jvm.MethodName) prog_16_method_4_code (2 : Nat) (Option.some Jvm.ClassFile.FieldType.int)) ∈ lw_all := lw_g (lw_at lw_m6 13 rfl) rfl
theorem q1271 : (Jvm.Cond.constant "LampSquaresModel" (55 : Nat) (-1000010 : Int32)) ∈ lw_all := lw_g (lw_at lw_m6 14 rfl) rfl
theorem q1273 : (Jvm.Cond.instanceMethod ({ cls := "LampSquaresModel", name := "set", desc := "(III)I" } : Jvm.MethodName)) ∈ lw_all := lw_g (lw_at lw_m6 16 rfl) rfl
theorem q1274 : (Jvm.Cond.selects "LampSquaresModel" ({ cls := "LampSquaresModel", name := "set", desc := "(III)I" } : Jvm.MethodName) ({ cls := "LampSquaresModel", name := "set", desc := "(III)I" } : Jvm.MethodName)) ∈ lw_all := lw_g (lw_at lw_m6 17 rfl) rfl
theorem q1275 : (Jvm.Cond.code ({ cls := "LampSquaresModel", name := "set", desc := "(III)I" } : Jvm.MethodName) prog_16_method_7_code (4 : Nat) (Option.some Jvm.ClassFile.FieldType.int)) ∈ lw_all := lw_g (lw_at lw_m6 18 rfl) rfl
theorem q1277 : (Jvm.Cond.instanceMethod ({ cls := "LampSquaresModel", name := "copy", desc := "(IIIII)I" } : Jvm.MethodName)) ∈ lw_all := lw_g (lw_at lw_m6 20 rfl) rfl
theorem q1278 : (Jvm.Cond.selects "LampSquaresModel" ({ cls := "LampSquaresModel", name := "copy", desc := "(IIIII)I" } : Jvm.MethodName) ({ cls := "LampSquaresModel", name := "copy", desc := "(IIIII)I" } : Jvm.MethodName)) ∈ lw_all := lw_g (lw_at lw_m6 21 rfl) rfl
theorem q1279 : (Jvm.Cond.code ({ cls := "LampSquaresModel", name := "copy", desc := "(IIIII)I" } : Jvm.MethodName) prog_16_method_8_code (9 : Nat) (Option.some Jvm.ClassFile.FieldType.int)) ∈ lw_all := lw_g (lw_at lw_m6 22 rfl) rfl
theorem q1281 : (Jvm.Cond.instanceMethod ({ cls := "LampSquaresModel", name := "drop", desc := "(I)I" } : Jvm.MethodName)) ∈ lw_all := lw_g (lw_at lw_m6 24 rfl) rfl
theorem q1282 : (Jvm.Cond.selects "LampSquaresModel" ({ cls := "LampSquaresModel", name := "drop", desc := "(I)I" } : Jvm.MethodName) ({ cls := "LampSquaresModel", name := "drop", desc := "(I)I" } : Jvm.MethodName)) ∈ lw_all := lw_g (lw_at lw_m6 25 rfl) rfl
theorem q1283 : (Jvm.Cond.code ({ cls := "LampSquaresModel", name := "drop", desc := "(I)I" } : Jvm.MethodName) prog_16_method_9_code (2 : Nat) (Option.some Jvm.ClassFile.FieldType.int)) ∈ lw_all := lw_g (lw_at lw_m6 26 rfl) rfl
theorem q1285 : (Jvm.Cond.instanceMethod ({ cls := "LampSquaresModel", name := "feed", desc := "(I)I" } : Jvm.MethodName)) ∈ lw_all := lw_g (lw_at lw_m6 28 rfl) rfl
theorem q1286 : (Jvm.Cond.selects "LampSquaresModel" ({ cls := "LampSquaresModel", name := "feed", desc := "(I)I" } : Jvm.MethodName) ({ cls := "LampSquaresModel", name := "feed", desc := "(I)I" } : Jvm.MethodName)) ∈ lw_all := lw_g (lw_at lw_m6 29 rfl) rfl
theorem q1287 : (Jvm.Cond.code ({ cls := "LampSquaresModel", name := "feed", desc := "(I)I" } : Jvm.MethodName) prog_16_method_10_code (2 : Nat) (Option.some Jvm.ClassFile.FieldType.int)) ∈ lw_all := lw_g (lw_at lw_m6 30 rfl) rfl
theorem q1288 : (Jvm.Cond.constantLong "LampSquaresModel" (73 : Nat) (255 : Int64)) ∈ lw_all := lw_g (lw_at lw_m6 31 rfl) rfl
theorem q1289 : (Jvm.Cond.constant "LampSquaresModel" (78 : Nat) (-1000003 : Int32)) ∈ lw_all := lw_g (lw_at lw_m6 32 rfl) rfl
theorem q1291 : (Jvm.Cond.instanceMethod ({ cls := "LampSquaresModel", name := "fault", desc := "()I" } : Jvm.MethodName)) ∈ lw_all := lw_g (lw_at lw_m6 34 rfl) rfl
theorem q1292 : (Jvm.Cond.selects "LampSquaresModel" ({ cls := "LampSquaresModel", name := "fault", desc := "()I" } : Jvm.MethodName) ({ cls := "LampSquaresModel", name := "fault", desc := "()I" } : Jvm.MethodName)) ∈ lw_all := lw_g (lw_at lw_m6 35 rfl) rfl
theorem q1293 : (Jvm.Cond.code ({ cls := "LampSquaresModel", name := "fault", desc := "()I" } : Jvm.MethodName) prog_16_method_19_code (1 : Nat) (Option.some Jvm.ClassFile.FieldType.int)) ∈ lw_all := lw_g (lw_at lw_m6 36 rfl) rfl
theorem q1295 : (Jvm.Cond.instanceMethod ({ cls := "LampSquaresModel", name := "door", desc := "()I" } : Jvm.MethodName)) ∈ lw_all := lw_g (lw_at lw_m6 38 rfl) rfl
theorem q1296 : (Jvm.Cond.selects "LampSquaresModel" ({ cls := "LampSquaresModel", name := "door", desc := "()I" } : Jvm.MethodName) ({ cls := "LampSquaresModel", name := "door", desc := "()I" } : Jvm.MethodName)) ∈ lw_all := lw_g (lw_at lw_m6 39 rfl) rfl
theorem q1297 : (Jvm.Cond.code ({ cls := "LampSquaresModel", name := "door", desc := "()I" } : Jvm.MethodName) prog_16_method_24_code (2 : Nat) (Option.some Jvm.ClassFile.FieldType.int)) ∈ lw_all := lw_g (lw_at lw_m6 40 rfl) rfl
theorem q1298 : (Jvm.Cond.methodLink "LampSquaresModel" (133 : Nat) ({ cls := "LampSquaresModel", name := "begin", desc := "()V" } : Jvm.MethodName)) ∈ lw_all := lw_g (lw_at lw_m6 41 rfl) rfl
theorem q1299 : (Jvm.Cond.privateMethod ({ cls := "LampSquaresModel", name := "begin", desc := "()V" } : Jvm.MethodName)) ∈ lw_tbl := lw_at lw_m6 42 rfl
theorem q1300 : (Jvm.Cond.instanceMethod ({ cls := "LampSquaresModel", name := "begin", desc := "()V" } : Jvm.MethodName)) ∈ lw_all := lw_g (lw_at lw_m6 43 rfl) rfl
theorem q1301 : (Jvm.Cond.code ({ cls := "LampSquaresModel", name := "begin", desc := "()V" } : Jvm.MethodName) prog_16_method_17_code (1 : Nat) (Option.none : Option Jvm.ClassFile.FieldType)) ∈ lw_all := lw_g (lw_at lw_m6 44 rfl) rfl
theorem q1302 : (Jvm.Cond.methodLink "LampSquaresModel" (110 : Nat) ({ cls := "LampSquaresModel", name := "nextToken", desc := "()V" } : Jvm.MethodName)) ∈ lw_all := lw_g (lw_at lw_m6 45 rfl) rfl
theorem q1303 : (Jvm.Cond.privateMethod ({ cls := "LampSquaresModel", name := "nextToken", desc := "()V" } : Jvm.MethodName)) ∈ lw_tbl := lw_at lw_m6 46 rfl
theorem q1304 : (Jvm.Cond.instanceMethod ({ cls := "LampSquaresModel", name := "nextToken", desc := "()V" } : Jvm.MethodName)) ∈ lw_all := lw_g (lw_at lw_m6 47 rfl) rfl
theorem q1305 : (Jvm.Cond.code ({ cls := "LampSquaresModel", name := "nextToken", desc := "()V" } : Jvm.MethodName) prog_16_method_12_code (1 : Nat) (Option.none : Option Jvm.ClassFile.FieldType)) ∈ lw_all := lw_g (lw_at lw_m6 48 rfl) rfl
theorem q1306 : (Jvm.Cond.constant "LampSquaresModel" (91 : Nat) (-1000000 : Int32)) ∈ lw_all := lw_g (lw_at lw_m6 49 rfl) rfl
theorem q1307 : (Jvm.Cond.constantLong "LampSquaresModel" (95 : Nat) (97 : Int64)) ∈ lw_all := lw_g (lw_at lw_m6 50 rfl) rfl
theorem q1308 : (Jvm.Cond.constantLong "LampSquaresModel" (97 : Nat) (122 : Int64)) ∈ lw_all := lw_g (lw_at lw_m6 51 rfl) rfl
theorem q1309 : (Jvm.Cond.constantLong "LampSquaresModel" (99 : Nat) (48 : Int64)) ∈ lw_all := lw_g (lw_at lw_m6 52 rfl) rfl
theorem q1310 : (Jvm.Cond.constantLong "LampSquaresModel" (101 : Nat) (57 : Int64)) ∈ lw_all := lw_g (lw_at lw_m6 53 rfl) rfl
theorem q1311 : (Jvm.Cond.methodLink "LampSquaresModel" (130 : Nat) ({ cls := "LampSquaresModel", name := "isLetter", desc := "(I)Z" } : Jvm.MethodName)) ∈ lw_all := lw_g (lw_at lw_m6 54 rfl) rfl
theorem q1312 : (Jvm.Cond.privateMethod ({ cls := "LampSquaresModel", name := "isLetter", desc := "(I)Z" } : Jvm.MethodName)) ∈ lw_tbl := lw_at lw_m6 55 rfl
theorem q1313 : (Jvm.Cond.instanceMethod ({ cls := "LampSquaresModel", name := "isLetter", desc := "(I)Z" } : Jvm.MethodName)) ∈ lw_all := lw_g (lw_at lw_m6 56 rfl) rfl
theorem q1314 : (Jvm.Cond.code ({ cls := "LampSquaresModel", name := "isLetter", desc := "(I)Z" } : Jvm.MethodName) prog_16_method_14_code (2 : Nat) (Option.some Jvm.ClassFile.FieldType.boolean)) ∈ lw_all := lw_g (lw_at lw_m6 57 rfl) rfl
theorem q1315 : (Jvm.Cond.methodLink "LampSquaresModel" (113 : Nat) ({ cls := "LampSquaresModel", name := "must", desc := "(Z)V" } : Jvm.MethodName)) ∈ lw_all := lw_g (lw_at lw_m6 58 rfl) rfl
theorem q1316 : (Jvm.Cond.privateMethod ({ cls := "LampSquaresModel", name := "must", desc := "(Z)V" } : Jvm.MethodName)) ∈ lw_tbl := lw_at lw_m6 59 rfl
theorem q1317 : (Jvm.Cond.instanceMethod ({ cls := "LampSquaresModel", name := "must", desc := "(Z)V" } : Jvm.MethodName)) ∈ lw_all := lw_g (lw_at lw_m6 60 rfl) rfl
theorem q1318 : (Jvm.Cond.code ({ cls := "LampSquaresModel", name := "must", desc := "(Z)V" } : Jvm.MethodName) prog_16_method_13_code (2 : Nat) (Option.none : Option Jvm.ClassFile.FieldType)) ∈ lw_all := lw_g (lw_at lw_m6 61 rfl) rfl
theorem q1319 : (Jvm.Cond.methodLink "LampSquaresModel" (106 : Nat) ({ cls := "LampSquaresModel", name := "bad", desc := "(I)V" } : Jvm.MethodName)) ∈ lw_all := lw_g (lw_at lw_m6 62 rfl) rfl
theorem q1320 : (Jvm.Cond.privateMethod ({ cls := "LampSquaresModel", name := "bad", desc := "(I)V" } : Jvm.MethodName)) ∈ lw_tbl := lw_at lw_m6 63 rfl
theorem q1321 : (Jvm.Cond.instanceMethod ({ cls := "LampSquaresModel", name := "bad", desc := "(I)V" } : Jvm.MethodName)) ∈ lw_all := lw_g (lw_at lw_m6 64 rfl) rfl
theorem q1322 : (Jvm.Cond.code ({ cls := "LampSquaresModel", name := "bad", desc := "(I)V" } : Jvm.MethodName) prog_16_method_11_code (2 : Nat) (Option.none : Option Jvm.ClassFile.FieldType)) ∈ lw_all := lw_g (lw_at lw_m6 65 rfl) rfl
theorem q1323 : (Jvm.Cond.methodLink "LampSquaresModel" (123 : Nat) ({ cls := "LampSquaresModel", name := "number", desc := "(II)I" } : Jvm.MethodName)) ∈ lw_all := lw_g (lw_at lw_m6 66 rfl) rfl
theorem q1324 : (Jvm.Cond.privateMethod ({ cls := "LampSquaresModel", name := "number", desc := "(II)I" } : Jvm.MethodName)) ∈ lw_tbl := lw_at lw_m6 67 rfl
theorem q1325 : (Jvm.Cond.instanceMethod ({ cls := "LampSquaresModel", name := "number", desc := "(II)I" } : Jvm.MethodName)) ∈ lw_all := lw_g (lw_at lw_m6 68 rfl) rfl
theorem q1326 : (Jvm.Cond.code ({ cls := "LampSquaresModel", name := "number", desc := "(II)I" } : Jvm.MethodName) prog_16_method_15_code (4 : Nat) (Option.some Jvm.ClassFile.FieldType.int)) ∈ lw_all := lw_g (lw_at lw_m6 69 rfl) rfl
theorem q1327 : (Jvm.Cond.methodLink "LampSquaresModel" (127 : Nat) ({ cls := "LampSquaresModel", name := "mustSign", desc := "(I)V" } : Jvm.MethodName)) ∈ lw_all := lw_g (lw_at lw_m6 70 rfl) rfl
theorem q1328 : (Jvm.Cond.privateMethod ({ cls := "LampSquaresModel", name := "mustSign", desc := "(I)V" } : Jvm.MethodName)) ∈ lw_tbl := lw_at lw_m6 71 rfl
theorem q1329 : (Jvm.Cond.instanceMethod ({ cls := "LampSquaresModel", name := "mustSign", desc := "(I)V" } : Jvm.MethodName)) ∈ lw_all := lw_g (lw_at lw_m6 72 rfl) rfl
theorem q1330 : (Jvm.Cond.code ({ cls := "LampSquaresModel", name := "mustSign", desc := "(I)V" } : Jvm.MethodName) prog_16_method_16_code (2 : Nat) (Option.none : Option Jvm.ClassFile.FieldType)) ∈ lw_all := lw_g (lw_at lw_m6 73 rfl) rfl
theorem q1331 : (Jvm.Cond.methodLink "LampSquaresModel" (136 : Nat) ({ cls := "LampSquaresModel", name := "isSort", desc := "()Z" } : Jvm.MethodName)) ∈ lw_all := lw_g (lw_at lw_m6 74 rfl) rfl
theorem q1332 : (Jvm.Cond.privateMethod ({ cls := "LampSquaresModel", name := "isSort", desc := "()Z" } : Jvm.MethodName)) ∈ lw_tbl := lw_at lw_m6 75 rfl
theorem q1333 : (Jvm.Cond.instanceMethod ({ cls := "LampSquaresModel", name := "isSort", desc := "()Z" } : Jvm.MethodName)) ∈ lw_all := lw_g (lw_at lw_m6 76 rfl) rfl
theorem q1334 : (Jvm.Cond.code ({ cls := "LampSquaresModel", name := "isSort", desc := "()Z" } : Jvm.MethodName) prog_16_method_21_code (1 : Nat) (Option.some Jvm.ClassFile.FieldType.boolean)) ∈ lw_all := lw_g (lw_at lw_m6 77 rfl) rfl
theorem q1335 : (Jvm.Cond.methodLink "LampSquaresModel" (120 : Nat) ({ cls := "LampSquaresModel", name := "kindBy", desc := "(I)I" } : Jvm.MethodName)) ∈ lw_all := lw_g (lw_at lw_m6 78 rfl) rfl
theorem q1336 : (Jvm.Cond.static ({ cls := "LampSquaresModel", name := "kindBy", desc := "(I)I" } : Jvm.MethodName)) ∈ lw_all := lw_g (lw_at lw_m6 79 rfl) rfl
theorem q1337 : (Jvm.Cond.code ({ cls := "LampSquaresModel", name := "kindBy", desc := "(I)I" } : Jvm.MethodName) prog_16_method_20_code (1 : Nat) (Option.some Jvm.ClassFile.FieldType.int)) ∈ lw_all := lw_g (lw_at lw_m6 80 rfl) rfl
theorem q1338 : (Jvm.Cond.methodLink "LampSquaresModel" (140 : Nat) ({ cls := "LampSquaresModel", name := "readSquare", desc := "()V" } : Jvm.MethodName)) ∈ lw_all := lw_g (lw_at lw_m6 81 rfl) rfl
theorem q1339 : (Jvm.Cond.privateMethod ({ cls := "LampSquaresModel", name := "readSquare", desc := "()V" } : Jvm.MethodName)) ∈ lw_tbl := lw_at lw_m6 82 rfl
theorem q1340 : (Jvm.Cond.instanceMethod ({ cls := "LampSquaresModel", name := "readSquare", desc := "()V" } : Jvm.MethodName)) ∈ lw_all := lw_g (lw_at lw_m6 83 rfl) rfl
theorem q1341 : (Jvm.Cond.code ({ cls := "LampSquaresModel", name := "readSquare", desc := "()V" } : Jvm.MethodName) prog_16_method_22_code (3 : Nat) (Option.none : Option Jvm.ClassFile.FieldType)) ∈ lw_all := lw_g (lw_at lw_m6 84 rfl) rfl
theorem q1342 : (Jvm.Cond.methodLink "LampSquaresModel" (143 : Nat) ({ cls := "LampSquaresModel", name := "readVisitor", desc := "()V" } : Jvm.MethodName)) ∈ lw_all := lw_g (lw_at lw_m6 85 rfl) rfl
theorem q1343 : (Jvm.Cond.privateMethod ({ cls := "LampSquaresModel", name := "readVisitor", desc := "()V" } : Jvm.MethodName)) ∈ lw_tbl := lw_at lw_m6 86 rfl
theorem q1344 : (Jvm.Cond.instanceMethod ({ cls := "LampSquaresModel", name := "readVisitor", desc := "()V" } : Jvm.MethodName)) ∈ lw_all := lw_g (lw_at lw_m6 87 rfl) rfl
theorem q1345 : (Jvm.Cond.code ({ cls := "LampSquaresModel", name := "readVisitor", desc := "()V" } : Jvm.MethodName) prog_16_method_23_code (3 : Nat) (Option.none : Option Jvm.ClassFile.FieldType)) ∈ lw_all := lw_g (lw_at lw_m6 88 rfl) rfl
theorem q1346 : (Jvm.Cond.methodLink "LampSquaresModel" (146 : Nat) ({ cls := "LampSquaresModel", name := "failed", desc := "()Z" } : Jvm.MethodName)) ∈ lw_all := lw_g (lw_at lw_m6 89 rfl) rfl
theorem q1347 : (Jvm.Cond.privateMethod ({ cls := "LampSquaresModel", name := "failed", desc := "()Z" } : Jvm.MethodName)) ∈ lw_tbl := lw_at lw_m6 90 rfl
theorem q1348 : (Jvm.Cond.instanceMethod ({ cls := "LampSquaresModel", name := "failed", desc := "()Z" } : Jvm.MethodName)) ∈ lw_all := lw_g (lw_at lw_m6 91 rfl) rfl
theorem q1349 : (Jvm.Cond.code ({ cls := "LampSquaresModel", name := "failed", desc := "()Z" } : Jvm.MethodName) prog_16_method_18_code (1 : Nat) (Option.some Jvm.ClassFile.FieldType.boolean)) ∈ lw_all := lw_g (lw_at lw_m6 92 rfl) rfl
theorem q1350 : (Jvm.Cond.constant "LampSquaresModel" (149 : Nat) (-1000100 : Int32)) ∈ lw_all := lw_g (lw_at lw_m6 93 rfl) rfl
theorem q1352 : (Jvm.Cond.instanceMethod ({ cls := "LampSquaresModel", name := "pose", desc := "(II)I" } : Jvm.MethodName)) ∈ lw_all := lw_g (lw_at lw_m6 95 rfl) rfl
theorem q1353 : (Jvm.Cond.selects "LampSquaresModel" ({ cls := "LampSquaresModel", name := "pose", desc := "(II)I" } : Jvm.MethodName) ({ cls := "LampSquaresModel", name := "pose", desc := "(II)I" } : Jvm.MethodName)) ∈ lw_all := lw_g (lw_at lw_m6 96 rfl) rfl
theorem q1354 : (Jvm.Cond.code ({ cls := "LampSquaresModel", name := "pose", desc := "(II)I" } : Jvm.MethodName) prog_16_method_45_code (3 : Nat) (Option.some Jvm.ClassFile.FieldType.int)) ∈ lw_all := lw_g (lw_at lw_m6 97 rfl) rfl
theorem q1355 : (Jvm.Cond.methodLink "LampSquaresModel" (189 : Nat) ({ cls := "LampSquaresModel", name := "isVisitor", desc := "(I)Z" } : Jvm.MethodName)) ∈ lw_all := lw_g (lw_at lw_m6 98 rfl) rfl
theorem q1356 : (Jvm.Cond.privateMethod ({ cls := "LampSquaresModel", name := "isVisitor", desc := "(I)Z" } : Jvm.MethodName)) ∈ lw_tbl := lw_at lw_m6 99 rfl
theorem q1357 : (Jvm.Cond.instanceMethod ({ cls := "LampSquaresModel", name := "isVisitor", desc := "(I)Z" } : Jvm.MethodName)) ∈ lw_all := lw_g (lw_at lw_m6 100 rfl) rfl
theorem q1358 : (Jvm.Cond.code ({ cls := "LampSquaresModel", name := "isVisitor", desc := "(I)Z" } : Jvm.MethodName) prog_16_method_27_code (2 : Nat) (Option.some Jvm.ClassFile.FieldType.boolean)) ∈ lw_all := lw_g (lw_at lw_m6 101 rfl) rfl
theorem q1359 : (Jvm.Cond.methodLink "LampSquaresModel" (192 : Nat) ({ cls := "LampSquaresModel", name := "areSquares", desc := "(I)Z" } : Jvm.MethodName)) ∈ lw_all := lw_g (lw_at lw_m6 102 rfl) rfl
theorem q1360 : (Jvm.Cond.privateMethod ({ cls := "LampSquaresModel", name := "areSquares", desc := "(I)Z" } : Jvm.MethodName)) ∈ lw_tbl := lw_at lw_m6 103 rfl
theorem q1361 : (Jvm.Cond.instanceMethod ({ cls := "LampSquaresModel", name := "areSquares", desc := "(I)Z" } : Jvm.MethodName)) ∈ lw_all := lw_g (lw_at lw_m6 104 rfl) rfl
theorem q1362 : (Jvm.Cond.code ({ cls := "LampSquaresModel", name := "areSquares", desc := "(I)Z" } : Jvm.MethodName) prog_16_method_28_code (2 : Nat) (Option.some Jvm.ClassFile.FieldType.boolean)) ∈ lw_all := lw_g (lw_at lw_m6 105 rfl) rfl
theorem q1363 : (Jvm.Cond.methodLink "LampSquaresModel" (195 : Nat) ({ cls := "LampSquaresModel", name := "keep", desc := "()V" } : Jvm.MethodName)) ∈ lw_all := lw_g (lw_at lw_m6 106 rfl) rfl
theorem q1364 : (Jvm.Cond.privateMethod ({ cls := "LampSquaresModel", name := "keep", desc := "()V" } : Jvm.MethodName)) ∈ lw_tbl := lw_at lw_m6 107 rfl
theorem q1365 : (Jvm.Cond.instanceMethod ({ cls := "LampSquaresModel", name := "keep", desc := "()V" } : Jvm.MethodName)) ∈ lw_all := lw_g (lw_at lw_m6 108 rfl) rfl
theorem q1366 : (Jvm.Cond.code ({ cls := "LampSquaresModel", name := "keep", desc := "()V" } : Jvm.MethodName) prog_16_method_44_code (2 : Nat) (Option.none : Option Jvm.ClassFile.FieldType)) ∈ lw_all := lw_g (lw_at lw_m6 109 rfl) rfl
theorem q1367 : (Jvm.Cond.methodLink "LampSquaresModel" (198 : Nat) ({ cls := "LampSquaresModel", name := "poses", desc := "([III)Z" } : Jvm.MethodName)) ∈ lw_all := lw_g (lw_at lw_m6 110 rfl) rfl
theorem q1368 : (Jvm.Cond.static ({ cls := "LampSquaresModel", name := "poses", desc := "([III)Z" } : Jvm.MethodName)) ∈ lw_all := lw_g (lw_at lw_m6 111 rfl) rfl
theorem q1369 : (Jvm.Cond.code ({ cls := "LampSquaresModel", name := "poses", desc := "([III)Z" } : Jvm.MethodName) prog_16_method_42_code (6 : Nat) (Option.some Jvm.ClassFile.FieldType.boolean)) ∈ lw_all := lw_g (lw_at lw_m6 112 rfl) rfl
theorem q1370 : (Jvm.Cond.methodLink "LampSquaresModel" (186 : Nat) ({ cls := "LampSquaresModel", name := "wrongOf", desc := "([III)I" } : Jvm.MethodName)) ∈ lw_all := lw_g (lw_at lw_m6 113 rfl) rfl
theorem q1371 : (Jvm.Cond.static ({ cls := "LampSquaresModel", name := "wrongOf", desc := "([III)I" } : Jvm.MethodName)) ∈ lw_all := lw_g (lw_at lw_m6 114 rfl) rfl
theorem q1372 : (Jvm.Cond.code ({ cls := "LampSquaresModel", name := "wrongOf", desc := "([III)I" } : Jvm.MethodName) prog_16_method_40_code (5 : Nat) (Option.some Jvm.ClassFile.FieldType.int)) ∈ lw_all := lw_g (lw_at lw_m6 115 rfl) rfl
theorem q1373 : (Jvm.Cond.methodLink "LampSquaresModel" (179 : Nat) ({ cls := "LampSquaresModel", name := "has", desc := "(II)Z" } : Jvm.MethodName)) ∈ lw_all := lw_g (lw_at lw_m6 116 rfl) rfl
theorem q1374 : (Jvm.Cond.static ({ cls := "LampSquaresModel", name := "has", desc := "(II)Z" } : Jvm.MethodName)) ∈ lw_all := lw_g (lw_at lw_m6 117 rfl) rfl
theorem q1375 : (Jvm.Cond.code ({ cls := "LampSquaresModel", name := "has", desc := "(II)Z" } : Jvm.MethodName) prog_16_method_30_code (2 : Nat) (Option.some Jvm.ClassFile.FieldType.boolean)) ∈ lw_all := lw_g (lw_at lw_m6 118 rfl) rfl
theorem q1376 : (Jvm.Cond.methodLink "LampSquaresModel" (183 : Nat) ({ cls := "LampSquaresModel", name := "isWrong", desc := "([III)Z" } : Jvm.MethodName)) ∈ lw_all := lw_g (lw_at lw_m6 119 rfl) rfl
theorem q1377 : (Jvm.Cond.static ({ cls := "LampSquaresModel", name := "isWrong", desc := "([III)Z" } : Jvm.MethodName)) ∈ lw_all := lw_g (lw_at lw_m6 120 rfl) rfl
theorem q1378 : (Jvm.Cond.code ({ cls := "LampSquaresModel", name := "isWrong", desc := "([III)Z" } : Jvm.MethodName) prog_16_method_39_code (3 : Nat) (Option.some Jvm.ClassFile.FieldType.boolean)) ∈ lw_all := lw_g (lw_at lw_m6 121 rfl) rfl
theorem q1379 : (Jvm.Cond.methodLink "LampSquaresModel" (168 : Nat) ({ cls := "LampSquaresModel", name := "counts", desc := "([II)Z" } : Jvm.MethodName)) ∈ lw_all := lw_g (lw_at lw_m6 122 rfl) rfl
theorem q1380 : (Jvm.Cond.static ({ cls := "LampSquaresModel", name := "counts", desc := "([II)Z" } : Jvm.MethodName)) ∈ lw_all := lw_g (lw_at lw_m6 123 rfl) rfl
theorem q1381 : (Jvm.Cond.code ({ cls := "LampSquaresModel", name := "counts", desc := "([II)Z" } : Jvm.MethodName) prog_16_method_37_code (2 : Nat) (Option.some Jvm.ClassFile.FieldType.boolean)) ∈ lw_all := lw_g (lw_at lw_m6 124 rfl) rfl
theorem q1382 : (Jvm.Cond.methodLink "LampSquaresModel" (157 : Nat) ({ cls := "LampSquaresModel", name := "of", desc := "([III)I" } : Jvm.MethodName)) ∈ lw_all := lw_g (lw_at lw_m6 125 rfl) rfl
theorem q1383 : (Jvm.Cond.static ({ cls := "LampSquaresModel", name := "of", desc := "([III)I" } : Jvm.MethodName)) ∈ lw_all := lw_g (lw_at lw_m6 126 rfl) rfl
theorem q1384 : (Jvm.Cond.code ({ cls := "LampSquaresModel", name := "of", desc := "([III)I" } : Jvm.MethodName) prog_16_method_32_code (3 : Nat) (Option.some Jvm.ClassFile.FieldType.int)) ∈ lw_all := lw_g (lw_at lw_m6 127 rfl) rfl
theorem q1385 : (Jvm.Cond.methodLink "LampSquaresModel" (172 : Nat) ({ cls := "LampSquaresModel", name := "clicksIt", desc := "([III)Z" } : Jvm.MethodName)) ∈ lw_all := lw_g (lw_at lw_m6 128 rfl) rfl
theorem q1386 : (Jvm.Cond.static ({ cls := "LampSquaresModel", name := "clicksIt", desc := "([III)Z" } : Jvm.MethodName)) ∈ lw_all := lw_g (lw_at lw_m6 129 rfl) rfl
theorem q1387 : (Jvm.Cond.code ({ cls := "LampSquaresModel", name := "clicksIt", desc := "([III)Z" } : Jvm.MethodName) prog_16_method_36_code (3 : Nat) (Option.some Jvm.ClassFile.FieldType.boolean)) ∈ lw_all := lw_g (lw_at lw_m6 130 rfl) rfl
theorem q1388 : (Jvm.Cond.methodLink "LampSquaresModel" (161 : Nat) ({ cls := "LampSquaresModel", name := "guest", desc := "([III)I" } : Jvm.MethodName)) ∈ lw_all := lw_g (lw_at lw_m6 131 rfl) rfl
theorem q1389 : (Jvm.Cond.static ({ cls := "LampSquaresModel", name := "guest", desc := "([III)I" } : Jvm.MethodName)) ∈ lw_all := lw_g (lw_at lw_m6 132 rfl) rfl
theorem q1390 : (Jvm.Cond.code ({ cls := "LampSquaresModel", name := "guest", desc := "([III)I" } : Jvm.MethodName) prog_16_method_33_code (3 : Nat) (Option.some Jvm.ClassFile.FieldType.int)) ∈ lw_all := lw_g (lw_at lw_m6 133 rfl) rfl
theorem q1391 : (Jvm.Cond.methodLink "LampSquaresModel" (164 : Nat) ({ cls := "LampSquaresModel", name := "clicksBy", desc := "(IIII)Z" } : Jvm.MethodName)) ∈ lw_all := lw_g (lw_at lw_m6 134 rfl) rfl
theorem q1392 : (Jvm.Cond.static ({ cls := "LampSquaresModel", name := "clicksBy", desc := "(IIII)Z" } : Jvm.MethodName)) ∈ lw_all := lw_g (lw_at lw_m6 135 rfl) rfl
theorem q1393 : (Jvm.Cond.code ({ cls := "LampSquaresModel", name := "clicksBy", desc := "(IIII)Z" } : Jvm.MethodName) prog_16_method_35_code (4 : Nat) (Option.some Jvm.ClassFile.FieldType.boolean)) ∈ lw_all := lw_g (lw_at lw_m6 136 rfl) rfl
theorem q1394 : (Jvm.Cond.methodLink "LampSquaresModel" (153 : Nat) ({ cls := "LampSquaresModel", name := "seesBy", desc := "(IIII)I" } : Jvm.MethodName)) ∈ lw_all := lw_g (lw_at lw_m6 137 rfl) rfl
theorem q1395 : (Jvm.Cond.static ({ cls := "LampSquaresModel", name := "seesBy", desc := "(IIII)I" } : Jvm.MethodName)) ∈ lw_all := lw_g (lw_at lw_m6 138 rfl) rfl
theorem q1396 : (Jvm.Cond.code ({ cls := "LampSquaresModel", name := "seesBy", desc := "(IIII)I" } : Jvm.MethodName) prog_16_method_34_code (4 : Nat) (Option.some Jvm.ClassFile.FieldType.int)) ∈ lw_all := lw_g (lw_at lw_m6 139 rfl) rfl
theorem q1397 : (Jvm.Cond.methodLink "LampSquaresModel" (176 : Nat) ({ cls := "LampSquaresModel", name := "isLamp", desc := "([II)Z" } : Jvm.MethodName)) ∈ lw_all := lw_g (lw_at lw_m6 140 rfl) rfl
theorem q1398 : (Jvm.Cond.static ({ cls := "LampSquaresModel", name := "isLamp", desc := "([II)Z" } : Jvm.MethodName)) ∈ lw_all := lw_g (lw_at lw_m6 141 rfl) rfl
theorem q1399 : (Jvm.Cond.code ({ cls := "LampSquaresModel", name := "isLamp", desc := "([II)Z" } : Jvm.MethodName) prog_16_method_38_code (2 : Nat) (Option.some Jvm.ClassFile.FieldType.boolean)) ∈ lw_all := lw_g (lw_at lw_m6 142 rfl) rfl
theorem q1401 : (Jvm.Cond.instanceMethod ({ cls := "LampSquaresModel", name := "strict", desc := "(I)I" } : Jvm.MethodName)) ∈ lw_all := lw_g (lw_at lw_m6 144 rfl) rfl
theorem q1402 : (Jvm.Cond.selects "LampSquaresModel" ({ cls := "LampSquaresModel", name := "strict", desc := "(I)I" } : Jvm.MethodName) ({ cls := "LampSquaresModel", name := "strict", desc := "(I)I" } : Jvm.MethodName)) ∈ lw_all := lw_g (lw_at lw_m6 145 rfl) rfl
theorem q1403 : (Jvm.Cond.code ({ cls := "LampSquaresModel", name := "strict", desc := "(I)I" } : Jvm.MethodName) prog_16_method_46_code (3 : Nat) (Option.some Jvm.ClassFile.FieldType.int)) ∈ lw_all := lw_g (lw_at lw_m6 146 rfl) rfl
theorem q1404 : (Jvm.Cond.methodLink "LampSquaresModel" (201 : Nat) ({ cls := "LampSquaresModel", name := "isThere", desc := "()Z" } : Jvm.MethodName)) ∈ lw_all := lw_g (lw_at lw_m6 147 rfl) rfl
theorem q1405 : (Jvm.Cond.privateMethod ({ cls := "LampSquaresModel", name := "isThere", desc := "()Z" } : Jvm.MethodName)) ∈ lw_tbl := lw_at lw_m6 148 rfl
theorem q1406 : (Jvm.Cond.instanceMethod ({ cls := "LampSquaresModel", name := "isThere", desc := "()Z" } : Jvm.MethodName)) ∈ lw_all := lw_g (lw_at lw_m6 149 rfl) rfl
theorem q1407 : (Jvm.Cond.code ({ cls := "LampSquaresModel", name := "isThere", desc := "()Z" } : Jvm.MethodName) prog_16_method_25_code (1 : Nat) (Option.some Jvm.ClassFile.FieldType.boolean)) ∈ lw_all := lw_g (lw_at lw_m6 150 rfl) rfl
theorem q1408 : (Jvm.Cond.constant "LampSquaresModel" (204 : Nat) (-1000002 : Int32)) ∈ lw_all := lw_g (lw_at lw_m6 151 rfl) rfl
theorem q1409 : (Jvm.Cond.constantLong "LampSquaresModel" (205 : Nat) (8 : Int64)) ∈ lw_all := lw_g (lw_at lw_m6 152 rfl) rfl
theorem q1411 : (Jvm.Cond.instanceMethod ({ cls := "LampSquaresModel", name := "share", desc := "(II)I" } : Jvm.MethodName)) ∈ lw_all := lw_g (lw_at lw_m6 154 rfl) rfl
theorem q1412 : (Jvm.Cond.selects "LampSquaresModel" ({ cls := "LampSquaresModel", name := "share", desc := "(II)I" } : Jvm.MethodName) ({ cls := "LampSquaresModel", name := "share", desc := "(II)I" } : Jvm.MethodName)) ∈ lw_all := lw_g (lw_at lw_m6 155 rfl) rfl
theorem q1413 : (Jvm.Cond.code ({ cls := "LampSquaresModel", name := "share", desc := "(II)I" } : Jvm.MethodName) prog_16_method_47_code (4 : Nat) (Option.some Jvm.ClassFile.FieldType.int)) ∈ lw_all := lw_g (lw_at lw_m6 156 rfl) rfl
theorem q1414 : (Jvm.Cond.methodLink "LampSquaresModel" (207 : Nat) ({ cls := "LampSquaresModel", name := "isSquare", desc := "(I)Z" } : Jvm.MethodName)) ∈ lw_all := lw_g (lw_at lw_m6 157 rfl) rfl
theorem q1415 : (Jvm.Cond.privateMethod ({ cls := "LampSquaresModel", name := "isSquare", desc := "(I)Z" } : Jvm.MethodName)) ∈ lw_tbl := lw_at lw_m6 158 rfl
theorem q1416 : (Jvm.Cond.instanceMethod ({ cls := "LampSquaresModel", name := "isSquare", desc := "(I)Z" } : Jvm.MethodName)) ∈ lw_all := lw_g (lw_at lw_m6 159 rfl) rfl
theorem q1417 : (Jvm.Cond.code ({ cls := "LampSquaresModel", name := "isSquare", desc := "(I)Z" } : Jvm.MethodName) prog_16_method_26_code (2 : Nat) (Option.some Jvm.ClassFile.FieldType.boolean)) ∈ lw_all := lw_g (lw_at lw_m6 160 rfl) rfl
theorem q1418 : (Jvm.Cond.constantLong "LampSquaresModel" (210 : Nat) (9 : Int64)) ∈ lw_all := lw_g (lw_at lw_m6 161 rfl) rfl
theorem q1420 : (Jvm.Cond.instanceMethod ({ cls := "LampSquaresModel", name := "settle", desc := "(I)I" } : Jvm.MethodName)) ∈ lw_all := lw_g (lw_at lw_m6 163 rfl) rfl
theorem q1421 : (Jvm.Cond.selects "LampSquaresModel" ({ cls := "LampSquaresModel", name := "settle", desc := "(I)I" } : Jvm.MethodName) ({ cls := "LampSquaresModel", name := "settle", desc := "(I)I" } : Jvm.MethodName)) ∈ lw_all := lw_g (lw_at lw_m6 164 rfl) rfl
theorem q1422 : (Jvm.Cond.code ({ cls := "LampSquaresModel", name := "settle", desc := "(I)I" } : Jvm.MethodName) prog_16_method_48_code (3 : Nat) (Option.some Jvm.ClassFile.FieldType.int)) ∈ lw_all := lw_g (lw_at lw_m6 165 rfl) rfl
theorem q1424 : (Jvm.Cond.instanceMethod ({ cls := "LampSquaresModel", name := "undo", desc := "()I" } : Jvm.MethodName)) ∈ lw_all := lw_g (lw_at lw_m6 167 rfl) rfl
theorem q1425 : (Jvm.Cond.selects "LampSquaresModel" ({ cls := "LampSquaresModel", name := "undo", desc := "()I" } : Jvm.MethodName) ({ cls := "LampSquaresModel", name := "undo", desc := "()I" } : Jvm.MethodName)) ∈ lw_all := lw_g (lw_at lw_m6 168 rfl) rfl
theorem q1426 : (Jvm.Cond.code ({ cls := "LampSquaresModel", name := "undo", desc := "()I" } : Jvm.MethodName) prog_16_method_49_code (2 : Nat) (Option.some Jvm.ClassFile.FieldType.int)) ∈ lw_all := lw_g (lw_at lw_m6 169 rfl) rfl
theorem q1428 : (Jvm.Cond.instanceMethod ({ cls := "LampSquaresModel", name := "square", desc := "(II)I" } : Jvm.MethodName)) ∈ lw_all := lw_g (lw_at lw_m6 171 rfl) rfl
theorem q1429 : (Jvm.Cond.selects "LampSquaresModel" ({ cls := "LampSquaresModel", name := "square", desc := "(II)I" } : Jvm.MethodName) ({ cls := "LampSquaresModel", name := "square", desc := "(II)I" } : Jvm.MethodName)) ∈ lw_all := lw_g (lw_at lw_m6 172 rfl) rfl
theorem q1430 : (Jvm.Cond.code ({ cls := "LampSquaresModel", name := "square", desc := "(II)I" } : Jvm.MethodName) prog_16_method_50_code (3 : Nat) (Option.some Jvm.ClassFile.FieldType.int)) ∈ lw_all := lw_g (lw_at lw_m6 173 rfl) rfl
theorem q1432 : (Jvm.Cond.instanceMethod ({ cls := "LampSquaresModel", name := "visitor", desc := "(II)I" } : Jvm.MethodName)) ∈ lw_all := lw_g (lw_at lw_m6 175 rfl) rfl
theorem q1433 : (Jvm.Cond.selects "LampSquaresModel" ({ cls := "LampSquaresModel", name := "visitor", desc := "(II)I" } : Jvm.MethodName) ({ cls := "LampSquaresModel", name := "visitor", desc := "(II)I" } : Jvm.MethodName)) ∈ lw_all := lw_g (lw_at lw_m6 176 rfl) rfl
theorem q1434 : (Jvm.Cond.code ({ cls := "LampSquaresModel", name := "visitor", desc := "(II)I" } : Jvm.MethodName) prog_16_method_51_code (3 : Nat) (Option.some Jvm.ClassFile.FieldType.int)) ∈ lw_all := lw_g (lw_at lw_m6 177 rfl) rfl
theorem q1435 : (Jvm.Cond.constantLong "LampSquaresModel" (212 : Nat) (3 : Int64)) ∈ lw_all := lw_g (lw_at lw_m6 178 rfl) rfl
theorem q1437 : (Jvm.Cond.instanceMethod ({ cls := "LampSquaresModel", name := "sees", desc := "(II)I" } : Jvm.MethodName)) ∈ lw_all := lw_g (lw_at lw_m6 180 rfl) rfl
theorem q1438 : (Jvm.Cond.selects "LampSquaresModel" ({ cls := "LampSquaresModel", name := "sees", desc := "(II)I" } : Jvm.MethodName) ({ cls := "LampSquaresModel", name := "sees", desc := "(II)I" } : Jvm.MethodName)) ∈ lw_all := lw_g (lw_at lw_m6 181 rfl) rfl
theorem q1439 : (Jvm.Cond.code ({ cls := "LampSquaresModel", name := "sees", desc := "(II)I" } : Jvm.MethodName) prog_16_method_52_code (3 : Nat) (Option.some Jvm.ClassFile.FieldType.int)) ∈ lw_all := lw_g (lw_at lw_m6 182 rfl) rfl
theorem q1441 : (Jvm.Cond.instanceMethod ({ cls := "LampSquaresModel", name := "clicks", desc := "(I)I" } : Jvm.MethodName)) ∈ lw_all := lw_g (lw_at lw_m6 184 rfl) rfl
theorem q1442 : (Jvm.Cond.selects "LampSquaresModel" ({ cls := "LampSquaresModel", name := "clicks", desc := "(I)I" } : Jvm.MethodName) ({ cls := "LampSquaresModel", name := "clicks", desc := "(I)I" } : Jvm.MethodName)) ∈ lw_all := lw_g (lw_at lw_m6 185 rfl) rfl
theorem q1443 : (Jvm.Cond.code ({ cls := "LampSquaresModel", name := "clicks", desc := "(I)I" } : Jvm.MethodName) prog_16_method_54_code (2 : Nat) (Option.some Jvm.ClassFile.FieldType.int)) ∈ lw_all := lw_g (lw_at lw_m6 186 rfl) rfl
theorem q1444 : (Jvm.Cond.methodLink "LampSquaresModel" (214 : Nat) ({ cls := "LampSquaresModel", name := "clicksOf", desc := "(I)I" } : Jvm.MethodName)) ∈ lw_all := lw_g (lw_at lw_m6 187 rfl) rfl
theorem q1445 : (Jvm.Cond.privateMethod ({ cls := "LampSquaresModel", name := "clicksOf", desc := "(I)I" } : Jvm.MethodName)) ∈ lw_tbl := lw_at lw_m6 188 rfl
theorem q1446 : (Jvm.Cond.instanceMethod ({ cls := "LampSquaresModel", name := "clicksOf", desc := "(I)I" } : Jvm.MethodName)) ∈ lw_all := lw_g (lw_at lw_m6 189 rfl) rfl
theorem q1447 : (Jvm.Cond.code ({ cls := "LampSquaresModel", name := "clicksOf", desc := "(I)I" } : Jvm.MethodName) prog_16_method_53_code (4 : Nat) (Option.some Jvm.ClassFile.FieldType.int)) ∈ lw_all := lw_g (lw_at lw_m6 190 rfl) rfl
theorem q1449 : (Jvm.Cond.instanceMethod ({ cls := "LampSquaresModel", name := "wrong", desc := "(II)I" } : Jvm.MethodName)) ∈ lw_all := lw_g (lw_at lw_m6 192 rfl) rfl
theorem q1450 : (Jvm.Cond.selects "LampSquaresModel" ({ cls := "LampSquaresModel", name := "wrong", desc := "(II)I" } : Jvm.MethodName) ({ cls := "LampSquaresModel", name := "wrong", desc := "(II)I" } : Jvm.MethodName)) ∈ lw_all := lw_g (lw_at lw_m6 193 rfl) rfl
theorem q1451 : (Jvm.Cond.code ({ cls := "LampSquaresModel", name := "wrong", desc := "(II)I" } : Jvm.MethodName) prog_16_method_55_code (3 : Nat) (Option.some Jvm.ClassFile.FieldType.int)) ∈ lw_all := lw_g (lw_at lw_m6 194 rfl) rfl
theorem q1453 : (Jvm.Cond.instanceMethod ({ cls := "LampSquaresModel", name := "guests", desc := "(I)I" } : Jvm.MethodName)) ∈ lw_all := lw_g (lw_at lw_m6 196 rfl) rfl
theorem q1454 : (Jvm.Cond.selects "LampSquaresModel" ({ cls := "LampSquaresModel", name := "guests", desc := "(I)I" } : Jvm.MethodName) ({ cls := "LampSquaresModel", name := "guests", desc := "(I)I" } : Jvm.MethodName)) ∈ lw_all := lw_g (lw_at lw_m6 197 rfl) rfl
theorem q1455 : (Jvm.Cond.code ({ cls := "LampSquaresModel", name := "guests", desc := "(I)I" } : Jvm.MethodName) prog_16_method_56_code (2 : Nat) (Option.some Jvm.ClassFile.FieldType.int)) ∈ lw_all := lw_g (lw_at lw_m6 198 rfl) rfl
theorem q1456 : (Jvm.Cond.methodLink "LampSquaresModel" (217 : Nat) ({ cls := "LampSquaresModel", name := "guestsOf", desc := "(I)I" } : Jvm.MethodName)) ∈ lw_all := lw_g (lw_at lw_m6 199 rfl) rfl
theorem q1457 : (Jvm.Cond.privateMethod ({ cls := "LampSquaresModel", name := "guestsOf", desc := "(I)I" } : Jvm.MethodName)) ∈ lw_tbl := lw_at lw_m6 200 rfl
theorem q1458 : (Jvm.Cond.instanceMethod ({ cls := "LampSquaresModel", name := "guestsOf", desc := "(I)I" } : Jvm.MethodName)) ∈ lw_all := lw_g (lw_at lw_m6 201 rfl) rfl
theorem q1459 : (Jvm.Cond.code ({ cls := "LampSquaresModel", name := "guestsOf", desc := "(I)I" } : Jvm.MethodName) prog_16_method_41_code (4 : Nat) (Option.some Jvm.ClassFile.FieldType.int)) ∈ lw_all := lw_g (lw_at lw_m6 202 rfl) rfl
theorem q1461 : (Jvm.Cond.instanceMethod ({ cls := "LampSquaresModel", name := "fewest", desc := "(II)I" } : Jvm.MethodName)) ∈ lw_all := lw_g (lw_at lw_m6 204 rfl) rfl
theorem q1462 : (Jvm.Cond.selects "LampSquaresModel" ({ cls := "LampSquaresModel", name := "fewest", desc := "(II)I" } : Jvm.MethodName) ({ cls := "LampSquaresModel", name := "fewest", desc := "(II)I" } : Jvm.MethodName)) ∈ lw_all := lw_g (lw_at lw_m6 205 rfl) rfl
theorem q1463 : (Jvm.Cond.code ({ cls := "LampSquaresModel", name := "fewest", desc := "(II)I" } : Jvm.MethodName) prog_16_method_58_code (4 : Nat) (Option.some Jvm.ClassFile.FieldType.int)) ∈ lw_all := lw_g (lw_at lw_m6 206 rfl) rfl
theorem q1464 : (Jvm.Cond.methodLink "LampSquaresModel" (223 : Nat) ({ cls := "LampSquaresModel", name := "areVisitors", desc := "(I)Z" } : Jvm.MethodName)) ∈ lw_all := lw_g (lw_at lw_m6 207 rfl) rfl
theorem q1465 : (Jvm.Cond.privateMethod ({ cls := "LampSquaresModel", name := "areVisitors", desc := "(I)Z" } : Jvm.MethodName)) ∈ lw_tbl := lw_at lw_m6 208 rfl
theorem q1466 : (Jvm.Cond.instanceMethod ({ cls := "LampSquaresModel", name := "areVisitors", desc := "(I)Z" } : Jvm.MethodName)) ∈ lw_all := lw_g (lw_at lw_m6 209 rfl) rfl
theorem q1467 : (Jvm.Cond.code ({ cls := "LampSquaresModel", name := "areVisitors", desc := "(I)Z" } : Jvm.MethodName) prog_16_method_29_code (2 : Nat) (Option.some Jvm.ClassFile.FieldType.boolean)) ∈ lw_all := lw_g (lw_at lw_m6 210 rfl) rfl
theorem q1468 : (Jvm.Cond.methodLink "LampSquaresModel" (226 : Nat) ({ cls := "LampSquaresModel", name := "fewestOf", desc := "(II)I" } : Jvm.MethodName)) ∈ lw_all := lw_g (lw_at lw_m6 211 rfl) rfl
theorem q1469 : (Jvm.Cond.privateMethod ({ cls := "LampSquaresModel", name := "fewestOf", desc := "(II)I" } : Jvm.MethodName)) ∈ lw_tbl := lw_at lw_m6 212 rfl
theorem q1470 : (Jvm.Cond.instanceMethod ({ cls := "LampSquaresModel", name := "fewestOf", desc := "(II)I" } : Jvm.MethodName)) ∈ lw_all := lw_g (lw_at lw_m6 213 rfl) rfl
theorem q1471 : (Jvm.Cond.code ({ cls := "LampSquaresModel", name := "fewestOf", desc := "(II)I" } : Jvm.MethodName) prog_16_method_57_code (6 : Nat) (Option.some Jvm.ClassFile.FieldType.int)) ∈ lw_all := lw_g (lw_at lw_m6 214 rfl) rfl
theorem q1472 : (Jvm.Cond.methodLink "LampSquaresModel" (220 : Nat) ({ cls := "LampSquaresModel", name := "bits", desc := "(I)I" } : Jvm.MethodName)) ∈ lw_all := lw_g (lw_at lw_m6 215 rfl) rfl
theorem q1473 : (Jvm.Cond.static ({ cls := "LampSquaresModel", name := "bits", desc := "(I)I" } : Jvm.MethodName)) ∈ lw_all := lw_g (lw_at lw_m6 216 rfl) rfl
theorem q1474 : (Jvm.Cond.code ({ cls := "LampSquaresModel", name := "bits", desc := "(I)I" } : Jvm.MethodName) prog_16_method_31_code (3 : Nat) (Option.some Jvm.ClassFile.FieldType.int)) ∈ lw_all := lw_g (lw_at lw_m6 217 rfl) rfl
theorem q1476 : (Jvm.Cond.instanceMethod ({ cls := "LampSquaresModel", name := "harsh", desc := "(II)I" } : Jvm.MethodName)) ∈ lw_all := lw_g (lw_at lw_m6 219 rfl) rfl
theorem q1477 : (Jvm.Cond.selects "LampSquaresModel" ({ cls := "LampSquaresModel", name := "harsh", desc := "(II)I" } : Jvm.MethodName) ({ cls := "LampSquaresModel", name := "harsh", desc := "(II)I" } : Jvm.MethodName)) ∈ lw_all := lw_g (lw_at lw_m6 220 rfl) rfl
theorem q1478 : (Jvm.Cond.code ({ cls := "LampSquaresModel", name := "harsh", desc := "(II)I" } : Jvm.MethodName) prog_16_method_59_code (6 : Nat) (Option.some Jvm.ClassFile.FieldType.int)) ∈ lw_all := lw_g (lw_at lw_m6 221 rfl) rfl
theorem q1480 : (Jvm.Cond.instanceMethod ({ cls := "LampSquaresModel", name := "keen", desc := "(I)I" } : Jvm.MethodName)) ∈ lw_all := lw_g (lw_at lw_m6 223 rfl) rfl
theorem q1481 : (Jvm.Cond.selects "LampSquaresModel" ({ cls := "LampSquaresModel", name := "keen", desc := "(I)I" } : Jvm.MethodName) ({ cls := "LampSquaresModel", name := "keen", desc := "(I)I" } : Jvm.MethodName)) ∈ lw_all := lw_g (lw_at lw_m6 224 rfl) rfl
theorem q1482 : (Jvm.Cond.code ({ cls := "LampSquaresModel", name := "keen", desc := "(I)I" } : Jvm.MethodName) prog_16_method_60_code (7 : Nat) (Option.some Jvm.ClassFile.FieldType.int)) ∈ lw_all := lw_g (lw_at lw_m6 225 rfl) rfl
theorem q1484 : (Jvm.Cond.instanceMethod ({ cls := "LampSquaresModel", name := "tells", desc := "(II)I" } : Jvm.MethodName)) ∈ lw_all := lw_g (lw_at lw_m6 227 rfl) rfl
theorem q1485 : (Jvm.Cond.selects "LampSquaresModel" ({ cls := "LampSquaresModel", name := "tells", desc := "(II)I" } : Jvm.MethodName) ({ cls := "LampSquaresModel", name := "tells", desc := "(II)I" } : Jvm.MethodName)) ∈ lw_all := lw_g (lw_at lw_m6 228 rfl) rfl
theorem q1486 : (Jvm.Cond.code ({ cls := "LampSquaresModel", name := "tells", desc := "(II)I" } : Jvm.MethodName) prog_16_method_61_code (8 : Nat) (Option.some Jvm.ClassFile.FieldType.int)) ∈ lw_all := lw_g (lw_at lw_m6 229 rfl) rfl
theorem q1488 : (Jvm.Cond.instanceMethod ({ cls := "LampSquaresModel", name := "learned", desc := "(I)I" } : Jvm.MethodName)) ∈ lw_all := lw_g (lw_at lw_m6 231 rfl) rfl
theorem q1489 : (Jvm.Cond.selects "LampSquaresModel" ({ cls := "LampSquaresModel", name := "learned", desc := "(I)I" } : Jvm.MethodName) ({ cls := "LampSquaresModel", name := "learned", desc := "(I)I" } : Jvm.MethodName)) ∈ lw_all := lw_g (lw_at lw_m6 232 rfl) rfl
theorem q1490 : (Jvm.Cond.code ({ cls := "LampSquaresModel", name := "learned", desc := "(I)I" } : Jvm.MethodName) prog_16_method_62_code (3 : Nat) (Option.some Jvm.ClassFile.FieldType.int)) ∈ lw_all := lw_g (lw_at lw_m6 233 rfl) rfl
theorem q1492 : (Jvm.Cond.instanceMethod ({ cls := "LampSquaresModel", name := "needs", desc := "(I)I" } : Jvm.MethodName)) ∈ lw_all := lw_g (lw_at lw_m6 235 rfl) rfl
theorem q1493 : (Jvm.Cond.selects "LampSquaresModel" ({ cls := "LampSquaresModel", name := "needs", desc := "(I)I" } : Jvm.MethodName) ({ cls := "LampSquaresModel", name := "needs", desc := "(I)I" } : Jvm.MethodName)) ∈ lw_all := lw_g (lw_at lw_m6 236 rfl) rfl
theorem q1494 : (Jvm.Cond.code ({ cls := "LampSquaresModel", name := "needs", desc := "(I)I" } : Jvm.MethodName) prog_16_method_63_code (3 : Nat) (Option.some Jvm.ClassFile.FieldType.int)) ∈ lw_all := lw_g (lw_at lw_m6 237 rfl) rfl
theorem q1496 : (Jvm.Cond.instanceMethod ({ cls := "LampSquaresModel", name := "save", desc := "(II)I" } : Jvm.MethodName)) ∈ lw_all := lw_g (lw_at lw_m6 239 rfl) rfl
theorem q1497 : (Jvm.Cond.selects "LampSquaresModel" ({ cls := "LampSquaresModel", name := "save", desc := "(II)I" } : Jvm.MethodName) ({ cls := "LampSquaresModel", name := "save", desc := "(II)I" } : Jvm.MethodName)) ∈ lw_all := lw_g (lw_at lw_m7 0 rfl) rfl
theorem q1498 : (Jvm.Cond.code ({ cls := "LampSquaresModel", name := "save", desc := "(II)I" } : Jvm.MethodName) prog_16_method_64_code (4 : Nat) (Option.some Jvm.ClassFile.FieldType.int)) ∈ lw_all := lw_g (lw_at lw_m7 1 rfl) rfl
theorem q1500 : (Jvm.Cond.instanceMethod ({ cls := "LampSquaresModel", name := "shares", desc := "(III)I" } : Jvm.MethodName)) ∈ lw_all := lw_g (lw_at lw_m7 3 rfl) rfl
theorem q1501 : (Jvm.Cond.selects "LampSquaresModel" ({ cls := "LampSquaresModel", name := "shares", desc := "(III)I" } : Jvm.MethodName) ({ cls := "LampSquaresModel", name := "shares", desc := "(III)I" } : Jvm.MethodName)) ∈ lw_all := lw_g (lw_at lw_m7 4 rfl) rfl
theorem q1502 : (Jvm.Cond.code ({ cls := "LampSquaresModel", name := "shares", desc := "(III)I" } : Jvm.MethodName) prog_16_method_68_code (7 : Nat) (Option.some Jvm.ClassFile.FieldType.int)) ∈ lw_all := lw_g (lw_at lw_m7 5 rfl) rfl
theorem q1503 : (Jvm.Cond.methodLink "LampSquaresModel" (229 : Nat) ({ cls := "LampSquaresModel", name := "rowFound", desc := "(III)I" } : Jvm.MethodName)) ∈ lw_all := lw_g (lw_at lw_m7 6 rfl) rfl
theorem q1504 : (Jvm.Cond.privateMethod ({ cls := "LampSquaresModel", name := "rowFound", desc := "(III)I" } : Jvm.MethodName)) ∈ lw_tbl := lw_at lw_m7 7 rfl
theorem q1505 : (Jvm.Cond.instanceMethod ({ cls := "LampSquaresModel", name := "rowFound", desc := "(III)I" } : Jvm.MethodName)) ∈ lw_all := lw_g (lw_at lw_m7 8 rfl) rfl
theorem q1506 : (Jvm.Cond.code ({ cls := "LampSquaresModel", name := "rowFound", desc := "(III)I" } : Jvm.MethodName) prog_16_method_67_code (4 : Nat) (Option.some Jvm.ClassFile.FieldType.int)) ∈ lw_all := lw_g (lw_at lw_m7 9 rfl) rfl
theorem q1507 : (Jvm.Cond.methodLink "LampSquaresModel" (233 : Nat) ({ cls := "LampSquaresModel", name := "allClickSo", desc := "(III)Z" } : Jvm.MethodName)) ∈ lw_all := lw_g (lw_at lw_m7 10 rfl) rfl
theorem q1508 : (Jvm.Cond.privateMethod ({ cls := "LampSquaresModel", name := "allClickSo", desc := "(III)Z" } : Jvm.MethodName)) ∈ lw_tbl := lw_at lw_m7 11 rfl
theorem q1509 : (Jvm.Cond.instanceMethod ({ cls := "LampSquaresModel", name := "allClickSo", desc := "(III)Z" } : Jvm.MethodName)) ∈ lw_all := lw_g (lw_at lw_m7 12 rfl) rfl
theorem q1510 : (Jvm.Cond.code ({ cls := "LampSquaresModel", name := "allClickSo", desc := "(III)Z" } : Jvm.MethodName) prog_16_method_65_code (6 : Nat) (Option.some Jvm.ClassFile.FieldType.boolean)) ∈ lw_all := lw_g (lw_at lw_m7 13 rfl) rfl
theorem q1512 : (Jvm.Cond.instanceMethod ({ cls := "LampSquaresModel", name := "kinds", desc := "(III)I" } : Jvm.MethodName)) ∈ lw_all := lw_g (lw_at lw_m7 15 rfl) rfl
theorem q1513 : (Jvm.Cond.selects "LampSquaresModel" ({ cls := "LampSquaresModel", name := "kinds", desc := "(III)I" } : Jvm.MethodName) ({ cls := "LampSquaresModel", name := "kinds", desc := "(III)I" } : Jvm.MethodName)) ∈ lw_all := lw_g (lw_at lw_m7 16 rfl) rfl
theorem q1514 : (Jvm.Cond.code ({ cls := "LampSquaresModel", name := "kinds", desc := "(III)I" } : Jvm.MethodName) prog_16_method_69_code (7 : Nat) (Option.some Jvm.ClassFile.FieldType.int)) ∈ lw_all := lw_g (lw_at lw_m7 17 rfl) rfl
theorem q1516 : (Jvm.Cond.instanceMethod ({ cls := "LampSquaresModel", name := "who", desc := "(II)I" } : Jvm.MethodName)) ∈ lw_all := lw_g (lw_at lw_m7 19 rfl) rfl
theorem q1517 : (Jvm.Cond.selects "LampSquaresModel" ({ cls := "LampSquaresModel", name := "who", desc := "(II)I" } : Jvm.MethodName) ({ cls := "LampSquaresModel", name := "who", desc := "(II)I" } : Jvm.MethodName)) ∈ lw_all := lw_g (lw_at lw_m7 20 rfl) rfl
theorem q1518 : (Jvm.Cond.code ({ cls := "LampSquaresModel", name := "who", desc := "(II)I" } : Jvm.MethodName) prog_16_method_70_code (6 : Nat) (Option.some Jvm.ClassFile.FieldType.int)) ∈ lw_all := lw_g (lw_at lw_m7 21 rfl) rfl
theorem q1519 : (Jvm.Cond.methodLink "LampSquaresModel" (237 : Nat) ({ cls := "LampSquaresModel", name := "clicksSo", desc := "(III)Z" } : Jvm.MethodName)) ∈ lw_all := lw_g (lw_at lw_m7 22 rfl) rfl
theorem q1520 : (Jvm.Cond.privateMethod ({ cls := "LampSquaresModel", name := "clicksSo", desc := "(III)Z" } : Jvm.MethodName)) ∈ lw_tbl := lw_at lw_m7 23 rfl
theorem q1521 : (Jvm.Cond.instanceMethod ({ cls := "LampSquaresModel", name := "clicksSo", desc := "(III)Z" } : Jvm.MethodName)) ∈ lw_all := lw_g (lw_at lw_m7 24 rfl) rfl
theorem q1522 : (Jvm.Cond.code ({ cls := "LampSquaresModel", name := "clicksSo", desc := "(III)Z" } : Jvm.MethodName) prog_16_method_66_code (6 : Nat) (Option.some Jvm.ClassFile.FieldType.boolean)) ∈ lw_all := lw_g (lw_at lw_m7 25 rfl) rfl
theorem q1524 : (Jvm.Cond.instanceMethod ({ cls := "LampSquaresModel", name := "cares", desc := "(III)I" } : Jvm.MethodName)) ∈ lw_all := lw_g (lw_at lw_m7 27 rfl) rfl
theorem q1525 : (Jvm.Cond.selects "LampSquaresModel" ({ cls := "LampSquaresModel", name := "cares", desc := "(III)I" } : Jvm.MethodName) ({ cls := "LampSquaresModel", name := "cares", desc := "(III)I" } : Jvm.MethodName)) ∈ lw_all := lw_g (lw_at lw_m7 28 rfl) rfl
theorem q1526 : (Jvm.Cond.code ({ cls := "LampSquaresModel", name := "cares", desc := "(III)I" } : Jvm.MethodName) prog_16_method_71_code (7 : Nat) (Option.some Jvm.ClassFile.FieldType.int)) ∈ lw_all := lw_g (lw_at lw_m7 29 rfl) rfl
theorem q1528 : (Jvm.Cond.instanceMethod ({ cls := "LampSquaresModel", name := "slip", desc := "(IIII)J" } : Jvm.MethodName)) ∈ lw_all := lw_g (lw_at lw_m7 31 rfl) rfl
theorem q1529 : (Jvm.Cond.selects "LampSquaresModel" ({ cls := "LampSquaresModel", name := "slip", desc := "(IIII)J" } : Jvm.MethodName) ({ cls := "LampSquaresModel", name := "slip", desc := "(IIII)J" } : Jvm.MethodName)) ∈ lw_all := lw_g (lw_at lw_m7 32 rfl) rfl
theorem q1530 : (Jvm.Cond.code ({ cls := "LampSquaresModel", name := "slip", desc := "(IIII)J" } : Jvm.MethodName) prog_16_method_72_code (15 : Nat) (Option.some Jvm.ClassFile.FieldType.long)) ∈ lw_all := lw_g (lw_at lw_m7 33 rfl) rfl
theorem q1531 : (Jvm.Cond.constantLong "LampSquaresModel" (240 : Nat) (10 : Int64)) ∈ lw_all := lw_g (lw_at lw_m7 34 rfl) rfl
theorem q1532 : (Jvm.Cond.constantLong "LampSquaresModel" (242 : Nat) (-1000001 : Int64)) ∈ lw_all := lw_g (lw_at lw_m7 35 rfl) rfl
theorem q1534 : (Jvm.Cond.instanceMethod ({ cls := "LampSquaresModel", name := "drawn", desc := "(III)I" } : Jvm.MethodName)) ∈ lw_all := lw_g (lw_at lw_m7 37 rfl) rfl
theorem q1535 : (Jvm.Cond.selects "LampSquaresModel" ({ cls := "LampSquaresModel", name := "drawn", desc := "(III)I" } : Jvm.MethodName) ({ cls := "LampSquaresModel", name := "drawn", desc := "(III)I" } : Jvm.MethodName)) ∈ lw_all := lw_g (lw_at lw_m7 38 rfl) rfl
theorem q1536 : (Jvm.Cond.code ({ cls := "LampSquaresModel", name := "drawn", desc := "(III)I" } : Jvm.MethodName) prog_16_method_73_code (8 : Nat) (Option.some Jvm.ClassFile.FieldType.int)) ∈ lw_all := lw_g (lw_at lw_m7 39 rfl) rfl
theorem q1537 : (Jvm.Cond.constantLong "LampSquaresModel" (244 : Nat) (60 : Int64)) ∈ lw_all := lw_g (lw_at lw_m7 40 rfl) rfl
theorem q1538 : (Jvm.Cond.constantLong "LampSquaresModel" (246 : Nat) (999999 : Int64)) ∈ lw_all := lw_g (lw_at lw_m7 41 rfl) rfl
theorem q1539 : (Jvm.Cond.constantLong "LampSquaresModel" (248 : Nat) (16807 : Int64)) ∈ lw_all := lw_g (lw_at lw_m7 42 rfl) rfl
theorem q1540 : (Jvm.Cond.constantLong "LampSquaresModel" (250 : Nat) (2147483647 : Int64)) ∈ lw_all := lw_g (lw_at lw_m7 43 rfl) rfl
theorem q1541 : (Jvm.Cond.constantLong "LampSquaresModel" (252 : Nat) (256 : Int64)) ∈ lw_all := lw_g (lw_at lw_m7 44 rfl) rfl
theorem q1542 : (Jvm.Cond.methodLink "LampSquaresModel" (254 : Nat) ({ cls := "LampSquaresModel", name := "votesOf", desc := "([I)I" } : Jvm.MethodName)) ∈ lw_all := lw_g (lw_at lw_m7 45 rfl) rfl
theorem q1543 : (Jvm.Cond.static ({ cls := "LampSquaresModel", name := "votesOf", desc := "([I)I" } : Jvm.MethodName)) ∈ lw_all := lw_g (lw_at lw_m7 46 rfl) rfl
theorem q1544 : (Jvm.Cond.code ({ cls := "LampSquaresModel", name := "votesOf", desc := "([I)I" } : Jvm.MethodName) prog_16_method_43_code (3 : Nat) (Option.some Jvm.ClassFile.FieldType.int)) ∈ lw_all := lw_g (lw_at lw_m7 47 rfl) rfl
theorem q1546 : (Jvm.Cond.instanceMethod ({ cls := "LampSquaresModel", name := "image", desc := "(I)I" } : Jvm.MethodName)) ∈ lw_all := lw_g (lw_at lw_m7 49 rfl) rfl
theorem q1547 : (Jvm.Cond.selects "LampSquaresModel" ({ cls := "LampSquaresModel", name := "image", desc := "(I)I" } : Jvm.MethodName) ({ cls := "LampSquaresModel", name := "image", desc := "(I)I" } : Jvm.MethodName)) ∈ lw_all := lw_g (lw_at lw_m7 50 rfl) rfl
theorem q1548 : (Jvm.Cond.code ({ cls := "LampSquaresModel", name := "image", desc := "(I)I" } : Jvm.MethodName) prog_16_method_74_code (3 : Nat) (Option.some Jvm.ClassFile.FieldType.int)) ∈ lw_all := lw_g (lw_at lw_m7 51 rfl) rfl
theorem q1550 : (Jvm.Cond.instanceMethod ({ cls := "LampSquaresModel", name := "restore", desc := "(I)I" } : Jvm.MethodName)) ∈ lw_all := lw_g (lw_at lw_m7 53 rfl) rfl
theorem q1551 : (Jvm.Cond.selects "LampSquaresModel" ({ cls := "LampSquaresModel", name := "restore", desc := "(I)I" } : Jvm.MethodName) ({ cls := "LampSquaresModel", name := "restore", desc := "(I)I" } : Jvm.MethodName)) ∈ lw_all := lw_g (lw_at lw_m7 54 rfl) rfl
theorem q1552 : (Jvm.Cond.code ({ cls := "LampSquaresModel", name := "restore", desc := "(I)I" } : Jvm.MethodName) prog_16_method_75_code (3 : Nat) (Option.some Jvm.ClassFile.FieldType.int)) ∈ lw_all := lw_g (lw_at lw_m7 55 rfl) rfl
theorem q1554 : (Jvm.Cond.instanceMethod ({ cls := "LampSquaresModel", name := "kind", desc := "(I)I" } : Jvm.MethodName)) ∈ lw_all := lw_g (lw_at lw_m7 57 rfl) rfl
theorem q1555 : (Jvm.Cond.selects "LampSquaresModel" ({ cls := "LampSquaresModel", name := "kind", desc := "(I)I" } : Jvm.MethodName) ({ cls := "LampSquaresModel", name := "kind", desc := "(I)I" } : Jvm.MethodName)) ∈ lw_all := lw_g (lw_at lw_m7 58 rfl) rfl
theorem q1556 : (Jvm.Cond.code ({ cls := "LampSquaresModel", name := "kind", desc := "(I)I" } : Jvm.MethodName) prog_16_method_77_code (2 : Nat) (Option.some Jvm.ClassFile.FieldType.int)) ∈ lw_all := lw_g (lw_at lw_m7 59 rfl) rfl
theorem q1558 : (Jvm.Cond.instanceMethod ({ cls := "LampSquaresModel", name := "as", desc := "(II)I" } : Jvm.MethodName)) ∈ lw_all := lw_g (lw_at lw_m7 61 rfl) rfl
theorem q1559 : (Jvm.Cond.selects "LampSquaresModel" ({ cls := "LampSquaresModel", name := "as", desc := "(II)I" } : Jvm.MethodName) ({ cls := "LampSquaresModel", name := "as", desc := "(II)I" } : Jvm.MethodName)) ∈ lw_all := lw_g (lw_at lw_m7 62 rfl) rfl
theorem q1560 : (Jvm.Cond.code ({ cls := "LampSquaresModel", name := "as", desc := "(II)I" } : Jvm.MethodName) prog_16_method_78_code (3 : Nat) (Option.some Jvm.ClassFile.FieldType.int)) ∈ lw_all := lw_g (lw_at lw_m7 63 rfl) rfl
theorem q1561 : (Jvm.Cond.constantLong "LampSquaresModel" (258 : Nat) (5 : Int64)) ∈ lw_all := lw_g (lw_at lw_m7 64 rfl) rfl
theorem q1562 : (Jvm.Cond.methodLink "LampSquaresModel" (260 : Nat) ({ cls := "LampSquaresModel", name := "isOf", desc := "(II)Z" } : Jvm.MethodName)) ∈ lw_all := lw_g (lw_at lw_m7 65 rfl) rfl
theorem q1563 : (Jvm.Cond.static ({ cls := "LampSquaresModel", name := "isOf", desc := "(II)Z" } : Jvm.MethodName)) ∈ lw_all := lw_g (lw_at lw_m7 66 rfl) rfl
theorem q1564 : (Jvm.Cond.code ({ cls := "LampSquaresModel", name := "isOf", desc := "(II)Z" } : Jvm.MethodName) prog_16_method_76_code (2 : Nat) (Option.some Jvm.ClassFile.FieldType.boolean)) ∈ lw_all := lw_g (lw_at lw_m7 67 rfl) rfl
theorem q1566 : (Jvm.Cond.instanceMethod ({ cls := "LampSquaresModel", name := "ask", desc := "(II)I" } : Jvm.MethodName)) ∈ lw_all := lw_g (lw_at lw_m7 69 rfl) rfl
theorem q1567 : (Jvm.Cond.selects "LampSquaresModel" ({ cls := "LampSquaresModel", name := "ask", desc := "(II)I" } : Jvm.MethodName) ({ cls := "LampSquaresModel", name := "ask", desc := "(II)I" } : Jvm.MethodName)) ∈ lw_all := lw_g (lw_at lw_m7 70 rfl) rfl
theorem q1568 : (Jvm.Cond.code ({ cls := "LampSquaresModel", name := "ask", desc := "(II)I" } : Jvm.MethodName) prog_16_method_84_code (3 : Nat) (Option.some Jvm.ClassFile.FieldType.int)) ∈ lw_all := lw_g (lw_at lw_m7 71 rfl) rfl
theorem q1569 : (Jvm.Cond.methodLink "LampSquaresModel" (278 : Nat) ({ cls := "LampSquaresModel", name := "sizeOf", desc := "(I)I" } : Jvm.MethodName)) ∈ lw_all := lw_g (lw_at lw_m7 72 rfl) rfl
theorem q1570 : (Jvm.Cond.privateMethod ({ cls := "LampSquaresModel", name := "sizeOf", desc := "(I)I" } : Jvm.MethodName)) ∈ lw_tbl := lw_at lw_m7 73 rfl
theorem q1571 : (Jvm.Cond.instanceMethod ({ cls := "LampSquaresModel", name := "sizeOf", desc := "(I)I" } : Jvm.MethodName)) ∈ lw_all := lw_g (lw_at lw_m7 74 rfl) rfl
theorem q1572 : (Jvm.Cond.code ({ cls := "LampSquaresModel", name := "sizeOf", desc := "(I)I" } : Jvm.MethodName) prog_16_method_83_code (4 : Nat) (Option.some Jvm.ClassFile.FieldType.int)) ∈ lw_all := lw_g (lw_at lw_m7 75 rfl) rfl
theorem q1573 : (Jvm.Cond.methodLink "LampSquaresModel" (272 : Nat) ({ cls := "LampSquaresModel", name := "unknownSize", desc := "(I)I" } : Jvm.MethodName)) ∈ lw_all := lw_g (lw_at lw_m7 76 rfl) rfl
theorem q1574 : (Jvm.Cond.privateMethod ({ cls := "LampSquaresModel", name := "unknownSize", desc := "(I)I" } : Jvm.MethodName)) ∈ lw_tbl := lw_at lw_m7 77 rfl
theorem q1575 : (Jvm.Cond.instanceMethod ({ cls := "LampSquaresModel", name := "unknownSize", desc := "(I)I" } : Jvm.MethodName)) ∈ lw_all := lw_g (lw_at lw_m7 78 rfl) rfl
theorem q1576 : (Jvm.Cond.code ({ cls := "LampSquaresModel", name := "unknownSize", desc := "(I)I" } : Jvm.MethodName) prog_16_method_81_code (4 : Nat) (Option.some Jvm.ClassFile.FieldType.int)) ∈ lw_all := lw_g (lw_at lw_m7 79 rfl) rfl
theorem q1577 : (Jvm.Cond.methodLink "LampSquaresModel" (266 : Nat) ({ cls := "LampSquaresModel", name := "began", desc := "(I)V" } : Jvm.MethodName)) ∈ lw_all := lw_g (lw_at lw_m7 80 rfl) rfl
theorem q1578 : (Jvm.Cond.privateMethod ({ cls := "LampSquaresModel", name := "began", desc := "(I)V" } : Jvm.MethodName)) ∈ lw_tbl := lw_at lw_m7 81 rfl
theorem q1579 : (Jvm.Cond.instanceMethod ({ cls := "LampSquaresModel", name := "began", desc := "(I)V" } : Jvm.MethodName)) ∈ lw_all := lw_g (lw_at lw_m7 82 rfl) rfl
theorem q1580 : (Jvm.Cond.code ({ cls := "LampSquaresModel", name := "began", desc := "(I)V" } : Jvm.MethodName) prog_16_method_79_code (2 : Nat) (Option.none : Option Jvm.ClassFile.FieldType)) ∈ lw_all := lw_g (lw_at lw_m7 83 rfl) rfl
theorem q1581 : (Jvm.Cond.methodLink "LampSquaresModel" (269 : Nat) ({ cls := "LampSquaresModel", name := "plainSize", desc := "(I)I" } : Jvm.MethodName)) ∈ lw_all := lw_g (lw_at lw_m7 84 rfl) rfl
theorem q1582 : (Jvm.Cond.privateMethod ({ cls := "LampSquaresModel", name := "plainSize", desc := "(I)I" } : Jvm.MethodName)) ∈ lw_tbl := lw_at lw_m7 85 rfl
theorem q1583 : (Jvm.Cond.instanceMethod ({ cls := "LampSquaresModel", name := "plainSize", desc := "(I)I" } : Jvm.MethodName)) ∈ lw_all := lw_g (lw_at lw_m7 86 rfl) rfl
theorem q1584 : (Jvm.Cond.code ({ cls := "LampSquaresModel", name := "plainSize", desc := "(I)I" } : Jvm.MethodName) prog_16_method_80_code (2 : Nat) (Option.some Jvm.ClassFile.FieldType.int)) ∈ lw_all := lw_g (lw_at lw_m7 87 rfl) rfl
theorem q1585 : (Jvm.Cond.methodLink "LampSquaresModel" (275 : Nat) ({ cls := "LampSquaresModel", name := "markOf", desc := "(I)I" } : Jvm.MethodName)) ∈ lw_all := lw_g (lw_at lw_m7 88 rfl) rfl
theorem q1586 : (Jvm.Cond.privateMethod ({ cls := "LampSquaresModel", name := "markOf", desc := "(I)I" } : Jvm.MethodName)) ∈ lw_tbl := lw_at lw_m7 89 rfl
theorem q1587 : (Jvm.Cond.instanceMethod ({ cls := "LampSquaresModel", name := "markOf", desc := "(I)I" } : Jvm.MethodName)) ∈ lw_all := lw_g (lw_at lw_m7 90 rfl) rfl
theorem q1588 : (Jvm.Cond.code ({ cls := "LampSquaresModel", name := "markOf", desc := "(I)I" } : Jvm.MethodName) prog_16_method_82_code (5 : Nat) (Option.some Jvm.ClassFile.FieldType.int)) ∈ lw_all := lw_g (lw_at lw_m7 91 rfl) rfl
theorem q1590 : (Jvm.Cond.instanceMethod ({ cls := "LampSquaresModel", name := "trace", desc := "(I)I" } : Jvm.MethodName)) ∈ lw_all := lw_g (lw_at lw_m7 93 rfl) rfl
theorem q1591 : (Jvm.Cond.selects "LampSquaresModel" ({ cls := "LampSquaresModel", name := "trace", desc := "(I)I" } : Jvm.MethodName) ({ cls := "LampSquaresModel", name := "trace", desc := "(I)I" } : Jvm.MethodName)) ∈ lw_all := lw_g (lw_at lw_m7 94 rfl) rfl
theorem q1592 : (Jvm.Cond.code ({ cls := "LampSquaresModel", name := "trace", desc := "(I)I" } : Jvm.MethodName) prog_16_method_85_code (2 : Nat) (Option.some Jvm.ClassFile.FieldType.int)) ∈ lw_all := lw_g (lw_at lw_m7 95 rfl) rfl
theorem q1594 : (Jvm.Cond.instanceMethod ({ cls := "LampSquaresModel", name := "count", desc := "(I)I" } : Jvm.MethodName)) ∈ lw_all := lw_g (lw_at lw_m7 97 rfl) rfl
theorem q1595 : (Jvm.Cond.selects "LampSquaresModel" ({ cls := "LampSquaresModel", name := "count", desc := "(I)I" } : Jvm.MethodName) ({ cls := "LampSquaresModel", name := "count", desc := "(I)I" } : Jvm.MethodName)) ∈ lw_all := lw_g (lw_at lw_m7 98 rfl) rfl
theorem q1596 : (Jvm.Cond.code ({ cls := "LampSquaresModel", name := "count", desc := "(I)I" } : Jvm.MethodName) prog_16_method_86_code (4 : Nat) (Option.some Jvm.ClassFile.FieldType.int)) ∈ lw_all := lw_g (lw_at lw_m7 99 rfl) rfl
theorem q1598 : (Jvm.Cond.instanceMethod ({ cls := "LampSquaresModel", name := "status", desc := "()I" } : Jvm.MethodName)) ∈ lw_all := lw_g (lw_at lw_m7 101 rfl) rfl
theorem q1599 : (Jvm.Cond.selects "LampSquaresModel" ({ cls := "LampSquaresModel", name := "status", desc := "()I" } : Jvm.MethodName) ({ cls := "LampSquaresModel", name := "status", desc := "()I" } : Jvm.MethodName)) ∈ lw_all := lw_g (lw_at lw_m7 102 rfl) rfl
theorem q1600 : (Jvm.Cond.code ({ cls := "LampSquaresModel", name := "status", desc := "()I" } : Jvm.MethodName) prog_16_method_87_code (1 : Nat) (Option.some Jvm.ClassFile.FieldType.int)) ∈ lw_all := lw_g (lw_at lw_m7 103 rfl) rfl
theorem q1626 : (Jvm.Cond.castable "LampSquaresModel" "java/lang/Object") ∈ lw_tbl := lw_at lw_m7 129 rfl
theorem in_X9 : ∀ w ∈ wsX90, w ∈ lw_all := lw_in wsX90 [1203, 1205, 1207, 1209, 1211, 1213, 1215, 1217, 1219, 1221, 1223, 1225, 1227, 1229, 1231, 1233, 1235, 1237, 1239, 1241, 1243, 1245, 1247, 1249] (by decide +kernel) (by decide +kernel)
