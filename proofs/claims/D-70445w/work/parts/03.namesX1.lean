/-! LampSquares$Door -/
set_option maxRecDepth 100000
def RX1 : String := "LampSquares$Door"
def TX1 : u_T := fun k => match k with
  | 0 => ("LampSquares$Door", "edge", "I", false)
  | 1 => ("LampSquares$Door", "strict", "I", false)
  | 2 => ("LampSquares$Door", "squares", "Ljava/util/List;", false)
  | 3 => ("LampSquares$Door", "share", "[I", true)
  | 4 => ("LampSquares$Door", "yes", "[I", true)
  | 5 => ("LampSquares$Door", "no", "[I", true)
  | 6 => ("LampSquares$Door", "settled", "[I", true)
  | 7 => ("LampSquares$Door", "visitors", "I", false)
  | 8 => ("LampSquares$Door", "care", "[I", true)
  | 9 => ("LampSquares$Door", "ear", "[I", true)
  | 10 => ("LampSquares$Door", "posed", "[I", true)
  | _ => ("LampSquares$Door", "let", "[I", true)
def tyX1 : Nat → FieldType := fun k => match k with
  | 0 => .int
  | 1 => .int
  | 2 => .object "java/util/List"
  | 3 => .array .int
  | 4 => .array .int
  | 5 => .array .int
  | 6 => .array .int
  | 7 => .int
  | 8 => .array .int
  | 9 => .array .int
  | 10 => .array .int
  | _ => .array .int
abbrev wsX10 : List Cond := u_ws RX1 TX1 12
theorem nmX1 : ∀ a, a < 12 → ∀ b, b < 12 → a ≠ b → (TX1 a).2.1 ≠ (TX1 b).2.1 := by decide +kernel
theorem tyX1_ok : ∀ k, k < 12 → parseFieldDescriptor (TX1 k).2.2.1 = some (tyX1 k) := by decide +kernel
abbrev cX1_init : ByteArray := prog_3_method_1_code
def yX1_init : MethodName := ⟨RX1, "<init>", "()V"⟩
def dkwX1_init_3 : List UInt8 := [181, 0, 40, 177]
abbrev dktX1_init_3 : List UInt8 := dkwX1_init_3 ++ []
def dkwX1_init_2 : List UInt8 := [8, 188, 10, 181, 0, 31, 42, 8, 188, 10, 181, 0, 34, 42, 8, 188, 10, 181, 0, 37, 42, 8, 188, 10]
abbrev dktX1_init_2 : List UInt8 := dkwX1_init_2 ++ dktX1_init_3
def dkwX1_init_1 : List UInt8 := [16, 8, 188, 10, 181, 0, 22, 42, 16, 8, 188, 10, 181, 0, 25, 42, 16, 8, 188, 10, 181, 0, 28, 42]
abbrev dktX1_init_1 : List UInt8 := dkwX1_init_1 ++ dktX1_init_2
def dkwX1_init_0 : List UInt8 := [42, 183, 0, 3, 42, 187, 0, 9, 89, 183, 0, 11, 181, 0, 12, 42, 16, 8, 188, 10, 181, 0, 18, 42]
abbrev dktX1_init_0 : List UInt8 := dkwX1_init_0 ++ dktX1_init_1
theorem dksX1_init_0 : cX1_init.data.toList.drop 0 = dktX1_init_0 := by decide +kernel
theorem dksX1_init_1 : cX1_init.data.toList.drop 24 = dktX1_init_1 := dk_seg dksX1_init_0 24 rfl rfl
theorem dksX1_init_2 : cX1_init.data.toList.drop 48 = dktX1_init_2 := dk_seg dksX1_init_1 24 rfl rfl
theorem dksX1_init_3 : cX1_init.data.toList.drop 72 = dktX1_init_3 := dk_seg dksX1_init_2 24 rfl rfl
theorem dX1_init_0 : decode cX1_init 0 = .ok (.aload_n 0, 1) := dk_42 (dk_at dksX1_init_0 0 rfl rfl)
theorem dX1_init_1 : decode cX1_init 1 = .ok (.invokespecial 3, 3) := dk_183 0 3 (dk_at dksX1_init_0 1 rfl rfl)
theorem dX1_init_4 : decode cX1_init 4 = .ok (.aload_n 0, 1) := dk_42 (dk_at dksX1_init_0 4 rfl rfl)
theorem dX1_init_5 : decode cX1_init 5 = .ok (.new 9, 3) := dk_187 0 9 (dk_at dksX1_init_0 5 rfl rfl)
theorem dX1_init_8 : decode cX1_init 8 = .ok (.dup, 1) := dk_89 (dk_at dksX1_init_0 8 rfl rfl)
theorem dX1_init_9 : decode cX1_init 9 = .ok (.invokespecial 11, 3) := dk_183 0 11 (dk_at dksX1_init_0 9 rfl rfl)
theorem dX1_init_12 : decode cX1_init 12 = .ok (.putfield 12, 3) := dk_181 0 12 (dk_at dksX1_init_0 12 rfl rfl)
theorem dX1_init_15 : decode cX1_init 15 = .ok (.aload_n 0, 1) := dk_42 (dk_at dksX1_init_0 15 rfl rfl)
theorem dX1_init_16 : decode cX1_init 16 = .ok (.bipush 8, 2) := dk_16 8 (dk_at dksX1_init_0 16 rfl rfl)
theorem dX1_init_18 : decode cX1_init 18 = .ok (.newarray .int, 2) := dk_188_10 (dk_at dksX1_init_0 18 rfl rfl)
theorem dX1_init_20 : decode cX1_init 20 = .ok (.putfield 18, 3) := dk_181 0 18 (dk_at dksX1_init_0 20 rfl rfl)
theorem dX1_init_23 : decode cX1_init 23 = .ok (.aload_n 0, 1) := dk_42 (dk_at dksX1_init_0 23 rfl rfl)
theorem dX1_init_24 : decode cX1_init 24 = .ok (.bipush 8, 2) := dk_16 8 (dk_at dksX1_init_1 0 rfl rfl)
theorem dX1_init_26 : decode cX1_init 26 = .ok (.newarray .int, 2) := dk_188_10 (dk_at dksX1_init_1 2 rfl rfl)
theorem dX1_init_28 : decode cX1_init 28 = .ok (.putfield 22, 3) := dk_181 0 22 (dk_at dksX1_init_1 4 rfl rfl)
theorem dX1_init_31 : decode cX1_init 31 = .ok (.aload_n 0, 1) := dk_42 (dk_at dksX1_init_1 7 rfl rfl)
theorem dX1_init_32 : decode cX1_init 32 = .ok (.bipush 8, 2) := dk_16 8 (dk_at dksX1_init_1 8 rfl rfl)
theorem dX1_init_34 : decode cX1_init 34 = .ok (.newarray .int, 2) := dk_188_10 (dk_at dksX1_init_1 10 rfl rfl)
theorem dX1_init_36 : decode cX1_init 36 = .ok (.putfield 25, 3) := dk_181 0 25 (dk_at dksX1_init_1 12 rfl rfl)
theorem dX1_init_39 : decode cX1_init 39 = .ok (.aload_n 0, 1) := dk_42 (dk_at dksX1_init_1 15 rfl rfl)
theorem dX1_init_40 : decode cX1_init 40 = .ok (.bipush 8, 2) := dk_16 8 (dk_at dksX1_init_1 16 rfl rfl)
theorem dX1_init_42 : decode cX1_init 42 = .ok (.newarray .int, 2) := dk_188_10 (dk_at dksX1_init_1 18 rfl rfl)
theorem dX1_init_44 : decode cX1_init 44 = .ok (.putfield 28, 3) := dk_181 0 28 (dk_at dksX1_init_1 20 rfl rfl)
theorem dX1_init_47 : decode cX1_init 47 = .ok (.aload_n 0, 1) := dk_42 (dk_at dksX1_init_1 23 rfl rfl)
theorem dX1_init_48 : decode cX1_init 48 = .ok (.iconst 5, 1) := dk_8 (dk_at dksX1_init_2 0 rfl rfl)
theorem dX1_init_49 : decode cX1_init 49 = .ok (.newarray .int, 2) := dk_188_10 (dk_at dksX1_init_2 1 rfl rfl)
theorem dX1_init_51 : decode cX1_init 51 = .ok (.putfield 31, 3) := dk_181 0 31 (dk_at dksX1_init_2 3 rfl rfl)
theorem dX1_init_54 : decode cX1_init 54 = .ok (.aload_n 0, 1) := dk_42 (dk_at dksX1_init_2 6 rfl rfl)
theorem dX1_init_55 : decode cX1_init 55 = .ok (.iconst 5, 1) := dk_8 (dk_at dksX1_init_2 7 rfl rfl)
theorem dX1_init_56 : decode cX1_init 56 = .ok (.newarray .int, 2) := dk_188_10 (dk_at dksX1_init_2 8 rfl rfl)
theorem dX1_init_58 : decode cX1_init 58 = .ok (.putfield 34, 3) := dk_181 0 34 (dk_at dksX1_init_2 10 rfl rfl)
theorem dX1_init_61 : decode cX1_init 61 = .ok (.aload_n 0, 1) := dk_42 (dk_at dksX1_init_2 13 rfl rfl)
theorem dX1_init_62 : decode cX1_init 62 = .ok (.iconst 5, 1) := dk_8 (dk_at dksX1_init_2 14 rfl rfl)
theorem dX1_init_63 : decode cX1_init 63 = .ok (.newarray .int, 2) := dk_188_10 (dk_at dksX1_init_2 15 rfl rfl)
theorem dX1_init_65 : decode cX1_init 65 = .ok (.putfield 37, 3) := dk_181 0 37 (dk_at dksX1_init_2 17 rfl rfl)
theorem dX1_init_68 : decode cX1_init 68 = .ok (.aload_n 0, 1) := dk_42 (dk_at dksX1_init_2 20 rfl rfl)
theorem dX1_init_69 : decode cX1_init 69 = .ok (.iconst 5, 1) := dk_8 (dk_at dksX1_init_2 21 rfl rfl)
theorem dX1_init_70 : decode cX1_init 70 = .ok (.newarray .int, 2) := dk_188_10 (dk_at dksX1_init_2 22 rfl rfl)
theorem dX1_init_72 : decode cX1_init 72 = .ok (.putfield 40, 3) := dk_181 0 40 (dk_at dksX1_init_3 0 rfl rfl)
theorem dX1_init_75 : decode cX1_init 75 = .ok (.return_, 1) := dk_177 (dk_at dksX1_init_3 3 rfl rfl)
abbrev cX1_many : ByteArray := prog_3_method_3_code
def yX1_many : MethodName := ⟨RX1, "many", "()I"⟩
def dkwX1_many_0 : List UInt8 := [42, 180, 0, 12, 185, 0, 59, 1, 0, 172]
abbrev dktX1_many_0 : List UInt8 := dkwX1_many_0 ++ []
theorem dksX1_many_0 : cX1_many.data.toList.drop 0 = dktX1_many_0 := by decide +kernel
theorem dX1_many_0 : decode cX1_many 0 = .ok (.aload_n 0, 1) := dk_42 (dk_at dksX1_many_0 0 rfl rfl)
theorem dX1_many_1 : decode cX1_many 1 = .ok (.getfield 12, 3) := dk_180 0 12 (dk_at dksX1_many_0 1 rfl rfl)
theorem dX1_many_4 : decode cX1_many 4 = .ok (.invokeinterface 59 1, 5) := by decide +kernel
theorem dX1_many_9 : decode cX1_many 9 = .ok (.ireturn, 1) := dk_172 (dk_at dksX1_many_0 9 rfl rfl)
abbrev cX1_become : ByteArray := prog_3_method_2_code
def yX1_become : MethodName := ⟨RX1, "become", "(LLampSquares$Door;)LLampSquares$Door;"⟩
def dkwX1_become_6 : List UInt8 := [180, 0, 40, 3, 8, 184, 0, 50, 42, 176]
abbrev dktX1_become_6 : List UInt8 := dkwX1_become_6 ++ []
def dkwX1_become_5 : List UInt8 := [184, 0, 50, 43, 180, 0, 37, 3, 42, 180, 0, 37, 3, 8, 184, 0, 50, 43, 180, 0, 40, 3, 42]
abbrev dktX1_become_5 : List UInt8 := dkwX1_become_5 ++ dktX1_become_6
def dkwX1_become_4 : List UInt8 := [180, 0, 31, 3, 42, 180, 0, 31, 3, 8, 184, 0, 50, 43, 180, 0, 34, 3, 42, 180, 0, 34, 3, 8]
abbrev dktX1_become_4 : List UInt8 := dkwX1_become_4 ++ dktX1_become_5
def dkwX1_become_3 : List UInt8 := [180, 0, 28, 3, 42, 180, 0, 28, 3, 16, 8, 184, 0, 50, 42, 43, 180, 0, 56, 181, 0, 56, 43]
abbrev dktX1_become_3 : List UInt8 := dkwX1_become_3 ++ dktX1_become_4
def dkwX1_become_2 : List UInt8 := [3, 16, 8, 184, 0, 50, 43, 180, 0, 25, 3, 42, 180, 0, 25, 3, 16, 8, 184, 0, 50, 43]
abbrev dktX1_become_2 : List UInt8 := dkwX1_become_2 ++ dktX1_become_3
def dkwX1_become_1 : List UInt8 := [43, 180, 0, 18, 3, 42, 180, 0, 18, 3, 16, 8, 184, 0, 50, 43, 180, 0, 22, 3, 42, 180, 0, 22]
abbrev dktX1_become_1 : List UInt8 := dkwX1_become_1 ++ dktX1_become_2
def dkwX1_become_0 : List UInt8 := [42, 43, 180, 0, 43, 181, 0, 43, 42, 43, 180, 0, 47, 181, 0, 47, 42, 43, 180, 0, 12, 181, 0, 12]
abbrev dktX1_become_0 : List UInt8 := dkwX1_become_0 ++ dktX1_become_1
theorem dksX1_become_0 : cX1_become.data.toList.drop 0 = dktX1_become_0 := by decide +kernel
theorem dksX1_become_1 : cX1_become.data.toList.drop 24 = dktX1_become_1 := dk_seg dksX1_become_0 24 rfl rfl
theorem dksX1_become_2 : cX1_become.data.toList.drop 48 = dktX1_become_2 := dk_seg dksX1_become_1 24 rfl rfl
theorem dksX1_become_3 : cX1_become.data.toList.drop 70 = dktX1_become_3 := dk_seg dksX1_become_2 22 rfl rfl
theorem dksX1_become_4 : cX1_become.data.toList.drop 93 = dktX1_become_4 := dk_seg dksX1_become_3 23 rfl rfl
theorem dksX1_become_5 : cX1_become.data.toList.drop 117 = dktX1_become_5 := dk_seg dksX1_become_4 24 rfl rfl
theorem dksX1_become_6 : cX1_become.data.toList.drop 140 = dktX1_become_6 := dk_seg dksX1_become_5 23 rfl rfl
theorem dX1_become_0 : decode cX1_become 0 = .ok (.aload_n 0, 1) := dk_42 (dk_at dksX1_become_0 0 rfl rfl)
theorem dX1_become_1 : decode cX1_become 1 = .ok (.aload_n 1, 1) := dk_43 (dk_at dksX1_become_0 1 rfl rfl)
theorem dX1_become_2 : decode cX1_become 2 = .ok (.getfield 43, 3) := dk_180 0 43 (dk_at dksX1_become_0 2 rfl rfl)
theorem dX1_become_5 : decode cX1_become 5 = .ok (.putfield 43, 3) := dk_181 0 43 (dk_at dksX1_become_0 5 rfl rfl)
theorem dX1_become_8 : decode cX1_become 8 = .ok (.aload_n 0, 1) := dk_42 (dk_at dksX1_become_0 8 rfl rfl)
theorem dX1_become_9 : decode cX1_become 9 = .ok (.aload_n 1, 1) := dk_43 (dk_at dksX1_become_0 9 rfl rfl)
theorem dX1_become_10 : decode cX1_become 10 = .ok (.getfield 47, 3) := dk_180 0 47 (dk_at dksX1_become_0 10 rfl rfl)
theorem dX1_become_13 : decode cX1_become 13 = .ok (.putfield 47, 3) := dk_181 0 47 (dk_at dksX1_become_0 13 rfl rfl)
theorem dX1_become_16 : decode cX1_become 16 = .ok (.aload_n 0, 1) := dk_42 (dk_at dksX1_become_0 16 rfl rfl)
theorem dX1_become_17 : decode cX1_become 17 = .ok (.aload_n 1, 1) := dk_43 (dk_at dksX1_become_0 17 rfl rfl)
theorem dX1_become_18 : decode cX1_become 18 = .ok (.getfield 12, 3) := dk_180 0 12 (dk_at dksX1_become_0 18 rfl rfl)
theorem dX1_become_21 : decode cX1_become 21 = .ok (.putfield 12, 3) := dk_181 0 12 (dk_at dksX1_become_0 21 rfl rfl)
theorem dX1_become_24 : decode cX1_become 24 = .ok (.aload_n 1, 1) := dk_43 (dk_at dksX1_become_1 0 rfl rfl)
theorem dX1_become_25 : decode cX1_become 25 = .ok (.getfield 18, 3) := dk_180 0 18 (dk_at dksX1_become_1 1 rfl rfl)
theorem dX1_become_28 : decode cX1_become 28 = .ok (.iconst 0, 1) := dk_3 (dk_at dksX1_become_1 4 rfl rfl)
theorem dX1_become_29 : decode cX1_become 29 = .ok (.aload_n 0, 1) := dk_42 (dk_at dksX1_become_1 5 rfl rfl)
theorem dX1_become_30 : decode cX1_become 30 = .ok (.getfield 18, 3) := dk_180 0 18 (dk_at dksX1_become_1 6 rfl rfl)
theorem dX1_become_33 : decode cX1_become 33 = .ok (.iconst 0, 1) := dk_3 (dk_at dksX1_become_1 9 rfl rfl)
theorem dX1_become_34 : decode cX1_become 34 = .ok (.bipush 8, 2) := dk_16 8 (dk_at dksX1_become_1 10 rfl rfl)
theorem dX1_become_36 : decode cX1_become 36 = .ok (.invokestatic 50, 3) := dk_184 0 50 (dk_at dksX1_become_1 12 rfl rfl)
theorem dX1_become_39 : decode cX1_become 39 = .ok (.aload_n 1, 1) := dk_43 (dk_at dksX1_become_1 15 rfl rfl)
theorem dX1_become_40 : decode cX1_become 40 = .ok (.getfield 22, 3) := dk_180 0 22 (dk_at dksX1_become_1 16 rfl rfl)
theorem dX1_become_43 : decode cX1_become 43 = .ok (.iconst 0, 1) := dk_3 (dk_at dksX1_become_1 19 rfl rfl)
theorem dX1_become_44 : decode cX1_become 44 = .ok (.aload_n 0, 1) := dk_42 (dk_at dksX1_become_1 20 rfl rfl)
theorem dX1_become_45 : decode cX1_become 45 = .ok (.getfield 22, 3) := dk_180 0 22 (dk_at dksX1_become_1 21 rfl rfl)
theorem dX1_become_48 : decode cX1_become 48 = .ok (.iconst 0, 1) := dk_3 (dk_at dksX1_become_2 0 rfl rfl)
theorem dX1_become_49 : decode cX1_become 49 = .ok (.bipush 8, 2) := dk_16 8 (dk_at dksX1_become_2 1 rfl rfl)
theorem dX1_become_51 : decode cX1_become 51 = .ok (.invokestatic 50, 3) := dk_184 0 50 (dk_at dksX1_become_2 3 rfl rfl)
theorem dX1_become_54 : decode cX1_become 54 = .ok (.aload_n 1, 1) := dk_43 (dk_at dksX1_become_2 6 rfl rfl)
theorem dX1_become_55 : decode cX1_become 55 = .ok (.getfield 25, 3) := dk_180 0 25 (dk_at dksX1_become_2 7 rfl rfl)
theorem dX1_become_58 : decode cX1_become 58 = .ok (.iconst 0, 1) := dk_3 (dk_at dksX1_become_2 10 rfl rfl)
theorem dX1_become_59 : decode cX1_become 59 = .ok (.aload_n 0, 1) := dk_42 (dk_at dksX1_become_2 11 rfl rfl)
theorem dX1_become_60 : decode cX1_become 60 = .ok (.getfield 25, 3) := dk_180 0 25 (dk_at dksX1_become_2 12 rfl rfl)
theorem dX1_become_63 : decode cX1_become 63 = .ok (.iconst 0, 1) := dk_3 (dk_at dksX1_become_2 15 rfl rfl)
theorem dX1_become_64 : decode cX1_become 64 = .ok (.bipush 8, 2) := dk_16 8 (dk_at dksX1_become_2 16 rfl rfl)
theorem dX1_become_66 : decode cX1_become 66 = .ok (.invokestatic 50, 3) := dk_184 0 50 (dk_at dksX1_become_2 18 rfl rfl)
theorem dX1_become_69 : decode cX1_become 69 = .ok (.aload_n 1, 1) := dk_43 (dk_at dksX1_become_2 21 rfl rfl)
theorem dX1_become_70 : decode cX1_become 70 = .ok (.getfield 28, 3) := dk_180 0 28 (dk_at dksX1_become_3 0 rfl rfl)
theorem dX1_become_73 : decode cX1_become 73 = .ok (.iconst 0, 1) := dk_3 (dk_at dksX1_become_3 3 rfl rfl)
theorem dX1_become_74 : decode cX1_become 74 = .ok (.aload_n 0, 1) := dk_42 (dk_at dksX1_become_3 4 rfl rfl)
theorem dX1_become_75 : decode cX1_become 75 = .ok (.getfield 28, 3) := dk_180 0 28 (dk_at dksX1_become_3 5 rfl rfl)
theorem dX1_become_78 : decode cX1_become 78 = .ok (.iconst 0, 1) := dk_3 (dk_at dksX1_become_3 8 rfl rfl)
theorem dX1_become_79 : decode cX1_become 79 = .ok (.bipush 8, 2) := dk_16 8 (dk_at dksX1_become_3 9 rfl rfl)
theorem dX1_become_81 : decode cX1_become 81 = .ok (.invokestatic 50, 3) := dk_184 0 50 (dk_at dksX1_become_3 11 rfl rfl)
theorem dX1_become_84 : decode cX1_become 84 = .ok (.aload_n 0, 1) := dk_42 (dk_at dksX1_become_3 14 rfl rfl)
theorem dX1_become_85 : decode cX1_become 85 = .ok (.aload_n 1, 1) := dk_43 (dk_at dksX1_become_3 15 rfl rfl)
theorem dX1_become_86 : decode cX1_become 86 = .ok (.getfield 56, 3) := dk_180 0 56 (dk_at dksX1_become_3 16 rfl rfl)
theorem dX1_become_89 : decode cX1_become 89 = .ok (.putfield 56, 3) := dk_181 0 56 (dk_at dksX1_become_3 19 rfl rfl)
theorem dX1_become_92 : decode cX1_become 92 = .ok (.aload_n 1, 1) := dk_43 (dk_at dksX1_become_3 22 rfl rfl)
theorem dX1_become_93 : decode cX1_become 93 = .ok (.getfield 31, 3) := dk_180 0 31 (dk_at dksX1_become_4 0 rfl rfl)
theorem dX1_become_96 : decode cX1_become 96 = .ok (.iconst 0, 1) := dk_3 (dk_at dksX1_become_4 3 rfl rfl)
theorem dX1_become_97 : decode cX1_become 97 = .ok (.aload_n 0, 1) := dk_42 (dk_at dksX1_become_4 4 rfl rfl)
theorem dX1_become_98 : decode cX1_become 98 = .ok (.getfield 31, 3) := dk_180 0 31 (dk_at dksX1_become_4 5 rfl rfl)
theorem dX1_become_101 : decode cX1_become 101 = .ok (.iconst 0, 1) := dk_3 (dk_at dksX1_become_4 8 rfl rfl)
theorem dX1_become_102 : decode cX1_become 102 = .ok (.iconst 5, 1) := dk_8 (dk_at dksX1_become_4 9 rfl rfl)
theorem dX1_become_103 : decode cX1_become 103 = .ok (.invokestatic 50, 3) := dk_184 0 50 (dk_at dksX1_become_4 10 rfl rfl)
theorem dX1_become_106 : decode cX1_become 106 = .ok (.aload_n 1, 1) := dk_43 (dk_at dksX1_become_4 13 rfl rfl)
theorem dX1_become_107 : decode cX1_become 107 = .ok (.getfield 34, 3) := dk_180 0 34 (dk_at dksX1_become_4 14 rfl rfl)
theorem dX1_become_110 : decode cX1_become 110 = .ok (.iconst 0, 1) := dk_3 (dk_at dksX1_become_4 17 rfl rfl)
theorem dX1_become_111 : decode cX1_become 111 = .ok (.aload_n 0, 1) := dk_42 (dk_at dksX1_become_4 18 rfl rfl)
theorem dX1_become_112 : decode cX1_become 112 = .ok (.getfield 34, 3) := dk_180 0 34 (dk_at dksX1_become_4 19 rfl rfl)
theorem dX1_become_115 : decode cX1_become 115 = .ok (.iconst 0, 1) := dk_3 (dk_at dksX1_become_4 22 rfl rfl)
theorem dX1_become_116 : decode cX1_become 116 = .ok (.iconst 5, 1) := dk_8 (dk_at dksX1_become_4 23 rfl rfl)
theorem dX1_become_117 : decode cX1_become 117 = .ok (.invokestatic 50, 3) := dk_184 0 50 (dk_at dksX1_become_5 0 rfl rfl)
theorem dX1_become_120 : decode cX1_become 120 = .ok (.aload_n 1, 1) := dk_43 (dk_at dksX1_become_5 3 rfl rfl)
theorem dX1_become_121 : decode cX1_become 121 = .ok (.getfield 37, 3) := dk_180 0 37 (dk_at dksX1_become_5 4 rfl rfl)
theorem dX1_become_124 : decode cX1_become 124 = .ok (.iconst 0, 1) := dk_3 (dk_at dksX1_become_5 7 rfl rfl)
theorem dX1_become_125 : decode cX1_become 125 = .ok (.aload_n 0, 1) := dk_42 (dk_at dksX1_become_5 8 rfl rfl)
theorem dX1_become_126 : decode cX1_become 126 = .ok (.getfield 37, 3) := dk_180 0 37 (dk_at dksX1_become_5 9 rfl rfl)
theorem dX1_become_129 : decode cX1_become 129 = .ok (.iconst 0, 1) := dk_3 (dk_at dksX1_become_5 12 rfl rfl)
theorem dX1_become_130 : decode cX1_become 130 = .ok (.iconst 5, 1) := dk_8 (dk_at dksX1_become_5 13 rfl rfl)
theorem dX1_become_131 : decode cX1_become 131 = .ok (.invokestatic 50, 3) := dk_184 0 50 (dk_at dksX1_become_5 14 rfl rfl)
theorem dX1_become_134 : decode cX1_become 134 = .ok (.aload_n 1, 1) := dk_43 (dk_at dksX1_become_5 17 rfl rfl)
theorem dX1_become_135 : decode cX1_become 135 = .ok (.getfield 40, 3) := dk_180 0 40 (dk_at dksX1_become_5 18 rfl rfl)
theorem dX1_become_138 : decode cX1_become 138 = .ok (.iconst 0, 1) := dk_3 (dk_at dksX1_become_5 21 rfl rfl)
theorem dX1_become_139 : decode cX1_become 139 = .ok (.aload_n 0, 1) := dk_42 (dk_at dksX1_become_5 22 rfl rfl)
theorem dX1_become_140 : decode cX1_become 140 = .ok (.getfield 40, 3) := dk_180 0 40 (dk_at dksX1_become_6 0 rfl rfl)
theorem dX1_become_143 : decode cX1_become 143 = .ok (.iconst 0, 1) := dk_3 (dk_at dksX1_become_6 3 rfl rfl)
theorem dX1_become_144 : decode cX1_become 144 = .ok (.iconst 5, 1) := dk_8 (dk_at dksX1_become_6 4 rfl rfl)
theorem dX1_become_145 : decode cX1_become 145 = .ok (.invokestatic 50, 3) := dk_184 0 50 (dk_at dksX1_become_6 5 rfl rfl)
theorem dX1_become_148 : decode cX1_become 148 = .ok (.aload_n 0, 1) := dk_42 (dk_at dksX1_become_6 8 rfl rfl)
theorem dX1_become_149 : decode cX1_become 149 = .ok (.areturn, 1) := dk_176 (dk_at dksX1_become_6 9 rfl rfl)
abbrev cX1_pose : ByteArray := prog_3_method_15_code
def yX1_pose : MethodName := ⟨RX1, "pose", "(II)Z"⟩
def dkwX1_pose_4 : List UInt8 := [184, 0, 119, 79, 132, 3, 1, 167, 255, 189, 4, 172]
abbrev dktX1_pose_4 : List UInt8 := dkwX1_pose_4 ++ []
def dkwX1_pose_3 : List UInt8 := [180, 0, 22, 167, 0, 7, 42, 180, 0, 25, 58, 4, 25, 4, 29, 16, 99, 25, 4, 29, 46, 4, 96]
abbrev dktX1_pose_3 : List UInt8 := dkwX1_pose_3 ++ dktX1_pose_4
def dkwX1_pose_2 : List UInt8 := [153, 0, 51, 42, 29, 182, 0, 79, 153, 0, 6, 167, 0, 40, 42, 27, 29, 182, 0, 90, 153, 0, 10, 42]
abbrev dktX1_pose_2 : List UInt8 := dkwX1_pose_2 ++ dktX1_pose_3
def dkwX1_pose_1 : List UInt8 := [180, 0, 40, 27, 92, 46, 4, 96, 79, 3, 62, 29, 42, 182, 0, 76, 162, 0, 65, 28, 29, 122, 4, 126]
abbrev dktX1_pose_1 : List UInt8 := dkwX1_pose_1 ++ dktX1_pose_2
def dkwX1_pose_0 : List UInt8 := [42, 180, 0, 37, 27, 92, 46, 4, 96, 79, 42, 27, 28, 182, 0, 116, 154, 0, 5, 3, 172, 42]
abbrev dktX1_pose_0 : List UInt8 := dkwX1_pose_0 ++ dktX1_pose_1
theorem dksX1_pose_0 : cX1_pose.data.toList.drop 0 = dktX1_pose_0 := by decide +kernel
theorem dksX1_pose_1 : cX1_pose.data.toList.drop 22 = dktX1_pose_1 := dk_seg dksX1_pose_0 22 rfl rfl
theorem dksX1_pose_2 : cX1_pose.data.toList.drop 46 = dktX1_pose_2 := dk_seg dksX1_pose_1 24 rfl rfl
theorem dksX1_pose_3 : cX1_pose.data.toList.drop 70 = dktX1_pose_3 := dk_seg dksX1_pose_2 24 rfl rfl
theorem dksX1_pose_4 : cX1_pose.data.toList.drop 93 = dktX1_pose_4 := dk_seg dksX1_pose_3 23 rfl rfl
theorem dX1_pose_0 : decode cX1_pose 0 = .ok (.aload_n 0, 1) := dk_42 (dk_at dksX1_pose_0 0 rfl rfl)
theorem dX1_pose_1 : decode cX1_pose 1 = .ok (.getfield 37, 3) := dk_180 0 37 (dk_at dksX1_pose_0 1 rfl rfl)
theorem dX1_pose_4 : decode cX1_pose 4 = .ok (.iload_n 1, 1) := dk_27 (dk_at dksX1_pose_0 4 rfl rfl)
theorem dX1_pose_5 : decode cX1_pose 5 = .ok (.dup2, 1) := dk_92 (dk_at dksX1_pose_0 5 rfl rfl)
theorem dX1_pose_6 : decode cX1_pose 6 = .ok (.iaload, 1) := dk_46 (dk_at dksX1_pose_0 6 rfl rfl)
theorem dX1_pose_7 : decode cX1_pose 7 = .ok (.iconst 1, 1) := dk_4 (dk_at dksX1_pose_0 7 rfl rfl)
theorem dX1_pose_8 : decode cX1_pose 8 = .ok (.iadd, 1) := dk_96 (dk_at dksX1_pose_0 8 rfl rfl)
theorem dX1_pose_9 : decode cX1_pose 9 = .ok (.iastore, 1) := dk_79 (dk_at dksX1_pose_0 9 rfl rfl)
theorem dX1_pose_10 : decode cX1_pose 10 = .ok (.aload_n 0, 1) := dk_42 (dk_at dksX1_pose_0 10 rfl rfl)
theorem dX1_pose_11 : decode cX1_pose 11 = .ok (.iload_n 1, 1) := dk_27 (dk_at dksX1_pose_0 11 rfl rfl)
theorem dX1_pose_12 : decode cX1_pose 12 = .ok (.iload_n 2, 1) := dk_28 (dk_at dksX1_pose_0 12 rfl rfl)
theorem dX1_pose_13 : decode cX1_pose 13 = .ok (.invokevirtual 116, 3) := dk_182 0 116 (dk_at dksX1_pose_0 13 rfl rfl)
theorem dX1_pose_16 : decode cX1_pose 16 = .ok (.ifCond .ne 5, 3) := dk_154 0 5 (dk_at dksX1_pose_0 16 rfl rfl)
theorem dX1_pose_19 : decode cX1_pose 19 = .ok (.iconst 0, 1) := dk_3 (dk_at dksX1_pose_0 19 rfl rfl)
theorem dX1_pose_20 : decode cX1_pose 20 = .ok (.ireturn, 1) := dk_172 (dk_at dksX1_pose_0 20 rfl rfl)
theorem dX1_pose_21 : decode cX1_pose 21 = .ok (.aload_n 0, 1) := dk_42 (dk_at dksX1_pose_0 21 rfl rfl)
theorem dX1_pose_22 : decode cX1_pose 22 = .ok (.getfield 40, 3) := dk_180 0 40 (dk_at dksX1_pose_1 0 rfl rfl)
theorem dX1_pose_25 : decode cX1_pose 25 = .ok (.iload_n 1, 1) := dk_27 (dk_at dksX1_pose_1 3 rfl rfl)
theorem dX1_pose_26 : decode cX1_pose 26 = .ok (.dup2, 1) := dk_92 (dk_at dksX1_pose_1 4 rfl rfl)
theorem dX1_pose_27 : decode cX1_pose 27 = .ok (.iaload, 1) := dk_46 (dk_at dksX1_pose_1 5 rfl rfl)
theorem dX1_pose_28 : decode cX1_pose 28 = .ok (.iconst 1, 1) := dk_4 (dk_at dksX1_pose_1 6 rfl rfl)
theorem dX1_pose_29 : decode cX1_pose 29 = .ok (.iadd, 1) := dk_96 (dk_at dksX1_pose_1 7 rfl rfl)
theorem dX1_pose_30 : decode cX1_pose 30 = .ok (.iastore, 1) := dk_79 (dk_at dksX1_pose_1 8 rfl rfl)
theorem dX1_pose_31 : decode cX1_pose 31 = .ok (.iconst 0, 1) := dk_3 (dk_at dksX1_pose_1 9 rfl rfl)
theorem dX1_pose_32 : decode cX1_pose 32 = .ok (.istore_n 3, 1) := dk_62 (dk_at dksX1_pose_1 10 rfl rfl)
theorem dX1_pose_33 : decode cX1_pose 33 = .ok (.iload_n 3, 1) := dk_29 (dk_at dksX1_pose_1 11 rfl rfl)
theorem dX1_pose_34 : decode cX1_pose 34 = .ok (.aload_n 0, 1) := dk_42 (dk_at dksX1_pose_1 12 rfl rfl)
theorem dX1_pose_35 : decode cX1_pose 35 = .ok (.invokevirtual 76, 3) := dk_182 0 76 (dk_at dksX1_pose_1 13 rfl rfl)
theorem dX1_pose_38 : decode cX1_pose 38 = .ok (.if_icmp .ge 65, 3) := dk_162 0 65 (dk_at dksX1_pose_1 16 rfl rfl)
theorem dX1_pose_41 : decode cX1_pose 41 = .ok (.iload_n 2, 1) := dk_28 (dk_at dksX1_pose_1 19 rfl rfl)
theorem dX1_pose_42 : decode cX1_pose 42 = .ok (.iload_n 3, 1) := dk_29 (dk_at dksX1_pose_1 20 rfl rfl)
theorem dX1_pose_43 : decode cX1_pose 43 = .ok (.ishr, 1) := dk_122 (dk_at dksX1_pose_1 21 rfl rfl)
theorem dX1_pose_44 : decode cX1_pose 44 = .ok (.iconst 1, 1) := dk_4 (dk_at dksX1_pose_1 22 rfl rfl)
theorem dX1_pose_45 : decode cX1_pose 45 = .ok (.iand, 1) := dk_126 (dk_at dksX1_pose_1 23 rfl rfl)
theorem dX1_pose_46 : decode cX1_pose 46 = .ok (.ifCond .eq 51, 3) := dk_153 0 51 (dk_at dksX1_pose_2 0 rfl rfl)
theorem dX1_pose_49 : decode cX1_pose 49 = .ok (.aload_n 0, 1) := dk_42 (dk_at dksX1_pose_2 3 rfl rfl)
theorem dX1_pose_50 : decode cX1_pose 50 = .ok (.iload_n 3, 1) := dk_29 (dk_at dksX1_pose_2 4 rfl rfl)
theorem dX1_pose_51 : decode cX1_pose 51 = .ok (.invokevirtual 79, 3) := dk_182 0 79 (dk_at dksX1_pose_2 5 rfl rfl)
theorem dX1_pose_54 : decode cX1_pose 54 = .ok (.ifCond .eq 6, 3) := dk_153 0 6 (dk_at dksX1_pose_2 8 rfl rfl)
theorem dX1_pose_57 : decode cX1_pose 57 = .ok (.goto 40, 3) := dk_167 0 40 (dk_at dksX1_pose_2 11 rfl rfl)
theorem dX1_pose_60 : decode cX1_pose 60 = .ok (.aload_n 0, 1) := dk_42 (dk_at dksX1_pose_2 14 rfl rfl)
theorem dX1_pose_61 : decode cX1_pose 61 = .ok (.iload_n 1, 1) := dk_27 (dk_at dksX1_pose_2 15 rfl rfl)
theorem dX1_pose_62 : decode cX1_pose 62 = .ok (.iload_n 3, 1) := dk_29 (dk_at dksX1_pose_2 16 rfl rfl)
theorem dX1_pose_63 : decode cX1_pose 63 = .ok (.invokevirtual 90, 3) := dk_182 0 90 (dk_at dksX1_pose_2 17 rfl rfl)
theorem dX1_pose_66 : decode cX1_pose 66 = .ok (.ifCond .eq 10, 3) := dk_153 0 10 (dk_at dksX1_pose_2 20 rfl rfl)
theorem dX1_pose_69 : decode cX1_pose 69 = .ok (.aload_n 0, 1) := dk_42 (dk_at dksX1_pose_2 23 rfl rfl)
theorem dX1_pose_70 : decode cX1_pose 70 = .ok (.getfield 22, 3) := dk_180 0 22 (dk_at dksX1_pose_3 0 rfl rfl)
theorem dX1_pose_73 : decode cX1_pose 73 = .ok (.goto 7, 3) := dk_167 0 7 (dk_at dksX1_pose_3 3 rfl rfl)
theorem dX1_pose_76 : decode cX1_pose 76 = .ok (.aload_n 0, 1) := dk_42 (dk_at dksX1_pose_3 6 rfl rfl)
theorem dX1_pose_77 : decode cX1_pose 77 = .ok (.getfield 25, 3) := dk_180 0 25 (dk_at dksX1_pose_3 7 rfl rfl)
theorem dX1_pose_80 : decode cX1_pose 80 = .ok (.astore 4, 2) := dk_58 4 (dk_at dksX1_pose_3 10 rfl rfl)
theorem dX1_pose_82 : decode cX1_pose 82 = .ok (.aload 4, 2) := dk_25 4 (dk_at dksX1_pose_3 12 rfl rfl)
theorem dX1_pose_84 : decode cX1_pose 84 = .ok (.iload_n 3, 1) := dk_29 (dk_at dksX1_pose_3 14 rfl rfl)
theorem dX1_pose_85 : decode cX1_pose 85 = .ok (.bipush 99, 2) := dk_16 99 (dk_at dksX1_pose_3 15 rfl rfl)
theorem dX1_pose_87 : decode cX1_pose 87 = .ok (.aload 4, 2) := dk_25 4 (dk_at dksX1_pose_3 17 rfl rfl)
theorem dX1_pose_89 : decode cX1_pose 89 = .ok (.iload_n 3, 1) := dk_29 (dk_at dksX1_pose_3 19 rfl rfl)
theorem dX1_pose_90 : decode cX1_pose 90 = .ok (.iaload, 1) := dk_46 (dk_at dksX1_pose_3 20 rfl rfl)
theorem dX1_pose_91 : decode cX1_pose 91 = .ok (.iconst 1, 1) := dk_4 (dk_at dksX1_pose_3 21 rfl rfl)
theorem dX1_pose_92 : decode cX1_pose 92 = .ok (.iadd, 1) := dk_96 (dk_at dksX1_pose_3 22 rfl rfl)
theorem dX1_pose_93 : decode cX1_pose 93 = .ok (.invokestatic 119, 3) := dk_184 0 119 (dk_at dksX1_pose_4 0 rfl rfl)
theorem dX1_pose_96 : decode cX1_pose 96 = .ok (.iastore, 1) := dk_79 (dk_at dksX1_pose_4 3 rfl rfl)
theorem dX1_pose_97 : decode cX1_pose 97 = .ok (.iinc 3 1, 3) := dk_132 3 1 (dk_at dksX1_pose_4 4 rfl rfl)
theorem dX1_pose_100 : decode cX1_pose 100 = .ok (.goto (-67), 3) := dk_167 255 189 (dk_at dksX1_pose_4 7 rfl rfl)
theorem dX1_pose_103 : decode cX1_pose 103 = .ok (.iconst 1, 1) := dk_4 (dk_at dksX1_pose_4 10 rfl rfl)
theorem dX1_pose_104 : decode cX1_pose 104 = .ok (.ireturn, 1) := dk_172 (dk_at dksX1_pose_4 11 rfl rfl)
abbrev cX1_isLet : ByteArray := prog_3_method_13_code
def yX1_isLet : MethodName := ⟨RX1, "isLet", "(II)Z"⟩
def dkwX1_isLet_0 : List UInt8 := [42, 42, 27, 182, 0, 109, 28, 182, 0, 112, 42, 180, 0, 47, 163, 0, 7, 4, 167, 0, 4, 3, 172]
abbrev dktX1_isLet_0 : List UInt8 := dkwX1_isLet_0 ++ []
theorem dksX1_isLet_0 : cX1_isLet.data.toList.drop 0 = dktX1_isLet_0 := by decide +kernel
theorem dX1_isLet_0 : decode cX1_isLet 0 = .ok (.aload_n 0, 1) := dk_42 (dk_at dksX1_isLet_0 0 rfl rfl)
theorem dX1_isLet_1 : decode cX1_isLet 1 = .ok (.aload_n 0, 1) := dk_42 (dk_at dksX1_isLet_0 1 rfl rfl)
theorem dX1_isLet_2 : decode cX1_isLet 2 = .ok (.iload_n 1, 1) := dk_27 (dk_at dksX1_isLet_0 2 rfl rfl)
theorem dX1_isLet_3 : decode cX1_isLet 3 = .ok (.invokevirtual 109, 3) := dk_182 0 109 (dk_at dksX1_isLet_0 3 rfl rfl)
theorem dX1_isLet_6 : decode cX1_isLet 6 = .ok (.iload_n 2, 1) := dk_28 (dk_at dksX1_isLet_0 6 rfl rfl)
theorem dX1_isLet_7 : decode cX1_isLet 7 = .ok (.invokevirtual 112, 3) := dk_182 0 112 (dk_at dksX1_isLet_0 7 rfl rfl)
theorem dX1_isLet_10 : decode cX1_isLet 10 = .ok (.aload_n 0, 1) := dk_42 (dk_at dksX1_isLet_0 10 rfl rfl)
theorem dX1_isLet_11 : decode cX1_isLet 11 = .ok (.getfield 47, 3) := dk_180 0 47 (dk_at dksX1_isLet_0 11 rfl rfl)
theorem dX1_isLet_14 : decode cX1_isLet 14 = .ok (.if_icmp .gt 7, 3) := dk_163 0 7 (dk_at dksX1_isLet_0 14 rfl rfl)
theorem dX1_isLet_17 : decode cX1_isLet 17 = .ok (.iconst 1, 1) := dk_4 (dk_at dksX1_isLet_0 17 rfl rfl)
theorem dX1_isLet_18 : decode cX1_isLet 18 = .ok (.goto 4, 3) := dk_167 0 4 (dk_at dksX1_isLet_0 18 rfl rfl)
theorem dX1_isLet_21 : decode cX1_isLet 21 = .ok (.iconst 0, 1) := dk_3 (dk_at dksX1_isLet_0 21 rfl rfl)
theorem dX1_isLet_22 : decode cX1_isLet 22 = .ok (.ireturn, 1) := dk_172 (dk_at dksX1_isLet_0 22 rfl rfl)
abbrev cX1_clicked : ByteArray := prog_3_method_10_code
def yX1_clicked : MethodName := ⟨RX1, "clicked", "(I)I"⟩
def dkwX1_clicked_1 : List UInt8 := [120, 167, 0, 4, 3, 128, 61, 132, 3, 1, 167, 255, 226, 28, 172]
abbrev dktX1_clicked_1 : List UInt8 := dkwX1_clicked_1 ++ []
def dkwX1_clicked_0 : List UInt8 := [3, 61, 3, 62, 29, 42, 182, 0, 76, 162, 0, 28, 28, 42, 27, 29, 182, 0, 90, 153, 0, 9, 4, 29]
abbrev dktX1_clicked_0 : List UInt8 := dkwX1_clicked_0 ++ dktX1_clicked_1
theorem dksX1_clicked_0 : cX1_clicked.data.toList.drop 0 = dktX1_clicked_0 := by decide +kernel
theorem dksX1_clicked_1 : cX1_clicked.data.toList.drop 24 = dktX1_clicked_1 := dk_seg dksX1_clicked_0 24 rfl rfl
theorem dX1_clicked_0 : decode cX1_clicked 0 = .ok (.iconst 0, 1) := dk_3 (dk_at dksX1_clicked_0 0 rfl rfl)
theorem dX1_clicked_1 : decode cX1_clicked 1 = .ok (.istore_n 2, 1) := dk_61 (dk_at dksX1_clicked_0 1 rfl rfl)
theorem dX1_clicked_2 : decode cX1_clicked 2 = .ok (.iconst 0, 1) := dk_3 (dk_at dksX1_clicked_0 2 rfl rfl)
theorem dX1_clicked_3 : decode cX1_clicked 3 = .ok (.istore_n 3, 1) := dk_62 (dk_at dksX1_clicked_0 3 rfl rfl)
theorem dX1_clicked_4 : decode cX1_clicked 4 = .ok (.iload_n 3, 1) := dk_29 (dk_at dksX1_clicked_0 4 rfl rfl)
theorem dX1_clicked_5 : decode cX1_clicked 5 = .ok (.aload_n 0, 1) := dk_42 (dk_at dksX1_clicked_0 5 rfl rfl)
theorem dX1_clicked_6 : decode cX1_clicked 6 = .ok (.invokevirtual 76, 3) := dk_182 0 76 (dk_at dksX1_clicked_0 6 rfl rfl)
theorem dX1_clicked_9 : decode cX1_clicked 9 = .ok (.if_icmp .ge 28, 3) := dk_162 0 28 (dk_at dksX1_clicked_0 9 rfl rfl)
theorem dX1_clicked_12 : decode cX1_clicked 12 = .ok (.iload_n 2, 1) := dk_28 (dk_at dksX1_clicked_0 12 rfl rfl)
theorem dX1_clicked_13 : decode cX1_clicked 13 = .ok (.aload_n 0, 1) := dk_42 (dk_at dksX1_clicked_0 13 rfl rfl)
theorem dX1_clicked_14 : decode cX1_clicked 14 = .ok (.iload_n 1, 1) := dk_27 (dk_at dksX1_clicked_0 14 rfl rfl)
theorem dX1_clicked_15 : decode cX1_clicked 15 = .ok (.iload_n 3, 1) := dk_29 (dk_at dksX1_clicked_0 15 rfl rfl)
theorem dX1_clicked_16 : decode cX1_clicked 16 = .ok (.invokevirtual 90, 3) := dk_182 0 90 (dk_at dksX1_clicked_0 16 rfl rfl)
theorem dX1_clicked_19 : decode cX1_clicked 19 = .ok (.ifCond .eq 9, 3) := dk_153 0 9 (dk_at dksX1_clicked_0 19 rfl rfl)
theorem dX1_clicked_22 : decode cX1_clicked 22 = .ok (.iconst 1, 1) := dk_4 (dk_at dksX1_clicked_0 22 rfl rfl)
theorem dX1_clicked_23 : decode cX1_clicked 23 = .ok (.iload_n 3, 1) := dk_29 (dk_at dksX1_clicked_0 23 rfl rfl)
theorem dX1_clicked_24 : decode cX1_clicked 24 = .ok (.ishl, 1) := dk_120 (dk_at dksX1_clicked_1 0 rfl rfl)
theorem dX1_clicked_25 : decode cX1_clicked 25 = .ok (.goto 4, 3) := dk_167 0 4 (dk_at dksX1_clicked_1 1 rfl rfl)
theorem dX1_clicked_28 : decode cX1_clicked 28 = .ok (.iconst 0, 1) := dk_3 (dk_at dksX1_clicked_1 4 rfl rfl)
theorem dX1_clicked_29 : decode cX1_clicked 29 = .ok (.ior, 1) := dk_128 (dk_at dksX1_clicked_1 5 rfl rfl)
theorem dX1_clicked_30 : decode cX1_clicked 30 = .ok (.istore_n 2, 1) := dk_61 (dk_at dksX1_clicked_1 6 rfl rfl)
theorem dX1_clicked_31 : decode cX1_clicked 31 = .ok (.iinc 3 1, 3) := dk_132 3 1 (dk_at dksX1_clicked_1 7 rfl rfl)
theorem dX1_clicked_34 : decode cX1_clicked 34 = .ok (.goto (-30), 3) := dk_167 255 226 (dk_at dksX1_clicked_1 10 rfl rfl)
theorem dX1_clicked_37 : decode cX1_clicked 37 = .ok (.iload_n 2, 1) := dk_28 (dk_at dksX1_clicked_1 13 rfl rfl)
theorem dX1_clicked_38 : decode cX1_clicked 38 = .ok (.ireturn, 1) := dk_172 (dk_at dksX1_clicked_1 14 rfl rfl)
abbrev cX1_clicks : ByteArray := prog_3_method_8_code
def yX1_clicks : MethodName := ⟨RX1, "clicks", "(II)Z"⟩
def dkwX1_clicks_1 : List UInt8 := [46, 42, 180, 0, 34, 27, 46, 184, 0, 86, 172]
abbrev dktX1_clicks_1 : List UInt8 := dkwX1_clicks_1 ++ []
def dkwX1_clicks_0 : List UInt8 := [42, 180, 0, 12, 28, 185, 0, 66, 2, 0, 192, 0, 70, 42, 180, 0, 18, 28, 46, 42, 180, 0, 31, 27]
abbrev dktX1_clicks_0 : List UInt8 := dkwX1_clicks_0 ++ dktX1_clicks_1
theorem dksX1_clicks_0 : cX1_clicks.data.toList.drop 0 = dktX1_clicks_0 := by decide +kernel
theorem dksX1_clicks_1 : cX1_clicks.data.toList.drop 24 = dktX1_clicks_1 := dk_seg dksX1_clicks_0 24 rfl rfl
theorem dX1_clicks_0 : decode cX1_clicks 0 = .ok (.aload_n 0, 1) := dk_42 (dk_at dksX1_clicks_0 0 rfl rfl)
theorem dX1_clicks_1 : decode cX1_clicks 1 = .ok (.getfield 12, 3) := dk_180 0 12 (dk_at dksX1_clicks_0 1 rfl rfl)
theorem dX1_clicks_4 : decode cX1_clicks 4 = .ok (.iload_n 2, 1) := dk_28 (dk_at dksX1_clicks_0 4 rfl rfl)
theorem dX1_clicks_5 : decode cX1_clicks 5 = .ok (.invokeinterface 66 2, 5) := by decide +kernel
theorem dX1_clicks_10 : decode cX1_clicks 10 = .ok (.checkcast 70, 3) := dk_192 0 70 (dk_at dksX1_clicks_0 10 rfl rfl)
theorem dX1_clicks_13 : decode cX1_clicks 13 = .ok (.aload_n 0, 1) := dk_42 (dk_at dksX1_clicks_0 13 rfl rfl)
theorem dX1_clicks_14 : decode cX1_clicks 14 = .ok (.getfield 18, 3) := dk_180 0 18 (dk_at dksX1_clicks_0 14 rfl rfl)
theorem dX1_clicks_17 : decode cX1_clicks 17 = .ok (.iload_n 2, 1) := dk_28 (dk_at dksX1_clicks_0 17 rfl rfl)
theorem dX1_clicks_18 : decode cX1_clicks 18 = .ok (.iaload, 1) := dk_46 (dk_at dksX1_clicks_0 18 rfl rfl)
theorem dX1_clicks_19 : decode cX1_clicks 19 = .ok (.aload_n 0, 1) := dk_42 (dk_at dksX1_clicks_0 19 rfl rfl)
theorem dX1_clicks_20 : decode cX1_clicks 20 = .ok (.getfield 31, 3) := dk_180 0 31 (dk_at dksX1_clicks_0 20 rfl rfl)
theorem dX1_clicks_23 : decode cX1_clicks 23 = .ok (.iload_n 1, 1) := dk_27 (dk_at dksX1_clicks_0 23 rfl rfl)
theorem dX1_clicks_24 : decode cX1_clicks 24 = .ok (.iaload, 1) := dk_46 (dk_at dksX1_clicks_1 0 rfl rfl)
theorem dX1_clicks_25 : decode cX1_clicks 25 = .ok (.aload_n 0, 1) := dk_42 (dk_at dksX1_clicks_1 1 rfl rfl)
theorem dX1_clicks_26 : decode cX1_clicks 26 = .ok (.getfield 34, 3) := dk_180 0 34 (dk_at dksX1_clicks_1 2 rfl rfl)
theorem dX1_clicks_29 : decode cX1_clicks 29 = .ok (.iload_n 1, 1) := dk_27 (dk_at dksX1_clicks_1 5 rfl rfl)
theorem dX1_clicks_30 : decode cX1_clicks 30 = .ok (.iaload, 1) := dk_46 (dk_at dksX1_clicks_1 6 rfl rfl)
theorem dX1_clicks_31 : decode cX1_clicks 31 = .ok (.invokestatic 86, 3) := dk_184 0 86 (dk_at dksX1_clicks_1 7 rfl rfl)
theorem dX1_clicks_34 : decode cX1_clicks 34 = .ok (.ireturn, 1) := dk_172 (dk_at dksX1_clicks_1 10 rfl rfl)
abbrev cX1_wrongIn : ByteArray := prog_3_method_12_code
def yX1_wrongIn : MethodName := ⟨RX1, "wrongIn", "(II)I"⟩
def dkwX1_wrongIn_0 : List UInt8 := [27, 42, 182, 0, 97, 130, 28, 126, 42, 182, 0, 100, 126, 184, 0, 103, 172]
abbrev dktX1_wrongIn_0 : List UInt8 := dkwX1_wrongIn_0 ++ []
theorem dksX1_wrongIn_0 : cX1_wrongIn.data.toList.drop 0 = dktX1_wrongIn_0 := by decide +kernel
theorem dX1_wrongIn_0 : decode cX1_wrongIn 0 = .ok (.iload_n 1, 1) := dk_27 (dk_at dksX1_wrongIn_0 0 rfl rfl)
theorem dX1_wrongIn_1 : decode cX1_wrongIn 1 = .ok (.aload_n 0, 1) := dk_42 (dk_at dksX1_wrongIn_0 1 rfl rfl)
theorem dX1_wrongIn_2 : decode cX1_wrongIn 2 = .ok (.invokevirtual 97, 3) := dk_182 0 97 (dk_at dksX1_wrongIn_0 2 rfl rfl)
theorem dX1_wrongIn_5 : decode cX1_wrongIn 5 = .ok (.ixor, 1) := dk_130 (dk_at dksX1_wrongIn_0 5 rfl rfl)
theorem dX1_wrongIn_6 : decode cX1_wrongIn 6 = .ok (.iload_n 2, 1) := dk_28 (dk_at dksX1_wrongIn_0 6 rfl rfl)
theorem dX1_wrongIn_7 : decode cX1_wrongIn 7 = .ok (.iand, 1) := dk_126 (dk_at dksX1_wrongIn_0 7 rfl rfl)
theorem dX1_wrongIn_8 : decode cX1_wrongIn 8 = .ok (.aload_n 0, 1) := dk_42 (dk_at dksX1_wrongIn_0 8 rfl rfl)
theorem dX1_wrongIn_9 : decode cX1_wrongIn 9 = .ok (.invokevirtual 100, 3) := dk_182 0 100 (dk_at dksX1_wrongIn_0 9 rfl rfl)
theorem dX1_wrongIn_12 : decode cX1_wrongIn 12 = .ok (.iand, 1) := dk_126 (dk_at dksX1_wrongIn_0 12 rfl rfl)
theorem dX1_wrongIn_13 : decode cX1_wrongIn 13 = .ok (.invokestatic 103, 3) := dk_184 0 103 (dk_at dksX1_wrongIn_0 13 rfl rfl)
theorem dX1_wrongIn_16 : decode cX1_wrongIn 16 = .ok (.ireturn, 1) := dk_172 (dk_at dksX1_wrongIn_0 16 rfl rfl)
abbrev cX1_lamps : ByteArray := prog_3_method_11_code
def yX1_lamps : MethodName := ⟨RX1, "lamps", "()I"⟩
def dkwX1_lamps_1 : List UInt8 := [167, 0, 4, 3, 128, 60, 132, 2, 1, 167, 255, 227, 27, 172]
abbrev dktX1_lamps_1 : List UInt8 := dkwX1_lamps_1 ++ []
def dkwX1_lamps_0 : List UInt8 := [3, 60, 3, 61, 28, 42, 182, 0, 76, 162, 0, 27, 27, 42, 28, 182, 0, 94, 153, 0, 9, 4, 28, 120]
abbrev dktX1_lamps_0 : List UInt8 := dkwX1_lamps_0 ++ dktX1_lamps_1
theorem dksX1_lamps_0 : cX1_lamps.data.toList.drop 0 = dktX1_lamps_0 := by decide +kernel
theorem dksX1_lamps_1 : cX1_lamps.data.toList.drop 24 = dktX1_lamps_1 := dk_seg dksX1_lamps_0 24 rfl rfl
theorem dX1_lamps_0 : decode cX1_lamps 0 = .ok (.iconst 0, 1) := dk_3 (dk_at dksX1_lamps_0 0 rfl rfl)
theorem dX1_lamps_1 : decode cX1_lamps 1 = .ok (.istore_n 1, 1) := dk_60 (dk_at dksX1_lamps_0 1 rfl rfl)
theorem dX1_lamps_2 : decode cX1_lamps 2 = .ok (.iconst 0, 1) := dk_3 (dk_at dksX1_lamps_0 2 rfl rfl)
theorem dX1_lamps_3 : decode cX1_lamps 3 = .ok (.istore_n 2, 1) := dk_61 (dk_at dksX1_lamps_0 3 rfl rfl)
theorem dX1_lamps_4 : decode cX1_lamps 4 = .ok (.iload_n 2, 1) := dk_28 (dk_at dksX1_lamps_0 4 rfl rfl)
theorem dX1_lamps_5 : decode cX1_lamps 5 = .ok (.aload_n 0, 1) := dk_42 (dk_at dksX1_lamps_0 5 rfl rfl)
theorem dX1_lamps_6 : decode cX1_lamps 6 = .ok (.invokevirtual 76, 3) := dk_182 0 76 (dk_at dksX1_lamps_0 6 rfl rfl)
theorem dX1_lamps_9 : decode cX1_lamps 9 = .ok (.if_icmp .ge 27, 3) := dk_162 0 27 (dk_at dksX1_lamps_0 9 rfl rfl)
theorem dX1_lamps_12 : decode cX1_lamps 12 = .ok (.iload_n 1, 1) := dk_27 (dk_at dksX1_lamps_0 12 rfl rfl)
theorem dX1_lamps_13 : decode cX1_lamps 13 = .ok (.aload_n 0, 1) := dk_42 (dk_at dksX1_lamps_0 13 rfl rfl)
theorem dX1_lamps_14 : decode cX1_lamps 14 = .ok (.iload_n 2, 1) := dk_28 (dk_at dksX1_lamps_0 14 rfl rfl)
theorem dX1_lamps_15 : decode cX1_lamps 15 = .ok (.invokevirtual 94, 3) := dk_182 0 94 (dk_at dksX1_lamps_0 15 rfl rfl)
theorem dX1_lamps_18 : decode cX1_lamps 18 = .ok (.ifCond .eq 9, 3) := dk_153 0 9 (dk_at dksX1_lamps_0 18 rfl rfl)
theorem dX1_lamps_21 : decode cX1_lamps 21 = .ok (.iconst 1, 1) := dk_4 (dk_at dksX1_lamps_0 21 rfl rfl)
theorem dX1_lamps_22 : decode cX1_lamps 22 = .ok (.iload_n 2, 1) := dk_28 (dk_at dksX1_lamps_0 22 rfl rfl)
theorem dX1_lamps_23 : decode cX1_lamps 23 = .ok (.ishl, 1) := dk_120 (dk_at dksX1_lamps_0 23 rfl rfl)
theorem dX1_lamps_24 : decode cX1_lamps 24 = .ok (.goto 4, 3) := dk_167 0 4 (dk_at dksX1_lamps_1 0 rfl rfl)
theorem dX1_lamps_27 : decode cX1_lamps 27 = .ok (.iconst 0, 1) := dk_3 (dk_at dksX1_lamps_1 3 rfl rfl)
theorem dX1_lamps_28 : decode cX1_lamps 28 = .ok (.ior, 1) := dk_128 (dk_at dksX1_lamps_1 4 rfl rfl)
theorem dX1_lamps_29 : decode cX1_lamps 29 = .ok (.istore_n 1, 1) := dk_60 (dk_at dksX1_lamps_1 5 rfl rfl)
theorem dX1_lamps_30 : decode cX1_lamps 30 = .ok (.iinc 2 1, 3) := dk_132 2 1 (dk_at dksX1_lamps_1 6 rfl rfl)
theorem dX1_lamps_33 : decode cX1_lamps 33 = .ok (.goto (-29), 3) := dk_167 255 227 (dk_at dksX1_lamps_1 9 rfl rfl)
theorem dX1_lamps_36 : decode cX1_lamps 36 = .ok (.iload_n 1, 1) := dk_27 (dk_at dksX1_lamps_1 12 rfl rfl)
theorem dX1_lamps_37 : decode cX1_lamps 37 = .ok (.ireturn, 1) := dk_172 (dk_at dksX1_lamps_1 13 rfl rfl)
abbrev cX1_isLamp : ByteArray := prog_3_method_4_code
def yX1_isLamp : MethodName := ⟨RX1, "isLamp", "(I)Z"⟩
def dkwX1_isLamp_1 : List UInt8 := [4, 167, 0, 22, 3, 167, 0, 18, 42, 180, 0, 28, 27, 46, 4, 160, 0, 7, 4, 167, 0, 4, 3, 172]
abbrev dktX1_isLamp_1 : List UInt8 := dkwX1_isLamp_1 ++ []
def dkwX1_isLamp_0 : List UInt8 := [42, 180, 0, 28, 27, 46, 18, 65, 160, 0, 24, 42, 180, 0, 18, 27, 46, 42, 180, 0, 43, 161, 0, 7]
abbrev dktX1_isLamp_0 : List UInt8 := dkwX1_isLamp_0 ++ dktX1_isLamp_1
theorem dksX1_isLamp_0 : cX1_isLamp.data.toList.drop 0 = dktX1_isLamp_0 := by decide +kernel
theorem dksX1_isLamp_1 : cX1_isLamp.data.toList.drop 24 = dktX1_isLamp_1 := dk_seg dksX1_isLamp_0 24 rfl rfl
theorem dX1_isLamp_0 : decode cX1_isLamp 0 = .ok (.aload_n 0, 1) := dk_42 (dk_at dksX1_isLamp_0 0 rfl rfl)
theorem dX1_isLamp_1 : decode cX1_isLamp 1 = .ok (.getfield 28, 3) := dk_180 0 28 (dk_at dksX1_isLamp_0 1 rfl rfl)
theorem dX1_isLamp_4 : decode cX1_isLamp 4 = .ok (.iload_n 1, 1) := dk_27 (dk_at dksX1_isLamp_0 4 rfl rfl)
theorem dX1_isLamp_5 : decode cX1_isLamp 5 = .ok (.iaload, 1) := dk_46 (dk_at dksX1_isLamp_0 5 rfl rfl)
theorem dX1_isLamp_6 : decode cX1_isLamp 6 = .ok (.ldc 65, 2) := dk_18 65 (dk_at dksX1_isLamp_0 6 rfl rfl)
theorem dX1_isLamp_8 : decode cX1_isLamp 8 = .ok (.if_icmp .ne 24, 3) := dk_160 0 24 (dk_at dksX1_isLamp_0 8 rfl rfl)
theorem dX1_isLamp_11 : decode cX1_isLamp 11 = .ok (.aload_n 0, 1) := dk_42 (dk_at dksX1_isLamp_0 11 rfl rfl)
theorem dX1_isLamp_12 : decode cX1_isLamp 12 = .ok (.getfield 18, 3) := dk_180 0 18 (dk_at dksX1_isLamp_0 12 rfl rfl)
theorem dX1_isLamp_15 : decode cX1_isLamp 15 = .ok (.iload_n 1, 1) := dk_27 (dk_at dksX1_isLamp_0 15 rfl rfl)
theorem dX1_isLamp_16 : decode cX1_isLamp 16 = .ok (.iaload, 1) := dk_46 (dk_at dksX1_isLamp_0 16 rfl rfl)
theorem dX1_isLamp_17 : decode cX1_isLamp 17 = .ok (.aload_n 0, 1) := dk_42 (dk_at dksX1_isLamp_0 17 rfl rfl)
theorem dX1_isLamp_18 : decode cX1_isLamp 18 = .ok (.getfield 43, 3) := dk_180 0 43 (dk_at dksX1_isLamp_0 18 rfl rfl)
theorem dX1_isLamp_21 : decode cX1_isLamp 21 = .ok (.if_icmp .lt 7, 3) := dk_161 0 7 (dk_at dksX1_isLamp_0 21 rfl rfl)
theorem dX1_isLamp_24 : decode cX1_isLamp 24 = .ok (.iconst 1, 1) := dk_4 (dk_at dksX1_isLamp_1 0 rfl rfl)
theorem dX1_isLamp_25 : decode cX1_isLamp 25 = .ok (.goto 22, 3) := dk_167 0 22 (dk_at dksX1_isLamp_1 1 rfl rfl)
theorem dX1_isLamp_28 : decode cX1_isLamp 28 = .ok (.iconst 0, 1) := dk_3 (dk_at dksX1_isLamp_1 4 rfl rfl)
theorem dX1_isLamp_29 : decode cX1_isLamp 29 = .ok (.goto 18, 3) := dk_167 0 18 (dk_at dksX1_isLamp_1 5 rfl rfl)
theorem dX1_isLamp_32 : decode cX1_isLamp 32 = .ok (.aload_n 0, 1) := dk_42 (dk_at dksX1_isLamp_1 8 rfl rfl)
theorem dX1_isLamp_33 : decode cX1_isLamp 33 = .ok (.getfield 28, 3) := dk_180 0 28 (dk_at dksX1_isLamp_1 9 rfl rfl)
theorem dX1_isLamp_36 : decode cX1_isLamp 36 = .ok (.iload_n 1, 1) := dk_27 (dk_at dksX1_isLamp_1 12 rfl rfl)
theorem dX1_isLamp_37 : decode cX1_isLamp 37 = .ok (.iaload, 1) := dk_46 (dk_at dksX1_isLamp_1 13 rfl rfl)
theorem dX1_isLamp_38 : decode cX1_isLamp 38 = .ok (.iconst 1, 1) := dk_4 (dk_at dksX1_isLamp_1 14 rfl rfl)
theorem dX1_isLamp_39 : decode cX1_isLamp 39 = .ok (.if_icmp .ne 7, 3) := dk_160 0 7 (dk_at dksX1_isLamp_1 15 rfl rfl)
theorem dX1_isLamp_42 : decode cX1_isLamp 42 = .ok (.iconst 1, 1) := dk_4 (dk_at dksX1_isLamp_1 18 rfl rfl)
theorem dX1_isLamp_43 : decode cX1_isLamp 43 = .ok (.goto 4, 3) := dk_167 0 4 (dk_at dksX1_isLamp_1 19 rfl rfl)
theorem dX1_isLamp_46 : decode cX1_isLamp 46 = .ok (.iconst 0, 1) := dk_3 (dk_at dksX1_isLamp_1 22 rfl rfl)
theorem dX1_isLamp_47 : decode cX1_isLamp 47 = .ok (.ireturn, 1) := dk_172 (dk_at dksX1_isLamp_1 23 rfl rfl)
abbrev cX1_counting : ByteArray := prog_3_method_6_code
def yX1_counting : MethodName := ⟨RX1, "counting", "()I"⟩
def dkwX1_counting_1 : List UInt8 := [167, 0, 4, 3, 128, 60, 132, 2, 1, 167, 255, 227, 27, 172]
abbrev dktX1_counting_1 : List UInt8 := dkwX1_counting_1 ++ []
def dkwX1_counting_0 : List UInt8 := [3, 60, 3, 61, 28, 42, 182, 0, 76, 162, 0, 27, 27, 42, 28, 182, 0, 79, 153, 0, 9, 4, 28, 120]
abbrev dktX1_counting_0 : List UInt8 := dkwX1_counting_0 ++ dktX1_counting_1
theorem dksX1_counting_0 : cX1_counting.data.toList.drop 0 = dktX1_counting_0 := by decide +kernel
theorem dksX1_counting_1 : cX1_counting.data.toList.drop 24 = dktX1_counting_1 := dk_seg dksX1_counting_0 24 rfl rfl
theorem dX1_counting_0 : decode cX1_counting 0 = .ok (.iconst 0, 1) := dk_3 (dk_at dksX1_counting_0 0 rfl rfl)
theorem dX1_counting_1 : decode cX1_counting 1 = .ok (.istore_n 1, 1) := dk_60 (dk_at dksX1_counting_0 1 rfl rfl)
theorem dX1_counting_2 : decode cX1_counting 2 = .ok (.iconst 0, 1) := dk_3 (dk_at dksX1_counting_0 2 rfl rfl)
theorem dX1_counting_3 : decode cX1_counting 3 = .ok (.istore_n 2, 1) := dk_61 (dk_at dksX1_counting_0 3 rfl rfl)
theorem dX1_counting_4 : decode cX1_counting 4 = .ok (.iload_n 2, 1) := dk_28 (dk_at dksX1_counting_0 4 rfl rfl)
theorem dX1_counting_5 : decode cX1_counting 5 = .ok (.aload_n 0, 1) := dk_42 (dk_at dksX1_counting_0 5 rfl rfl)
theorem dX1_counting_6 : decode cX1_counting 6 = .ok (.invokevirtual 76, 3) := dk_182 0 76 (dk_at dksX1_counting_0 6 rfl rfl)
theorem dX1_counting_9 : decode cX1_counting 9 = .ok (.if_icmp .ge 27, 3) := dk_162 0 27 (dk_at dksX1_counting_0 9 rfl rfl)
theorem dX1_counting_12 : decode cX1_counting 12 = .ok (.iload_n 1, 1) := dk_27 (dk_at dksX1_counting_0 12 rfl rfl)
theorem dX1_counting_13 : decode cX1_counting 13 = .ok (.aload_n 0, 1) := dk_42 (dk_at dksX1_counting_0 13 rfl rfl)
theorem dX1_counting_14 : decode cX1_counting 14 = .ok (.iload_n 2, 1) := dk_28 (dk_at dksX1_counting_0 14 rfl rfl)
theorem dX1_counting_15 : decode cX1_counting 15 = .ok (.invokevirtual 79, 3) := dk_182 0 79 (dk_at dksX1_counting_0 15 rfl rfl)
theorem dX1_counting_18 : decode cX1_counting 18 = .ok (.ifCond .eq 9, 3) := dk_153 0 9 (dk_at dksX1_counting_0 18 rfl rfl)
theorem dX1_counting_21 : decode cX1_counting 21 = .ok (.iconst 1, 1) := dk_4 (dk_at dksX1_counting_0 21 rfl rfl)
theorem dX1_counting_22 : decode cX1_counting 22 = .ok (.iload_n 2, 1) := dk_28 (dk_at dksX1_counting_0 22 rfl rfl)
theorem dX1_counting_23 : decode cX1_counting 23 = .ok (.ishl, 1) := dk_120 (dk_at dksX1_counting_0 23 rfl rfl)
theorem dX1_counting_24 : decode cX1_counting 24 = .ok (.goto 4, 3) := dk_167 0 4 (dk_at dksX1_counting_1 0 rfl rfl)
theorem dX1_counting_27 : decode cX1_counting 27 = .ok (.iconst 0, 1) := dk_3 (dk_at dksX1_counting_1 3 rfl rfl)
theorem dX1_counting_28 : decode cX1_counting 28 = .ok (.ior, 1) := dk_128 (dk_at dksX1_counting_1 4 rfl rfl)
theorem dX1_counting_29 : decode cX1_counting 29 = .ok (.istore_n 1, 1) := dk_60 (dk_at dksX1_counting_1 5 rfl rfl)
theorem dX1_counting_30 : decode cX1_counting 30 = .ok (.iinc 2 1, 3) := dk_132 2 1 (dk_at dksX1_counting_1 6 rfl rfl)
theorem dX1_counting_33 : decode cX1_counting 33 = .ok (.goto (-29), 3) := dk_167 255 227 (dk_at dksX1_counting_1 9 rfl rfl)
theorem dX1_counting_36 : decode cX1_counting 36 = .ok (.iload_n 1, 1) := dk_27 (dk_at dksX1_counting_1 12 rfl rfl)
theorem dX1_counting_37 : decode cX1_counting 37 = .ok (.ireturn, 1) := dk_172 (dk_at dksX1_counting_1 13 rfl rfl)
abbrev cX1_counts : ByteArray := prog_3_method_5_code
def yX1_counts : MethodName := ⟨RX1, "counts", "(I)Z"⟩
def dkwX1_counts_1 : List UInt8 := [46, 18, 65, 159, 0, 7, 4, 167, 0, 4, 3, 172]
abbrev dktX1_counts_1 : List UInt8 := dkwX1_counts_1 ++ []
def dkwX1_counts_0 : List UInt8 := [42, 180, 0, 12, 27, 185, 0, 66, 2, 0, 192, 0, 70, 182, 0, 72, 154, 0, 14, 42, 180, 0, 28, 27]
abbrev dktX1_counts_0 : List UInt8 := dkwX1_counts_0 ++ dktX1_counts_1
theorem dksX1_counts_0 : cX1_counts.data.toList.drop 0 = dktX1_counts_0 := by decide +kernel
theorem dksX1_counts_1 : cX1_counts.data.toList.drop 24 = dktX1_counts_1 := dk_seg dksX1_counts_0 24 rfl rfl
theorem dX1_counts_0 : decode cX1_counts 0 = .ok (.aload_n 0, 1) := dk_42 (dk_at dksX1_counts_0 0 rfl rfl)
theorem dX1_counts_1 : decode cX1_counts 1 = .ok (.getfield 12, 3) := dk_180 0 12 (dk_at dksX1_counts_0 1 rfl rfl)
theorem dX1_counts_4 : decode cX1_counts 4 = .ok (.iload_n 1, 1) := dk_27 (dk_at dksX1_counts_0 4 rfl rfl)
theorem dX1_counts_5 : decode cX1_counts 5 = .ok (.invokeinterface 66 2, 5) := by decide +kernel
theorem dX1_counts_10 : decode cX1_counts 10 = .ok (.checkcast 70, 3) := dk_192 0 70 (dk_at dksX1_counts_0 10 rfl rfl)
theorem dX1_counts_13 : decode cX1_counts 13 = .ok (.invokevirtual 72, 3) := dk_182 0 72 (dk_at dksX1_counts_0 13 rfl rfl)
theorem dX1_counts_16 : decode cX1_counts 16 = .ok (.ifCond .ne 14, 3) := dk_154 0 14 (dk_at dksX1_counts_0 16 rfl rfl)
theorem dX1_counts_19 : decode cX1_counts 19 = .ok (.aload_n 0, 1) := dk_42 (dk_at dksX1_counts_0 19 rfl rfl)
theorem dX1_counts_20 : decode cX1_counts 20 = .ok (.getfield 28, 3) := dk_180 0 28 (dk_at dksX1_counts_0 20 rfl rfl)
theorem dX1_counts_23 : decode cX1_counts 23 = .ok (.iload_n 1, 1) := dk_27 (dk_at dksX1_counts_0 23 rfl rfl)
theorem dX1_counts_24 : decode cX1_counts 24 = .ok (.iaload, 1) := dk_46 (dk_at dksX1_counts_1 0 rfl rfl)
theorem dX1_counts_25 : decode cX1_counts 25 = .ok (.ldc 65, 2) := dk_18 65 (dk_at dksX1_counts_1 1 rfl rfl)
theorem dX1_counts_27 : decode cX1_counts 27 = .ok (.if_icmp .eq 7, 3) := dk_159 0 7 (dk_at dksX1_counts_1 3 rfl rfl)
theorem dX1_counts_30 : decode cX1_counts 30 = .ok (.iconst 1, 1) := dk_4 (dk_at dksX1_counts_1 6 rfl rfl)
theorem dX1_counts_31 : decode cX1_counts 31 = .ok (.goto 4, 3) := dk_167 0 4 (dk_at dksX1_counts_1 7 rfl rfl)
theorem dX1_counts_34 : decode cX1_counts 34 = .ok (.iconst 0, 1) := dk_3 (dk_at dksX1_counts_1 10 rfl rfl)
theorem dX1_counts_35 : decode cX1_counts 35 = .ok (.ireturn, 1) := dk_172 (dk_at dksX1_counts_1 11 rfl rfl)
abbrev cX1_sees : ByteArray := prog_3_method_7_code
def yX1_sees : MethodName := ⟨RX1, "sees", "(II)I"⟩
def dkwX1_sees_1 : List UInt8 := [46, 42, 180, 0, 34, 27, 46, 182, 0, 82, 172]
abbrev dktX1_sees_1 : List UInt8 := dkwX1_sees_1 ++ []
def dkwX1_sees_0 : List UInt8 := [42, 180, 0, 12, 28, 185, 0, 66, 2, 0, 192, 0, 70, 42, 180, 0, 18, 28, 46, 42, 180, 0, 31, 27]
abbrev dktX1_sees_0 : List UInt8 := dkwX1_sees_0 ++ dktX1_sees_1
theorem dksX1_sees_0 : cX1_sees.data.toList.drop 0 = dktX1_sees_0 := by decide +kernel
theorem dksX1_sees_1 : cX1_sees.data.toList.drop 24 = dktX1_sees_1 := dk_seg dksX1_sees_0 24 rfl rfl
theorem dX1_sees_0 : decode cX1_sees 0 = .ok (.aload_n 0, 1) := dk_42 (dk_at dksX1_sees_0 0 rfl rfl)
theorem dX1_sees_1 : decode cX1_sees 1 = .ok (.getfield 12, 3) := dk_180 0 12 (dk_at dksX1_sees_0 1 rfl rfl)
theorem dX1_sees_4 : decode cX1_sees 4 = .ok (.iload_n 2, 1) := dk_28 (dk_at dksX1_sees_0 4 rfl rfl)
theorem dX1_sees_5 : decode cX1_sees 5 = .ok (.invokeinterface 66 2, 5) := by decide +kernel
theorem dX1_sees_10 : decode cX1_sees 10 = .ok (.checkcast 70, 3) := dk_192 0 70 (dk_at dksX1_sees_0 10 rfl rfl)
theorem dX1_sees_13 : decode cX1_sees 13 = .ok (.aload_n 0, 1) := dk_42 (dk_at dksX1_sees_0 13 rfl rfl)
theorem dX1_sees_14 : decode cX1_sees 14 = .ok (.getfield 18, 3) := dk_180 0 18 (dk_at dksX1_sees_0 14 rfl rfl)
theorem dX1_sees_17 : decode cX1_sees 17 = .ok (.iload_n 2, 1) := dk_28 (dk_at dksX1_sees_0 17 rfl rfl)
theorem dX1_sees_18 : decode cX1_sees 18 = .ok (.iaload, 1) := dk_46 (dk_at dksX1_sees_0 18 rfl rfl)
theorem dX1_sees_19 : decode cX1_sees 19 = .ok (.aload_n 0, 1) := dk_42 (dk_at dksX1_sees_0 19 rfl rfl)
theorem dX1_sees_20 : decode cX1_sees 20 = .ok (.getfield 31, 3) := dk_180 0 31 (dk_at dksX1_sees_0 20 rfl rfl)
theorem dX1_sees_23 : decode cX1_sees 23 = .ok (.iload_n 1, 1) := dk_27 (dk_at dksX1_sees_0 23 rfl rfl)
theorem dX1_sees_24 : decode cX1_sees 24 = .ok (.iaload, 1) := dk_46 (dk_at dksX1_sees_1 0 rfl rfl)
theorem dX1_sees_25 : decode cX1_sees 25 = .ok (.aload_n 0, 1) := dk_42 (dk_at dksX1_sees_1 1 rfl rfl)
theorem dX1_sees_26 : decode cX1_sees 26 = .ok (.getfield 34, 3) := dk_180 0 34 (dk_at dksX1_sees_1 2 rfl rfl)
theorem dX1_sees_29 : decode cX1_sees 29 = .ok (.iload_n 1, 1) := dk_27 (dk_at dksX1_sees_1 5 rfl rfl)
theorem dX1_sees_30 : decode cX1_sees 30 = .ok (.iaload, 1) := dk_46 (dk_at dksX1_sees_1 6 rfl rfl)
theorem dX1_sees_31 : decode cX1_sees 31 = .ok (.invokevirtual 82, 3) := dk_182 0 82 (dk_at dksX1_sees_1 7 rfl rfl)
theorem dX1_sees_34 : decode cX1_sees 34 = .ok (.ireturn, 1) := dk_172 (dk_at dksX1_sees_1 10 rfl rfl)
abbrev cX1_guests : ByteArray := prog_3_method_14_code
def yX1_guests : MethodName := ⟨RX1, "guests", "(I)I"⟩
def dkwX1_guests_1 : List UInt8 := [120, 167, 0, 4, 3, 128, 61, 132, 3, 1, 167, 255, 226, 28, 172]
abbrev dktX1_guests_1 : List UInt8 := dkwX1_guests_1 ++ []
def dkwX1_guests_0 : List UInt8 := [3, 61, 3, 62, 29, 42, 180, 0, 56, 162, 0, 28, 28, 42, 29, 27, 182, 0, 116, 153, 0, 9, 4, 29]
abbrev dktX1_guests_0 : List UInt8 := dkwX1_guests_0 ++ dktX1_guests_1
theorem dksX1_guests_0 : cX1_guests.data.toList.drop 0 = dktX1_guests_0 := by decide +kernel
theorem dksX1_guests_1 : cX1_guests.data.toList.drop 24 = dktX1_guests_1 := dk_seg dksX1_guests_0 24 rfl rfl
theorem dX1_guests_0 : decode cX1_guests 0 = .ok (.iconst 0, 1) := dk_3 (dk_at dksX1_guests_0 0 rfl rfl)
theorem dX1_guests_1 : decode cX1_guests 1 = .ok (.istore_n 2, 1) := dk_61 (dk_at dksX1_guests_0 1 rfl rfl)
theorem dX1_guests_2 : decode cX1_guests 2 = .ok (.iconst 0, 1) := dk_3 (dk_at dksX1_guests_0 2 rfl rfl)
theorem dX1_guests_3 : decode cX1_guests 3 = .ok (.istore_n 3, 1) := dk_62 (dk_at dksX1_guests_0 3 rfl rfl)
theorem dX1_guests_4 : decode cX1_guests 4 = .ok (.iload_n 3, 1) := dk_29 (dk_at dksX1_guests_0 4 rfl rfl)
theorem dX1_guests_5 : decode cX1_guests 5 = .ok (.aload_n 0, 1) := dk_42 (dk_at dksX1_guests_0 5 rfl rfl)
theorem dX1_guests_6 : decode cX1_guests 6 = .ok (.getfield 56, 3) := dk_180 0 56 (dk_at dksX1_guests_0 6 rfl rfl)
theorem dX1_guests_9 : decode cX1_guests 9 = .ok (.if_icmp .ge 28, 3) := dk_162 0 28 (dk_at dksX1_guests_0 9 rfl rfl)
theorem dX1_guests_12 : decode cX1_guests 12 = .ok (.iload_n 2, 1) := dk_28 (dk_at dksX1_guests_0 12 rfl rfl)
theorem dX1_guests_13 : decode cX1_guests 13 = .ok (.aload_n 0, 1) := dk_42 (dk_at dksX1_guests_0 13 rfl rfl)
theorem dX1_guests_14 : decode cX1_guests 14 = .ok (.iload_n 3, 1) := dk_29 (dk_at dksX1_guests_0 14 rfl rfl)
theorem dX1_guests_15 : decode cX1_guests 15 = .ok (.iload_n 1, 1) := dk_27 (dk_at dksX1_guests_0 15 rfl rfl)
theorem dX1_guests_16 : decode cX1_guests 16 = .ok (.invokevirtual 116, 3) := dk_182 0 116 (dk_at dksX1_guests_0 16 rfl rfl)
theorem dX1_guests_19 : decode cX1_guests 19 = .ok (.ifCond .eq 9, 3) := dk_153 0 9 (dk_at dksX1_guests_0 19 rfl rfl)
theorem dX1_guests_22 : decode cX1_guests 22 = .ok (.iconst 1, 1) := dk_4 (dk_at dksX1_guests_0 22 rfl rfl)
theorem dX1_guests_23 : decode cX1_guests 23 = .ok (.iload_n 3, 1) := dk_29 (dk_at dksX1_guests_0 23 rfl rfl)
theorem dX1_guests_24 : decode cX1_guests 24 = .ok (.ishl, 1) := dk_120 (dk_at dksX1_guests_1 0 rfl rfl)
theorem dX1_guests_25 : decode cX1_guests 25 = .ok (.goto 4, 3) := dk_167 0 4 (dk_at dksX1_guests_1 1 rfl rfl)
theorem dX1_guests_28 : decode cX1_guests 28 = .ok (.iconst 0, 1) := dk_3 (dk_at dksX1_guests_1 4 rfl rfl)
theorem dX1_guests_29 : decode cX1_guests 29 = .ok (.ior, 1) := dk_128 (dk_at dksX1_guests_1 5 rfl rfl)
theorem dX1_guests_30 : decode cX1_guests 30 = .ok (.istore_n 2, 1) := dk_61 (dk_at dksX1_guests_1 6 rfl rfl)
theorem dX1_guests_31 : decode cX1_guests 31 = .ok (.iinc 3 1, 3) := dk_132 3 1 (dk_at dksX1_guests_1 7 rfl rfl)
theorem dX1_guests_34 : decode cX1_guests 34 = .ok (.goto (-30), 3) := dk_167 255 226 (dk_at dksX1_guests_1 10 rfl rfl)
theorem dX1_guests_37 : decode cX1_guests 37 = .ok (.iload_n 2, 1) := dk_28 (dk_at dksX1_guests_1 13 rfl rfl)
theorem dX1_guests_38 : decode cX1_guests 38 = .ok (.ireturn, 1) := dk_172 (dk_at dksX1_guests_1 14 rfl rfl)
abbrev cX1_allVotes : ByteArray := prog_3_method_16_code
def yX1_allVotes : MethodName := ⟨RX1, "allVotes", "()I"⟩
def dkwX1_allVotes_1 : List UInt8 := [46, 96, 96, 60, 132, 2, 1, 167, 255, 229, 27, 172]
abbrev dktX1_allVotes_1 : List UInt8 := dkwX1_allVotes_1 ++ []
def dkwX1_allVotes_0 : List UInt8 := [3, 60, 3, 61, 28, 42, 182, 0, 76, 162, 0, 25, 27, 42, 180, 0, 22, 28, 46, 42, 180, 0, 25, 28]
abbrev dktX1_allVotes_0 : List UInt8 := dkwX1_allVotes_0 ++ dktX1_allVotes_1
theorem dksX1_allVotes_0 : cX1_allVotes.data.toList.drop 0 = dktX1_allVotes_0 := by decide +kernel
theorem dksX1_allVotes_1 : cX1_allVotes.data.toList.drop 24 = dktX1_allVotes_1 := dk_seg dksX1_allVotes_0 24 rfl rfl
theorem dX1_allVotes_0 : decode cX1_allVotes 0 = .ok (.iconst 0, 1) := dk_3 (dk_at dksX1_allVotes_0 0 rfl rfl)
theorem dX1_allVotes_1 : decode cX1_allVotes 1 = .ok (.istore_n 1, 1) := dk_60 (dk_at dksX1_allVotes_0 1 rfl rfl)
theorem dX1_allVotes_2 : decode cX1_allVotes 2 = .ok (.iconst 0, 1) := dk_3 (dk_at dksX1_allVotes_0 2 rfl rfl)
theorem dX1_allVotes_3 : decode cX1_allVotes 3 = .ok (.istore_n 2, 1) := dk_61 (dk_at dksX1_allVotes_0 3 rfl rfl)
theorem dX1_allVotes_4 : decode cX1_allVotes 4 = .ok (.iload_n 2, 1) := dk_28 (dk_at dksX1_allVotes_0 4 rfl rfl)
theorem dX1_allVotes_5 : decode cX1_allVotes 5 = .ok (.aload_n 0, 1) := dk_42 (dk_at dksX1_allVotes_0 5 rfl rfl)
theorem dX1_allVotes_6 : decode cX1_allVotes 6 = .ok (.invokevirtual 76, 3) := dk_182 0 76 (dk_at dksX1_allVotes_0 6 rfl rfl)
theorem dX1_allVotes_9 : decode cX1_allVotes 9 = .ok (.if_icmp .ge 25, 3) := dk_162 0 25 (dk_at dksX1_allVotes_0 9 rfl rfl)
theorem dX1_allVotes_12 : decode cX1_allVotes 12 = .ok (.iload_n 1, 1) := dk_27 (dk_at dksX1_allVotes_0 12 rfl rfl)
theorem dX1_allVotes_13 : decode cX1_allVotes 13 = .ok (.aload_n 0, 1) := dk_42 (dk_at dksX1_allVotes_0 13 rfl rfl)
theorem dX1_allVotes_14 : decode cX1_allVotes 14 = .ok (.getfield 22, 3) := dk_180 0 22 (dk_at dksX1_allVotes_0 14 rfl rfl)
theorem dX1_allVotes_17 : decode cX1_allVotes 17 = .ok (.iload_n 2, 1) := dk_28 (dk_at dksX1_allVotes_0 17 rfl rfl)
theorem dX1_allVotes_18 : decode cX1_allVotes 18 = .ok (.iaload, 1) := dk_46 (dk_at dksX1_allVotes_0 18 rfl rfl)
theorem dX1_allVotes_19 : decode cX1_allVotes 19 = .ok (.aload_n 0, 1) := dk_42 (dk_at dksX1_allVotes_0 19 rfl rfl)
theorem dX1_allVotes_20 : decode cX1_allVotes 20 = .ok (.getfield 25, 3) := dk_180 0 25 (dk_at dksX1_allVotes_0 20 rfl rfl)
theorem dX1_allVotes_23 : decode cX1_allVotes 23 = .ok (.iload_n 2, 1) := dk_28 (dk_at dksX1_allVotes_0 23 rfl rfl)
theorem dX1_allVotes_24 : decode cX1_allVotes 24 = .ok (.iaload, 1) := dk_46 (dk_at dksX1_allVotes_1 0 rfl rfl)
theorem dX1_allVotes_25 : decode cX1_allVotes 25 = .ok (.iadd, 1) := dk_96 (dk_at dksX1_allVotes_1 1 rfl rfl)
theorem dX1_allVotes_26 : decode cX1_allVotes 26 = .ok (.iadd, 1) := dk_96 (dk_at dksX1_allVotes_1 2 rfl rfl)
theorem dX1_allVotes_27 : decode cX1_allVotes 27 = .ok (.istore_n 1, 1) := dk_60 (dk_at dksX1_allVotes_1 3 rfl rfl)
theorem dX1_allVotes_28 : decode cX1_allVotes 28 = .ok (.iinc 2 1, 3) := dk_132 2 1 (dk_at dksX1_allVotes_1 4 rfl rfl)
theorem dX1_allVotes_31 : decode cX1_allVotes 31 = .ok (.goto (-27), 3) := dk_167 255 229 (dk_at dksX1_allVotes_1 7 rfl rfl)
theorem dX1_allVotes_34 : decode cX1_allVotes 34 = .ok (.iload_n 1, 1) := dk_27 (dk_at dksX1_allVotes_1 10 rfl rfl)
theorem dX1_allVotes_35 : decode cX1_allVotes 35 = .ok (.ireturn, 1) := dk_172 (dk_at dksX1_allVotes_1 11 rfl rfl)
abbrev cX1_clickers : ByteArray := prog_3_method_9_code
def yX1_clickers : MethodName := ⟨RX1, "clickers", "(I)I"⟩
def dkwX1_clickers_1 : List UInt8 := [120, 167, 0, 4, 3, 128, 61, 132, 3, 1, 167, 255, 226, 28, 172]
abbrev dktX1_clickers_1 : List UInt8 := dkwX1_clickers_1 ++ []
def dkwX1_clickers_0 : List UInt8 := [3, 61, 3, 62, 29, 42, 180, 0, 56, 162, 0, 28, 28, 42, 29, 27, 182, 0, 90, 153, 0, 9, 4, 29]
abbrev dktX1_clickers_0 : List UInt8 := dkwX1_clickers_0 ++ dktX1_clickers_1
theorem dksX1_clickers_0 : cX1_clickers.data.toList.drop 0 = dktX1_clickers_0 := by decide +kernel
theorem dksX1_clickers_1 : cX1_clickers.data.toList.drop 24 = dktX1_clickers_1 := dk_seg dksX1_clickers_0 24 rfl rfl
theorem dX1_clickers_0 : decode cX1_clickers 0 = .ok (.iconst 0, 1) := dk_3 (dk_at dksX1_clickers_0 0 rfl rfl)
theorem dX1_clickers_1 : decode cX1_clickers 1 = .ok (.istore_n 2, 1) := dk_61 (dk_at dksX1_clickers_0 1 rfl rfl)
theorem dX1_clickers_2 : decode cX1_clickers 2 = .ok (.iconst 0, 1) := dk_3 (dk_at dksX1_clickers_0 2 rfl rfl)
theorem dX1_clickers_3 : decode cX1_clickers 3 = .ok (.istore_n 3, 1) := dk_62 (dk_at dksX1_clickers_0 3 rfl rfl)
theorem dX1_clickers_4 : decode cX1_clickers 4 = .ok (.iload_n 3, 1) := dk_29 (dk_at dksX1_clickers_0 4 rfl rfl)
theorem dX1_clickers_5 : decode cX1_clickers 5 = .ok (.aload_n 0, 1) := dk_42 (dk_at dksX1_clickers_0 5 rfl rfl)
theorem dX1_clickers_6 : decode cX1_clickers 6 = .ok (.getfield 56, 3) := dk_180 0 56 (dk_at dksX1_clickers_0 6 rfl rfl)
theorem dX1_clickers_9 : decode cX1_clickers 9 = .ok (.if_icmp .ge 28, 3) := dk_162 0 28 (dk_at dksX1_clickers_0 9 rfl rfl)
theorem dX1_clickers_12 : decode cX1_clickers 12 = .ok (.iload_n 2, 1) := dk_28 (dk_at dksX1_clickers_0 12 rfl rfl)
theorem dX1_clickers_13 : decode cX1_clickers 13 = .ok (.aload_n 0, 1) := dk_42 (dk_at dksX1_clickers_0 13 rfl rfl)
theorem dX1_clickers_14 : decode cX1_clickers 14 = .ok (.iload_n 3, 1) := dk_29 (dk_at dksX1_clickers_0 14 rfl rfl)
theorem dX1_clickers_15 : decode cX1_clickers 15 = .ok (.iload_n 1, 1) := dk_27 (dk_at dksX1_clickers_0 15 rfl rfl)
theorem dX1_clickers_16 : decode cX1_clickers 16 = .ok (.invokevirtual 90, 3) := dk_182 0 90 (dk_at dksX1_clickers_0 16 rfl rfl)
theorem dX1_clickers_19 : decode cX1_clickers 19 = .ok (.ifCond .eq 9, 3) := dk_153 0 9 (dk_at dksX1_clickers_0 19 rfl rfl)
theorem dX1_clickers_22 : decode cX1_clickers 22 = .ok (.iconst 1, 1) := dk_4 (dk_at dksX1_clickers_0 22 rfl rfl)
theorem dX1_clickers_23 : decode cX1_clickers 23 = .ok (.iload_n 3, 1) := dk_29 (dk_at dksX1_clickers_0 23 rfl rfl)
theorem dX1_clickers_24 : decode cX1_clickers 24 = .ok (.ishl, 1) := dk_120 (dk_at dksX1_clickers_1 0 rfl rfl)
theorem dX1_clickers_25 : decode cX1_clickers 25 = .ok (.goto 4, 3) := dk_167 0 4 (dk_at dksX1_clickers_1 1 rfl rfl)
theorem dX1_clickers_28 : decode cX1_clickers 28 = .ok (.iconst 0, 1) := dk_3 (dk_at dksX1_clickers_1 4 rfl rfl)
theorem dX1_clickers_29 : decode cX1_clickers 29 = .ok (.ior, 1) := dk_128 (dk_at dksX1_clickers_1 5 rfl rfl)
theorem dX1_clickers_30 : decode cX1_clickers 30 = .ok (.istore_n 2, 1) := dk_61 (dk_at dksX1_clickers_1 6 rfl rfl)
theorem dX1_clickers_31 : decode cX1_clickers 31 = .ok (.iinc 3 1, 3) := dk_132 3 1 (dk_at dksX1_clickers_1 7 rfl rfl)
theorem dX1_clickers_34 : decode cX1_clickers 34 = .ok (.goto (-30), 3) := dk_167 255 226 (dk_at dksX1_clickers_1 10 rfl rfl)
theorem dX1_clickers_37 : decode cX1_clickers 37 = .ok (.iload_n 2, 1) := dk_28 (dk_at dksX1_clickers_1 13 rfl rfl)
theorem dX1_clickers_38 : decode cX1_clickers 38 = .ok (.ireturn, 1) := dk_172 (dk_at dksX1_clickers_1 14 rfl rfl)
theorem q59 : (Jvm.Cond.initialized "LampSquares$Door") ∈ lw_all := lw_g (lw_at lw_m1 2 rfl) rfl
theorem q102 : (Jvm.Cond.instantiable "LampSquares$Door" (12 : Nat)) ∈ lw_all := lw_g (lw_at lw_m1 45 rfl) rfl
theorem q104 : (Jvm.Cond.instanceMethod ({ cls := "LampSquares$Door", name := "<init>", desc := "()V" } : Jvm.MethodName)) ∈ lw_all := lw_g (lw_at lw_m1 47 rfl) rfl
theorem q105 : (Jvm.Cond.code ({ cls := "LampSquares$Door", name := "<init>", desc := "()V" } : Jvm.MethodName) prog_3_method_1_code (1 : Nat) (Option.none : Option Jvm.ClassFile.FieldType)) ∈ lw_all := lw_g (lw_at lw_m1 48 rfl) rfl
theorem q106 : (Jvm.Cond.methodLink "LampSquares$Door" (3 : Nat) ({ cls := "java/lang/Object", name := "<init>", desc := "()V" } : Jvm.MethodName)) ∈ lw_all := lw_g (lw_at lw_m1 49 rfl) rfl
theorem q107 : (Jvm.Cond.classLink "LampSquares$Door" (9 : Nat) "java/util/ArrayList") ∈ lw_all := lw_g (lw_at lw_m1 50 rfl) rfl
theorem q109 : (Jvm.Cond.methodLink "LampSquares$Door" (11 : Nat) ({ cls := "java/util/ArrayList", name := "<init>", desc := "()V" } : Jvm.MethodName)) ∈ lw_all := lw_g (lw_at lw_m1 52 rfl) rfl
theorem q134 : (Jvm.Cond.fieldLink "LampSquares$Door" (43 : Nat) "LampSquares$Door" "edge" "I") ∈ lw_all := lw_g (lw_at lw_m1 77 rfl) rfl
theorem q137 : (Jvm.Cond.fieldLink "LampSquares$Door" (47 : Nat) "LampSquares$Door" "strict" "I") ∈ lw_all := lw_g (lw_at lw_m1 80 rfl) rfl
theorem q140 : (Jvm.Cond.fieldLink "LampSquares$Door" (12 : Nat) "LampSquares$Door" "squares" "Ljava/util/List;") ∈ lw_all := lw_g (lw_at lw_m1 83 rfl) rfl
theorem q143 : (Jvm.Cond.fieldLink "LampSquares$Door" (18 : Nat) "LampSquares$Door" "share" "[I") ∈ lw_all := lw_g (lw_at lw_m1 86 rfl) rfl
theorem q147 : (Jvm.Cond.fieldLink "LampSquares$Door" (22 : Nat) "LampSquares$Door" "yes" "[I") ∈ lw_all := lw_g (lw_at lw_m1 90 rfl) rfl
theorem q149 : (Jvm.Cond.fieldLink "LampSquares$Door" (25 : Nat) "LampSquares$Door" "no" "[I") ∈ lw_all := lw_g (lw_at lw_m1 92 rfl) rfl
theorem q151 : (Jvm.Cond.fieldLink "LampSquares$Door" (28 : Nat) "LampSquares$Door" "settled" "[I") ∈ lw_all := lw_g (lw_at lw_m1 94 rfl) rfl
theorem q154 : (Jvm.Cond.fieldLink "LampSquares$Door" (56 : Nat) "LampSquares$Door" "visitors" "I") ∈ lw_all := lw_g (lw_at lw_m1 97 rfl) rfl
theorem q157 : (Jvm.Cond.fieldLink "LampSquares$Door" (31 : Nat) "LampSquares$Door" "care" "[I") ∈ lw_all := lw_g (lw_at lw_m1 100 rfl) rfl
theorem q160 : (Jvm.Cond.fieldLink "LampSquares$Door" (34 : Nat) "LampSquares$Door" "ear" "[I") ∈ lw_all := lw_g (lw_at lw_m1 103 rfl) rfl
theorem q163 : (Jvm.Cond.fieldLink "LampSquares$Door" (37 : Nat) "LampSquares$Door" "posed" "[I") ∈ lw_all := lw_g (lw_at lw_m1 106 rfl) rfl
theorem q165 : (Jvm.Cond.fieldLink "LampSquares$Door" (40 : Nat) "LampSquares$Door" "let" "[I") ∈ lw_all := lw_g (lw_at lw_m1 108 rfl) rfl
theorem q167 : (Jvm.Cond.lays "LampSquares$Door" "LampSquares$Door" "edge" "I") ∈ lw_all := lw_g (lw_at lw_m1 110 rfl) rfl
theorem q168 : (Jvm.Cond.soleField "LampSquares$Door" "edge") ∈ lw_all := lw_g (lw_at lw_m1 111 rfl) rfl
theorem q169 : (Jvm.Cond.lays "LampSquares$Door" "LampSquares$Door" "strict" "I") ∈ lw_all := lw_g (lw_at lw_m1 112 rfl) rfl
theorem q170 : (Jvm.Cond.soleField "LampSquares$Door" "strict") ∈ lw_all := lw_g (lw_at lw_m1 113 rfl) rfl
theorem q171 : (Jvm.Cond.lays "LampSquares$Door" "LampSquares$Door" "squares" "Ljava/util/List;") ∈ lw_all := lw_g (lw_at lw_m1 114 rfl) rfl
theorem q172 : (Jvm.Cond.soleField "LampSquares$Door" "squares") ∈ lw_all := lw_g (lw_at lw_m1 115 rfl) rfl
theorem q173 : (Jvm.Cond.laysFinal "LampSquares$Door" "LampSquares$Door" "share" "[I") ∈ lw_all := lw_g (lw_at lw_m1 116 rfl) rfl
theorem q174 : (Jvm.Cond.soleField "LampSquares$Door" "share") ∈ lw_all := lw_g (lw_at lw_m1 117 rfl) rfl
theorem q175 : (Jvm.Cond.laysFinal "LampSquares$Door" "LampSquares$Door" "yes" "[I") ∈ lw_all := lw_g (lw_at lw_m1 118 rfl) rfl
theorem q176 : (Jvm.Cond.soleField "LampSquares$Door" "yes") ∈ lw_all := lw_g (lw_at lw_m1 119 rfl) rfl
theorem q177 : (Jvm.Cond.laysFinal "LampSquares$Door" "LampSquares$Door" "no" "[I") ∈ lw_all := lw_g (lw_at lw_m1 120 rfl) rfl
theorem q178 : (Jvm.Cond.soleField "LampSquares$Door" "no") ∈ lw_all := lw_g (lw_at lw_m1 121 rfl) rfl
theorem q179 : (Jvm.Cond.laysFinal "LampSquares$Door" "LampSquares$Door" "settled" "[I") ∈ lw_all := lw_g (lw_at lw_m1 122 rfl) rfl
theorem q180 : (Jvm.Cond.soleField "LampSquares$Door" "settled") ∈ lw_all := lw_g (lw_at lw_m1 123 rfl) rfl
theorem q181 : (Jvm.Cond.lays "LampSquares$Door" "LampSquares$Door" "visitors" "I") ∈ lw_all := lw_g (lw_at lw_m1 124 rfl) rfl
theorem q182 : (Jvm.Cond.soleField "LampSquares$Door" "visitors") ∈ lw_all := lw_g (lw_at lw_m1 125 rfl) rfl
theorem q183 : (Jvm.Cond.laysFinal "LampSquares$Door" "LampSquares$Door" "care" "[I") ∈ lw_all := lw_g (lw_at lw_m1 126 rfl) rfl
theorem q184 : (Jvm.Cond.soleField "LampSquares$Door" "care") ∈ lw_all := lw_g (lw_at lw_m1 127 rfl) rfl
theorem q185 : (Jvm.Cond.laysFinal "LampSquares$Door" "LampSquares$Door" "ear" "[I") ∈ lw_all := lw_g (lw_at lw_m1 128 rfl) rfl
theorem q186 : (Jvm.Cond.soleField "LampSquares$Door" "ear") ∈ lw_all := lw_g (lw_at lw_m1 129 rfl) rfl
theorem q187 : (Jvm.Cond.laysFinal "LampSquares$Door" "LampSquares$Door" "posed" "[I") ∈ lw_all := lw_g (lw_at lw_m1 130 rfl) rfl
theorem q188 : (Jvm.Cond.soleField "LampSquares$Door" "posed") ∈ lw_all := lw_g (lw_at lw_m1 131 rfl) rfl
theorem q189 : (Jvm.Cond.laysFinal "LampSquares$Door" "LampSquares$Door" "let" "[I") ∈ lw_all := lw_g (lw_at lw_m1 132 rfl) rfl
theorem q190 : (Jvm.Cond.soleField "LampSquares$Door" "let") ∈ lw_all := lw_g (lw_at lw_m1 133 rfl) rfl
theorem q191 : (Jvm.Cond.superclass "LampSquares$Door" "java/lang/Object") ∈ lw_all := lw_g (lw_at lw_m1 134 rfl) rfl
theorem q619 : (Jvm.Cond.instanceMethod ({ cls := "LampSquares$Door", name := "many", desc := "()I" } : Jvm.MethodName)) ∈ lw_all := lw_g (lw_at lw_m3 82 rfl) rfl
theorem q620 : (Jvm.Cond.selects "LampSquares$Door" ({ cls := "LampSquares$Door", name := "many", desc := "()I" } : Jvm.MethodName) ({ cls := "LampSquares$Door", name := "many", desc := "()I" } : Jvm.MethodName)) ∈ lw_all := lw_g (lw_at lw_m3 83 rfl) rfl
theorem q621 : (Jvm.Cond.code ({ cls := "LampSquares$Door", name := "many", desc := "()I" } : Jvm.MethodName) prog_3_method_3_code (1 : Nat) (Option.some Jvm.ClassFile.FieldType.int)) ∈ lw_all := lw_g (lw_at lw_m3 84 rfl) rfl
theorem q622 : (Jvm.Cond.interfaceEntry "LampSquares$Door" (59 : Nat)) ∈ lw_tbl := lw_at lw_m3 85 rfl
theorem q623 : (Jvm.Cond.methodLink "LampSquares$Door" (59 : Nat) ({ cls := "java/util/List", name := "size", desc := "()I" } : Jvm.MethodName)) ∈ lw_all := lw_g (lw_at lw_m3 86 rfl) rfl
theorem q678 : (Jvm.Cond.selects "LampSquares$Door" ({ cls := "java/lang/Object", name := "getClass", desc := "()Ljava/lang/Class;" } : Jvm.MethodName) ({ cls := "java/lang/Object", name := "getClass", desc := "()Ljava/lang/Class;" } : Jvm.MethodName)) ∈ lw_all := lw_g (lw_at lw_m3 141 rfl) rfl
theorem q711 : (Jvm.Cond.instanceMethod ({ cls := "LampSquares$Door", name := "become", desc := "(LLampSquares$Door;)LLampSquares$Door;" } : Jvm.MethodName)) ∈ lw_all := lw_g (lw_at lw_m3 174 rfl) rfl
theorem q712 : (Jvm.Cond.selects "LampSquares$Door" ({ cls := "LampSquares$Door", name := "become", desc := "(LLampSquares$Door;)LLampSquares$Door;" } : Jvm.MethodName) ({ cls := "LampSquares$Door", name := "become", desc := "(LLampSquares$Door;)LLampSquares$Door;" } : Jvm.MethodName)) ∈ lw_all := lw_g (lw_at lw_m3 175 rfl) rfl
theorem q713 : (Jvm.Cond.code ({ cls := "LampSquares$Door", name := "become", desc := "(LLampSquares$Door;)LLampSquares$Door;" } : Jvm.MethodName) prog_3_method_2_code (2 : Nat) (Option.some (Jvm.ClassFile.FieldType.object "LampSquares$Door"))) ∈ lw_all := lw_g (lw_at lw_m3 176 rfl) rfl
theorem q714 : (Jvm.Cond.methodLink "LampSquares$Door" (50 : Nat) ({ cls := "java/lang/System", name := "arraycopy", desc := "(Ljava/lang/Object;ILjava/lang/Object;II)V" } : Jvm.MethodName)) ∈ lw_all := lw_g (lw_at lw_m3 177 rfl) rfl
theorem q742 : (Jvm.Cond.instanceMethod ({ cls := "LampSquares$Door", name := "pose", desc := "(II)Z" } : Jvm.MethodName)) ∈ lw_all := lw_g (lw_at lw_m3 205 rfl) rfl
theorem q743 : (Jvm.Cond.selects "LampSquares$Door" ({ cls := "LampSquares$Door", name := "pose", desc := "(II)Z" } : Jvm.MethodName) ({ cls := "LampSquares$Door", name := "pose", desc := "(II)Z" } : Jvm.MethodName)) ∈ lw_all := lw_g (lw_at lw_m3 206 rfl) rfl
theorem q744 : (Jvm.Cond.code ({ cls := "LampSquares$Door", name := "pose", desc := "(II)Z" } : Jvm.MethodName) prog_3_method_15_code (5 : Nat) (Option.some Jvm.ClassFile.FieldType.boolean)) ∈ lw_all := lw_g (lw_at lw_m3 207 rfl) rfl
theorem q745 : (Jvm.Cond.methodLink "LampSquares$Door" (116 : Nat) ({ cls := "LampSquares$Door", name := "isLet", desc := "(II)Z" } : Jvm.MethodName)) ∈ lw_all := lw_g (lw_at lw_m3 208 rfl) rfl
theorem q746 : (Jvm.Cond.instanceMethod ({ cls := "LampSquares$Door", name := "isLet", desc := "(II)Z" } : Jvm.MethodName)) ∈ lw_all := lw_g (lw_at lw_m3 209 rfl) rfl
theorem q747 : (Jvm.Cond.selects "LampSquares$Door" ({ cls := "LampSquares$Door", name := "isLet", desc := "(II)Z" } : Jvm.MethodName) ({ cls := "LampSquares$Door", name := "isLet", desc := "(II)Z" } : Jvm.MethodName)) ∈ lw_all := lw_g (lw_at lw_m3 210 rfl) rfl
theorem q748 : (Jvm.Cond.code ({ cls := "LampSquares$Door", name := "isLet", desc := "(II)Z" } : Jvm.MethodName) prog_3_method_13_code (3 : Nat) (Option.some Jvm.ClassFile.FieldType.boolean)) ∈ lw_all := lw_g (lw_at lw_m3 211 rfl) rfl
theorem q749 : (Jvm.Cond.methodLink "LampSquares$Door" (109 : Nat) ({ cls := "LampSquares$Door", name := "clicked", desc := "(I)I" } : Jvm.MethodName)) ∈ lw_all := lw_g (lw_at lw_m3 212 rfl) rfl
theorem q750 : (Jvm.Cond.instanceMethod ({ cls := "LampSquares$Door", name := "clicked", desc := "(I)I" } : Jvm.MethodName)) ∈ lw_all := lw_g (lw_at lw_m3 213 rfl) rfl
theorem q751 : (Jvm.Cond.selects "LampSquares$Door" ({ cls := "LampSquares$Door", name := "clicked", desc := "(I)I" } : Jvm.MethodName) ({ cls := "LampSquares$Door", name := "clicked", desc := "(I)I" } : Jvm.MethodName)) ∈ lw_all := lw_g (lw_at lw_m3 214 rfl) rfl
theorem q752 : (Jvm.Cond.code ({ cls := "LampSquares$Door", name := "clicked", desc := "(I)I" } : Jvm.MethodName) prog_3_method_10_code (4 : Nat) (Option.some Jvm.ClassFile.FieldType.int)) ∈ lw_all := lw_g (lw_at lw_m3 215 rfl) rfl
theorem q753 : (Jvm.Cond.methodLink "LampSquares$Door" (76 : Nat) ({ cls := "LampSquares$Door", name := "many", desc := "()I" } : Jvm.MethodName)) ∈ lw_all := lw_g (lw_at lw_m3 216 rfl) rfl
theorem q754 : (Jvm.Cond.methodLink "LampSquares$Door" (90 : Nat) ({ cls := "LampSquares$Door", name := "clicks", desc := "(II)Z" } : Jvm.MethodName)) ∈ lw_all := lw_g (lw_at lw_m3 217 rfl) rfl
theorem q755 : (Jvm.Cond.instanceMethod ({ cls := "LampSquares$Door", name := "clicks", desc := "(II)Z" } : Jvm.MethodName)) ∈ lw_all := lw_g (lw_at lw_m3 218 rfl) rfl
theorem q756 : (Jvm.Cond.selects "LampSquares$Door" ({ cls := "LampSquares$Door", name := "clicks", desc := "(II)Z" } : Jvm.MethodName) ({ cls := "LampSquares$Door", name := "clicks", desc := "(II)Z" } : Jvm.MethodName)) ∈ lw_all := lw_g (lw_at lw_m3 219 rfl) rfl
theorem q757 : (Jvm.Cond.code ({ cls := "LampSquares$Door", name := "clicks", desc := "(II)Z" } : Jvm.MethodName) prog_3_method_8_code (3 : Nat) (Option.some Jvm.ClassFile.FieldType.boolean)) ∈ lw_all := lw_g (lw_at lw_m3 220 rfl) rfl
theorem q758 : (Jvm.Cond.interfaceEntry "LampSquares$Door" (66 : Nat)) ∈ lw_tbl := lw_at lw_m3 221 rfl
theorem q759 : (Jvm.Cond.methodLink "LampSquares$Door" (66 : Nat) ({ cls := "java/util/List", name := "get", desc := "(I)Ljava/lang/Object;" } : Jvm.MethodName)) ∈ lw_all := lw_g (lw_at lw_m3 222 rfl) rfl
theorem q775 : (Jvm.Cond.classLink "LampSquares$Door" (70 : Nat) "LampSquares$Square") ∈ lw_all := lw_g (lw_at lw_m3 238 rfl) rfl
theorem q776 : (Jvm.Cond.methodLinkNest "LampSquares$Door" (86 : Nat) ({ cls := "LampSquares", name := "clicksBy", desc := "(LLampSquares$Square;III)Z" } : Jvm.MethodName) "LampSquares") ∈ lw_tbl := lw_at lw_m3 239 rfl
theorem q801 : (Jvm.Cond.methodLink "LampSquares$Door" (112 : Nat) ({ cls := "LampSquares$Door", name := "wrongIn", desc := "(II)I" } : Jvm.MethodName)) ∈ lw_all := lw_g (lw_at lw_m4 24 rfl) rfl
theorem q802 : (Jvm.Cond.instanceMethod ({ cls := "LampSquares$Door", name := "wrongIn", desc := "(II)I" } : Jvm.MethodName)) ∈ lw_all := lw_g (lw_at lw_m4 25 rfl) rfl
theorem q803 : (Jvm.Cond.selects "LampSquares$Door" ({ cls := "LampSquares$Door", name := "wrongIn", desc := "(II)I" } : Jvm.MethodName) ({ cls := "LampSquares$Door", name := "wrongIn", desc := "(II)I" } : Jvm.MethodName)) ∈ lw_all := lw_g (lw_at lw_m4 26 rfl) rfl
theorem q804 : (Jvm.Cond.code ({ cls := "LampSquares$Door", name := "wrongIn", desc := "(II)I" } : Jvm.MethodName) prog_3_method_12_code (3 : Nat) (Option.some Jvm.ClassFile.FieldType.int)) ∈ lw_all := lw_g (lw_at lw_m4 27 rfl) rfl
theorem q805 : (Jvm.Cond.methodLink "LampSquares$Door" (97 : Nat) ({ cls := "LampSquares$Door", name := "lamps", desc := "()I" } : Jvm.MethodName)) ∈ lw_all := lw_g (lw_at lw_m4 28 rfl) rfl
theorem q806 : (Jvm.Cond.instanceMethod ({ cls := "LampSquares$Door", name := "lamps", desc := "()I" } : Jvm.MethodName)) ∈ lw_all := lw_g (lw_at lw_m4 29 rfl) rfl
theorem q807 : (Jvm.Cond.selects "LampSquares$Door" ({ cls := "LampSquares$Door", name := "lamps", desc := "()I" } : Jvm.MethodName) ({ cls := "LampSquares$Door", name := "lamps", desc := "()I" } : Jvm.MethodName)) ∈ lw_all := lw_g (lw_at lw_m4 30 rfl) rfl
theorem q808 : (Jvm.Cond.code ({ cls := "LampSquares$Door", name := "lamps", desc := "()I" } : Jvm.MethodName) prog_3_method_11_code (3 : Nat) (Option.some Jvm.ClassFile.FieldType.int)) ∈ lw_all := lw_g (lw_at lw_m4 31 rfl) rfl
theorem q809 : (Jvm.Cond.methodLink "LampSquares$Door" (94 : Nat) ({ cls := "LampSquares$Door", name := "isLamp", desc := "(I)Z" } : Jvm.MethodName)) ∈ lw_all := lw_g (lw_at lw_m4 32 rfl) rfl
theorem q810 : (Jvm.Cond.instanceMethod ({ cls := "LampSquares$Door", name := "isLamp", desc := "(I)Z" } : Jvm.MethodName)) ∈ lw_all := lw_g (lw_at lw_m4 33 rfl) rfl
theorem q811 : (Jvm.Cond.selects "LampSquares$Door" ({ cls := "LampSquares$Door", name := "isLamp", desc := "(I)Z" } : Jvm.MethodName) ({ cls := "LampSquares$Door", name := "isLamp", desc := "(I)Z" } : Jvm.MethodName)) ∈ lw_all := lw_g (lw_at lw_m4 34 rfl) rfl
theorem q812 : (Jvm.Cond.code ({ cls := "LampSquares$Door", name := "isLamp", desc := "(I)Z" } : Jvm.MethodName) prog_3_method_4_code (2 : Nat) (Option.some Jvm.ClassFile.FieldType.boolean)) ∈ lw_all := lw_g (lw_at lw_m4 35 rfl) rfl
theorem q813 : (Jvm.Cond.constant "LampSquares$Door" (65 : Nat) (-1000000 : Int32)) ∈ lw_all := lw_g (lw_at lw_m4 36 rfl) rfl
theorem q814 : (Jvm.Cond.methodLink "LampSquares$Door" (100 : Nat) ({ cls := "LampSquares$Door", name := "counting", desc := "()I" } : Jvm.MethodName)) ∈ lw_all := lw_g (lw_at lw_m4 37 rfl) rfl
theorem q815 : (Jvm.Cond.instanceMethod ({ cls := "LampSquares$Door", name := "counting", desc := "()I" } : Jvm.MethodName)) ∈ lw_all := lw_g (lw_at lw_m4 38 rfl) rfl
theorem q816 : (Jvm.Cond.selects "LampSquares$Door" ({ cls := "LampSquares$Door", name := "counting", desc := "()I" } : Jvm.MethodName) ({ cls := "LampSquares$Door", name := "counting", desc := "()I" } : Jvm.MethodName)) ∈ lw_all := lw_g (lw_at lw_m4 39 rfl) rfl
theorem q817 : (Jvm.Cond.code ({ cls := "LampSquares$Door", name := "counting", desc := "()I" } : Jvm.MethodName) prog_3_method_6_code (3 : Nat) (Option.some Jvm.ClassFile.FieldType.int)) ∈ lw_all := lw_g (lw_at lw_m4 40 rfl) rfl
theorem q818 : (Jvm.Cond.methodLink "LampSquares$Door" (79 : Nat) ({ cls := "LampSquares$Door", name := "counts", desc := "(I)Z" } : Jvm.MethodName)) ∈ lw_all := lw_g (lw_at lw_m4 41 rfl) rfl
theorem q819 : (Jvm.Cond.instanceMethod ({ cls := "LampSquares$Door", name := "counts", desc := "(I)Z" } : Jvm.MethodName)) ∈ lw_all := lw_g (lw_at lw_m4 42 rfl) rfl
theorem q820 : (Jvm.Cond.selects "LampSquares$Door" ({ cls := "LampSquares$Door", name := "counts", desc := "(I)Z" } : Jvm.MethodName) ({ cls := "LampSquares$Door", name := "counts", desc := "(I)Z" } : Jvm.MethodName)) ∈ lw_all := lw_g (lw_at lw_m4 43 rfl) rfl
theorem q821 : (Jvm.Cond.code ({ cls := "LampSquares$Door", name := "counts", desc := "(I)Z" } : Jvm.MethodName) prog_3_method_5_code (2 : Nat) (Option.some Jvm.ClassFile.FieldType.boolean)) ∈ lw_all := lw_g (lw_at lw_m4 44 rfl) rfl
theorem q822 : (Jvm.Cond.methodLink "LampSquares$Door" (72 : Nat) ({ cls := "LampSquares$Square", name := "counts", desc := "()Z" } : Jvm.MethodName)) ∈ lw_all := lw_g (lw_at lw_m4 45 rfl) rfl
theorem q833 : (Jvm.Cond.methodLink "LampSquares$Door" (103 : Nat) ({ cls := "java/lang/Integer", name := "bitCount", desc := "(I)I" } : Jvm.MethodName)) ∈ lw_all := lw_g (lw_at lw_m4 56 rfl) rfl
theorem q839 : (Jvm.Cond.methodLink "LampSquares$Door" (119 : Nat) ({ cls := "java/lang/Math", name := "min", desc := "(II)I" } : Jvm.MethodName)) ∈ lw_all := lw_g (lw_at lw_m4 62 rfl) rfl
theorem q876 : (Jvm.Cond.instanceMethod ({ cls := "LampSquares$Door", name := "sees", desc := "(II)I" } : Jvm.MethodName)) ∈ lw_all := lw_g (lw_at lw_m4 99 rfl) rfl
theorem q877 : (Jvm.Cond.selects "LampSquares$Door" ({ cls := "LampSquares$Door", name := "sees", desc := "(II)I" } : Jvm.MethodName) ({ cls := "LampSquares$Door", name := "sees", desc := "(II)I" } : Jvm.MethodName)) ∈ lw_all := lw_g (lw_at lw_m4 100 rfl) rfl
theorem q878 : (Jvm.Cond.code ({ cls := "LampSquares$Door", name := "sees", desc := "(II)I" } : Jvm.MethodName) prog_3_method_7_code (3 : Nat) (Option.some Jvm.ClassFile.FieldType.int)) ∈ lw_all := lw_g (lw_at lw_m4 101 rfl) rfl
theorem q879 : (Jvm.Cond.methodLink "LampSquares$Door" (82 : Nat) ({ cls := "LampSquares$Square", name := "seen", desc := "(III)I" } : Jvm.MethodName)) ∈ lw_all := lw_g (lw_at lw_m4 102 rfl) rfl
theorem q895 : (Jvm.Cond.instanceMethod ({ cls := "LampSquares$Door", name := "guests", desc := "(I)I" } : Jvm.MethodName)) ∈ lw_all := lw_g (lw_at lw_m4 118 rfl) rfl
theorem q896 : (Jvm.Cond.selects "LampSquares$Door" ({ cls := "LampSquares$Door", name := "guests", desc := "(I)I" } : Jvm.MethodName) ({ cls := "LampSquares$Door", name := "guests", desc := "(I)I" } : Jvm.MethodName)) ∈ lw_all := lw_g (lw_at lw_m4 119 rfl) rfl
theorem q897 : (Jvm.Cond.code ({ cls := "LampSquares$Door", name := "guests", desc := "(I)I" } : Jvm.MethodName) prog_3_method_14_code (4 : Nat) (Option.some Jvm.ClassFile.FieldType.int)) ∈ lw_all := lw_g (lw_at lw_m4 120 rfl) rfl
theorem q1027 : (Jvm.Cond.instanceMethod ({ cls := "LampSquares$Door", name := "allVotes", desc := "()I" } : Jvm.MethodName)) ∈ lw_all := lw_g (lw_at lw_m5 10 rfl) rfl
theorem q1028 : (Jvm.Cond.selects "LampSquares$Door" ({ cls := "LampSquares$Door", name := "allVotes", desc := "()I" } : Jvm.MethodName) ({ cls := "LampSquares$Door", name := "allVotes", desc := "()I" } : Jvm.MethodName)) ∈ lw_all := lw_g (lw_at lw_m5 11 rfl) rfl
theorem q1029 : (Jvm.Cond.code ({ cls := "LampSquares$Door", name := "allVotes", desc := "()I" } : Jvm.MethodName) prog_3_method_16_code (3 : Nat) (Option.some Jvm.ClassFile.FieldType.int)) ∈ lw_all := lw_g (lw_at lw_m5 12 rfl) rfl
theorem q1132 : (Jvm.Cond.instanceMethod ({ cls := "LampSquares$Door", name := "clickers", desc := "(I)I" } : Jvm.MethodName)) ∈ lw_all := lw_g (lw_at lw_m5 115 rfl) rfl
theorem q1133 : (Jvm.Cond.selects "LampSquares$Door" ({ cls := "LampSquares$Door", name := "clickers", desc := "(I)I" } : Jvm.MethodName) ({ cls := "LampSquares$Door", name := "clickers", desc := "(I)I" } : Jvm.MethodName)) ∈ lw_all := lw_g (lw_at lw_m5 116 rfl) rfl
theorem q1134 : (Jvm.Cond.code ({ cls := "LampSquares$Door", name := "clickers", desc := "(I)I" } : Jvm.MethodName) prog_3_method_9_code (4 : Nat) (Option.some Jvm.ClassFile.FieldType.int)) ∈ lw_all := lw_g (lw_at lw_m5 117 rfl) rfl
theorem q1616 : (Jvm.Cond.castable "LampSquares$Door" "java/lang/Object") ∈ lw_tbl := lw_at lw_m7 119 rfl
theorem in_X1 : ∀ w ∈ wsX10, w ∈ lw_all := lw_in wsX10 [167, 169, 171, 173, 175, 177, 179, 181, 183, 185, 187, 189] (by decide +kernel) (by decide +kernel)
