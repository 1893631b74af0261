/-! java/util/AbstractCollection -/
set_option maxRecDepth 100000
def RJ0 : String := "java/util/AbstractCollection"
abbrev cJ0_init : ByteArray := prog_32_method_1_code
def yJ0_init : MethodName := ⟨RJ0, "<init>", "()V"⟩
theorem dJ0_init_0 : decode cJ0_init 0 = .ok (.aload_n 0, 1) := by decide +kernel
theorem dJ0_init_1 : decode cJ0_init 1 = .ok (.invokespecial 1, 3) := by decide +kernel
theorem dJ0_init_4 : decode cJ0_init 4 = .ok (.return_, 1) := by decide +kernel
theorem q60 : (Jvm.Cond.initialized "java/util/AbstractCollection") ∈ lw_all := lw_g (lw_at lw_m1 3 rfl) rfl
theorem q116 : (Jvm.Cond.instanceMethod ({ cls := "java/util/AbstractCollection", name := "<init>", desc := "()V" } : Jvm.MethodName)) ∈ lw_all := lw_g (lw_at lw_m1 59 rfl) rfl
theorem q117 : (Jvm.Cond.code ({ cls := "java/util/AbstractCollection", name := "<init>", desc := "()V" } : Jvm.MethodName) prog_32_method_1_code (1 : Nat) (Option.none : Option Jvm.ClassFile.FieldType)) ∈ lw_all := lw_g (lw_at lw_m1 60 rfl) rfl
theorem q118 : (Jvm.Cond.methodLink "java/util/AbstractCollection" (1 : Nat) ({ cls := "java/lang/Object", name := "<init>", desc := "()V" } : Jvm.MethodName)) ∈ lw_all := lw_g (lw_at lw_m1 61 rfl) rfl
/-! java/util/AbstractList -/
set_option maxRecDepth 100000
def RJ1 : String := "java/util/AbstractList"
abbrev cJ1_init : ByteArray := prog_33_method_1_code
def yJ1_init : MethodName := ⟨RJ1, "<init>", "()V"⟩
def dkwJ1_init_0 : List UInt8 := [42, 183, 0, 1, 42, 3, 181, 0, 7, 177]
abbrev dktJ1_init_0 : List UInt8 := dkwJ1_init_0 ++ []
theorem dksJ1_init_0 : cJ1_init.data.toList.drop 0 = dktJ1_init_0 := by decide +kernel
theorem dJ1_init_0 : decode cJ1_init 0 = .ok (.aload_n 0, 1) := dk_42 (dk_at dksJ1_init_0 0 rfl rfl)
theorem dJ1_init_1 : decode cJ1_init 1 = .ok (.invokespecial 1, 3) := dk_183 0 1 (dk_at dksJ1_init_0 1 rfl rfl)
theorem dJ1_init_4 : decode cJ1_init 4 = .ok (.aload_n 0, 1) := dk_42 (dk_at dksJ1_init_0 4 rfl rfl)
theorem dJ1_init_5 : decode cJ1_init 5 = .ok (.iconst 0, 1) := dk_3 (dk_at dksJ1_init_0 5 rfl rfl)
theorem dJ1_init_6 : decode cJ1_init 6 = .ok (.putfield 7, 3) := dk_181 0 7 (dk_at dksJ1_init_0 6 rfl rfl)
theorem dJ1_init_9 : decode cJ1_init 9 = .ok (.return_, 1) := dk_177 (dk_at dksJ1_init_0 9 rfl rfl)
theorem q61 : (Jvm.Cond.initialized "java/util/AbstractList") ∈ lw_all := lw_g (lw_at lw_m1 4 rfl) rfl
theorem q113 : (Jvm.Cond.instanceMethod ({ cls := "java/util/AbstractList", name := "<init>", desc := "()V" } : Jvm.MethodName)) ∈ lw_all := lw_g (lw_at lw_m1 56 rfl) rfl
theorem q114 : (Jvm.Cond.code ({ cls := "java/util/AbstractList", name := "<init>", desc := "()V" } : Jvm.MethodName) prog_33_method_1_code (1 : Nat) (Option.none : Option Jvm.ClassFile.FieldType)) ∈ lw_all := lw_g (lw_at lw_m1 57 rfl) rfl
theorem q115 : (Jvm.Cond.methodLink "java/util/AbstractList" (1 : Nat) ({ cls := "java/util/AbstractCollection", name := "<init>", desc := "()V" } : Jvm.MethodName)) ∈ lw_all := lw_g (lw_at lw_m1 58 rfl) rfl
theorem q123 : (Jvm.Cond.fieldLink "java/util/AbstractList" (7 : Nat) "java/util/AbstractList" "modCount" "I") ∈ lw_all := lw_g (lw_at lw_m1 66 rfl) rfl
theorem q131 : (Jvm.Cond.soleField "java/util/AbstractList" "modCount") ∈ lw_all := lw_g (lw_at lw_m1 74 rfl) rfl
/-! jdk/internal/util/Preconditions -/
set_option maxRecDepth 100000
def RJ10 : String := "jdk/internal/util/Preconditions"
abbrev cJ10_checkIndex : ByteArray := prog_42_method_11_code
def yJ10_checkIndex : MethodName := ⟨RJ10, "checkIndex", "(IILjava/util/function/BiFunction;)I"⟩
def dkwJ10_checkIndex_0 : List UInt8 := [26, 155, 0, 8, 26, 27, 161, 0, 10, 44, 26, 27, 184, 0, 95, 191, 26, 172]
abbrev dktJ10_checkIndex_0 : List UInt8 := dkwJ10_checkIndex_0 ++ []
theorem dksJ10_checkIndex_0 : cJ10_checkIndex.data.toList.drop 0 = dktJ10_checkIndex_0 := by decide +kernel
theorem dJ10_checkIndex_0 : decode cJ10_checkIndex 0 = .ok (.iload_n 0, 1) := dk_26 (dk_at dksJ10_checkIndex_0 0 rfl rfl)
theorem dJ10_checkIndex_1 : decode cJ10_checkIndex 1 = .ok (.ifCond .lt 8, 3) := dk_155 0 8 (dk_at dksJ10_checkIndex_0 1 rfl rfl)
theorem dJ10_checkIndex_4 : decode cJ10_checkIndex 4 = .ok (.iload_n 0, 1) := dk_26 (dk_at dksJ10_checkIndex_0 4 rfl rfl)
theorem dJ10_checkIndex_5 : decode cJ10_checkIndex 5 = .ok (.iload_n 1, 1) := dk_27 (dk_at dksJ10_checkIndex_0 5 rfl rfl)
theorem dJ10_checkIndex_6 : decode cJ10_checkIndex 6 = .ok (.if_icmp .lt 10, 3) := dk_161 0 10 (dk_at dksJ10_checkIndex_0 6 rfl rfl)
theorem dJ10_checkIndex_9 : decode cJ10_checkIndex 9 = .ok (.aload_n 2, 1) := dk_44 (dk_at dksJ10_checkIndex_0 9 rfl rfl)
theorem dJ10_checkIndex_10 : decode cJ10_checkIndex 10 = .ok (.iload_n 0, 1) := dk_26 (dk_at dksJ10_checkIndex_0 10 rfl rfl)
theorem dJ10_checkIndex_11 : decode cJ10_checkIndex 11 = .ok (.iload_n 1, 1) := dk_27 (dk_at dksJ10_checkIndex_0 11 rfl rfl)
theorem dJ10_checkIndex_12 : decode cJ10_checkIndex 12 = .ok (.invokestatic 95, 3) := dk_184 0 95 (dk_at dksJ10_checkIndex_0 12 rfl rfl)
theorem dJ10_checkIndex_15 : decode cJ10_checkIndex 15 = .ok (.athrow, 1) := dk_191 (dk_at dksJ10_checkIndex_0 15 rfl rfl)
theorem dJ10_checkIndex_16 : decode cJ10_checkIndex 16 = .ok (.iload_n 0, 1) := dk_26 (dk_at dksJ10_checkIndex_0 16 rfl rfl)
theorem dJ10_checkIndex_17 : decode cJ10_checkIndex 17 = .ok (.ireturn, 1) := dk_172 (dk_at dksJ10_checkIndex_0 17 rfl rfl)
theorem q83 : (Jvm.Cond.initialized "jdk/internal/util/Preconditions") ∈ lw_all := lw_g (lw_at lw_m1 26 rfl) rfl
theorem q591 : (Jvm.Cond.laysStatic "jdk/internal/util/Preconditions" "SIOOBE_FORMATTER" "Ljava/util/function/BiFunction;") ∈ lw_tbl := lw_at lw_m3 54 rfl
theorem q593 : (Jvm.Cond.static ({ cls := "jdk/internal/util/Preconditions", name := "checkIndex", desc := "(IILjava/util/function/BiFunction;)I" } : Jvm.MethodName)) ∈ lw_all := lw_g (lw_at lw_m3 56 rfl) rfl
theorem q594 : (Jvm.Cond.code ({ cls := "jdk/internal/util/Preconditions", name := "checkIndex", desc := "(IILjava/util/function/BiFunction;)I" } : Jvm.MethodName) prog_42_method_11_code (3 : Nat) (Option.some Jvm.ClassFile.FieldType.int)) ∈ lw_all := lw_g (lw_at lw_m3 57 rfl) rfl
/-! java/lang/StringUTF16 -/
set_option maxRecDepth 100000
def RJ11 : String := "java/lang/StringUTF16"
abbrev cJ11_charAt : ByteArray := prog_29_method_83_code
def yJ11_charAt : MethodName := ⟨RJ11, "charAt", "([BI)C"⟩
def dkwJ11_charAt_0 : List UInt8 := [27, 42, 184, 0, 67, 42, 27, 184, 0, 71, 172]
abbrev dktJ11_charAt_0 : List UInt8 := dkwJ11_charAt_0 ++ []
theorem dksJ11_charAt_0 : cJ11_charAt.data.toList.drop 0 = dktJ11_charAt_0 := by decide +kernel
theorem dJ11_charAt_0 : decode cJ11_charAt 0 = .ok (.iload_n 1, 1) := dk_27 (dk_at dksJ11_charAt_0 0 rfl rfl)
theorem dJ11_charAt_1 : decode cJ11_charAt 1 = .ok (.aload_n 0, 1) := dk_42 (dk_at dksJ11_charAt_0 1 rfl rfl)
theorem dJ11_charAt_2 : decode cJ11_charAt 2 = .ok (.invokestatic 67, 3) := dk_184 0 67 (dk_at dksJ11_charAt_0 2 rfl rfl)
theorem dJ11_charAt_5 : decode cJ11_charAt 5 = .ok (.aload_n 0, 1) := dk_42 (dk_at dksJ11_charAt_0 5 rfl rfl)
theorem dJ11_charAt_6 : decode cJ11_charAt 6 = .ok (.iload_n 1, 1) := dk_27 (dk_at dksJ11_charAt_0 6 rfl rfl)
theorem dJ11_charAt_7 : decode cJ11_charAt 7 = .ok (.invokestatic 71, 3) := dk_184 0 71 (dk_at dksJ11_charAt_0 7 rfl rfl)
theorem dJ11_charAt_10 : decode cJ11_charAt 10 = .ok (.ireturn, 1) := dk_172 (dk_at dksJ11_charAt_0 10 rfl rfl)
abbrev cJ11_checkIndex : ByteArray := prog_29_method_91_code
def yJ11_checkIndex : MethodName := ⟨RJ11, "checkIndex", "(I[B)V"⟩
def dkwJ11_checkIndex_0 : List UInt8 := [26, 43, 184, 0, 48, 184, 1, 158, 177]
abbrev dktJ11_checkIndex_0 : List UInt8 := dkwJ11_checkIndex_0 ++ []
theorem dksJ11_checkIndex_0 : cJ11_checkIndex.data.toList.drop 0 = dktJ11_checkIndex_0 := by decide +kernel
theorem dJ11_checkIndex_0 : decode cJ11_checkIndex 0 = .ok (.iload_n 0, 1) := dk_26 (dk_at dksJ11_checkIndex_0 0 rfl rfl)
theorem dJ11_checkIndex_1 : decode cJ11_checkIndex 1 = .ok (.aload_n 1, 1) := dk_43 (dk_at dksJ11_checkIndex_0 1 rfl rfl)
theorem dJ11_checkIndex_2 : decode cJ11_checkIndex 2 = .ok (.invokestatic 48, 3) := dk_184 0 48 (dk_at dksJ11_checkIndex_0 2 rfl rfl)
theorem dJ11_checkIndex_5 : decode cJ11_checkIndex 5 = .ok (.invokestatic 414, 3) := dk_184 1 158 (dk_at dksJ11_checkIndex_0 5 rfl rfl)
theorem dJ11_checkIndex_8 : decode cJ11_checkIndex 8 = .ok (.return_, 1) := dk_177 (dk_at dksJ11_checkIndex_0 8 rfl rfl)
abbrev cJ11_length : ByteArray := prog_29_method_6_code
def yJ11_length : MethodName := ⟨RJ11, "length", "([B)I"⟩
def dkwJ11_length_0 : List UInt8 := [42, 190, 4, 122, 172]
abbrev dktJ11_length_0 : List UInt8 := dkwJ11_length_0 ++ []
theorem dksJ11_length_0 : cJ11_length.data.toList.drop 0 = dktJ11_length_0 := by decide +kernel
theorem dJ11_length_0 : decode cJ11_length 0 = .ok (.aload_n 0, 1) := dk_42 (dk_at dksJ11_length_0 0 rfl rfl)
theorem dJ11_length_1 : decode cJ11_length 1 = .ok (.arraylength, 1) := dk_190 (dk_at dksJ11_length_0 1 rfl rfl)
theorem dJ11_length_2 : decode cJ11_length 2 = .ok (.iconst 1, 1) := dk_4 (dk_at dksJ11_length_0 2 rfl rfl)
theorem dJ11_length_3 : decode cJ11_length 3 = .ok (.ishr, 1) := dk_122 (dk_at dksJ11_length_0 3 rfl rfl)
theorem dJ11_length_4 : decode cJ11_length 4 = .ok (.ireturn, 1) := dk_172 (dk_at dksJ11_length_0 4 rfl rfl)
abbrev cJ11_getChar : ByteArray := prog_29_method_5_code
def yJ11_getChar : MethodName := ⟨RJ11, "getChar", "([BI)C"⟩
def dkwJ11_getChar_2 : List UInt8 := [51, 17, 0, 255, 126, 178, 0, 63, 120, 128, 146, 172]
abbrev dktJ11_getChar_2 : List UInt8 := dkwJ11_getChar_2 ++ []
def dkwJ11_getChar_1 : List UInt8 := [183, 0, 56, 191, 27, 4, 120, 60, 42, 27, 132, 1, 1, 51, 17, 0, 255, 126, 178, 0, 59, 120, 42, 27]
abbrev dktJ11_getChar_1 : List UInt8 := dkwJ11_getChar_1 ++ dktJ11_getChar_2
def dkwJ11_getChar_0 : List UInt8 := [178, 0, 44, 154, 0, 25, 27, 155, 0, 11, 27, 42, 184, 0, 48, 161, 0, 13, 187, 0, 52, 89, 18, 54]
abbrev dktJ11_getChar_0 : List UInt8 := dkwJ11_getChar_0 ++ dktJ11_getChar_1
theorem dksJ11_getChar_0 : cJ11_getChar.data.toList.drop 0 = dktJ11_getChar_0 := by decide +kernel
theorem dksJ11_getChar_1 : cJ11_getChar.data.toList.drop 24 = dktJ11_getChar_1 := dk_seg dksJ11_getChar_0 24 rfl rfl
theorem dksJ11_getChar_2 : cJ11_getChar.data.toList.drop 48 = dktJ11_getChar_2 := dk_seg dksJ11_getChar_1 24 rfl rfl
theorem dJ11_getChar_0 : decode cJ11_getChar 0 = .ok (.getstatic 44, 3) := dk_178 0 44 (dk_at dksJ11_getChar_0 0 rfl rfl)
theorem dJ11_getChar_3 : decode cJ11_getChar 3 = .ok (.ifCond .ne 25, 3) := dk_154 0 25 (dk_at dksJ11_getChar_0 3 rfl rfl)
theorem dJ11_getChar_6 : decode cJ11_getChar 6 = .ok (.iload_n 1, 1) := dk_27 (dk_at dksJ11_getChar_0 6 rfl rfl)
theorem dJ11_getChar_7 : decode cJ11_getChar 7 = .ok (.ifCond .lt 11, 3) := dk_155 0 11 (dk_at dksJ11_getChar_0 7 rfl rfl)
theorem dJ11_getChar_10 : decode cJ11_getChar 10 = .ok (.iload_n 1, 1) := dk_27 (dk_at dksJ11_getChar_0 10 rfl rfl)
theorem dJ11_getChar_11 : decode cJ11_getChar 11 = .ok (.aload_n 0, 1) := dk_42 (dk_at dksJ11_getChar_0 11 rfl rfl)
theorem dJ11_getChar_12 : decode cJ11_getChar 12 = .ok (.invokestatic 48, 3) := dk_184 0 48 (dk_at dksJ11_getChar_0 12 rfl rfl)
theorem dJ11_getChar_15 : decode cJ11_getChar 15 = .ok (.if_icmp .lt 13, 3) := dk_161 0 13 (dk_at dksJ11_getChar_0 15 rfl rfl)
theorem dJ11_getChar_18 : decode cJ11_getChar 18 = .ok (.new 52, 3) := dk_187 0 52 (dk_at dksJ11_getChar_0 18 rfl rfl)
theorem dJ11_getChar_21 : decode cJ11_getChar 21 = .ok (.dup, 1) := dk_89 (dk_at dksJ11_getChar_0 21 rfl rfl)
theorem dJ11_getChar_22 : decode cJ11_getChar 22 = .ok (.ldc 54, 2) := dk_18 54 (dk_at dksJ11_getChar_0 22 rfl rfl)
theorem dJ11_getChar_24 : decode cJ11_getChar 24 = .ok (.invokespecial 56, 3) := dk_183 0 56 (dk_at dksJ11_getChar_1 0 rfl rfl)
theorem dJ11_getChar_27 : decode cJ11_getChar 27 = .ok (.athrow, 1) := dk_191 (dk_at dksJ11_getChar_1 3 rfl rfl)
theorem dJ11_getChar_28 : decode cJ11_getChar 28 = .ok (.iload_n 1, 1) := dk_27 (dk_at dksJ11_getChar_1 4 rfl rfl)
theorem dJ11_getChar_29 : decode cJ11_getChar 29 = .ok (.iconst 1, 1) := dk_4 (dk_at dksJ11_getChar_1 5 rfl rfl)
theorem dJ11_getChar_30 : decode cJ11_getChar 30 = .ok (.ishl, 1) := dk_120 (dk_at dksJ11_getChar_1 6 rfl rfl)
theorem dJ11_getChar_31 : decode cJ11_getChar 31 = .ok (.istore_n 1, 1) := dk_60 (dk_at dksJ11_getChar_1 7 rfl rfl)
theorem dJ11_getChar_32 : decode cJ11_getChar 32 = .ok (.aload_n 0, 1) := dk_42 (dk_at dksJ11_getChar_1 8 rfl rfl)
theorem dJ11_getChar_33 : decode cJ11_getChar 33 = .ok (.iload_n 1, 1) := dk_27 (dk_at dksJ11_getChar_1 9 rfl rfl)
theorem dJ11_getChar_34 : decode cJ11_getChar 34 = .ok (.iinc 1 1, 3) := dk_132 1 1 (dk_at dksJ11_getChar_1 10 rfl rfl)
theorem dJ11_getChar_37 : decode cJ11_getChar 37 = .ok (.baload, 1) := dk_51 (dk_at dksJ11_getChar_1 13 rfl rfl)
theorem dJ11_getChar_38 : decode cJ11_getChar 38 = .ok (.sipush 255, 3) := dk_17 0 255 (dk_at dksJ11_getChar_1 14 rfl rfl)
theorem dJ11_getChar_41 : decode cJ11_getChar 41 = .ok (.iand, 1) := dk_126 (dk_at dksJ11_getChar_1 17 rfl rfl)
theorem dJ11_getChar_42 : decode cJ11_getChar 42 = .ok (.getstatic 59, 3) := dk_178 0 59 (dk_at dksJ11_getChar_1 18 rfl rfl)
theorem dJ11_getChar_45 : decode cJ11_getChar 45 = .ok (.ishl, 1) := dk_120 (dk_at dksJ11_getChar_1 21 rfl rfl)
theorem dJ11_getChar_46 : decode cJ11_getChar 46 = .ok (.aload_n 0, 1) := dk_42 (dk_at dksJ11_getChar_1 22 rfl rfl)
theorem dJ11_getChar_47 : decode cJ11_getChar 47 = .ok (.iload_n 1, 1) := dk_27 (dk_at dksJ11_getChar_1 23 rfl rfl)
theorem dJ11_getChar_48 : decode cJ11_getChar 48 = .ok (.baload, 1) := dk_51 (dk_at dksJ11_getChar_2 0 rfl rfl)
theorem dJ11_getChar_49 : decode cJ11_getChar 49 = .ok (.sipush 255, 3) := dk_17 0 255 (dk_at dksJ11_getChar_2 1 rfl rfl)
theorem dJ11_getChar_52 : decode cJ11_getChar 52 = .ok (.iand, 1) := dk_126 (dk_at dksJ11_getChar_2 4 rfl rfl)
theorem dJ11_getChar_53 : decode cJ11_getChar 53 = .ok (.getstatic 63, 3) := dk_178 0 63 (dk_at dksJ11_getChar_2 5 rfl rfl)
theorem dJ11_getChar_56 : decode cJ11_getChar 56 = .ok (.ishl, 1) := dk_120 (dk_at dksJ11_getChar_2 8 rfl rfl)
theorem dJ11_getChar_57 : decode cJ11_getChar 57 = .ok (.ior, 1) := dk_128 (dk_at dksJ11_getChar_2 9 rfl rfl)
theorem dJ11_getChar_58 : decode cJ11_getChar 58 = .ok (.i2c, 1) := dk_146 (dk_at dksJ11_getChar_2 10 rfl rfl)
theorem dJ11_getChar_59 : decode cJ11_getChar 59 = .ok (.ireturn, 1) := dk_172 (dk_at dksJ11_getChar_2 11 rfl rfl)
theorem q84 : (Jvm.Cond.initialized "java/lang/StringUTF16") ∈ lw_all := lw_g (lw_at lw_m1 27 rfl) rfl
theorem q596 : (Jvm.Cond.static ({ cls := "java/lang/StringUTF16", name := "charAt", desc := "([BI)C" } : Jvm.MethodName)) ∈ lw_all := lw_g (lw_at lw_m3 59 rfl) rfl
theorem q597 : (Jvm.Cond.code ({ cls := "java/lang/StringUTF16", name := "charAt", desc := "([BI)C" } : Jvm.MethodName) prog_29_method_83_code (2 : Nat) (Option.some Jvm.ClassFile.FieldType.char)) ∈ lw_all := lw_g (lw_at lw_m3 60 rfl) rfl
theorem q598 : (Jvm.Cond.methodLink "java/lang/StringUTF16" (67 : Nat) ({ cls := "java/lang/StringUTF16", name := "checkIndex", desc := "(I[B)V" } : Jvm.MethodName)) ∈ lw_all := lw_g (lw_at lw_m3 61 rfl) rfl
theorem q599 : (Jvm.Cond.static ({ cls := "java/lang/StringUTF16", name := "checkIndex", desc := "(I[B)V" } : Jvm.MethodName)) ∈ lw_all := lw_g (lw_at lw_m3 62 rfl) rfl
theorem q600 : (Jvm.Cond.code ({ cls := "java/lang/StringUTF16", name := "checkIndex", desc := "(I[B)V" } : Jvm.MethodName) prog_29_method_91_code (2 : Nat) (Option.none : Option Jvm.ClassFile.FieldType)) ∈ lw_all := lw_g (lw_at lw_m3 63 rfl) rfl
theorem q601 : (Jvm.Cond.methodLink "java/lang/StringUTF16" (48 : Nat) ({ cls := "java/lang/StringUTF16", name := "length", desc := "([B)I" } : Jvm.MethodName)) ∈ lw_all := lw_g (lw_at lw_m3 64 rfl) rfl
theorem q602 : (Jvm.Cond.static ({ cls := "java/lang/StringUTF16", name := "length", desc := "([B)I" } : Jvm.MethodName)) ∈ lw_all := lw_g (lw_at lw_m3 65 rfl) rfl
theorem q603 : (Jvm.Cond.code ({ cls := "java/lang/StringUTF16", name := "length", desc := "([B)I" } : Jvm.MethodName) prog_29_method_6_code (1 : Nat) (Option.some Jvm.ClassFile.FieldType.int)) ∈ lw_all := lw_g (lw_at lw_m3 66 rfl) rfl
theorem q604 : (Jvm.Cond.methodLink "java/lang/StringUTF16" (414 : Nat) ({ cls := "java/lang/String", name := "checkIndex", desc := "(II)V" } : Jvm.MethodName)) ∈ lw_all := lw_g (lw_at lw_m3 67 rfl) rfl
theorem q605 : (Jvm.Cond.methodLink "java/lang/StringUTF16" (71 : Nat) ({ cls := "java/lang/StringUTF16", name := "getChar", desc := "([BI)C" } : Jvm.MethodName)) ∈ lw_all := lw_g (lw_at lw_m3 68 rfl) rfl
theorem q606 : (Jvm.Cond.static ({ cls := "java/lang/StringUTF16", name := "getChar", desc := "([BI)C" } : Jvm.MethodName)) ∈ lw_all := lw_g (lw_at lw_m3 69 rfl) rfl
theorem q607 : (Jvm.Cond.code ({ cls := "java/lang/StringUTF16", name := "getChar", desc := "([BI)C" } : Jvm.MethodName) prog_29_method_5_code (2 : Nat) (Option.some Jvm.ClassFile.FieldType.char)) ∈ lw_all := lw_g (lw_at lw_m3 70 rfl) rfl
theorem q608 : (Jvm.Cond.fieldLink "java/lang/StringUTF16" (44 : Nat) "java/lang/StringUTF16" "$assertionsDisabled" "Z") ∈ lw_all := lw_g (lw_at lw_m3 71 rfl) rfl
theorem q609 : (Jvm.Cond.laysStatic "java/lang/StringUTF16" "$assertionsDisabled" "Z") ∈ lw_tbl := lw_at lw_m3 72 rfl
theorem q610 : (Jvm.Cond.fieldLink "java/lang/StringUTF16" (59 : Nat) "java/lang/StringUTF16" "HI_BYTE_SHIFT" "I") ∈ lw_all := lw_g (lw_at lw_m3 73 rfl) rfl
theorem q611 : (Jvm.Cond.laysStatic "java/lang/StringUTF16" "HI_BYTE_SHIFT" "I") ∈ lw_tbl := lw_at lw_m3 74 rfl
theorem q612 : (Jvm.Cond.fieldLink "java/lang/StringUTF16" (63 : Nat) "java/lang/StringUTF16" "LO_BYTE_SHIFT" "I") ∈ lw_all := lw_g (lw_at lw_m3 75 rfl) rfl
theorem q613 : (Jvm.Cond.laysStatic "java/lang/StringUTF16" "LO_BYTE_SHIFT" "I") ∈ lw_tbl := lw_at lw_m3 76 rfl
/-! jdk/internal/util/ArraysSupport -/
set_option maxRecDepth 100000
def RJ12 : String := "jdk/internal/util/ArraysSupport"
abbrev cJ12_newLength : ByteArray := prog_41_method_27_code
def yJ12_newLength : MethodName := ⟨RJ12, "newLength", "(III)I"⟩
def dkwJ12_newLength_1 : List UInt8 := [184, 0, 201, 172]
abbrev dktJ12_newLength_1 : List UInt8 := dkwJ12_newLength_1 ++ []
def dkwJ12_newLength_0 : List UInt8 := [26, 27, 28, 184, 0, 194, 96, 62, 3, 29, 162, 0, 11, 29, 18, 200, 163, 0, 5, 29, 172, 26, 27]
abbrev dktJ12_newLength_0 : List UInt8 := dkwJ12_newLength_0 ++ dktJ12_newLength_1
theorem dksJ12_newLength_0 : cJ12_newLength.data.toList.drop 0 = dktJ12_newLength_0 := by decide +kernel
theorem dksJ12_newLength_1 : cJ12_newLength.data.toList.drop 23 = dktJ12_newLength_1 := dk_seg dksJ12_newLength_0 23 rfl rfl
theorem dJ12_newLength_0 : decode cJ12_newLength 0 = .ok (.iload_n 0, 1) := dk_26 (dk_at dksJ12_newLength_0 0 rfl rfl)
theorem dJ12_newLength_1 : decode cJ12_newLength 1 = .ok (.iload_n 1, 1) := dk_27 (dk_at dksJ12_newLength_0 1 rfl rfl)
theorem dJ12_newLength_2 : decode cJ12_newLength 2 = .ok (.iload_n 2, 1) := dk_28 (dk_at dksJ12_newLength_0 2 rfl rfl)
theorem dJ12_newLength_3 : decode cJ12_newLength 3 = .ok (.invokestatic 194, 3) := dk_184 0 194 (dk_at dksJ12_newLength_0 3 rfl rfl)
theorem dJ12_newLength_6 : decode cJ12_newLength 6 = .ok (.iadd, 1) := dk_96 (dk_at dksJ12_newLength_0 6 rfl rfl)
theorem dJ12_newLength_7 : decode cJ12_newLength 7 = .ok (.istore_n 3, 1) := dk_62 (dk_at dksJ12_newLength_0 7 rfl rfl)
theorem dJ12_newLength_8 : decode cJ12_newLength 8 = .ok (.iconst 0, 1) := dk_3 (dk_at dksJ12_newLength_0 8 rfl rfl)
theorem dJ12_newLength_9 : decode cJ12_newLength 9 = .ok (.iload_n 3, 1) := dk_29 (dk_at dksJ12_newLength_0 9 rfl rfl)
theorem dJ12_newLength_10 : decode cJ12_newLength 10 = .ok (.if_icmp .ge 11, 3) := dk_162 0 11 (dk_at dksJ12_newLength_0 10 rfl rfl)
theorem dJ12_newLength_13 : decode cJ12_newLength 13 = .ok (.iload_n 3, 1) := dk_29 (dk_at dksJ12_newLength_0 13 rfl rfl)
theorem dJ12_newLength_14 : decode cJ12_newLength 14 = .ok (.ldc 200, 2) := dk_18 200 (dk_at dksJ12_newLength_0 14 rfl rfl)
theorem dJ12_newLength_16 : decode cJ12_newLength 16 = .ok (.if_icmp .gt 5, 3) := dk_163 0 5 (dk_at dksJ12_newLength_0 16 rfl rfl)
theorem dJ12_newLength_19 : decode cJ12_newLength 19 = .ok (.iload_n 3, 1) := dk_29 (dk_at dksJ12_newLength_0 19 rfl rfl)
theorem dJ12_newLength_20 : decode cJ12_newLength 20 = .ok (.ireturn, 1) := dk_172 (dk_at dksJ12_newLength_0 20 rfl rfl)
theorem dJ12_newLength_21 : decode cJ12_newLength 21 = .ok (.iload_n 0, 1) := dk_26 (dk_at dksJ12_newLength_0 21 rfl rfl)
theorem dJ12_newLength_22 : decode cJ12_newLength 22 = .ok (.iload_n 1, 1) := dk_27 (dk_at dksJ12_newLength_0 22 rfl rfl)
theorem dJ12_newLength_23 : decode cJ12_newLength 23 = .ok (.invokestatic 201, 3) := dk_184 0 201 (dk_at dksJ12_newLength_1 0 rfl rfl)
theorem dJ12_newLength_26 : decode cJ12_newLength 26 = .ok (.ireturn, 1) := dk_172 (dk_at dksJ12_newLength_1 3 rfl rfl)
abbrev cJ12_hugeLength : ByteArray := prog_41_method_28_code
def yJ12_hugeLength : MethodName := ⟨RJ12, "hugeLength", "(II)I"⟩
def dkwJ12_hugeLength_2 : List UInt8 := [191, 28, 18, 200, 163, 0, 6, 18, 200, 172, 28, 172]
abbrev dktJ12_hugeLength_2 : List UInt8 := dkwJ12_hugeLength_2 ++ []
def dkwJ12_hugeLength_1 : List UInt8 := [26, 182, 0, 98, 18, 208, 182, 0, 94, 27, 182, 0, 98, 18, 210, 182, 0, 94, 182, 0, 101, 183, 0, 212]
abbrev dktJ12_hugeLength_1 : List UInt8 := dkwJ12_hugeLength_1 ++ dktJ12_hugeLength_2
def dkwJ12_hugeLength_0 : List UInt8 := [26, 27, 96, 61, 28, 156, 0, 44, 187, 0, 204, 89, 187, 0, 89, 89, 183, 0, 91, 18, 206, 182, 0, 94]
abbrev dktJ12_hugeLength_0 : List UInt8 := dkwJ12_hugeLength_0 ++ dktJ12_hugeLength_1
theorem dksJ12_hugeLength_0 : cJ12_hugeLength.data.toList.drop 0 = dktJ12_hugeLength_0 := by decide +kernel
theorem dksJ12_hugeLength_1 : cJ12_hugeLength.data.toList.drop 24 = dktJ12_hugeLength_1 := dk_seg dksJ12_hugeLength_0 24 rfl rfl
theorem dksJ12_hugeLength_2 : cJ12_hugeLength.data.toList.drop 48 = dktJ12_hugeLength_2 := dk_seg dksJ12_hugeLength_1 24 rfl rfl
theorem dJ12_hugeLength_0 : decode cJ12_hugeLength 0 = .ok (.iload_n 0, 1) := dk_26 (dk_at dksJ12_hugeLength_0 0 rfl rfl)
theorem dJ12_hugeLength_1 : decode cJ12_hugeLength 1 = .ok (.iload_n 1, 1) := dk_27 (dk_at dksJ12_hugeLength_0 1 rfl rfl)
theorem dJ12_hugeLength_2 : decode cJ12_hugeLength 2 = .ok (.iadd, 1) := dk_96 (dk_at dksJ12_hugeLength_0 2 rfl rfl)
theorem dJ12_hugeLength_3 : decode cJ12_hugeLength 3 = .ok (.istore_n 2, 1) := dk_61 (dk_at dksJ12_hugeLength_0 3 rfl rfl)
theorem dJ12_hugeLength_4 : decode cJ12_hugeLength 4 = .ok (.iload_n 2, 1) := dk_28 (dk_at dksJ12_hugeLength_0 4 rfl rfl)
theorem dJ12_hugeLength_5 : decode cJ12_hugeLength 5 = .ok (.ifCond .ge 44, 3) := dk_156 0 44 (dk_at dksJ12_hugeLength_0 5 rfl rfl)
theorem dJ12_hugeLength_8 : decode cJ12_hugeLength 8 = .ok (.new 204, 3) := dk_187 0 204 (dk_at dksJ12_hugeLength_0 8 rfl rfl)
theorem dJ12_hugeLength_11 : decode cJ12_hugeLength 11 = .ok (.dup, 1) := dk_89 (dk_at dksJ12_hugeLength_0 11 rfl rfl)
theorem dJ12_hugeLength_12 : decode cJ12_hugeLength 12 = .ok (.new 89, 3) := dk_187 0 89 (dk_at dksJ12_hugeLength_0 12 rfl rfl)
theorem dJ12_hugeLength_15 : decode cJ12_hugeLength 15 = .ok (.dup, 1) := dk_89 (dk_at dksJ12_hugeLength_0 15 rfl rfl)
theorem dJ12_hugeLength_16 : decode cJ12_hugeLength 16 = .ok (.invokespecial 91, 3) := dk_183 0 91 (dk_at dksJ12_hugeLength_0 16 rfl rfl)
theorem dJ12_hugeLength_19 : decode cJ12_hugeLength 19 = .ok (.ldc 206, 2) := dk_18 206 (dk_at dksJ12_hugeLength_0 19 rfl rfl)
theorem dJ12_hugeLength_21 : decode cJ12_hugeLength 21 = .ok (.invokevirtual 94, 3) := dk_182 0 94 (dk_at dksJ12_hugeLength_0 21 rfl rfl)
theorem dJ12_hugeLength_24 : decode cJ12_hugeLength 24 = .ok (.iload_n 0, 1) := dk_26 (dk_at dksJ12_hugeLength_1 0 rfl rfl)
theorem dJ12_hugeLength_25 : decode cJ12_hugeLength 25 = .ok (.invokevirtual 98, 3) := dk_182 0 98 (dk_at dksJ12_hugeLength_1 1 rfl rfl)
theorem dJ12_hugeLength_28 : decode cJ12_hugeLength 28 = .ok (.ldc 208, 2) := dk_18 208 (dk_at dksJ12_hugeLength_1 4 rfl rfl)
theorem dJ12_hugeLength_30 : decode cJ12_hugeLength 30 = .ok (.invokevirtual 94, 3) := dk_182 0 94 (dk_at dksJ12_hugeLength_1 6 rfl rfl)
theorem dJ12_hugeLength_33 : decode cJ12_hugeLength 33 = .ok (.iload_n 1, 1) := dk_27 (dk_at dksJ12_hugeLength_1 9 rfl rfl)
theorem dJ12_hugeLength_34 : decode cJ12_hugeLength 34 = .ok (.invokevirtual 98, 3) := dk_182 0 98 (dk_at dksJ12_hugeLength_1 10 rfl rfl)
theorem dJ12_hugeLength_37 : decode cJ12_hugeLength 37 = .ok (.ldc 210, 2) := dk_18 210 (dk_at dksJ12_hugeLength_1 13 rfl rfl)
theorem dJ12_hugeLength_39 : decode cJ12_hugeLength 39 = .ok (.invokevirtual 94, 3) := dk_182 0 94 (dk_at dksJ12_hugeLength_1 15 rfl rfl)
theorem dJ12_hugeLength_42 : decode cJ12_hugeLength 42 = .ok (.invokevirtual 101, 3) := dk_182 0 101 (dk_at dksJ12_hugeLength_1 18 rfl rfl)
theorem dJ12_hugeLength_45 : decode cJ12_hugeLength 45 = .ok (.invokespecial 212, 3) := dk_183 0 212 (dk_at dksJ12_hugeLength_1 21 rfl rfl)
theorem dJ12_hugeLength_48 : decode cJ12_hugeLength 48 = .ok (.athrow, 1) := dk_191 (dk_at dksJ12_hugeLength_2 0 rfl rfl)
theorem dJ12_hugeLength_49 : decode cJ12_hugeLength 49 = .ok (.iload_n 2, 1) := dk_28 (dk_at dksJ12_hugeLength_2 1 rfl rfl)
theorem dJ12_hugeLength_50 : decode cJ12_hugeLength 50 = .ok (.ldc 200, 2) := dk_18 200 (dk_at dksJ12_hugeLength_2 2 rfl rfl)
theorem dJ12_hugeLength_52 : decode cJ12_hugeLength 52 = .ok (.if_icmp .gt 6, 3) := dk_163 0 6 (dk_at dksJ12_hugeLength_2 4 rfl rfl)
theorem dJ12_hugeLength_55 : decode cJ12_hugeLength 55 = .ok (.ldc 200, 2) := dk_18 200 (dk_at dksJ12_hugeLength_2 7 rfl rfl)
theorem dJ12_hugeLength_57 : decode cJ12_hugeLength 57 = .ok (.ireturn, 1) := dk_172 (dk_at dksJ12_hugeLength_2 9 rfl rfl)
theorem dJ12_hugeLength_58 : decode cJ12_hugeLength 58 = .ok (.iload_n 2, 1) := dk_28 (dk_at dksJ12_hugeLength_2 10 rfl rfl)
theorem dJ12_hugeLength_59 : decode cJ12_hugeLength 59 = .ok (.ireturn, 1) := dk_172 (dk_at dksJ12_hugeLength_2 11 rfl rfl)
theorem q85 : (Jvm.Cond.initialized "jdk/internal/util/ArraysSupport") ∈ lw_all := lw_g (lw_at lw_m1 28 rfl) rfl
theorem q661 : (Jvm.Cond.static ({ cls := "jdk/internal/util/ArraysSupport", name := "newLength", desc := "(III)I" } : Jvm.MethodName)) ∈ lw_all := lw_g (lw_at lw_m3 124 rfl) rfl
theorem q662 : (Jvm.Cond.code ({ cls := "jdk/internal/util/ArraysSupport", name := "newLength", desc := "(III)I" } : Jvm.MethodName) prog_41_method_27_code (4 : Nat) (Option.some Jvm.ClassFile.FieldType.int)) ∈ lw_all := lw_g (lw_at lw_m3 125 rfl) rfl
theorem q663 : (Jvm.Cond.methodLink "jdk/internal/util/ArraysSupport" (194 : Nat) ({ cls := "java/lang/Math", name := "max", desc := "(II)I" } : Jvm.MethodName)) ∈ lw_all := lw_g (lw_at lw_m3 126 rfl) rfl
theorem q666 : (Jvm.Cond.constant "jdk/internal/util/ArraysSupport" (200 : Nat) (2147483639 : Int32)) ∈ lw_all := lw_g (lw_at lw_m3 129 rfl) rfl
theorem q667 : (Jvm.Cond.methodLink "jdk/internal/util/ArraysSupport" (201 : Nat) ({ cls := "jdk/internal/util/ArraysSupport", name := "hugeLength", desc := "(II)I" } : Jvm.MethodName)) ∈ lw_all := lw_g (lw_at lw_m3 130 rfl) rfl
theorem q668 : (Jvm.Cond.static ({ cls := "jdk/internal/util/ArraysSupport", name := "hugeLength", desc := "(II)I" } : Jvm.MethodName)) ∈ lw_all := lw_g (lw_at lw_m3 131 rfl) rfl
theorem q669 : (Jvm.Cond.code ({ cls := "jdk/internal/util/ArraysSupport", name := "hugeLength", desc := "(II)I" } : Jvm.MethodName) prog_41_method_28_code (3 : Nat) (Option.some Jvm.ClassFile.FieldType.int)) ∈ lw_all := lw_g (lw_at lw_m3 132 rfl) rfl
/-! java/lang/Math -/
set_option maxRecDepth 100000
def RJ13 : String := "java/lang/Math"
abbrev cJ13_max : ByteArray := prog_25_method_65_code
def yJ13_max : MethodName := ⟨RJ13, "max", "(II)I"⟩
def dkwJ13_max_0 : List UInt8 := [26, 27, 161, 0, 7, 26, 167, 0, 4, 27, 172]
abbrev dktJ13_max_0 : List UInt8 := dkwJ13_max_0 ++ []
theorem dksJ13_max_0 : cJ13_max.data.toList.drop 0 = dktJ13_max_0 := by decide +kernel
theorem dJ13_max_0 : decode cJ13_max 0 = .ok (.iload_n 0, 1) := dk_26 (dk_at dksJ13_max_0 0 rfl rfl)
theorem dJ13_max_1 : decode cJ13_max 1 = .ok (.iload_n 1, 1) := dk_27 (dk_at dksJ13_max_0 1 rfl rfl)
theorem dJ13_max_2 : decode cJ13_max 2 = .ok (.if_icmp .lt 7, 3) := dk_161 0 7 (dk_at dksJ13_max_0 2 rfl rfl)
theorem dJ13_max_5 : decode cJ13_max 5 = .ok (.iload_n 0, 1) := dk_26 (dk_at dksJ13_max_0 5 rfl rfl)
theorem dJ13_max_6 : decode cJ13_max 6 = .ok (.goto 4, 3) := dk_167 0 4 (dk_at dksJ13_max_0 6 rfl rfl)
theorem dJ13_max_9 : decode cJ13_max 9 = .ok (.iload_n 1, 1) := dk_27 (dk_at dksJ13_max_0 9 rfl rfl)
theorem dJ13_max_10 : decode cJ13_max 10 = .ok (.ireturn, 1) := dk_172 (dk_at dksJ13_max_0 10 rfl rfl)
abbrev cJ13_min : ByteArray := prog_25_method_69_code
def yJ13_min : MethodName := ⟨RJ13, "min", "(II)I"⟩
def dkwJ13_min_0 : List UInt8 := [26, 27, 163, 0, 7, 26, 167, 0, 4, 27, 172]
abbrev dktJ13_min_0 : List UInt8 := dkwJ13_min_0 ++ []
theorem dksJ13_min_0 : cJ13_min.data.toList.drop 0 = dktJ13_min_0 := by decide +kernel
theorem dJ13_min_0 : decode cJ13_min 0 = .ok (.iload_n 0, 1) := dk_26 (dk_at dksJ13_min_0 0 rfl rfl)
theorem dJ13_min_1 : decode cJ13_min 1 = .ok (.iload_n 1, 1) := dk_27 (dk_at dksJ13_min_0 1 rfl rfl)
theorem dJ13_min_2 : decode cJ13_min 2 = .ok (.if_icmp .gt 7, 3) := dk_163 0 7 (dk_at dksJ13_min_0 2 rfl rfl)
theorem dJ13_min_5 : decode cJ13_min 5 = .ok (.iload_n 0, 1) := dk_26 (dk_at dksJ13_min_0 5 rfl rfl)
theorem dJ13_min_6 : decode cJ13_min 6 = .ok (.goto 4, 3) := dk_167 0 4 (dk_at dksJ13_min_0 6 rfl rfl)
theorem dJ13_min_9 : decode cJ13_min 9 = .ok (.iload_n 1, 1) := dk_27 (dk_at dksJ13_min_0 9 rfl rfl)
theorem dJ13_min_10 : decode cJ13_min 10 = .ok (.ireturn, 1) := dk_172 (dk_at dksJ13_min_0 10 rfl rfl)
abbrev cJ13_abs : ByteArray := prog_25_method_59_code
def yJ13_abs : MethodName := ⟨RJ13, "abs", "(I)I"⟩
def dkwJ13_abs_0 : List UInt8 := [26, 156, 0, 8, 26, 116, 167, 0, 4, 26, 172]
abbrev dktJ13_abs_0 : List UInt8 := dkwJ13_abs_0 ++ []
theorem dksJ13_abs_0 : cJ13_abs.data.toList.drop 0 = dktJ13_abs_0 := by decide +kernel
theorem dJ13_abs_0 : decode cJ13_abs 0 = .ok (.iload_n 0, 1) := dk_26 (dk_at dksJ13_abs_0 0 rfl rfl)
theorem dJ13_abs_1 : decode cJ13_abs 1 = .ok (.ifCond .ge 8, 3) := dk_156 0 8 (dk_at dksJ13_abs_0 1 rfl rfl)
theorem dJ13_abs_4 : decode cJ13_abs 4 = .ok (.iload_n 0, 1) := dk_26 (dk_at dksJ13_abs_0 4 rfl rfl)
theorem dJ13_abs_5 : decode cJ13_abs 5 = .ok (.ineg, 1) := dk_116 (dk_at dksJ13_abs_0 5 rfl rfl)
theorem dJ13_abs_6 : decode cJ13_abs 6 = .ok (.goto 4, 3) := dk_167 0 4 (dk_at dksJ13_abs_0 6 rfl rfl)
theorem dJ13_abs_9 : decode cJ13_abs 9 = .ok (.iload_n 0, 1) := dk_26 (dk_at dksJ13_abs_0 9 rfl rfl)
theorem dJ13_abs_10 : decode cJ13_abs 10 = .ok (.ireturn, 1) := dk_172 (dk_at dksJ13_abs_0 10 rfl rfl)
theorem q86 : (Jvm.Cond.initialized "java/lang/Math") ∈ lw_all := lw_g (lw_at lw_m1 29 rfl) rfl
theorem q664 : (Jvm.Cond.static ({ cls := "java/lang/Math", name := "max", desc := "(II)I" } : Jvm.MethodName)) ∈ lw_all := lw_g (lw_at lw_m3 127 rfl) rfl
theorem q665 : (Jvm.Cond.code ({ cls := "java/lang/Math", name := "max", desc := "(II)I" } : Jvm.MethodName) prog_25_method_65_code (2 : Nat) (Option.some Jvm.ClassFile.FieldType.int)) ∈ lw_all := lw_g (lw_at lw_m3 128 rfl) rfl
theorem q700 : (Jvm.Cond.static ({ cls := "java/lang/Math", name := "min", desc := "(II)I" } : Jvm.MethodName)) ∈ lw_all := lw_g (lw_at lw_m3 163 rfl) rfl
theorem q701 : (Jvm.Cond.code ({ cls := "java/lang/Math", name := "min", desc := "(II)I" } : Jvm.MethodName) prog_25_method_69_code (2 : Nat) (Option.some Jvm.ClassFile.FieldType.int)) ∈ lw_all := lw_g (lw_at lw_m3 164 rfl) rfl
theorem q935 : (Jvm.Cond.static ({ cls := "java/lang/Math", name := "abs", desc := "(I)I" } : Jvm.MethodName)) ∈ lw_all := lw_g (lw_at lw_m4 158 rfl) rfl
theorem q936 : (Jvm.Cond.code ({ cls := "java/lang/Math", name := "abs", desc := "(I)I" } : Jvm.MethodName) prog_25_method_59_code (1 : Nat) (Option.some Jvm.ClassFile.FieldType.int)) ∈ lw_all := lw_g (lw_at lw_m4 159 rfl) rfl
/-! java/util/Arrays -/
set_option maxRecDepth 100000
def RJ14 : String := "java/util/Arrays"
abbrev cJ14_copyOf : ByteArray := prog_35_method_119_code
def yJ14_copyOf : MethodName := ⟨RJ14, "copyOf", "([Ljava/lang/Object;I)[Ljava/lang/Object;"⟩
def dkwJ14_copyOf_0 : List UInt8 := [42, 27, 42, 182, 0, 86, 184, 1, 44, 176]
abbrev dktJ14_copyOf_0 : List UInt8 := dkwJ14_copyOf_0 ++ []
theorem dksJ14_copyOf_0 : cJ14_copyOf.data.toList.drop 0 = dktJ14_copyOf_0 := by decide +kernel
theorem dJ14_copyOf_0 : decode cJ14_copyOf 0 = .ok (.aload_n 0, 1) := dk_42 (dk_at dksJ14_copyOf_0 0 rfl rfl)
theorem dJ14_copyOf_1 : decode cJ14_copyOf 1 = .ok (.iload_n 1, 1) := dk_27 (dk_at dksJ14_copyOf_0 1 rfl rfl)
theorem dJ14_copyOf_2 : decode cJ14_copyOf 2 = .ok (.aload_n 0, 1) := dk_42 (dk_at dksJ14_copyOf_0 2 rfl rfl)
theorem dJ14_copyOf_3 : decode cJ14_copyOf 3 = .ok (.invokevirtual 86, 3) := dk_182 0 86 (dk_at dksJ14_copyOf_0 3 rfl rfl)
theorem dJ14_copyOf_6 : decode cJ14_copyOf 6 = .ok (.invokestatic 300, 3) := dk_184 1 44 (dk_at dksJ14_copyOf_0 6 rfl rfl)
theorem dJ14_copyOf_9 : decode cJ14_copyOf 9 = .ok (.areturn, 1) := dk_176 (dk_at dksJ14_copyOf_0 9 rfl rfl)
abbrev cJ14_copyOf_2 : ByteArray := prog_35_method_120_code
def yJ14_copyOf_2 : MethodName := ⟨RJ14, "copyOf", "([Ljava/lang/Object;ILjava/lang/Class;)[Ljava/lang/Object;"⟩
def dkwJ14_copyOf_2_1 : List UInt8 := [78, 42, 3, 45, 3, 42, 190, 27, 184, 1, 48, 184, 0, 150, 45, 176]
abbrev dktJ14_copyOf_2_1 : List UInt8 := dkwJ14_copyOf_2_1 ++ []
def dkwJ14_copyOf_2_0 : List UInt8 := [44, 18, 110, 166, 0, 10, 27, 189, 0, 2, 167, 0, 14, 44, 182, 0, 90, 27, 184, 0, 95, 192, 0, 110]
abbrev dktJ14_copyOf_2_0 : List UInt8 := dkwJ14_copyOf_2_0 ++ dktJ14_copyOf_2_1
theorem dksJ14_copyOf_2_0 : cJ14_copyOf_2.data.toList.drop 0 = dktJ14_copyOf_2_0 := by decide +kernel
theorem dksJ14_copyOf_2_1 : cJ14_copyOf_2.data.toList.drop 24 = dktJ14_copyOf_2_1 := dk_seg dksJ14_copyOf_2_0 24 rfl rfl
theorem dJ14_copyOf_2_0 : decode cJ14_copyOf_2 0 = .ok (.aload_n 2, 1) := dk_44 (dk_at dksJ14_copyOf_2_0 0 rfl rfl)
theorem dJ14_copyOf_2_1 : decode cJ14_copyOf_2 1 = .ok (.ldc 110, 2) := dk_18 110 (dk_at dksJ14_copyOf_2_0 1 rfl rfl)
theorem dJ14_copyOf_2_3 : decode cJ14_copyOf_2 3 = .ok (.if_acmp .ne 10, 3) := dk_166 0 10 (dk_at dksJ14_copyOf_2_0 3 rfl rfl)
theorem dJ14_copyOf_2_6 : decode cJ14_copyOf_2 6 = .ok (.iload_n 1, 1) := dk_27 (dk_at dksJ14_copyOf_2_0 6 rfl rfl)
theorem dJ14_copyOf_2_7 : decode cJ14_copyOf_2 7 = .ok (.anewarray 2, 3) := dk_189 0 2 (dk_at dksJ14_copyOf_2_0 7 rfl rfl)
theorem dJ14_copyOf_2_10 : decode cJ14_copyOf_2 10 = .ok (.goto 14, 3) := dk_167 0 14 (dk_at dksJ14_copyOf_2_0 10 rfl rfl)
theorem dJ14_copyOf_2_13 : decode cJ14_copyOf_2 13 = .ok (.aload_n 2, 1) := dk_44 (dk_at dksJ14_copyOf_2_0 13 rfl rfl)
theorem dJ14_copyOf_2_14 : decode cJ14_copyOf_2 14 = .ok (.invokevirtual 90, 3) := dk_182 0 90 (dk_at dksJ14_copyOf_2_0 14 rfl rfl)
theorem dJ14_copyOf_2_17 : decode cJ14_copyOf_2 17 = .ok (.iload_n 1, 1) := dk_27 (dk_at dksJ14_copyOf_2_0 17 rfl rfl)
theorem dJ14_copyOf_2_18 : decode cJ14_copyOf_2 18 = .ok (.invokestatic 95, 3) := dk_184 0 95 (dk_at dksJ14_copyOf_2_0 18 rfl rfl)
theorem dJ14_copyOf_2_21 : decode cJ14_copyOf_2 21 = .ok (.checkcast 110, 3) := dk_192 0 110 (dk_at dksJ14_copyOf_2_0 21 rfl rfl)
theorem dJ14_copyOf_2_24 : decode cJ14_copyOf_2 24 = .ok (.astore_n 3, 1) := dk_78 (dk_at dksJ14_copyOf_2_1 0 rfl rfl)
theorem dJ14_copyOf_2_25 : decode cJ14_copyOf_2 25 = .ok (.aload_n 0, 1) := dk_42 (dk_at dksJ14_copyOf_2_1 1 rfl rfl)
theorem dJ14_copyOf_2_26 : decode cJ14_copyOf_2 26 = .ok (.iconst 0, 1) := dk_3 (dk_at dksJ14_copyOf_2_1 2 rfl rfl)
theorem dJ14_copyOf_2_27 : decode cJ14_copyOf_2 27 = .ok (.aload_n 3, 1) := dk_45 (dk_at dksJ14_copyOf_2_1 3 rfl rfl)
theorem dJ14_copyOf_2_28 : decode cJ14_copyOf_2 28 = .ok (.iconst 0, 1) := dk_3 (dk_at dksJ14_copyOf_2_1 4 rfl rfl)
theorem dJ14_copyOf_2_29 : decode cJ14_copyOf_2 29 = .ok (.aload_n 0, 1) := dk_42 (dk_at dksJ14_copyOf_2_1 5 rfl rfl)
theorem dJ14_copyOf_2_30 : decode cJ14_copyOf_2 30 = .ok (.arraylength, 1) := dk_190 (dk_at dksJ14_copyOf_2_1 6 rfl rfl)
theorem dJ14_copyOf_2_31 : decode cJ14_copyOf_2 31 = .ok (.iload_n 1, 1) := dk_27 (dk_at dksJ14_copyOf_2_1 7 rfl rfl)
theorem dJ14_copyOf_2_32 : decode cJ14_copyOf_2 32 = .ok (.invokestatic 304, 3) := dk_184 1 48 (dk_at dksJ14_copyOf_2_1 8 rfl rfl)
theorem dJ14_copyOf_2_35 : decode cJ14_copyOf_2 35 = .ok (.invokestatic 150, 3) := dk_184 0 150 (dk_at dksJ14_copyOf_2_1 11 rfl rfl)
theorem dJ14_copyOf_2_38 : decode cJ14_copyOf_2 38 = .ok (.aload_n 3, 1) := dk_45 (dk_at dksJ14_copyOf_2_1 14 rfl rfl)
theorem dJ14_copyOf_2_39 : decode cJ14_copyOf_2 39 = .ok (.areturn, 1) := dk_176 (dk_at dksJ14_copyOf_2_1 15 rfl rfl)
theorem q87 : (Jvm.Cond.initialized "java/util/Arrays") ∈ lw_all := lw_g (lw_at lw_m1 30 rfl) rfl
theorem q671 : (Jvm.Cond.static ({ cls := "java/util/Arrays", name := "copyOf", desc := "([Ljava/lang/Object;I)[Ljava/lang/Object;" } : Jvm.MethodName)) ∈ lw_all := lw_g (lw_at lw_m3 134 rfl) rfl
theorem q672 : (Jvm.Cond.code ({ cls := "java/util/Arrays", name := "copyOf", desc := "([Ljava/lang/Object;I)[Ljava/lang/Object;" } : Jvm.MethodName) prog_35_method_119_code (2 : Nat) (Option.some (Jvm.ClassFile.FieldType.array (Jvm.ClassFile.FieldType.object "java/lang/Object")))) ∈ lw_all := lw_g (lw_at lw_m3 135 rfl) rfl
theorem q673 : (Jvm.Cond.methodLink "java/util/Arrays" (86 : Nat) ({ cls := "java/lang/Object", name := "getClass", desc := "()Ljava/lang/Class;" } : Jvm.MethodName)) ∈ lw_all := lw_g (lw_at lw_m3 136 rfl) rfl
theorem q693 : (Jvm.Cond.methodLink "java/util/Arrays" (300 : Nat) ({ cls := "java/util/Arrays", name := "copyOf", desc := "([Ljava/lang/Object;ILjava/lang/Class;)[Ljava/lang/Object;" } : Jvm.MethodName)) ∈ lw_all := lw_g (lw_at lw_m3 156 rfl) rfl
theorem q694 : (Jvm.Cond.static ({ cls := "java/util/Arrays", name := "copyOf", desc := "([Ljava/lang/Object;ILjava/lang/Class;)[Ljava/lang/Object;" } : Jvm.MethodName)) ∈ lw_all := lw_g (lw_at lw_m3 157 rfl) rfl
theorem q695 : (Jvm.Cond.code ({ cls := "java/util/Arrays", name := "copyOf", desc := "([Ljava/lang/Object;ILjava/lang/Class;)[Ljava/lang/Object;" } : Jvm.MethodName) prog_35_method_120_code (4 : Nat) (Option.some (Jvm.ClassFile.FieldType.array (Jvm.ClassFile.FieldType.object "java/lang/Object")))) ∈ lw_all := lw_g (lw_at lw_m3 158 rfl) rfl
theorem q696 : (Jvm.Cond.classLink "java/util/Arrays" (110 : Nat) "[Ljava/lang/Object;") ∈ lw_all := lw_g (lw_at lw_m3 159 rfl) rfl
theorem q698 : (Jvm.Cond.classLink "java/util/Arrays" (2 : Nat) "java/lang/Object") ∈ lw_all := lw_g (lw_at lw_m3 161 rfl) rfl
theorem q699 : (Jvm.Cond.methodLink "java/util/Arrays" (304 : Nat) ({ cls := "java/lang/Math", name := "min", desc := "(II)I" } : Jvm.MethodName)) ∈ lw_all := lw_g (lw_at lw_m3 162 rfl) rfl
theorem q702 : (Jvm.Cond.methodLink "java/util/Arrays" (150 : Nat) ({ cls := "java/lang/System", name := "arraycopy", desc := "(Ljava/lang/Object;ILjava/lang/Object;II)V" } : Jvm.MethodName)) ∈ lw_all := lw_g (lw_at lw_m3 165 rfl) rfl
/-! java/util/Objects -/
set_option maxRecDepth 100000
def RJ15 : String := "java/util/Objects"
abbrev cJ15_checkIndex : ByteArray := prog_38_method_17_code
def yJ15_checkIndex : MethodName := ⟨RJ15, "checkIndex", "(II)I"⟩
def dkwJ15_checkIndex_0 : List UInt8 := [26, 27, 1, 184, 0, 105, 172]
abbrev dktJ15_checkIndex_0 : List UInt8 := dkwJ15_checkIndex_0 ++ []
theorem dksJ15_checkIndex_0 : cJ15_checkIndex.data.toList.drop 0 = dktJ15_checkIndex_0 := by decide +kernel
theorem dJ15_checkIndex_0 : decode cJ15_checkIndex 0 = .ok (.iload_n 0, 1) := dk_26 (dk_at dksJ15_checkIndex_0 0 rfl rfl)
theorem dJ15_checkIndex_1 : decode cJ15_checkIndex 1 = .ok (.iload_n 1, 1) := dk_27 (dk_at dksJ15_checkIndex_0 1 rfl rfl)
theorem dJ15_checkIndex_2 : decode cJ15_checkIndex 2 = .ok (.aconst_null, 1) := dk_1 (dk_at dksJ15_checkIndex_0 2 rfl rfl)
theorem dJ15_checkIndex_3 : decode cJ15_checkIndex 3 = .ok (.invokestatic 105, 3) := dk_184 0 105 (dk_at dksJ15_checkIndex_0 3 rfl rfl)
theorem dJ15_checkIndex_6 : decode cJ15_checkIndex 6 = .ok (.ireturn, 1) := dk_172 (dk_at dksJ15_checkIndex_0 6 rfl rfl)
theorem q88 : (Jvm.Cond.initialized "java/util/Objects") ∈ lw_all := lw_g (lw_at lw_m1 31 rfl) rfl
theorem q768 : (Jvm.Cond.static ({ cls := "java/util/Objects", name := "checkIndex", desc := "(II)I" } : Jvm.MethodName)) ∈ lw_all := lw_g (lw_at lw_m3 231 rfl) rfl
theorem q769 : (Jvm.Cond.code ({ cls := "java/util/Objects", name := "checkIndex", desc := "(II)I" } : Jvm.MethodName) prog_38_method_17_code (2 : Nat) (Option.some Jvm.ClassFile.FieldType.int)) ∈ lw_all := lw_g (lw_at lw_m3 232 rfl) rfl
theorem q770 : (Jvm.Cond.methodLink "java/util/Objects" (105 : Nat) ({ cls := "jdk/internal/util/Preconditions", name := "checkIndex", desc := "(IILjava/util/function/BiFunction;)I" } : Jvm.MethodName)) ∈ lw_all := lw_g (lw_at lw_m3 233 rfl) rfl
/-! java/lang/Integer -/
set_option maxRecDepth 100000
def RJ16 : String := "java/lang/Integer"
abbrev cJ16_bitCount : ByteArray := prog_23_method_49_code
def yJ16_bitCount : MethodName := ⟨RJ16, "bitCount", "(I)I"⟩
def dkwJ16_bitCount_2 : List UInt8 := [26, 16, 63, 126, 172]
abbrev dktJ16_bitCount_2 : List UInt8 := dkwJ16_bitCount_2 ++ []
def dkwJ16_bitCount_1 : List UInt8 := [26, 26, 7, 124, 96, 19, 1, 11, 126, 59, 26, 26, 16, 8, 124, 96, 59, 26, 26, 16, 16, 124, 96, 59]
abbrev dktJ16_bitCount_1 : List UInt8 := dkwJ16_bitCount_1 ++ dktJ16_bitCount_2
def dkwJ16_bitCount_0 : List UInt8 := [26, 26, 4, 124, 19, 1, 9, 126, 100, 59, 26, 19, 1, 10, 126, 26, 5, 124, 19, 1, 10, 126, 96, 59]
abbrev dktJ16_bitCount_0 : List UInt8 := dkwJ16_bitCount_0 ++ dktJ16_bitCount_1
theorem dksJ16_bitCount_0 : cJ16_bitCount.data.toList.drop 0 = dktJ16_bitCount_0 := by decide +kernel
theorem dksJ16_bitCount_1 : cJ16_bitCount.data.toList.drop 24 = dktJ16_bitCount_1 := dk_seg dksJ16_bitCount_0 24 rfl rfl
theorem dksJ16_bitCount_2 : cJ16_bitCount.data.toList.drop 48 = dktJ16_bitCount_2 := dk_seg dksJ16_bitCount_1 24 rfl rfl
theorem dJ16_bitCount_0 : decode cJ16_bitCount 0 = .ok (.iload_n 0, 1) := dk_26 (dk_at dksJ16_bitCount_0 0 rfl rfl)
theorem dJ16_bitCount_1 : decode cJ16_bitCount 1 = .ok (.iload_n 0, 1) := dk_26 (dk_at dksJ16_bitCount_0 1 rfl rfl)
theorem dJ16_bitCount_2 : decode cJ16_bitCount 2 = .ok (.iconst 1, 1) := dk_4 (dk_at dksJ16_bitCount_0 2 rfl rfl)
theorem dJ16_bitCount_3 : decode cJ16_bitCount 3 = .ok (.iushr, 1) := dk_124 (dk_at dksJ16_bitCount_0 3 rfl rfl)
theorem dJ16_bitCount_4 : decode cJ16_bitCount 4 = .ok (.ldc_w 265, 3) := dk_19 1 9 (dk_at dksJ16_bitCount_0 4 rfl rfl)
theorem dJ16_bitCount_7 : decode cJ16_bitCount 7 = .ok (.iand, 1) := dk_126 (dk_at dksJ16_bitCount_0 7 rfl rfl)
theorem dJ16_bitCount_8 : decode cJ16_bitCount 8 = .ok (.isub, 1) := dk_100 (dk_at dksJ16_bitCount_0 8 rfl rfl)
theorem dJ16_bitCount_9 : decode cJ16_bitCount 9 = .ok (.istore_n 0, 1) := dk_59 (dk_at dksJ16_bitCount_0 9 rfl rfl)
theorem dJ16_bitCount_10 : decode cJ16_bitCount 10 = .ok (.iload_n 0, 1) := dk_26 (dk_at dksJ16_bitCount_0 10 rfl rfl)
theorem dJ16_bitCount_11 : decode cJ16_bitCount 11 = .ok (.ldc_w 266, 3) := dk_19 1 10 (dk_at dksJ16_bitCount_0 11 rfl rfl)
theorem dJ16_bitCount_14 : decode cJ16_bitCount 14 = .ok (.iand, 1) := dk_126 (dk_at dksJ16_bitCount_0 14 rfl rfl)
theorem dJ16_bitCount_15 : decode cJ16_bitCount 15 = .ok (.iload_n 0, 1) := dk_26 (dk_at dksJ16_bitCount_0 15 rfl rfl)
theorem dJ16_bitCount_16 : decode cJ16_bitCount 16 = .ok (.iconst 2, 1) := dk_5 (dk_at dksJ16_bitCount_0 16 rfl rfl)
theorem dJ16_bitCount_17 : decode cJ16_bitCount 17 = .ok (.iushr, 1) := dk_124 (dk_at dksJ16_bitCount_0 17 rfl rfl)
theorem dJ16_bitCount_18 : decode cJ16_bitCount 18 = .ok (.ldc_w 266, 3) := dk_19 1 10 (dk_at dksJ16_bitCount_0 18 rfl rfl)
theorem dJ16_bitCount_21 : decode cJ16_bitCount 21 = .ok (.iand, 1) := dk_126 (dk_at dksJ16_bitCount_0 21 rfl rfl)
theorem dJ16_bitCount_22 : decode cJ16_bitCount 22 = .ok (.iadd, 1) := dk_96 (dk_at dksJ16_bitCount_0 22 rfl rfl)
theorem dJ16_bitCount_23 : decode cJ16_bitCount 23 = .ok (.istore_n 0, 1) := dk_59 (dk_at dksJ16_bitCount_0 23 rfl rfl)
theorem dJ16_bitCount_24 : decode cJ16_bitCount 24 = .ok (.iload_n 0, 1) := dk_26 (dk_at dksJ16_bitCount_1 0 rfl rfl)
theorem dJ16_bitCount_25 : decode cJ16_bitCount 25 = .ok (.iload_n 0, 1) := dk_26 (dk_at dksJ16_bitCount_1 1 rfl rfl)
theorem dJ16_bitCount_26 : decode cJ16_bitCount 26 = .ok (.iconst 4, 1) := dk_7 (dk_at dksJ16_bitCount_1 2 rfl rfl)
theorem dJ16_bitCount_27 : decode cJ16_bitCount 27 = .ok (.iushr, 1) := dk_124 (dk_at dksJ16_bitCount_1 3 rfl rfl)
theorem dJ16_bitCount_28 : decode cJ16_bitCount 28 = .ok (.iadd, 1) := dk_96 (dk_at dksJ16_bitCount_1 4 rfl rfl)
theorem dJ16_bitCount_29 : decode cJ16_bitCount 29 = .ok (.ldc_w 267, 3) := dk_19 1 11 (dk_at dksJ16_bitCount_1 5 rfl rfl)
theorem dJ16_bitCount_32 : decode cJ16_bitCount 32 = .ok (.iand, 1) := dk_126 (dk_at dksJ16_bitCount_1 8 rfl rfl)
theorem dJ16_bitCount_33 : decode cJ16_bitCount 33 = .ok (.istore_n 0, 1) := dk_59 (dk_at dksJ16_bitCount_1 9 rfl rfl)
theorem dJ16_bitCount_34 : decode cJ16_bitCount 34 = .ok (.iload_n 0, 1) := dk_26 (dk_at dksJ16_bitCount_1 10 rfl rfl)
theorem dJ16_bitCount_35 : decode cJ16_bitCount 35 = .ok (.iload_n 0, 1) := dk_26 (dk_at dksJ16_bitCount_1 11 rfl rfl)
theorem dJ16_bitCount_36 : decode cJ16_bitCount 36 = .ok (.bipush 8, 2) := dk_16 8 (dk_at dksJ16_bitCount_1 12 rfl rfl)
theorem dJ16_bitCount_38 : decode cJ16_bitCount 38 = .ok (.iushr, 1) := dk_124 (dk_at dksJ16_bitCount_1 14 rfl rfl)
theorem dJ16_bitCount_39 : decode cJ16_bitCount 39 = .ok (.iadd, 1) := dk_96 (dk_at dksJ16_bitCount_1 15 rfl rfl)
theorem dJ16_bitCount_40 : decode cJ16_bitCount 40 = .ok (.istore_n 0, 1) := dk_59 (dk_at dksJ16_bitCount_1 16 rfl rfl)
theorem dJ16_bitCount_41 : decode cJ16_bitCount 41 = .ok (.iload_n 0, 1) := dk_26 (dk_at dksJ16_bitCount_1 17 rfl rfl)
theorem dJ16_bitCount_42 : decode cJ16_bitCount 42 = .ok (.iload_n 0, 1) := dk_26 (dk_at dksJ16_bitCount_1 18 rfl rfl)
theorem dJ16_bitCount_43 : decode cJ16_bitCount 43 = .ok (.bipush 16, 2) := dk_16 16 (dk_at dksJ16_bitCount_1 19 rfl rfl)
theorem dJ16_bitCount_45 : decode cJ16_bitCount 45 = .ok (.iushr, 1) := dk_124 (dk_at dksJ16_bitCount_1 21 rfl rfl)
theorem dJ16_bitCount_46 : decode cJ16_bitCount 46 = .ok (.iadd, 1) := dk_96 (dk_at dksJ16_bitCount_1 22 rfl rfl)
theorem dJ16_bitCount_47 : decode cJ16_bitCount 47 = .ok (.istore_n 0, 1) := dk_59 (dk_at dksJ16_bitCount_1 23 rfl rfl)
theorem dJ16_bitCount_48 : decode cJ16_bitCount 48 = .ok (.iload_n 0, 1) := dk_26 (dk_at dksJ16_bitCount_2 0 rfl rfl)
theorem dJ16_bitCount_49 : decode cJ16_bitCount 49 = .ok (.bipush 63, 2) := dk_16 63 (dk_at dksJ16_bitCount_2 1 rfl rfl)
theorem dJ16_bitCount_51 : decode cJ16_bitCount 51 = .ok (.iand, 1) := dk_126 (dk_at dksJ16_bitCount_2 3 rfl rfl)
theorem dJ16_bitCount_52 : decode cJ16_bitCount 52 = .ok (.ireturn, 1) := dk_172 (dk_at dksJ16_bitCount_2 4 rfl rfl)
abbrev cJ16_signum : ByteArray := prog_23_method_56_code
def yJ16_signum : MethodName := ⟨RJ16, "signum", "(I)I"⟩
def dkwJ16_signum_0 : List UInt8 := [26, 16, 31, 122, 26, 116, 16, 31, 124, 128, 172]
abbrev dktJ16_signum_0 : List UInt8 := dkwJ16_signum_0 ++ []
theorem dksJ16_signum_0 : cJ16_signum.data.toList.drop 0 = dktJ16_signum_0 := by decide +kernel
theorem dJ16_signum_0 : decode cJ16_signum 0 = .ok (.iload_n 0, 1) := dk_26 (dk_at dksJ16_signum_0 0 rfl rfl)
theorem dJ16_signum_1 : decode cJ16_signum 1 = .ok (.bipush 31, 2) := dk_16 31 (dk_at dksJ16_signum_0 1 rfl rfl)
theorem dJ16_signum_3 : decode cJ16_signum 3 = .ok (.ishr, 1) := dk_122 (dk_at dksJ16_signum_0 3 rfl rfl)
theorem dJ16_signum_4 : decode cJ16_signum 4 = .ok (.iload_n 0, 1) := dk_26 (dk_at dksJ16_signum_0 4 rfl rfl)
theorem dJ16_signum_5 : decode cJ16_signum 5 = .ok (.ineg, 1) := dk_116 (dk_at dksJ16_signum_0 5 rfl rfl)
theorem dJ16_signum_6 : decode cJ16_signum 6 = .ok (.bipush 31, 2) := dk_16 31 (dk_at dksJ16_signum_0 6 rfl rfl)
theorem dJ16_signum_8 : decode cJ16_signum 8 = .ok (.iushr, 1) := dk_124 (dk_at dksJ16_signum_0 8 rfl rfl)
theorem dJ16_signum_9 : decode cJ16_signum 9 = .ok (.ior, 1) := dk_128 (dk_at dksJ16_signum_0 9 rfl rfl)
theorem dJ16_signum_10 : decode cJ16_signum 10 = .ok (.ireturn, 1) := dk_172 (dk_at dksJ16_signum_0 10 rfl rfl)
theorem q89 : (Jvm.Cond.initialized "java/lang/Integer") ∈ lw_all := lw_g (lw_at lw_m1 32 rfl) rfl
theorem q834 : (Jvm.Cond.static ({ cls := "java/lang/Integer", name := "bitCount", desc := "(I)I" } : Jvm.MethodName)) ∈ lw_all := lw_g (lw_at lw_m4 57 rfl) rfl
theorem q835 : (Jvm.Cond.code ({ cls := "java/lang/Integer", name := "bitCount", desc := "(I)I" } : Jvm.MethodName) prog_23_method_49_code (1 : Nat) (Option.some Jvm.ClassFile.FieldType.int)) ∈ lw_all := lw_g (lw_at lw_m4 58 rfl) rfl
theorem q836 : (Jvm.Cond.constant "java/lang/Integer" (265 : Nat) (1431655765 : Int32)) ∈ lw_all := lw_g (lw_at lw_m4 59 rfl) rfl
theorem q837 : (Jvm.Cond.constant "java/lang/Integer" (266 : Nat) (858993459 : Int32)) ∈ lw_all := lw_g (lw_at lw_m4 60 rfl) rfl
theorem q838 : (Jvm.Cond.constant "java/lang/Integer" (267 : Nat) (252645135 : Int32)) ∈ lw_all := lw_g (lw_at lw_m4 61 rfl) rfl
theorem q946 : (Jvm.Cond.static ({ cls := "java/lang/Integer", name := "signum", desc := "(I)I" } : Jvm.MethodName)) ∈ lw_all := lw_g (lw_at lw_m4 169 rfl) rfl
theorem q947 : (Jvm.Cond.code ({ cls := "java/lang/Integer", name := "signum", desc := "(I)I" } : Jvm.MethodName) prog_23_method_56_code (1 : Nat) (Option.some Jvm.ClassFile.FieldType.int)) ∈ lw_all := lw_g (lw_at lw_m4 170 rfl) rfl
/-! java/lang/ClassCastException -/
set_option maxRecDepth 100000
def RJ17 : String := "java/lang/ClassCastException"
def TJ17 : u_T := fun k => match k with
  | 0 => ("java/lang/Throwable", "backtrace", "Ljava/lang/Object;", false)
  | 1 => ("java/lang/Throwable", "detailMessage", "Ljava/lang/String;", false)
  | 2 => ("java/lang/Throwable", "cause", "Ljava/lang/Throwable;", false)
  | 3 => ("java/lang/Throwable", "stackTrace", "[Ljava/lang/StackTraceElement;", false)
  | 4 => ("java/lang/Throwable", "depth", "I", false)
  | _ => ("java/lang/Throwable", "suppressedExceptions", "Ljava/util/List;", false)
def tyJ17 : Nat → FieldType := fun k => match k with
  | 0 => .object "java/lang/Object"
  | 1 => .object "java/lang/String"
  | 2 => .object "java/lang/Throwable"
  | 3 => .array (.object "java/lang/StackTraceElement")
  | 4 => .int
  | _ => .object "java/util/List"
abbrev wsJ170 : List Cond := u_ws RJ17 TJ17 6
theorem nmJ17 : ∀ a, a < 6 → ∀ b, b < 6 → a ≠ b → (TJ17 a).2.1 ≠ (TJ17 b).2.1 := by decide +kernel
theorem tyJ17_ok : ∀ k, k < 6 → parseFieldDescriptor (TJ17 k).2.2.1 = some (tyJ17 k) := by decide +kernel
abbrev cJ17_init : ByteArray := prog_19_method_2_code
def yJ17_init : MethodName := ⟨RJ17, "<init>", "(Ljava/lang/String;)V"⟩
def dkwJ17_init_0 : List UInt8 := [42, 43, 183, 0, 7, 177]
abbrev dktJ17_init_0 : List UInt8 := dkwJ17_init_0 ++ []
theorem dksJ17_init_0 : cJ17_init.data.toList.drop 0 = dktJ17_init_0 := by decide +kernel
theorem dJ17_init_0 : decode cJ17_init 0 = .ok (.aload_n 0, 1) := dk_42 (dk_at dksJ17_init_0 0 rfl rfl)
theorem dJ17_init_1 : decode cJ17_init 1 = .ok (.aload_n 1, 1) := dk_43 (dk_at dksJ17_init_0 1 rfl rfl)
theorem dJ17_init_2 : decode cJ17_init 2 = .ok (.invokespecial 7, 3) := dk_183 0 7 (dk_at dksJ17_init_0 2 rfl rfl)
theorem dJ17_init_5 : decode cJ17_init 5 = .ok (.return_, 1) := dk_177 (dk_at dksJ17_init_0 5 rfl rfl)
theorem q90 : (Jvm.Cond.initialized "java/lang/ClassCastException") ∈ lw_all := lw_g (lw_at lw_m1 33 rfl) rfl
theorem q342 : (Jvm.Cond.selects "java/lang/ClassCastException" ({ cls := "java/lang/Throwable", name := "fillInStackTrace", desc := "()Ljava/lang/Throwable;" } : Jvm.MethodName) ({ cls := "java/lang/Throwable", name := "fillInStackTrace", desc := "()Ljava/lang/Throwable;" } : Jvm.MethodName)) ∈ lw_all := lw_g (lw_at lw_m2 45 rfl) rfl
theorem q690 : (Jvm.Cond.selects "java/lang/ClassCastException" ({ cls := "java/lang/Object", name := "getClass", desc := "()Ljava/lang/Class;" } : Jvm.MethodName) ({ cls := "java/lang/Object", name := "getClass", desc := "()Ljava/lang/Class;" } : Jvm.MethodName)) ∈ lw_all := lw_g (lw_at lw_m3 153 rfl) rfl
theorem q1047 : (Jvm.Cond.instantiable "java/lang/ClassCastException" (6 : Nat)) ∈ lw_all := lw_g (lw_at lw_m5 30 rfl) rfl
theorem q1048 : (Jvm.Cond.instanceMethod ({ cls := "java/lang/ClassCastException", name := "<init>", desc := "(Ljava/lang/String;)V" } : Jvm.MethodName)) ∈ lw_all := lw_g (lw_at lw_m5 31 rfl) rfl
theorem q1049 : (Jvm.Cond.code ({ cls := "java/lang/ClassCastException", name := "<init>", desc := "(Ljava/lang/String;)V" } : Jvm.MethodName) prog_19_method_2_code (2 : Nat) (Option.none : Option Jvm.ClassFile.FieldType)) ∈ lw_all := lw_g (lw_at lw_m5 32 rfl) rfl
theorem q1050 : (Jvm.Cond.methodLink "java/lang/ClassCastException" (7 : Nat) ({ cls := "java/lang/RuntimeException", name := "<init>", desc := "(Ljava/lang/String;)V" } : Jvm.MethodName)) ∈ lw_all := lw_g (lw_at lw_m5 33 rfl) rfl
theorem q1051 : (Jvm.Cond.lays "java/lang/ClassCastException" "java/lang/Throwable" "backtrace" "Ljava/lang/Object;") ∈ lw_all := lw_g (lw_at lw_m5 34 rfl) rfl
theorem q1052 : (Jvm.Cond.lays "java/lang/ClassCastException" "java/lang/Throwable" "detailMessage" "Ljava/lang/String;") ∈ lw_all := lw_g (lw_at lw_m5 35 rfl) rfl
theorem q1053 : (Jvm.Cond.lays "java/lang/ClassCastException" "java/lang/Throwable" "cause" "Ljava/lang/Throwable;") ∈ lw_all := lw_g (lw_at lw_m5 36 rfl) rfl
theorem q1054 : (Jvm.Cond.lays "java/lang/ClassCastException" "java/lang/Throwable" "stackTrace" "[Ljava/lang/StackTraceElement;") ∈ lw_all := lw_g (lw_at lw_m5 37 rfl) rfl
theorem q1055 : (Jvm.Cond.lays "java/lang/ClassCastException" "java/lang/Throwable" "depth" "I") ∈ lw_all := lw_g (lw_at lw_m5 38 rfl) rfl
theorem q1056 : (Jvm.Cond.lays "java/lang/ClassCastException" "java/lang/Throwable" "suppressedExceptions" "Ljava/util/List;") ∈ lw_all := lw_g (lw_at lw_m5 39 rfl) rfl
theorem q1057 : (Jvm.Cond.superclass "java/lang/ClassCastException" "java/lang/RuntimeException") ∈ lw_all := lw_g (lw_at lw_m5 40 rfl) rfl
theorem q1058 : (Jvm.Cond.castable "java/lang/ClassCastException" "java/lang/ClassCastException") ∈ lw_tbl := lw_at lw_m5 41 rfl
theorem q1059 : (Jvm.Cond.selects "java/lang/ClassCastException" ({ cls := "java/lang/Throwable", name := "fillInStackTrace", desc := "(I)Ljava/lang/Throwable;" } : Jvm.MethodName) ({ cls := "java/lang/Throwable", name := "fillInStackTrace", desc := "(I)Ljava/lang/Throwable;" } : Jvm.MethodName)) ∈ lw_all := lw_g (lw_at lw_m5 42 rfl) rfl
theorem q1631 : (Jvm.Cond.castable "java/lang/ClassCastException" "java/lang/Object") ∈ lw_tbl := lw_at lw_m7 134 rfl
theorem in_J17 : ∀ w ∈ wsJ170, w ∈ lw_all := lw_in wsJ170 [1051, 1052, 1053, 1054, 1055, 1056] (by decide +kernel) (by decide +kernel)
/-! java/lang/Object -/
set_option maxRecDepth 100000
def RJ18 : String := "java/lang/Object"
abbrev cJ18_init : ByteArray := object_method_1_code
def yJ18_init : MethodName := ⟨RJ18, "<init>", "()V"⟩
theorem dJ18_init_0 : decode cJ18_init 0 = .ok (.return_, 1) := by decide +kernel
theorem q97 : (Jvm.Cond.instanceMethod ({ cls := "java/lang/Object", name := "<init>", desc := "()V" } : Jvm.MethodName)) ∈ lw_all := lw_g (lw_at lw_m1 40 rfl) rfl
theorem q98 : (Jvm.Cond.code ({ cls := "java/lang/Object", name := "<init>", desc := "()V" } : Jvm.MethodName) object_method_1_code (1 : Nat) (Option.none : Option Jvm.ClassFile.FieldType)) ∈ lw_all := lw_g (lw_at lw_m1 41 rfl) rfl
theorem q674 : (Jvm.Cond.instanceMethod ({ cls := "java/lang/Object", name := "getClass", desc := "()Ljava/lang/Class;" } : Jvm.MethodName)) ∈ lw_all := lw_g (lw_at lw_m3 137 rfl) rfl
theorem q675 : (Jvm.Cond.sameMethod "java/lang/Object" "java/lang/Object" "getClass" "()Ljava/lang/Class;") ∈ lw_all := lw_g (lw_at lw_m3 138 rfl) rfl
theorem q692 : (Jvm.Cond.native ({ cls := "java/lang/Object", name := "getClass", desc := "()Ljava/lang/Class;" } : Jvm.MethodName)) ∈ lw_all := lw_g (lw_at lw_m3 155 rfl) rfl
theorem q1636 : (Jvm.Cond.declares ({ cls := "java/lang/Object", name := "getClass", desc := "()Ljava/lang/Class;" } : Jvm.MethodName)) ∈ lw_tbl := lw_at lw_m7 139 rfl
/-! java/util/ArrayList -/
set_option maxRecDepth 100000
def RJ2 : String := "java/util/ArrayList"
def TJ2 : u_T := fun k => match k with
  | 0 => ("java/util/AbstractList", "modCount", "I", false)
  | 1 => ("java/util/ArrayList", "elementData", "[Ljava/lang/Object;", false)
  | _ => ("java/util/ArrayList", "size", "I", false)
def tyJ2 : Nat → FieldType := fun k => match k with
  | 0 => .int
  | 1 => .array (.object "java/lang/Object")
  | _ => .int
abbrev wsJ20 : List Cond := u_ws RJ2 TJ2 3
theorem nmJ2 : ∀ a, a < 3 → ∀ b, b < 3 → a ≠ b → (TJ2 a).2.1 ≠ (TJ2 b).2.1 := by decide +kernel
theorem tyJ2_ok : ∀ k, k < 3 → parseFieldDescriptor (TJ2 k).2.2.1 = some (tyJ2 k) := by decide +kernel
abbrev cJ2_init : ByteArray := prog_34_method_2_code
def yJ2_init : MethodName := ⟨RJ2, "<init>", "()V"⟩
def dkwJ2_init_0 : List UInt8 := [42, 183, 0, 1, 42, 178, 0, 39, 181, 0, 9, 177]
abbrev dktJ2_init_0 : List UInt8 := dkwJ2_init_0 ++ []
theorem dksJ2_init_0 : cJ2_init.data.toList.drop 0 = dktJ2_init_0 := by decide +kernel
theorem dJ2_init_0 : decode cJ2_init 0 = .ok (.aload_n 0, 1) := dk_42 (dk_at dksJ2_init_0 0 rfl rfl)
theorem dJ2_init_1 : decode cJ2_init 1 = .ok (.invokespecial 1, 3) := dk_183 0 1 (dk_at dksJ2_init_0 1 rfl rfl)
theorem dJ2_init_4 : decode cJ2_init 4 = .ok (.aload_n 0, 1) := dk_42 (dk_at dksJ2_init_0 4 rfl rfl)
theorem dJ2_init_5 : decode cJ2_init 5 = .ok (.getstatic 39, 3) := dk_178 0 39 (dk_at dksJ2_init_0 5 rfl rfl)
theorem dJ2_init_8 : decode cJ2_init 8 = .ok (.putfield 9, 3) := dk_181 0 9 (dk_at dksJ2_init_0 8 rfl rfl)
theorem dJ2_init_11 : decode cJ2_init 11 = .ok (.return_, 1) := dk_177 (dk_at dksJ2_init_0 11 rfl rfl)
abbrev cJ2_size : ByteArray := prog_34_method_8_code
def yJ2_size : MethodName := ⟨RJ2, "size", "()I"⟩
theorem dJ2_size_0 : decode cJ2_size 0 = .ok (.aload_n 0, 1) := by decide +kernel
theorem dJ2_size_1 : decode cJ2_size 1 = .ok (.getfield 48, 3) := by decide +kernel
theorem dJ2_size_4 : decode cJ2_size 4 = .ok (.ireturn, 1) := by decide +kernel
abbrev cJ2_add : ByteArray := prog_34_method_25_code
def yJ2_add : MethodName := ⟨RJ2, "add", "(Ljava/lang/Object;)Z"⟩
def dkwJ2_add_1 : List UInt8 := [172]
abbrev dktJ2_add_1 : List UInt8 := dkwJ2_add_1 ++ []
def dkwJ2_add_0 : List UInt8 := [42, 89, 180, 0, 63, 4, 96, 181, 0, 63, 42, 43, 42, 180, 0, 9, 42, 180, 0, 48, 182, 0, 131, 4]
abbrev dktJ2_add_0 : List UInt8 := dkwJ2_add_0 ++ dktJ2_add_1
theorem dksJ2_add_0 : cJ2_add.data.toList.drop 0 = dktJ2_add_0 := by decide +kernel
theorem dksJ2_add_1 : cJ2_add.data.toList.drop 24 = dktJ2_add_1 := dk_seg dksJ2_add_0 24 rfl rfl
theorem dJ2_add_0 : decode cJ2_add 0 = .ok (.aload_n 0, 1) := dk_42 (dk_at dksJ2_add_0 0 rfl rfl)
theorem dJ2_add_1 : decode cJ2_add 1 = .ok (.dup, 1) := dk_89 (dk_at dksJ2_add_0 1 rfl rfl)
theorem dJ2_add_2 : decode cJ2_add 2 = .ok (.getfield 63, 3) := dk_180 0 63 (dk_at dksJ2_add_0 2 rfl rfl)
theorem dJ2_add_5 : decode cJ2_add 5 = .ok (.iconst 1, 1) := dk_4 (dk_at dksJ2_add_0 5 rfl rfl)
theorem dJ2_add_6 : decode cJ2_add 6 = .ok (.iadd, 1) := dk_96 (dk_at dksJ2_add_0 6 rfl rfl)
theorem dJ2_add_7 : decode cJ2_add 7 = .ok (.putfield 63, 3) := dk_181 0 63 (dk_at dksJ2_add_0 7 rfl rfl)
theorem dJ2_add_10 : decode cJ2_add 10 = .ok (.aload_n 0, 1) := dk_42 (dk_at dksJ2_add_0 10 rfl rfl)
theorem dJ2_add_11 : decode cJ2_add 11 = .ok (.aload_n 1, 1) := dk_43 (dk_at dksJ2_add_0 11 rfl rfl)
theorem dJ2_add_12 : decode cJ2_add 12 = .ok (.aload_n 0, 1) := dk_42 (dk_at dksJ2_add_0 12 rfl rfl)
theorem dJ2_add_13 : decode cJ2_add 13 = .ok (.getfield 9, 3) := dk_180 0 9 (dk_at dksJ2_add_0 13 rfl rfl)
theorem dJ2_add_16 : decode cJ2_add 16 = .ok (.aload_n 0, 1) := dk_42 (dk_at dksJ2_add_0 16 rfl rfl)
theorem dJ2_add_17 : decode cJ2_add 17 = .ok (.getfield 48, 3) := dk_180 0 48 (dk_at dksJ2_add_0 17 rfl rfl)
theorem dJ2_add_20 : decode cJ2_add 20 = .ok (.invokevirtual 131, 3) := dk_182 0 131 (dk_at dksJ2_add_0 20 rfl rfl)
theorem dJ2_add_23 : decode cJ2_add 23 = .ok (.iconst 1, 1) := dk_4 (dk_at dksJ2_add_0 23 rfl rfl)
theorem dJ2_add_24 : decode cJ2_add 24 = .ok (.ireturn, 1) := dk_172 (dk_at dksJ2_add_1 0 rfl rfl)
abbrev cJ2_add_2 : ByteArray := prog_34_method_24_code
def yJ2_add_2 : MethodName := ⟨RJ2, "add", "(Ljava/lang/Object;[Ljava/lang/Object;I)V"⟩
def dkwJ2_add_2_0 : List UInt8 := [29, 44, 190, 160, 0, 8, 42, 182, 0, 129, 77, 44, 29, 43, 83, 42, 29, 4, 96, 181, 0, 48, 177]
abbrev dktJ2_add_2_0 : List UInt8 := dkwJ2_add_2_0 ++ []
theorem dksJ2_add_2_0 : cJ2_add_2.data.toList.drop 0 = dktJ2_add_2_0 := by decide +kernel
theorem dJ2_add_2_0 : decode cJ2_add_2 0 = .ok (.iload_n 3, 1) := dk_29 (dk_at dksJ2_add_2_0 0 rfl rfl)
theorem dJ2_add_2_1 : decode cJ2_add_2 1 = .ok (.aload_n 2, 1) := dk_44 (dk_at dksJ2_add_2_0 1 rfl rfl)
theorem dJ2_add_2_2 : decode cJ2_add_2 2 = .ok (.arraylength, 1) := dk_190 (dk_at dksJ2_add_2_0 2 rfl rfl)
theorem dJ2_add_2_3 : decode cJ2_add_2 3 = .ok (.if_icmp .ne 8, 3) := dk_160 0 8 (dk_at dksJ2_add_2_0 3 rfl rfl)
theorem dJ2_add_2_6 : decode cJ2_add_2 6 = .ok (.aload_n 0, 1) := dk_42 (dk_at dksJ2_add_2_0 6 rfl rfl)
theorem dJ2_add_2_7 : decode cJ2_add_2 7 = .ok (.invokevirtual 129, 3) := dk_182 0 129 (dk_at dksJ2_add_2_0 7 rfl rfl)
theorem dJ2_add_2_10 : decode cJ2_add_2 10 = .ok (.astore_n 2, 1) := dk_77 (dk_at dksJ2_add_2_0 10 rfl rfl)
theorem dJ2_add_2_11 : decode cJ2_add_2 11 = .ok (.aload_n 2, 1) := dk_44 (dk_at dksJ2_add_2_0 11 rfl rfl)
theorem dJ2_add_2_12 : decode cJ2_add_2 12 = .ok (.iload_n 3, 1) := dk_29 (dk_at dksJ2_add_2_0 12 rfl rfl)
theorem dJ2_add_2_13 : decode cJ2_add_2 13 = .ok (.aload_n 1, 1) := dk_43 (dk_at dksJ2_add_2_0 13 rfl rfl)
theorem dJ2_add_2_14 : decode cJ2_add_2 14 = .ok (.aastore, 1) := dk_83 (dk_at dksJ2_add_2_0 14 rfl rfl)
theorem dJ2_add_2_15 : decode cJ2_add_2 15 = .ok (.aload_n 0, 1) := dk_42 (dk_at dksJ2_add_2_0 15 rfl rfl)
theorem dJ2_add_2_16 : decode cJ2_add_2 16 = .ok (.iload_n 3, 1) := dk_29 (dk_at dksJ2_add_2_0 16 rfl rfl)
theorem dJ2_add_2_17 : decode cJ2_add_2 17 = .ok (.iconst 1, 1) := dk_4 (dk_at dksJ2_add_2_0 17 rfl rfl)
theorem dJ2_add_2_18 : decode cJ2_add_2 18 = .ok (.iadd, 1) := dk_96 (dk_at dksJ2_add_2_0 18 rfl rfl)
theorem dJ2_add_2_19 : decode cJ2_add_2 19 = .ok (.putfield 48, 3) := dk_181 0 48 (dk_at dksJ2_add_2_0 19 rfl rfl)
theorem dJ2_add_2_22 : decode cJ2_add_2 22 = .ok (.return_, 1) := dk_177 (dk_at dksJ2_add_2_0 22 rfl rfl)
abbrev cJ2_grow : ByteArray := prog_34_method_7_code
def yJ2_grow : MethodName := ⟨RJ2, "grow", "()[Ljava/lang/Object;"⟩
def dkwJ2_grow_0 : List UInt8 := [42, 42, 180, 0, 48, 4, 96, 182, 0, 69, 176]
abbrev dktJ2_grow_0 : List UInt8 := dkwJ2_grow_0 ++ []
theorem dksJ2_grow_0 : cJ2_grow.data.toList.drop 0 = dktJ2_grow_0 := by decide +kernel
theorem dJ2_grow_0 : decode cJ2_grow 0 = .ok (.aload_n 0, 1) := dk_42 (dk_at dksJ2_grow_0 0 rfl rfl)
theorem dJ2_grow_1 : decode cJ2_grow 1 = .ok (.aload_n 0, 1) := dk_42 (dk_at dksJ2_grow_0 1 rfl rfl)
theorem dJ2_grow_2 : decode cJ2_grow 2 = .ok (.getfield 48, 3) := dk_180 0 48 (dk_at dksJ2_grow_0 2 rfl rfl)
theorem dJ2_grow_5 : decode cJ2_grow 5 = .ok (.iconst 1, 1) := dk_4 (dk_at dksJ2_grow_0 5 rfl rfl)
theorem dJ2_grow_6 : decode cJ2_grow 6 = .ok (.iadd, 1) := dk_96 (dk_at dksJ2_grow_0 6 rfl rfl)
theorem dJ2_grow_7 : decode cJ2_grow 7 = .ok (.invokevirtual 69, 3) := dk_182 0 69 (dk_at dksJ2_grow_0 7 rfl rfl)
theorem dJ2_grow_10 : decode cJ2_grow 10 = .ok (.areturn, 1) := dk_176 (dk_at dksJ2_grow_0 10 rfl rfl)
abbrev cJ2_grow_2 : ByteArray := prog_34_method_6_code
def yJ2_grow_2 : MethodName := ⟨RJ2, "grow", "(I)[Ljava/lang/Object;"⟩
def dkwJ2_grow_2_2 : List UInt8 := [27, 184, 0, 79, 189, 0, 7, 90, 181, 0, 9, 176]
abbrev dktJ2_grow_2_2 : List UInt8 := dkwJ2_grow_2_2 ++ []
def dkwJ2_grow_2_1 : List UInt8 := [28, 4, 122, 184, 0, 73, 62, 42, 42, 180, 0, 9, 29, 184, 0, 66, 90, 181, 0, 9, 176, 42, 16, 10]
abbrev dktJ2_grow_2_1 : List UInt8 := dkwJ2_grow_2_1 ++ dktJ2_grow_2_2
def dkwJ2_grow_2_0 : List UInt8 := [42, 180, 0, 9, 190, 61, 28, 157, 0, 13, 42, 180, 0, 9, 178, 0, 39, 165, 0, 28, 28, 27, 28, 100]
abbrev dktJ2_grow_2_0 : List UInt8 := dkwJ2_grow_2_0 ++ dktJ2_grow_2_1
theorem dksJ2_grow_2_0 : cJ2_grow_2.data.toList.drop 0 = dktJ2_grow_2_0 := by decide +kernel
theorem dksJ2_grow_2_1 : cJ2_grow_2.data.toList.drop 24 = dktJ2_grow_2_1 := dk_seg dksJ2_grow_2_0 24 rfl rfl
theorem dksJ2_grow_2_2 : cJ2_grow_2.data.toList.drop 48 = dktJ2_grow_2_2 := dk_seg dksJ2_grow_2_1 24 rfl rfl
theorem dJ2_grow_2_0 : decode cJ2_grow_2 0 = .ok (.aload_n 0, 1) := dk_42 (dk_at dksJ2_grow_2_0 0 rfl rfl)
theorem dJ2_grow_2_1 : decode cJ2_grow_2 1 = .ok (.getfield 9, 3) := dk_180 0 9 (dk_at dksJ2_grow_2_0 1 rfl rfl)
theorem dJ2_grow_2_4 : decode cJ2_grow_2 4 = .ok (.arraylength, 1) := dk_190 (dk_at dksJ2_grow_2_0 4 rfl rfl)
theorem dJ2_grow_2_5 : decode cJ2_grow_2 5 = .ok (.istore_n 2, 1) := dk_61 (dk_at dksJ2_grow_2_0 5 rfl rfl)
theorem dJ2_grow_2_6 : decode cJ2_grow_2 6 = .ok (.iload_n 2, 1) := dk_28 (dk_at dksJ2_grow_2_0 6 rfl rfl)
theorem dJ2_grow_2_7 : decode cJ2_grow_2 7 = .ok (.ifCond .gt 13, 3) := dk_157 0 13 (dk_at dksJ2_grow_2_0 7 rfl rfl)
theorem dJ2_grow_2_10 : decode cJ2_grow_2 10 = .ok (.aload_n 0, 1) := dk_42 (dk_at dksJ2_grow_2_0 10 rfl rfl)
theorem dJ2_grow_2_11 : decode cJ2_grow_2 11 = .ok (.getfield 9, 3) := dk_180 0 9 (dk_at dksJ2_grow_2_0 11 rfl rfl)
theorem dJ2_grow_2_14 : decode cJ2_grow_2 14 = .ok (.getstatic 39, 3) := dk_178 0 39 (dk_at dksJ2_grow_2_0 14 rfl rfl)
theorem dJ2_grow_2_17 : decode cJ2_grow_2 17 = .ok (.if_acmp .eq 28, 3) := dk_165 0 28 (dk_at dksJ2_grow_2_0 17 rfl rfl)
theorem dJ2_grow_2_20 : decode cJ2_grow_2 20 = .ok (.iload_n 2, 1) := dk_28 (dk_at dksJ2_grow_2_0 20 rfl rfl)
theorem dJ2_grow_2_21 : decode cJ2_grow_2 21 = .ok (.iload_n 1, 1) := dk_27 (dk_at dksJ2_grow_2_0 21 rfl rfl)
theorem dJ2_grow_2_22 : decode cJ2_grow_2 22 = .ok (.iload_n 2, 1) := dk_28 (dk_at dksJ2_grow_2_0 22 rfl rfl)
theorem dJ2_grow_2_23 : decode cJ2_grow_2 23 = .ok (.isub, 1) := dk_100 (dk_at dksJ2_grow_2_0 23 rfl rfl)
theorem dJ2_grow_2_24 : decode cJ2_grow_2 24 = .ok (.iload_n 2, 1) := dk_28 (dk_at dksJ2_grow_2_1 0 rfl rfl)
theorem dJ2_grow_2_25 : decode cJ2_grow_2 25 = .ok (.iconst 1, 1) := dk_4 (dk_at dksJ2_grow_2_1 1 rfl rfl)
theorem dJ2_grow_2_26 : decode cJ2_grow_2 26 = .ok (.ishr, 1) := dk_122 (dk_at dksJ2_grow_2_1 2 rfl rfl)
theorem dJ2_grow_2_27 : decode cJ2_grow_2 27 = .ok (.invokestatic 73, 3) := dk_184 0 73 (dk_at dksJ2_grow_2_1 3 rfl rfl)
theorem dJ2_grow_2_30 : decode cJ2_grow_2 30 = .ok (.istore_n 3, 1) := dk_62 (dk_at dksJ2_grow_2_1 6 rfl rfl)
theorem dJ2_grow_2_31 : decode cJ2_grow_2 31 = .ok (.aload_n 0, 1) := dk_42 (dk_at dksJ2_grow_2_1 7 rfl rfl)
theorem dJ2_grow_2_32 : decode cJ2_grow_2 32 = .ok (.aload_n 0, 1) := dk_42 (dk_at dksJ2_grow_2_1 8 rfl rfl)
theorem dJ2_grow_2_33 : decode cJ2_grow_2 33 = .ok (.getfield 9, 3) := dk_180 0 9 (dk_at dksJ2_grow_2_1 9 rfl rfl)
theorem dJ2_grow_2_36 : decode cJ2_grow_2 36 = .ok (.iload_n 3, 1) := dk_29 (dk_at dksJ2_grow_2_1 12 rfl rfl)
theorem dJ2_grow_2_37 : decode cJ2_grow_2 37 = .ok (.invokestatic 66, 3) := dk_184 0 66 (dk_at dksJ2_grow_2_1 13 rfl rfl)
theorem dJ2_grow_2_40 : decode cJ2_grow_2 40 = .ok (.dup_x1, 1) := dk_90 (dk_at dksJ2_grow_2_1 16 rfl rfl)
theorem dJ2_grow_2_41 : decode cJ2_grow_2 41 = .ok (.putfield 9, 3) := dk_181 0 9 (dk_at dksJ2_grow_2_1 17 rfl rfl)
theorem dJ2_grow_2_44 : decode cJ2_grow_2 44 = .ok (.areturn, 1) := dk_176 (dk_at dksJ2_grow_2_1 20 rfl rfl)
theorem dJ2_grow_2_45 : decode cJ2_grow_2 45 = .ok (.aload_n 0, 1) := dk_42 (dk_at dksJ2_grow_2_1 21 rfl rfl)
theorem dJ2_grow_2_46 : decode cJ2_grow_2 46 = .ok (.bipush 10, 2) := dk_16 10 (dk_at dksJ2_grow_2_1 22 rfl rfl)
theorem dJ2_grow_2_48 : decode cJ2_grow_2 48 = .ok (.iload_n 1, 1) := dk_27 (dk_at dksJ2_grow_2_2 0 rfl rfl)
theorem dJ2_grow_2_49 : decode cJ2_grow_2 49 = .ok (.invokestatic 79, 3) := dk_184 0 79 (dk_at dksJ2_grow_2_2 1 rfl rfl)
theorem dJ2_grow_2_52 : decode cJ2_grow_2 52 = .ok (.anewarray 7, 3) := dk_189 0 7 (dk_at dksJ2_grow_2_2 4 rfl rfl)
theorem dJ2_grow_2_55 : decode cJ2_grow_2 55 = .ok (.dup_x1, 1) := dk_90 (dk_at dksJ2_grow_2_2 7 rfl rfl)
theorem dJ2_grow_2_56 : decode cJ2_grow_2 56 = .ok (.putfield 9, 3) := dk_181 0 9 (dk_at dksJ2_grow_2_2 8 rfl rfl)
theorem dJ2_grow_2_59 : decode cJ2_grow_2 59 = .ok (.areturn, 1) := dk_176 (dk_at dksJ2_grow_2_2 11 rfl rfl)
abbrev cJ2_get : ByteArray := prog_34_method_20_code
def yJ2_get : MethodName := ⟨RJ2, "get", "(I)Ljava/lang/Object;"⟩
def dkwJ2_get_0 : List UInt8 := [27, 42, 180, 0, 48, 184, 0, 118, 87, 42, 27, 182, 0, 123, 176]
abbrev dktJ2_get_0 : List UInt8 := dkwJ2_get_0 ++ []
theorem dksJ2_get_0 : cJ2_get.data.toList.drop 0 = dktJ2_get_0 := by decide +kernel
theorem dJ2_get_0 : decode cJ2_get 0 = .ok (.iload_n 1, 1) := dk_27 (dk_at dksJ2_get_0 0 rfl rfl)
theorem dJ2_get_1 : decode cJ2_get 1 = .ok (.aload_n 0, 1) := dk_42 (dk_at dksJ2_get_0 1 rfl rfl)
theorem dJ2_get_2 : decode cJ2_get 2 = .ok (.getfield 48, 3) := dk_180 0 48 (dk_at dksJ2_get_0 2 rfl rfl)
theorem dJ2_get_5 : decode cJ2_get 5 = .ok (.invokestatic 118, 3) := dk_184 0 118 (dk_at dksJ2_get_0 5 rfl rfl)
theorem dJ2_get_8 : decode cJ2_get 8 = .ok (.pop, 1) := dk_87 (dk_at dksJ2_get_0 8 rfl rfl)
theorem dJ2_get_9 : decode cJ2_get 9 = .ok (.aload_n 0, 1) := dk_42 (dk_at dksJ2_get_0 9 rfl rfl)
theorem dJ2_get_10 : decode cJ2_get 10 = .ok (.iload_n 1, 1) := dk_27 (dk_at dksJ2_get_0 10 rfl rfl)
theorem dJ2_get_11 : decode cJ2_get 11 = .ok (.invokevirtual 123, 3) := dk_182 0 123 (dk_at dksJ2_get_0 11 rfl rfl)
theorem dJ2_get_14 : decode cJ2_get 14 = .ok (.areturn, 1) := dk_176 (dk_at dksJ2_get_0 14 rfl rfl)
abbrev cJ2_elementData : ByteArray := prog_34_method_18_code
def yJ2_elementData : MethodName := ⟨RJ2, "elementData", "(I)Ljava/lang/Object;"⟩
def dkwJ2_elementData_0 : List UInt8 := [42, 180, 0, 9, 27, 50, 176]
abbrev dktJ2_elementData_0 : List UInt8 := dkwJ2_elementData_0 ++ []
theorem dksJ2_elementData_0 : cJ2_elementData.data.toList.drop 0 = dktJ2_elementData_0 := by decide +kernel
theorem dJ2_elementData_0 : decode cJ2_elementData 0 = .ok (.aload_n 0, 1) := dk_42 (dk_at dksJ2_elementData_0 0 rfl rfl)
theorem dJ2_elementData_1 : decode cJ2_elementData 1 = .ok (.getfield 9, 3) := dk_180 0 9 (dk_at dksJ2_elementData_0 1 rfl rfl)
theorem dJ2_elementData_4 : decode cJ2_elementData 4 = .ok (.iload_n 1, 1) := dk_27 (dk_at dksJ2_elementData_0 4 rfl rfl)
theorem dJ2_elementData_5 : decode cJ2_elementData 5 = .ok (.aaload, 1) := dk_50 (dk_at dksJ2_elementData_0 5 rfl rfl)
theorem dJ2_elementData_6 : decode cJ2_elementData 6 = .ok (.areturn, 1) := dk_176 (dk_at dksJ2_elementData_0 6 rfl rfl)
theorem q62 : (Jvm.Cond.initialized "java/util/ArrayList") ∈ lw_all := lw_g (lw_at lw_m1 5 rfl) rfl
theorem q108 : (Jvm.Cond.instantiable "java/util/ArrayList" (3 : Nat)) ∈ lw_all := lw_g (lw_at lw_m1 51 rfl) rfl
theorem q110 : (Jvm.Cond.instanceMethod ({ cls := "java/util/ArrayList", name := "<init>", desc := "()V" } : Jvm.MethodName)) ∈ lw_all := lw_g (lw_at lw_m1 53 rfl) rfl
theorem q111 : (Jvm.Cond.code ({ cls := "java/util/ArrayList", name := "<init>", desc := "()V" } : Jvm.MethodName) prog_34_method_2_code (1 : Nat) (Option.none : Option Jvm.ClassFile.FieldType)) ∈ lw_all := lw_g (lw_at lw_m1 54 rfl) rfl
theorem q112 : (Jvm.Cond.methodLink "java/util/ArrayList" (1 : Nat) ({ cls := "java/util/AbstractList", name := "<init>", desc := "()V" } : Jvm.MethodName)) ∈ lw_all := lw_g (lw_at lw_m1 55 rfl) rfl
theorem q119 : (Jvm.Cond.fieldLink "java/util/ArrayList" (39 : Nat) "java/util/ArrayList" "DEFAULTCAPACITY_EMPTY_ELEMENTDATA" "[Ljava/lang/Object;") ∈ lw_all := lw_g (lw_at lw_m1 62 rfl) rfl
theorem q120 : (Jvm.Cond.laysStatic "java/util/ArrayList" "DEFAULTCAPACITY_EMPTY_ELEMENTDATA" "[Ljava/lang/Object;") ∈ lw_tbl := lw_at lw_m1 63 rfl
theorem q121 : (Jvm.Cond.fieldLink "java/util/ArrayList" (9 : Nat) "java/util/ArrayList" "elementData" "[Ljava/lang/Object;") ∈ lw_all := lw_g (lw_at lw_m1 64 rfl) rfl
theorem q122 : (Jvm.Cond.fieldLink "java/util/ArrayList" (48 : Nat) "java/util/ArrayList" "size" "I") ∈ lw_all := lw_g (lw_at lw_m1 65 rfl) rfl
theorem q124 : (Jvm.Cond.fieldLink "java/util/ArrayList" (63 : Nat) "java/util/ArrayList" "modCount" "I") ∈ lw_all := lw_g (lw_at lw_m1 67 rfl) rfl
theorem q125 : (Jvm.Cond.sameField "java/util/ArrayList" "java/util/AbstractList" "modCount" "I") ∈ lw_all := lw_g (lw_at lw_m1 68 rfl) rfl
theorem q126 : (Jvm.Cond.lays "java/util/ArrayList" "java/util/ArrayList" "elementData" "[Ljava/lang/Object;") ∈ lw_all := lw_g (lw_at lw_m1 69 rfl) rfl
theorem q127 : (Jvm.Cond.soleField "java/util/ArrayList" "elementData") ∈ lw_all := lw_g (lw_at lw_m1 70 rfl) rfl
theorem q128 : (Jvm.Cond.lays "java/util/ArrayList" "java/util/ArrayList" "size" "I") ∈ lw_all := lw_g (lw_at lw_m1 71 rfl) rfl
theorem q129 : (Jvm.Cond.soleField "java/util/ArrayList" "size") ∈ lw_all := lw_g (lw_at lw_m1 72 rfl) rfl
theorem q130 : (Jvm.Cond.lays "java/util/ArrayList" "java/util/AbstractList" "modCount" "I") ∈ lw_all := lw_g (lw_at lw_m1 73 rfl) rfl
theorem q132 : (Jvm.Cond.superclass "java/util/ArrayList" "java/util/AbstractList") ∈ lw_all := lw_g (lw_at lw_m1 75 rfl) rfl
theorem q626 : (Jvm.Cond.castable "java/util/ArrayList" "java/util/List") ∈ lw_tbl := lw_at lw_m3 89 rfl
theorem q627 : (Jvm.Cond.selects "java/util/ArrayList" ({ cls := "java/util/List", name := "size", desc := "()I" } : Jvm.MethodName) ({ cls := "java/util/ArrayList", name := "size", desc := "()I" } : Jvm.MethodName)) ∈ lw_all := lw_g (lw_at lw_m3 90 rfl) rfl
theorem q628 : (Jvm.Cond.unhidden "java/util/ArrayList" "size" "()I") ∈ lw_tbl := lw_at lw_m3 91 rfl
theorem q629 : (Jvm.Cond.instanceMethod ({ cls := "java/util/ArrayList", name := "size", desc := "()I" } : Jvm.MethodName)) ∈ lw_all := lw_g (lw_at lw_m3 92 rfl) rfl
theorem q630 : (Jvm.Cond.publicMethod ({ cls := "java/util/ArrayList", name := "size", desc := "()I" } : Jvm.MethodName)) ∈ lw_tbl := lw_at lw_m3 93 rfl
theorem q631 : (Jvm.Cond.code ({ cls := "java/util/ArrayList", name := "size", desc := "()I" } : Jvm.MethodName) prog_34_method_8_code (1 : Nat) (Option.some Jvm.ClassFile.FieldType.int)) ∈ lw_all := lw_g (lw_at lw_m3 94 rfl) rfl
theorem q643 : (Jvm.Cond.selects "java/util/ArrayList" ({ cls := "java/util/List", name := "add", desc := "(Ljava/lang/Object;)Z" } : Jvm.MethodName) ({ cls := "java/util/ArrayList", name := "add", desc := "(Ljava/lang/Object;)Z" } : Jvm.MethodName)) ∈ lw_all := lw_g (lw_at lw_m3 106 rfl) rfl
theorem q644 : (Jvm.Cond.unhidden "java/util/ArrayList" "add" "(Ljava/lang/Object;)Z") ∈ lw_tbl := lw_at lw_m3 107 rfl
theorem q645 : (Jvm.Cond.instanceMethod ({ cls := "java/util/ArrayList", name := "add", desc := "(Ljava/lang/Object;)Z" } : Jvm.MethodName)) ∈ lw_all := lw_g (lw_at lw_m3 108 rfl) rfl
theorem q646 : (Jvm.Cond.publicMethod ({ cls := "java/util/ArrayList", name := "add", desc := "(Ljava/lang/Object;)Z" } : Jvm.MethodName)) ∈ lw_tbl := lw_at lw_m3 109 rfl
theorem q647 : (Jvm.Cond.code ({ cls := "java/util/ArrayList", name := "add", desc := "(Ljava/lang/Object;)Z" } : Jvm.MethodName) prog_34_method_25_code (2 : Nat) (Option.some Jvm.ClassFile.FieldType.boolean)) ∈ lw_all := lw_g (lw_at lw_m3 110 rfl) rfl
theorem q648 : (Jvm.Cond.methodLink "java/util/ArrayList" (131 : Nat) ({ cls := "java/util/ArrayList", name := "add", desc := "(Ljava/lang/Object;[Ljava/lang/Object;I)V" } : Jvm.MethodName)) ∈ lw_all := lw_g (lw_at lw_m3 111 rfl) rfl
theorem q649 : (Jvm.Cond.privateMethod ({ cls := "java/util/ArrayList", name := "add", desc := "(Ljava/lang/Object;[Ljava/lang/Object;I)V" } : Jvm.MethodName)) ∈ lw_tbl := lw_at lw_m3 112 rfl
theorem q650 : (Jvm.Cond.instanceMethod ({ cls := "java/util/ArrayList", name := "add", desc := "(Ljava/lang/Object;[Ljava/lang/Object;I)V" } : Jvm.MethodName)) ∈ lw_all := lw_g (lw_at lw_m3 113 rfl) rfl
theorem q651 : (Jvm.Cond.code ({ cls := "java/util/ArrayList", name := "add", desc := "(Ljava/lang/Object;[Ljava/lang/Object;I)V" } : Jvm.MethodName) prog_34_method_24_code (4 : Nat) (Option.none : Option Jvm.ClassFile.FieldType)) ∈ lw_all := lw_g (lw_at lw_m3 114 rfl) rfl
theorem q652 : (Jvm.Cond.methodLink "java/util/ArrayList" (129 : Nat) ({ cls := "java/util/ArrayList", name := "grow", desc := "()[Ljava/lang/Object;" } : Jvm.MethodName)) ∈ lw_all := lw_g (lw_at lw_m3 115 rfl) rfl
theorem q653 : (Jvm.Cond.privateMethod ({ cls := "java/util/ArrayList", name := "grow", desc := "()[Ljava/lang/Object;" } : Jvm.MethodName)) ∈ lw_tbl := lw_at lw_m3 116 rfl
theorem q654 : (Jvm.Cond.instanceMethod ({ cls := "java/util/ArrayList", name := "grow", desc := "()[Ljava/lang/Object;" } : Jvm.MethodName)) ∈ lw_all := lw_g (lw_at lw_m3 117 rfl) rfl
theorem q655 : (Jvm.Cond.code ({ cls := "java/util/ArrayList", name := "grow", desc := "()[Ljava/lang/Object;" } : Jvm.MethodName) prog_34_method_7_code (1 : Nat) (Option.some (Jvm.ClassFile.FieldType.array (Jvm.ClassFile.FieldType.object "java/lang/Object")))) ∈ lw_all := lw_g (lw_at lw_m3 118 rfl) rfl
theorem q656 : (Jvm.Cond.methodLink "java/util/ArrayList" (69 : Nat) ({ cls := "java/util/ArrayList", name := "grow", desc := "(I)[Ljava/lang/Object;" } : Jvm.MethodName)) ∈ lw_all := lw_g (lw_at lw_m3 119 rfl) rfl
theorem q657 : (Jvm.Cond.privateMethod ({ cls := "java/util/ArrayList", name := "grow", desc := "(I)[Ljava/lang/Object;" } : Jvm.MethodName)) ∈ lw_tbl := lw_at lw_m3 120 rfl
theorem q658 : (Jvm.Cond.instanceMethod ({ cls := "java/util/ArrayList", name := "grow", desc := "(I)[Ljava/lang/Object;" } : Jvm.MethodName)) ∈ lw_all := lw_g (lw_at lw_m3 121 rfl) rfl
theorem q659 : (Jvm.Cond.code ({ cls := "java/util/ArrayList", name := "grow", desc := "(I)[Ljava/lang/Object;" } : Jvm.MethodName) prog_34_method_6_code (4 : Nat) (Option.some (Jvm.ClassFile.FieldType.array (Jvm.ClassFile.FieldType.object "java/lang/Object")))) ∈ lw_all := lw_g (lw_at lw_m3 122 rfl) rfl
theorem q660 : (Jvm.Cond.methodLink "java/util/ArrayList" (73 : Nat) ({ cls := "jdk/internal/util/ArraysSupport", name := "newLength", desc := "(III)I" } : Jvm.MethodName)) ∈ lw_all := lw_g (lw_at lw_m3 123 rfl) rfl
theorem q670 : (Jvm.Cond.methodLink "java/util/ArrayList" (66 : Nat) ({ cls := "java/util/Arrays", name := "copyOf", desc := "([Ljava/lang/Object;I)[Ljava/lang/Object;" } : Jvm.MethodName)) ∈ lw_all := lw_g (lw_at lw_m3 133 rfl) rfl
theorem q691 : (Jvm.Cond.selects "java/util/ArrayList" ({ cls := "java/lang/Object", name := "getClass", desc := "()Ljava/lang/Class;" } : Jvm.MethodName) ({ cls := "java/lang/Object", name := "getClass", desc := "()Ljava/lang/Class;" } : Jvm.MethodName)) ∈ lw_all := lw_g (lw_at lw_m3 154 rfl) rfl
theorem q703 : (Jvm.Cond.methodLink "java/util/ArrayList" (79 : Nat) ({ cls := "java/lang/Math", name := "max", desc := "(II)I" } : Jvm.MethodName)) ∈ lw_all := lw_g (lw_at lw_m3 166 rfl) rfl
theorem q704 : (Jvm.Cond.classLink "java/util/ArrayList" (7 : Nat) "java/lang/Object") ∈ lw_all := lw_g (lw_at lw_m3 167 rfl) rfl
theorem q762 : (Jvm.Cond.selects "java/util/ArrayList" ({ cls := "java/util/List", name := "get", desc := "(I)Ljava/lang/Object;" } : Jvm.MethodName) ({ cls := "java/util/ArrayList", name := "get", desc := "(I)Ljava/lang/Object;" } : Jvm.MethodName)) ∈ lw_all := lw_g (lw_at lw_m3 225 rfl) rfl
theorem q763 : (Jvm.Cond.unhidden "java/util/ArrayList" "get" "(I)Ljava/lang/Object;") ∈ lw_tbl := lw_at lw_m3 226 rfl
theorem q764 : (Jvm.Cond.instanceMethod ({ cls := "java/util/ArrayList", name := "get", desc := "(I)Ljava/lang/Object;" } : Jvm.MethodName)) ∈ lw_all := lw_g (lw_at lw_m3 227 rfl) rfl
theorem q765 : (Jvm.Cond.publicMethod ({ cls := "java/util/ArrayList", name := "get", desc := "(I)Ljava/lang/Object;" } : Jvm.MethodName)) ∈ lw_tbl := lw_at lw_m3 228 rfl
theorem q766 : (Jvm.Cond.code ({ cls := "java/util/ArrayList", name := "get", desc := "(I)Ljava/lang/Object;" } : Jvm.MethodName) prog_34_method_20_code (2 : Nat) (Option.some (Jvm.ClassFile.FieldType.object "java/lang/Object"))) ∈ lw_all := lw_g (lw_at lw_m3 229 rfl) rfl
theorem q767 : (Jvm.Cond.methodLink "java/util/ArrayList" (118 : Nat) ({ cls := "java/util/Objects", name := "checkIndex", desc := "(II)I" } : Jvm.MethodName)) ∈ lw_all := lw_g (lw_at lw_m3 230 rfl) rfl
theorem q771 : (Jvm.Cond.methodLink "java/util/ArrayList" (123 : Nat) ({ cls := "java/util/ArrayList", name := "elementData", desc := "(I)Ljava/lang/Object;" } : Jvm.MethodName)) ∈ lw_all := lw_g (lw_at lw_m3 234 rfl) rfl
theorem q772 : (Jvm.Cond.instanceMethod ({ cls := "java/util/ArrayList", name := "elementData", desc := "(I)Ljava/lang/Object;" } : Jvm.MethodName)) ∈ lw_all := lw_g (lw_at lw_m3 235 rfl) rfl
theorem q773 : (Jvm.Cond.selects "java/util/ArrayList" ({ cls := "java/util/ArrayList", name := "elementData", desc := "(I)Ljava/lang/Object;" } : Jvm.MethodName) ({ cls := "java/util/ArrayList", name := "elementData", desc := "(I)Ljava/lang/Object;" } : Jvm.MethodName)) ∈ lw_all := lw_g (lw_at lw_m3 236 rfl) rfl
theorem q774 : (Jvm.Cond.code ({ cls := "java/util/ArrayList", name := "elementData", desc := "(I)Ljava/lang/Object;" } : Jvm.MethodName) prog_34_method_18_code (2 : Nat) (Option.some (Jvm.ClassFile.FieldType.object "java/lang/Object"))) ∈ lw_all := lw_g (lw_at lw_m3 237 rfl) rfl
theorem q1619 : (Jvm.Cond.castable "java/util/ArrayList" "java/lang/Object") ∈ lw_tbl := lw_at lw_m7 122 rfl
theorem in_J2 : ∀ w ∈ wsJ20, w ∈ lw_all := lw_in wsJ20 [130, 126, 128] (by decide +kernel) (by decide +kernel)
/-! java/lang/Throwable -/
set_option maxRecDepth 100000
def RJ3 : String := "java/lang/Throwable"
def TJ3 : u_T := fun k => match k with
  | 0 => ("java/lang/Throwable", "cause", "Ljava/lang/Throwable;", false)
  | 1 => ("java/lang/Throwable", "stackTrace", "[Ljava/lang/StackTraceElement;", false)
  | 2 => ("java/lang/Throwable", "suppressedExceptions", "Ljava/util/List;", false)
  | 3 => ("java/lang/Throwable", "detailMessage", "Ljava/lang/String;", false)
  | _ => ("java/lang/Throwable", "backtrace", "Ljava/lang/Object;", false)
def tyJ3 : Nat → FieldType := fun k => match k with
  | 0 => .object "java/lang/Throwable"
  | 1 => .array (.object "java/lang/StackTraceElement")
  | 2 => .object "java/util/List"
  | 3 => .object "java/lang/String"
  | _ => .object "java/lang/Object"
abbrev wsJ30 : List Cond := u_ws RJ3 TJ3 5
theorem nmJ3 : ∀ a, a < 5 → ∀ b, b < 5 → a ≠ b → (TJ3 a).2.1 ≠ (TJ3 b).2.1 := by decide +kernel
theorem tyJ3_ok : ∀ k, k < 5 → parseFieldDescriptor (TJ3 k).2.2.1 = some (tyJ3 k) := by decide +kernel
abbrev cJ3_init : ByteArray := prog_31_method_1_code
def yJ3_init : MethodName := ⟨RJ3, "<init>", "()V"⟩
def dkwJ3_init_1 : List UInt8 := [182, 0, 27, 87, 177]
abbrev dktJ3_init_1 : List UInt8 := dkwJ3_init_1 ++ []
def dkwJ3_init_0 : List UInt8 := [42, 183, 0, 1, 42, 42, 181, 0, 7, 42, 178, 0, 13, 181, 0, 17, 42, 178, 0, 20, 181, 0, 24, 42]
abbrev dktJ3_init_0 : List UInt8 := dkwJ3_init_0 ++ dktJ3_init_1
theorem dksJ3_init_0 : cJ3_init.data.toList.drop 0 = dktJ3_init_0 := by decide +kernel
theorem dksJ3_init_1 : cJ3_init.data.toList.drop 24 = dktJ3_init_1 := dk_seg dksJ3_init_0 24 rfl rfl
theorem dJ3_init_0 : decode cJ3_init 0 = .ok (.aload_n 0, 1) := dk_42 (dk_at dksJ3_init_0 0 rfl rfl)
theorem dJ3_init_1 : decode cJ3_init 1 = .ok (.invokespecial 1, 3) := dk_183 0 1 (dk_at dksJ3_init_0 1 rfl rfl)
theorem dJ3_init_4 : decode cJ3_init 4 = .ok (.aload_n 0, 1) := dk_42 (dk_at dksJ3_init_0 4 rfl rfl)
theorem dJ3_init_5 : decode cJ3_init 5 = .ok (.aload_n 0, 1) := dk_42 (dk_at dksJ3_init_0 5 rfl rfl)
theorem dJ3_init_6 : decode cJ3_init 6 = .ok (.putfield 7, 3) := dk_181 0 7 (dk_at dksJ3_init_0 6 rfl rfl)
theorem dJ3_init_9 : decode cJ3_init 9 = .ok (.aload_n 0, 1) := dk_42 (dk_at dksJ3_init_0 9 rfl rfl)
theorem dJ3_init_10 : decode cJ3_init 10 = .ok (.getstatic 13, 3) := dk_178 0 13 (dk_at dksJ3_init_0 10 rfl rfl)
theorem dJ3_init_13 : decode cJ3_init 13 = .ok (.putfield 17, 3) := dk_181 0 17 (dk_at dksJ3_init_0 13 rfl rfl)
theorem dJ3_init_16 : decode cJ3_init 16 = .ok (.aload_n 0, 1) := dk_42 (dk_at dksJ3_init_0 16 rfl rfl)
theorem dJ3_init_17 : decode cJ3_init 17 = .ok (.getstatic 20, 3) := dk_178 0 20 (dk_at dksJ3_init_0 17 rfl rfl)
theorem dJ3_init_20 : decode cJ3_init 20 = .ok (.putfield 24, 3) := dk_181 0 24 (dk_at dksJ3_init_0 20 rfl rfl)
theorem dJ3_init_23 : decode cJ3_init 23 = .ok (.aload_n 0, 1) := dk_42 (dk_at dksJ3_init_0 23 rfl rfl)
theorem dJ3_init_24 : decode cJ3_init 24 = .ok (.invokevirtual 27, 3) := dk_182 0 27 (dk_at dksJ3_init_1 0 rfl rfl)
theorem dJ3_init_27 : decode cJ3_init 27 = .ok (.pop, 1) := dk_87 (dk_at dksJ3_init_1 3 rfl rfl)
theorem dJ3_init_28 : decode cJ3_init 28 = .ok (.return_, 1) := dk_177 (dk_at dksJ3_init_1 4 rfl rfl)
abbrev cJ3_init_2 : ByteArray := prog_31_method_5_code
def yJ3_init_2 : MethodName := ⟨RJ3, "<init>", "(Ljava/lang/String;Ljava/lang/Throwable;ZZ)V"⟩
def dkwJ3_init_2_2 : List UInt8 := [44, 181, 0, 7, 29, 154, 0, 8, 42, 1, 181, 0, 24, 177]
abbrev dktJ3_init_2_2 : List UInt8 := dkwJ3_init_2_2 ++ []
def dkwJ3_init_2_1 : List UInt8 := [21, 4, 153, 0, 11, 42, 182, 0, 27, 87, 167, 0, 8, 42, 1, 181, 0, 17, 42, 43, 181, 0, 31, 42]
abbrev dktJ3_init_2_1 : List UInt8 := dkwJ3_init_2_1 ++ dktJ3_init_2_2
def dkwJ3_init_2_0 : List UInt8 := [42, 183, 0, 1, 42, 42, 181, 0, 7, 42, 178, 0, 13, 181, 0, 17, 42, 178, 0, 20, 181, 0, 24]
abbrev dktJ3_init_2_0 : List UInt8 := dkwJ3_init_2_0 ++ dktJ3_init_2_1
theorem dksJ3_init_2_0 : cJ3_init_2.data.toList.drop 0 = dktJ3_init_2_0 := by decide +kernel
theorem dksJ3_init_2_1 : cJ3_init_2.data.toList.drop 23 = dktJ3_init_2_1 := dk_seg dksJ3_init_2_0 23 rfl rfl
theorem dksJ3_init_2_2 : cJ3_init_2.data.toList.drop 47 = dktJ3_init_2_2 := dk_seg dksJ3_init_2_1 24 rfl rfl
theorem dJ3_init_2_0 : decode cJ3_init_2 0 = .ok (.aload_n 0, 1) := dk_42 (dk_at dksJ3_init_2_0 0 rfl rfl)
theorem dJ3_init_2_1 : decode cJ3_init_2 1 = .ok (.invokespecial 1, 3) := dk_183 0 1 (dk_at dksJ3_init_2_0 1 rfl rfl)
theorem dJ3_init_2_4 : decode cJ3_init_2 4 = .ok (.aload_n 0, 1) := dk_42 (dk_at dksJ3_init_2_0 4 rfl rfl)
theorem dJ3_init_2_5 : decode cJ3_init_2 5 = .ok (.aload_n 0, 1) := dk_42 (dk_at dksJ3_init_2_0 5 rfl rfl)
theorem dJ3_init_2_6 : decode cJ3_init_2 6 = .ok (.putfield 7, 3) := dk_181 0 7 (dk_at dksJ3_init_2_0 6 rfl rfl)
theorem dJ3_init_2_9 : decode cJ3_init_2 9 = .ok (.aload_n 0, 1) := dk_42 (dk_at dksJ3_init_2_0 9 rfl rfl)
theorem dJ3_init_2_10 : decode cJ3_init_2 10 = .ok (.getstatic 13, 3) := dk_178 0 13 (dk_at dksJ3_init_2_0 10 rfl rfl)
theorem dJ3_init_2_13 : decode cJ3_init_2 13 = .ok (.putfield 17, 3) := dk_181 0 17 (dk_at dksJ3_init_2_0 13 rfl rfl)
theorem dJ3_init_2_16 : decode cJ3_init_2 16 = .ok (.aload_n 0, 1) := dk_42 (dk_at dksJ3_init_2_0 16 rfl rfl)
theorem dJ3_init_2_17 : decode cJ3_init_2 17 = .ok (.getstatic 20, 3) := dk_178 0 20 (dk_at dksJ3_init_2_0 17 rfl rfl)
theorem dJ3_init_2_20 : decode cJ3_init_2 20 = .ok (.putfield 24, 3) := dk_181 0 24 (dk_at dksJ3_init_2_0 20 rfl rfl)
theorem dJ3_init_2_23 : decode cJ3_init_2 23 = .ok (.iload 4, 2) := dk_21 4 (dk_at dksJ3_init_2_1 0 rfl rfl)
theorem dJ3_init_2_25 : decode cJ3_init_2 25 = .ok (.ifCond .eq 11, 3) := dk_153 0 11 (dk_at dksJ3_init_2_1 2 rfl rfl)
theorem dJ3_init_2_28 : decode cJ3_init_2 28 = .ok (.aload_n 0, 1) := dk_42 (dk_at dksJ3_init_2_1 5 rfl rfl)
theorem dJ3_init_2_29 : decode cJ3_init_2 29 = .ok (.invokevirtual 27, 3) := dk_182 0 27 (dk_at dksJ3_init_2_1 6 rfl rfl)
theorem dJ3_init_2_32 : decode cJ3_init_2 32 = .ok (.pop, 1) := dk_87 (dk_at dksJ3_init_2_1 9 rfl rfl)
theorem dJ3_init_2_33 : decode cJ3_init_2 33 = .ok (.goto 8, 3) := dk_167 0 8 (dk_at dksJ3_init_2_1 10 rfl rfl)
theorem dJ3_init_2_36 : decode cJ3_init_2 36 = .ok (.aload_n 0, 1) := dk_42 (dk_at dksJ3_init_2_1 13 rfl rfl)
theorem dJ3_init_2_37 : decode cJ3_init_2 37 = .ok (.aconst_null, 1) := dk_1 (dk_at dksJ3_init_2_1 14 rfl rfl)
theorem dJ3_init_2_38 : decode cJ3_init_2 38 = .ok (.putfield 17, 3) := dk_181 0 17 (dk_at dksJ3_init_2_1 15 rfl rfl)
theorem dJ3_init_2_41 : decode cJ3_init_2 41 = .ok (.aload_n 0, 1) := dk_42 (dk_at dksJ3_init_2_1 18 rfl rfl)
theorem dJ3_init_2_42 : decode cJ3_init_2 42 = .ok (.aload_n 1, 1) := dk_43 (dk_at dksJ3_init_2_1 19 rfl rfl)
theorem dJ3_init_2_43 : decode cJ3_init_2 43 = .ok (.putfield 31, 3) := dk_181 0 31 (dk_at dksJ3_init_2_1 20 rfl rfl)
theorem dJ3_init_2_46 : decode cJ3_init_2 46 = .ok (.aload_n 0, 1) := dk_42 (dk_at dksJ3_init_2_1 23 rfl rfl)
theorem dJ3_init_2_47 : decode cJ3_init_2 47 = .ok (.aload_n 2, 1) := dk_44 (dk_at dksJ3_init_2_2 0 rfl rfl)
theorem dJ3_init_2_48 : decode cJ3_init_2 48 = .ok (.putfield 7, 3) := dk_181 0 7 (dk_at dksJ3_init_2_2 1 rfl rfl)
theorem dJ3_init_2_51 : decode cJ3_init_2 51 = .ok (.iload_n 3, 1) := dk_29 (dk_at dksJ3_init_2_2 4 rfl rfl)
theorem dJ3_init_2_52 : decode cJ3_init_2 52 = .ok (.ifCond .ne 8, 3) := dk_154 0 8 (dk_at dksJ3_init_2_2 5 rfl rfl)
theorem dJ3_init_2_55 : decode cJ3_init_2 55 = .ok (.aload_n 0, 1) := dk_42 (dk_at dksJ3_init_2_2 8 rfl rfl)
theorem dJ3_init_2_56 : decode cJ3_init_2 56 = .ok (.aconst_null, 1) := dk_1 (dk_at dksJ3_init_2_2 9 rfl rfl)
theorem dJ3_init_2_57 : decode cJ3_init_2 57 = .ok (.putfield 24, 3) := dk_181 0 24 (dk_at dksJ3_init_2_2 10 rfl rfl)
theorem dJ3_init_2_60 : decode cJ3_init_2 60 = .ok (.return_, 1) := dk_177 (dk_at dksJ3_init_2_2 13 rfl rfl)
abbrev cJ3_init_3 : ByteArray := prog_31_method_2_code
def yJ3_init_3 : MethodName := ⟨RJ3, "<init>", "(Ljava/lang/String;)V"⟩
def dkwJ3_init_3_1 : List UInt8 := [182, 0, 27, 87, 42, 43, 181, 0, 31, 177]
abbrev dktJ3_init_3_1 : List UInt8 := dkwJ3_init_3_1 ++ []
def dkwJ3_init_3_0 : List UInt8 := [42, 183, 0, 1, 42, 42, 181, 0, 7, 42, 178, 0, 13, 181, 0, 17, 42, 178, 0, 20, 181, 0, 24, 42]
abbrev dktJ3_init_3_0 : List UInt8 := dkwJ3_init_3_0 ++ dktJ3_init_3_1
theorem dksJ3_init_3_0 : cJ3_init_3.data.toList.drop 0 = dktJ3_init_3_0 := by decide +kernel
theorem dksJ3_init_3_1 : cJ3_init_3.data.toList.drop 24 = dktJ3_init_3_1 := dk_seg dksJ3_init_3_0 24 rfl rfl
theorem dJ3_init_3_0 : decode cJ3_init_3 0 = .ok (.aload_n 0, 1) := dk_42 (dk_at dksJ3_init_3_0 0 rfl rfl)
theorem dJ3_init_3_1 : decode cJ3_init_3 1 = .ok (.invokespecial 1, 3) := dk_183 0 1 (dk_at dksJ3_init_3_0 1 rfl rfl)
theorem dJ3_init_3_4 : decode cJ3_init_3 4 = .ok (.aload_n 0, 1) := dk_42 (dk_at dksJ3_init_3_0 4 rfl rfl)
theorem dJ3_init_3_5 : decode cJ3_init_3 5 = .ok (.aload_n 0, 1) := dk_42 (dk_at dksJ3_init_3_0 5 rfl rfl)
theorem dJ3_init_3_6 : decode cJ3_init_3 6 = .ok (.putfield 7, 3) := dk_181 0 7 (dk_at dksJ3_init_3_0 6 rfl rfl)
theorem dJ3_init_3_9 : decode cJ3_init_3 9 = .ok (.aload_n 0, 1) := dk_42 (dk_at dksJ3_init_3_0 9 rfl rfl)
theorem dJ3_init_3_10 : decode cJ3_init_3 10 = .ok (.getstatic 13, 3) := dk_178 0 13 (dk_at dksJ3_init_3_0 10 rfl rfl)
theorem dJ3_init_3_13 : decode cJ3_init_3 13 = .ok (.putfield 17, 3) := dk_181 0 17 (dk_at dksJ3_init_3_0 13 rfl rfl)
theorem dJ3_init_3_16 : decode cJ3_init_3 16 = .ok (.aload_n 0, 1) := dk_42 (dk_at dksJ3_init_3_0 16 rfl rfl)
theorem dJ3_init_3_17 : decode cJ3_init_3 17 = .ok (.getstatic 20, 3) := dk_178 0 20 (dk_at dksJ3_init_3_0 17 rfl rfl)
theorem dJ3_init_3_20 : decode cJ3_init_3 20 = .ok (.putfield 24, 3) := dk_181 0 24 (dk_at dksJ3_init_3_0 20 rfl rfl)
theorem dJ3_init_3_23 : decode cJ3_init_3 23 = .ok (.aload_n 0, 1) := dk_42 (dk_at dksJ3_init_3_0 23 rfl rfl)
theorem dJ3_init_3_24 : decode cJ3_init_3 24 = .ok (.invokevirtual 27, 3) := dk_182 0 27 (dk_at dksJ3_init_3_1 0 rfl rfl)
theorem dJ3_init_3_27 : decode cJ3_init_3 27 = .ok (.pop, 1) := dk_87 (dk_at dksJ3_init_3_1 3 rfl rfl)
theorem dJ3_init_3_28 : decode cJ3_init_3 28 = .ok (.aload_n 0, 1) := dk_42 (dk_at dksJ3_init_3_1 4 rfl rfl)
theorem dJ3_init_3_29 : decode cJ3_init_3 29 = .ok (.aload_n 1, 1) := dk_43 (dk_at dksJ3_init_3_1 5 rfl rfl)
theorem dJ3_init_3_30 : decode cJ3_init_3 30 = .ok (.putfield 31, 3) := dk_181 0 31 (dk_at dksJ3_init_3_1 6 rfl rfl)
theorem dJ3_init_3_33 : decode cJ3_init_3 33 = .ok (.return_, 1) := dk_177 (dk_at dksJ3_init_3_1 9 rfl rfl)
theorem q71 : (Jvm.Cond.initialized "java/lang/Throwable") ∈ lw_all := lw_g (lw_at lw_m1 14 rfl) rfl
theorem q314 : (Jvm.Cond.declares ({ cls := "java/lang/Throwable", name := "<init>", desc := "()V" } : Jvm.MethodName)) ∈ lw_tbl := lw_at lw_m2 17 rfl
theorem q315 : (Jvm.Cond.declares ({ cls := "java/lang/Throwable", name := "<init>", desc := "(Ljava/lang/String;)V" } : Jvm.MethodName)) ∈ lw_tbl := lw_at lw_m2 18 rfl
theorem q319 : (Jvm.Cond.lays "java/lang/Throwable" "java/lang/Throwable" "cause" "Ljava/lang/Throwable;") ∈ lw_all := lw_g (lw_at lw_m2 22 rfl) rfl
theorem q321 : (Jvm.Cond.lays "java/lang/Throwable" "java/lang/Throwable" "stackTrace" "[Ljava/lang/StackTraceElement;") ∈ lw_all := lw_g (lw_at lw_m2 24 rfl) rfl
theorem q323 : (Jvm.Cond.lays "java/lang/Throwable" "java/lang/Throwable" "suppressedExceptions" "Ljava/util/List;") ∈ lw_all := lw_g (lw_at lw_m2 26 rfl) rfl
theorem q325 : (Jvm.Cond.lays "java/lang/Throwable" "java/lang/Throwable" "detailMessage" "Ljava/lang/String;") ∈ lw_all := lw_g (lw_at lw_m2 28 rfl) rfl
theorem q327 : (Jvm.Cond.lays "java/lang/Throwable" "java/lang/Throwable" "backtrace" "Ljava/lang/Object;") ∈ lw_all := lw_g (lw_at lw_m2 30 rfl) rfl
theorem q328 : (Jvm.Cond.fieldLink "java/lang/Throwable" (198 : Nat) "java/lang/Throwable" "backtrace" "Ljava/lang/Object;") ∈ lw_all := lw_g (lw_at lw_m2 31 rfl) rfl
theorem q329 : (Jvm.Cond.superclass "java/lang/Throwable" "java/lang/Object") ∈ lw_all := lw_g (lw_at lw_m2 32 rfl) rfl
theorem q330 : (Jvm.Cond.instanceMethod ({ cls := "java/lang/Throwable", name := "<init>", desc := "()V" } : Jvm.MethodName)) ∈ lw_all := lw_g (lw_at lw_m2 33 rfl) rfl
theorem q331 : (Jvm.Cond.code ({ cls := "java/lang/Throwable", name := "<init>", desc := "()V" } : Jvm.MethodName) prog_31_method_1_code (1 : Nat) (Option.none : Option Jvm.ClassFile.FieldType)) ∈ lw_all := lw_g (lw_at lw_m2 34 rfl) rfl
theorem q332 : (Jvm.Cond.methodLink "java/lang/Throwable" (1 : Nat) ({ cls := "java/lang/Object", name := "<init>", desc := "()V" } : Jvm.MethodName)) ∈ lw_all := lw_g (lw_at lw_m2 35 rfl) rfl
theorem q333 : (Jvm.Cond.fieldLink "java/lang/Throwable" (13 : Nat) "java/lang/Throwable" "UNASSIGNED_STACK" "[Ljava/lang/StackTraceElement;") ∈ lw_all := lw_g (lw_at lw_m2 36 rfl) rfl
theorem q334 : (Jvm.Cond.laysStatic "java/lang/Throwable" "UNASSIGNED_STACK" "[Ljava/lang/StackTraceElement;") ∈ lw_tbl := lw_at lw_m2 37 rfl
theorem q335 : (Jvm.Cond.fieldLink "java/lang/Throwable" (20 : Nat) "java/lang/Throwable" "SUPPRESSED_SENTINEL" "Ljava/util/List;") ∈ lw_all := lw_g (lw_at lw_m2 38 rfl) rfl
theorem q336 : (Jvm.Cond.laysStatic "java/lang/Throwable" "SUPPRESSED_SENTINEL" "Ljava/util/List;") ∈ lw_tbl := lw_at lw_m2 39 rfl
theorem q337 : (Jvm.Cond.methodLink "java/lang/Throwable" (27 : Nat) ({ cls := "java/lang/Throwable", name := "fillInStackTrace", desc := "()Ljava/lang/Throwable;" } : Jvm.MethodName)) ∈ lw_all := lw_g (lw_at lw_m2 40 rfl) rfl
theorem q338 : (Jvm.Cond.instanceMethod ({ cls := "java/lang/Throwable", name := "fillInStackTrace", desc := "()Ljava/lang/Throwable;" } : Jvm.MethodName)) ∈ lw_all := lw_g (lw_at lw_m2 41 rfl) rfl
theorem q339 : (Jvm.Cond.sameMethod "java/lang/Throwable" "java/lang/Throwable" "fillInStackTrace" "()Ljava/lang/Throwable;") ∈ lw_all := lw_g (lw_at lw_m2 42 rfl) rfl
theorem q343 : (Jvm.Cond.codeSync ({ cls := "java/lang/Throwable", name := "fillInStackTrace", desc := "()Ljava/lang/Throwable;" } : Jvm.MethodName) prog_31_method_18_code (1 : Nat) (Option.some (Jvm.ClassFile.FieldType.object "java/lang/Throwable"))) ∈ lw_all := lw_g (lw_at lw_m2 46 rfl) rfl
theorem q344 : (Jvm.Cond.methodLink "java/lang/Throwable" (202 : Nat) ({ cls := "java/lang/Throwable", name := "fillInStackTrace", desc := "(I)Ljava/lang/Throwable;" } : Jvm.MethodName)) ∈ lw_all := lw_g (lw_at lw_m2 47 rfl) rfl
theorem q345 : (Jvm.Cond.privateMethod ({ cls := "java/lang/Throwable", name := "fillInStackTrace", desc := "(I)Ljava/lang/Throwable;" } : Jvm.MethodName)) ∈ lw_tbl := lw_at lw_m2 48 rfl
theorem q346 : (Jvm.Cond.instanceMethod ({ cls := "java/lang/Throwable", name := "fillInStackTrace", desc := "(I)Ljava/lang/Throwable;" } : Jvm.MethodName)) ∈ lw_all := lw_g (lw_at lw_m2 49 rfl) rfl
theorem q347 : (Jvm.Cond.instantiable "java/lang/Throwable" (6 : Nat)) ∈ lw_all := lw_g (lw_at lw_m2 50 rfl) rfl
theorem q348 : (Jvm.Cond.native ({ cls := "java/lang/Throwable", name := "fillInStackTrace", desc := "(I)Ljava/lang/Throwable;" } : Jvm.MethodName)) ∈ lw_all := lw_g (lw_at lw_m2 51 rfl) rfl
theorem q356 : (Jvm.Cond.instanceMethod ({ cls := "java/lang/Throwable", name := "<init>", desc := "(Ljava/lang/String;Ljava/lang/Throwable;ZZ)V" } : Jvm.MethodName)) ∈ lw_all := lw_g (lw_at lw_m2 59 rfl) rfl
theorem q357 : (Jvm.Cond.code ({ cls := "java/lang/Throwable", name := "<init>", desc := "(Ljava/lang/String;Ljava/lang/Throwable;ZZ)V" } : Jvm.MethodName) prog_31_method_5_code (5 : Nat) (Option.none : Option Jvm.ClassFile.FieldType)) ∈ lw_all := lw_g (lw_at lw_m2 60 rfl) rfl
theorem q360 : (Jvm.Cond.fieldLink "java/lang/Throwable" (198 : Nat) "java/lang/Throwable" "backtrace" "Ljava/lang/Object;") ∈ lw_all := lw_g (lw_at lw_m2 63 rfl) rfl
theorem q361 : (Jvm.Cond.fieldLink "java/lang/Throwable" (31 : Nat) "java/lang/Throwable" "detailMessage" "Ljava/lang/String;") ∈ lw_all := lw_g (lw_at lw_m2 64 rfl) rfl
theorem q362 : (Jvm.Cond.fieldLink "java/lang/Throwable" (7 : Nat) "java/lang/Throwable" "cause" "Ljava/lang/Throwable;") ∈ lw_all := lw_g (lw_at lw_m2 65 rfl) rfl
theorem q363 : (Jvm.Cond.fieldLink "java/lang/Throwable" (17 : Nat) "java/lang/Throwable" "stackTrace" "[Ljava/lang/StackTraceElement;") ∈ lw_all := lw_g (lw_at lw_m2 66 rfl) rfl
theorem q364 : (Jvm.Cond.fieldLink "java/lang/Throwable" (24 : Nat) "java/lang/Throwable" "suppressedExceptions" "Ljava/util/List;") ∈ lw_all := lw_g (lw_at lw_m2 67 rfl) rfl
theorem q367 : (Jvm.Cond.soleField "java/lang/Throwable" "backtrace") ∈ lw_all := lw_g (lw_at lw_m2 70 rfl) rfl
theorem q368 : (Jvm.Cond.soleField "java/lang/Throwable" "detailMessage") ∈ lw_all := lw_g (lw_at lw_m2 71 rfl) rfl
theorem q369 : (Jvm.Cond.soleField "java/lang/Throwable" "cause") ∈ lw_all := lw_g (lw_at lw_m2 72 rfl) rfl
theorem q370 : (Jvm.Cond.soleField "java/lang/Throwable" "stackTrace") ∈ lw_all := lw_g (lw_at lw_m2 73 rfl) rfl
theorem q372 : (Jvm.Cond.soleField "java/lang/Throwable" "depth") ∈ lw_all := lw_g (lw_at lw_m2 75 rfl) rfl
theorem q373 : (Jvm.Cond.soleField "java/lang/Throwable" "suppressedExceptions") ∈ lw_all := lw_g (lw_at lw_m2 76 rfl) rfl
theorem q428 : (Jvm.Cond.instanceMethod ({ cls := "java/lang/Throwable", name := "<init>", desc := "(Ljava/lang/String;)V" } : Jvm.MethodName)) ∈ lw_all := lw_g (lw_at lw_m2 131 rfl) rfl
theorem q429 : (Jvm.Cond.code ({ cls := "java/lang/Throwable", name := "<init>", desc := "(Ljava/lang/String;)V" } : Jvm.MethodName) prog_31_method_2_code (2 : Nat) (Option.none : Option Jvm.ClassFile.FieldType)) ∈ lw_all := lw_g (lw_at lw_m2 132 rfl) rfl
theorem q1601 : (Jvm.Cond.sameMethod "java/lang/Throwable" "java/lang/Throwable" "fillInStackTrace" "(I)Ljava/lang/Throwable;") ∈ lw_all := lw_g (lw_at lw_m7 104 rfl) rfl
theorem q1632 : (Jvm.Cond.castable "java/lang/Throwable" "java/lang/Object") ∈ lw_tbl := lw_at lw_m7 135 rfl
theorem in_J3 : ∀ w ∈ wsJ30, w ∈ lw_all := lw_in wsJ30 [319, 321, 323, 325, 327] (by decide +kernel) (by decide +kernel)
/-! java/lang/Exception -/
set_option maxRecDepth 100000
def RJ4 : String := "java/lang/Exception"
abbrev cJ4_init : ByteArray := prog_21_method_5_code
def yJ4_init : MethodName := ⟨RJ4, "<init>", "(Ljava/lang/String;Ljava/lang/Throwable;ZZ)V"⟩
def dkwJ4_init_0 : List UInt8 := [42, 43, 44, 29, 21, 4, 183, 0, 16, 177]
abbrev dktJ4_init_0 : List UInt8 := dkwJ4_init_0 ++ []
theorem dksJ4_init_0 : cJ4_init.data.toList.drop 0 = dktJ4_init_0 := by decide +kernel
theorem dJ4_init_0 : decode cJ4_init 0 = .ok (.aload_n 0, 1) := dk_42 (dk_at dksJ4_init_0 0 rfl rfl)
theorem dJ4_init_1 : decode cJ4_init 1 = .ok (.aload_n 1, 1) := dk_43 (dk_at dksJ4_init_0 1 rfl rfl)
theorem dJ4_init_2 : decode cJ4_init 2 = .ok (.aload_n 2, 1) := dk_44 (dk_at dksJ4_init_0 2 rfl rfl)
theorem dJ4_init_3 : decode cJ4_init 3 = .ok (.iload_n 3, 1) := dk_29 (dk_at dksJ4_init_0 3 rfl rfl)
theorem dJ4_init_4 : decode cJ4_init 4 = .ok (.iload 4, 2) := dk_21 4 (dk_at dksJ4_init_0 4 rfl rfl)
theorem dJ4_init_6 : decode cJ4_init 6 = .ok (.invokespecial 16, 3) := dk_183 0 16 (dk_at dksJ4_init_0 6 rfl rfl)
theorem dJ4_init_9 : decode cJ4_init 9 = .ok (.return_, 1) := dk_177 (dk_at dksJ4_init_0 9 rfl rfl)
abbrev cJ4_init_2 : ByteArray := prog_21_method_2_code
def yJ4_init_2 : MethodName := ⟨RJ4, "<init>", "(Ljava/lang/String;)V"⟩
def dkwJ4_init_2_0 : List UInt8 := [42, 43, 183, 0, 7, 177]
abbrev dktJ4_init_2_0 : List UInt8 := dkwJ4_init_2_0 ++ []
theorem dksJ4_init_2_0 : cJ4_init_2.data.toList.drop 0 = dktJ4_init_2_0 := by decide +kernel
theorem dJ4_init_2_0 : decode cJ4_init_2 0 = .ok (.aload_n 0, 1) := dk_42 (dk_at dksJ4_init_2_0 0 rfl rfl)
theorem dJ4_init_2_1 : decode cJ4_init_2 1 = .ok (.aload_n 1, 1) := dk_43 (dk_at dksJ4_init_2_0 1 rfl rfl)
theorem dJ4_init_2_2 : decode cJ4_init_2 2 = .ok (.invokespecial 7, 3) := dk_183 0 7 (dk_at dksJ4_init_2_0 2 rfl rfl)
theorem dJ4_init_2_5 : decode cJ4_init_2 5 = .ok (.return_, 1) := dk_177 (dk_at dksJ4_init_2_0 5 rfl rfl)
theorem q72 : (Jvm.Cond.initialized "java/lang/Exception") ∈ lw_all := lw_g (lw_at lw_m1 15 rfl) rfl
theorem q312 : (Jvm.Cond.declares ({ cls := "java/lang/Exception", name := "<init>", desc := "()V" } : Jvm.MethodName)) ∈ lw_tbl := lw_at lw_m2 15 rfl
theorem q313 : (Jvm.Cond.declares ({ cls := "java/lang/Exception", name := "<init>", desc := "(Ljava/lang/String;)V" } : Jvm.MethodName)) ∈ lw_tbl := lw_at lw_m2 16 rfl
theorem q353 : (Jvm.Cond.instanceMethod ({ cls := "java/lang/Exception", name := "<init>", desc := "(Ljava/lang/String;Ljava/lang/Throwable;ZZ)V" } : Jvm.MethodName)) ∈ lw_all := lw_g (lw_at lw_m2 56 rfl) rfl
theorem q354 : (Jvm.Cond.code ({ cls := "java/lang/Exception", name := "<init>", desc := "(Ljava/lang/String;Ljava/lang/Throwable;ZZ)V" } : Jvm.MethodName) prog_21_method_5_code (5 : Nat) (Option.none : Option Jvm.ClassFile.FieldType)) ∈ lw_all := lw_g (lw_at lw_m2 57 rfl) rfl
theorem q355 : (Jvm.Cond.methodLink "java/lang/Exception" (16 : Nat) ({ cls := "java/lang/Throwable", name := "<init>", desc := "(Ljava/lang/String;Ljava/lang/Throwable;ZZ)V" } : Jvm.MethodName)) ∈ lw_all := lw_g (lw_at lw_m2 58 rfl) rfl
theorem q425 : (Jvm.Cond.instanceMethod ({ cls := "java/lang/Exception", name := "<init>", desc := "(Ljava/lang/String;)V" } : Jvm.MethodName)) ∈ lw_all := lw_g (lw_at lw_m2 128 rfl) rfl
theorem q426 : (Jvm.Cond.code ({ cls := "java/lang/Exception", name := "<init>", desc := "(Ljava/lang/String;)V" } : Jvm.MethodName) prog_21_method_2_code (2 : Nat) (Option.none : Option Jvm.ClassFile.FieldType)) ∈ lw_all := lw_g (lw_at lw_m2 129 rfl) rfl
theorem q427 : (Jvm.Cond.methodLink "java/lang/Exception" (7 : Nat) ({ cls := "java/lang/Throwable", name := "<init>", desc := "(Ljava/lang/String;)V" } : Jvm.MethodName)) ∈ lw_all := lw_g (lw_at lw_m2 130 rfl) rfl
/-! java/lang/RuntimeException -/
set_option maxRecDepth 100000
def RJ5 : String := "java/lang/RuntimeException"
abbrev cJ5_init : ByteArray := prog_26_method_2_code
def yJ5_init : MethodName := ⟨RJ5, "<init>", "(Ljava/lang/String;)V"⟩
def dkwJ5_init_0 : List UInt8 := [42, 43, 183, 0, 7, 177]
abbrev dktJ5_init_0 : List UInt8 := dkwJ5_init_0 ++ []
theorem dksJ5_init_0 : cJ5_init.data.toList.drop 0 = dktJ5_init_0 := by decide +kernel
theorem dJ5_init_0 : decode cJ5_init 0 = .ok (.aload_n 0, 1) := dk_42 (dk_at dksJ5_init_0 0 rfl rfl)
theorem dJ5_init_1 : decode cJ5_init 1 = .ok (.aload_n 1, 1) := dk_43 (dk_at dksJ5_init_0 1 rfl rfl)
theorem dJ5_init_2 : decode cJ5_init 2 = .ok (.invokespecial 7, 3) := dk_183 0 7 (dk_at dksJ5_init_0 2 rfl rfl)
theorem dJ5_init_5 : decode cJ5_init 5 = .ok (.return_, 1) := dk_177 (dk_at dksJ5_init_0 5 rfl rfl)
theorem q75 : (Jvm.Cond.initialized "java/lang/RuntimeException") ∈ lw_all := lw_g (lw_at lw_m1 18 rfl) rfl
theorem q422 : (Jvm.Cond.instanceMethod ({ cls := "java/lang/RuntimeException", name := "<init>", desc := "(Ljava/lang/String;)V" } : Jvm.MethodName)) ∈ lw_all := lw_g (lw_at lw_m2 125 rfl) rfl
theorem q423 : (Jvm.Cond.code ({ cls := "java/lang/RuntimeException", name := "<init>", desc := "(Ljava/lang/String;)V" } : Jvm.MethodName) prog_26_method_2_code (2 : Nat) (Option.none : Option Jvm.ClassFile.FieldType)) ∈ lw_all := lw_g (lw_at lw_m2 126 rfl) rfl
theorem q424 : (Jvm.Cond.methodLink "java/lang/RuntimeException" (7 : Nat) ({ cls := "java/lang/Exception", name := "<init>", desc := "(Ljava/lang/String;)V" } : Jvm.MethodName)) ∈ lw_all := lw_g (lw_at lw_m2 127 rfl) rfl
theorem q440 : (Jvm.Cond.declares ({ cls := "java/lang/RuntimeException", name := "<init>", desc := "()V" } : Jvm.MethodName)) ∈ lw_tbl := lw_at lw_m2 143 rfl
theorem q441 : (Jvm.Cond.declares ({ cls := "java/lang/RuntimeException", name := "<init>", desc := "(Ljava/lang/String;)V" } : Jvm.MethodName)) ∈ lw_tbl := lw_at lw_m2 144 rfl
/-! java/lang/IndexOutOfBoundsException -/
set_option maxRecDepth 100000
def RJ6 : String := "java/lang/IndexOutOfBoundsException"
abbrev cJ6_init : ByteArray := prog_22_method_2_code
def yJ6_init : MethodName := ⟨RJ6, "<init>", "(Ljava/lang/String;)V"⟩
def dkwJ6_init_0 : List UInt8 := [42, 43, 183, 0, 7, 177]
abbrev dktJ6_init_0 : List UInt8 := dkwJ6_init_0 ++ []
theorem dksJ6_init_0 : cJ6_init.data.toList.drop 0 = dktJ6_init_0 := by decide +kernel
theorem dJ6_init_0 : decode cJ6_init 0 = .ok (.aload_n 0, 1) := dk_42 (dk_at dksJ6_init_0 0 rfl rfl)
theorem dJ6_init_1 : decode cJ6_init 1 = .ok (.aload_n 1, 1) := dk_43 (dk_at dksJ6_init_0 1 rfl rfl)
theorem dJ6_init_2 : decode cJ6_init 2 = .ok (.invokespecial 7, 3) := dk_183 0 7 (dk_at dksJ6_init_0 2 rfl rfl)
theorem dJ6_init_5 : decode cJ6_init 5 = .ok (.return_, 1) := dk_177 (dk_at dksJ6_init_0 5 rfl rfl)
theorem q76 : (Jvm.Cond.initialized "java/lang/IndexOutOfBoundsException") ∈ lw_all := lw_g (lw_at lw_m1 19 rfl) rfl
theorem q419 : (Jvm.Cond.instanceMethod ({ cls := "java/lang/IndexOutOfBoundsException", name := "<init>", desc := "(Ljava/lang/String;)V" } : Jvm.MethodName)) ∈ lw_all := lw_g (lw_at lw_m2 122 rfl) rfl
theorem q420 : (Jvm.Cond.code ({ cls := "java/lang/IndexOutOfBoundsException", name := "<init>", desc := "(Ljava/lang/String;)V" } : Jvm.MethodName) prog_22_method_2_code (2 : Nat) (Option.none : Option Jvm.ClassFile.FieldType)) ∈ lw_all := lw_g (lw_at lw_m2 123 rfl) rfl
theorem q421 : (Jvm.Cond.methodLink "java/lang/IndexOutOfBoundsException" (7 : Nat) ({ cls := "java/lang/RuntimeException", name := "<init>", desc := "(Ljava/lang/String;)V" } : Jvm.MethodName)) ∈ lw_all := lw_g (lw_at lw_m2 124 rfl) rfl
theorem q438 : (Jvm.Cond.declares ({ cls := "java/lang/IndexOutOfBoundsException", name := "<init>", desc := "()V" } : Jvm.MethodName)) ∈ lw_tbl := lw_at lw_m2 141 rfl
theorem q439 : (Jvm.Cond.declares ({ cls := "java/lang/IndexOutOfBoundsException", name := "<init>", desc := "(Ljava/lang/String;)V" } : Jvm.MethodName)) ∈ lw_tbl := lw_at lw_m2 142 rfl
/-! java/lang/ArrayIndexOutOfBoundsException -/
set_option maxRecDepth 100000
def RJ7 : String := "java/lang/ArrayIndexOutOfBoundsException"
def TJ7 : u_T := fun k => match k with
  | 0 => ("java/lang/Throwable", "backtrace", "Ljava/lang/Object;", false)
  | 1 => ("java/lang/Throwable", "detailMessage", "Ljava/lang/String;", false)
  | 2 => ("java/lang/Throwable", "cause", "Ljava/lang/Throwable;", false)
  | 3 => ("java/lang/Throwable", "stackTrace", "[Ljava/lang/StackTraceElement;", false)
  | 4 => ("java/lang/Throwable", "depth", "I", false)
  | _ => ("java/lang/Throwable", "suppressedExceptions", "Ljava/util/List;", false)
def tyJ7 : Nat → FieldType := fun k => match k with
  | 0 => .object "java/lang/Object"
  | 1 => .object "java/lang/String"
  | 2 => .object "java/lang/Throwable"
  | 3 => .array (.object "java/lang/StackTraceElement")
  | 4 => .int
  | _ => .object "java/util/List"
abbrev wsJ70 : List Cond := u_ws RJ7 TJ7 6
theorem nmJ7 : ∀ a, a < 6 → ∀ b, b < 6 → a ≠ b → (TJ7 a).2.1 ≠ (TJ7 b).2.1 := by decide +kernel
theorem tyJ7_ok : ∀ k, k < 6 → parseFieldDescriptor (TJ7 k).2.2.1 = some (tyJ7 k) := by decide +kernel
abbrev cJ7_init : ByteArray := prog_18_method_2_code
def yJ7_init : MethodName := ⟨RJ7, "<init>", "(Ljava/lang/String;)V"⟩
def dkwJ7_init_0 : List UInt8 := [42, 43, 183, 0, 7, 177]
abbrev dktJ7_init_0 : List UInt8 := dkwJ7_init_0 ++ []
theorem dksJ7_init_0 : cJ7_init.data.toList.drop 0 = dktJ7_init_0 := by decide +kernel
theorem dJ7_init_0 : decode cJ7_init 0 = .ok (.aload_n 0, 1) := dk_42 (dk_at dksJ7_init_0 0 rfl rfl)
theorem dJ7_init_1 : decode cJ7_init 1 = .ok (.aload_n 1, 1) := dk_43 (dk_at dksJ7_init_0 1 rfl rfl)
theorem dJ7_init_2 : decode cJ7_init 2 = .ok (.invokespecial 7, 3) := dk_183 0 7 (dk_at dksJ7_init_0 2 rfl rfl)
theorem dJ7_init_5 : decode cJ7_init 5 = .ok (.return_, 1) := dk_177 (dk_at dksJ7_init_0 5 rfl rfl)
theorem q77 : (Jvm.Cond.initialized "java/lang/ArrayIndexOutOfBoundsException") ∈ lw_all := lw_g (lw_at lw_m1 20 rfl) rfl
theorem q341 : (Jvm.Cond.selects "java/lang/ArrayIndexOutOfBoundsException" ({ cls := "java/lang/Throwable", name := "fillInStackTrace", desc := "()Ljava/lang/Throwable;" } : Jvm.MethodName) ({ cls := "java/lang/Throwable", name := "fillInStackTrace", desc := "()Ljava/lang/Throwable;" } : Jvm.MethodName)) ∈ lw_all := lw_g (lw_at lw_m2 44 rfl) rfl
theorem q415 : (Jvm.Cond.instantiable "java/lang/ArrayIndexOutOfBoundsException" (6 : Nat)) ∈ lw_all := lw_g (lw_at lw_m2 118 rfl) rfl
theorem q416 : (Jvm.Cond.instanceMethod ({ cls := "java/lang/ArrayIndexOutOfBoundsException", name := "<init>", desc := "(Ljava/lang/String;)V" } : Jvm.MethodName)) ∈ lw_all := lw_g (lw_at lw_m2 119 rfl) rfl
theorem q417 : (Jvm.Cond.code ({ cls := "java/lang/ArrayIndexOutOfBoundsException", name := "<init>", desc := "(Ljava/lang/String;)V" } : Jvm.MethodName) prog_18_method_2_code (2 : Nat) (Option.none : Option Jvm.ClassFile.FieldType)) ∈ lw_all := lw_g (lw_at lw_m2 120 rfl) rfl
theorem q418 : (Jvm.Cond.methodLink "java/lang/ArrayIndexOutOfBoundsException" (7 : Nat) ({ cls := "java/lang/IndexOutOfBoundsException", name := "<init>", desc := "(Ljava/lang/String;)V" } : Jvm.MethodName)) ∈ lw_all := lw_g (lw_at lw_m2 121 rfl) rfl
theorem q430 : (Jvm.Cond.lays "java/lang/ArrayIndexOutOfBoundsException" "java/lang/Throwable" "backtrace" "Ljava/lang/Object;") ∈ lw_all := lw_g (lw_at lw_m2 133 rfl) rfl
theorem q431 : (Jvm.Cond.lays "java/lang/ArrayIndexOutOfBoundsException" "java/lang/Throwable" "detailMessage" "Ljava/lang/String;") ∈ lw_all := lw_g (lw_at lw_m2 134 rfl) rfl
theorem q432 : (Jvm.Cond.lays "java/lang/ArrayIndexOutOfBoundsException" "java/lang/Throwable" "cause" "Ljava/lang/Throwable;") ∈ lw_all := lw_g (lw_at lw_m2 135 rfl) rfl
theorem q433 : (Jvm.Cond.lays "java/lang/ArrayIndexOutOfBoundsException" "java/lang/Throwable" "stackTrace" "[Ljava/lang/StackTraceElement;") ∈ lw_all := lw_g (lw_at lw_m2 136 rfl) rfl
theorem q434 : (Jvm.Cond.lays "java/lang/ArrayIndexOutOfBoundsException" "java/lang/Throwable" "depth" "I") ∈ lw_all := lw_g (lw_at lw_m2 137 rfl) rfl
theorem q435 : (Jvm.Cond.lays "java/lang/ArrayIndexOutOfBoundsException" "java/lang/Throwable" "suppressedExceptions" "Ljava/util/List;") ∈ lw_all := lw_g (lw_at lw_m2 138 rfl) rfl
theorem q436 : (Jvm.Cond.superclass "java/lang/ArrayIndexOutOfBoundsException" "java/lang/IndexOutOfBoundsException") ∈ lw_all := lw_g (lw_at lw_m2 139 rfl) rfl
theorem q437 : (Jvm.Cond.castable "java/lang/ArrayIndexOutOfBoundsException" "java/lang/ArrayIndexOutOfBoundsException") ∈ lw_tbl := lw_at lw_m2 140 rfl
theorem q442 : (Jvm.Cond.selects "java/lang/ArrayIndexOutOfBoundsException" ({ cls := "java/lang/Throwable", name := "fillInStackTrace", desc := "(I)Ljava/lang/Throwable;" } : Jvm.MethodName) ({ cls := "java/lang/Throwable", name := "fillInStackTrace", desc := "(I)Ljava/lang/Throwable;" } : Jvm.MethodName)) ∈ lw_all := lw_g (lw_at lw_m2 145 rfl) rfl
theorem q689 : (Jvm.Cond.selects "java/lang/ArrayIndexOutOfBoundsException" ({ cls := "java/lang/Object", name := "getClass", desc := "()Ljava/lang/Class;" } : Jvm.MethodName) ({ cls := "java/lang/Object", name := "getClass", desc := "()Ljava/lang/Class;" } : Jvm.MethodName)) ∈ lw_all := lw_g (lw_at lw_m3 152 rfl) rfl
theorem q1606 : (Jvm.Cond.castable "java/lang/ArrayIndexOutOfBoundsException" "java/lang/IndexOutOfBoundsException") ∈ lw_tbl := lw_at lw_m7 109 rfl
theorem q1628 : (Jvm.Cond.castable "java/lang/ArrayIndexOutOfBoundsException" "java/lang/Object") ∈ lw_tbl := lw_at lw_m7 131 rfl
theorem in_J7 : ∀ w ∈ wsJ70, w ∈ lw_all := lw_in wsJ70 [430, 431, 432, 433, 434, 435] (by decide +kernel) (by decide +kernel)
/-! java/lang/String -/
set_option maxRecDepth 100000
def RJ8 : String := "java/lang/String"
def TJ8 : u_T := fun k => match k with
  | 0 => ("java/lang/String", "value", "[B", true)
  | _ => ("java/lang/String", "coder", "B", true)
def tyJ8 : Nat → FieldType := fun k => match k with
  | 0 => .array .byte
  | _ => .byte
abbrev wsJ80 : List Cond := u_ws RJ8 TJ8 2
theorem nmJ8 : ∀ a, a < 2 → ∀ b, b < 2 → a ≠ b → (TJ8 a).2.1 ≠ (TJ8 b).2.1 := by decide +kernel
theorem tyJ8_ok : ∀ k, k < 2 → parseFieldDescriptor (TJ8 k).2.2.1 = some (tyJ8 k) := by decide +kernel
abbrev cJ8_length : ByteArray := prog_27_method_54_code
def yJ8_length : MethodName := ⟨RJ8, "length", "()I"⟩
def dkwJ8_length_0 : List UInt8 := [42, 180, 0, 9, 190, 42, 182, 1, 79, 122, 172]
abbrev dktJ8_length_0 : List UInt8 := dkwJ8_length_0 ++ []
theorem dksJ8_length_0 : cJ8_length.data.toList.drop 0 = dktJ8_length_0 := by decide +kernel
theorem dJ8_length_0 : decode cJ8_length 0 = .ok (.aload_n 0, 1) := dk_42 (dk_at dksJ8_length_0 0 rfl rfl)
theorem dJ8_length_1 : decode cJ8_length 1 = .ok (.getfield 9, 3) := dk_180 0 9 (dk_at dksJ8_length_0 1 rfl rfl)
theorem dJ8_length_4 : decode cJ8_length 4 = .ok (.arraylength, 1) := dk_190 (dk_at dksJ8_length_0 4 rfl rfl)
theorem dJ8_length_5 : decode cJ8_length 5 = .ok (.aload_n 0, 1) := dk_42 (dk_at dksJ8_length_0 5 rfl rfl)
theorem dJ8_length_6 : decode cJ8_length 6 = .ok (.invokevirtual 335, 3) := dk_182 1 79 (dk_at dksJ8_length_0 6 rfl rfl)
theorem dJ8_length_9 : decode cJ8_length 9 = .ok (.ishr, 1) := dk_122 (dk_at dksJ8_length_0 9 rfl rfl)
theorem dJ8_length_10 : decode cJ8_length 10 = .ok (.ireturn, 1) := dk_172 (dk_at dksJ8_length_0 10 rfl rfl)
abbrev cJ8_coder : ByteArray := prog_27_method_152_code
def yJ8_coder : MethodName := ⟨RJ8, "coder", "()B"⟩
def dkwJ8_coder_0 : List UInt8 := [178, 0, 38, 153, 0, 10, 42, 180, 0, 15, 167, 0, 4, 4, 172]
abbrev dktJ8_coder_0 : List UInt8 := dkwJ8_coder_0 ++ []
theorem dksJ8_coder_0 : cJ8_coder.data.toList.drop 0 = dktJ8_coder_0 := by decide +kernel
theorem dJ8_coder_0 : decode cJ8_coder 0 = .ok (.getstatic 38, 3) := dk_178 0 38 (dk_at dksJ8_coder_0 0 rfl rfl)
theorem dJ8_coder_3 : decode cJ8_coder 3 = .ok (.ifCond .eq 10, 3) := dk_153 0 10 (dk_at dksJ8_coder_0 3 rfl rfl)
theorem dJ8_coder_6 : decode cJ8_coder 6 = .ok (.aload_n 0, 1) := dk_42 (dk_at dksJ8_coder_0 6 rfl rfl)
theorem dJ8_coder_7 : decode cJ8_coder 7 = .ok (.getfield 15, 3) := dk_180 0 15 (dk_at dksJ8_coder_0 7 rfl rfl)
theorem dJ8_coder_10 : decode cJ8_coder 10 = .ok (.goto 4, 3) := dk_167 0 4 (dk_at dksJ8_coder_0 10 rfl rfl)
theorem dJ8_coder_13 : decode cJ8_coder 13 = .ok (.iconst 1, 1) := dk_4 (dk_at dksJ8_coder_0 13 rfl rfl)
theorem dJ8_coder_14 : decode cJ8_coder 14 = .ok (.ireturn, 1) := dk_172 (dk_at dksJ8_coder_0 14 rfl rfl)
abbrev cJ8_charAt : ByteArray := prog_27_method_56_code
def yJ8_charAt : MethodName := ⟨RJ8, "charAt", "(I)C"⟩
def dkwJ8_charAt_1 : List UInt8 := [172]
abbrev dktJ8_charAt_1 : List UInt8 := dkwJ8_charAt_1 ++ []
def dkwJ8_charAt_0 : List UInt8 := [42, 182, 1, 236, 153, 0, 12, 42, 180, 0, 9, 27, 184, 1, 239, 172, 42, 180, 0, 9, 27, 184, 1, 242]
abbrev dktJ8_charAt_0 : List UInt8 := dkwJ8_charAt_0 ++ dktJ8_charAt_1
theorem dksJ8_charAt_0 : cJ8_charAt.data.toList.drop 0 = dktJ8_charAt_0 := by decide +kernel
theorem dksJ8_charAt_1 : cJ8_charAt.data.toList.drop 24 = dktJ8_charAt_1 := dk_seg dksJ8_charAt_0 24 rfl rfl
theorem dJ8_charAt_0 : decode cJ8_charAt 0 = .ok (.aload_n 0, 1) := dk_42 (dk_at dksJ8_charAt_0 0 rfl rfl)
theorem dJ8_charAt_1 : decode cJ8_charAt 1 = .ok (.invokevirtual 492, 3) := dk_182 1 236 (dk_at dksJ8_charAt_0 1 rfl rfl)
theorem dJ8_charAt_4 : decode cJ8_charAt 4 = .ok (.ifCond .eq 12, 3) := dk_153 0 12 (dk_at dksJ8_charAt_0 4 rfl rfl)
theorem dJ8_charAt_7 : decode cJ8_charAt 7 = .ok (.aload_n 0, 1) := dk_42 (dk_at dksJ8_charAt_0 7 rfl rfl)
theorem dJ8_charAt_8 : decode cJ8_charAt 8 = .ok (.getfield 9, 3) := dk_180 0 9 (dk_at dksJ8_charAt_0 8 rfl rfl)
theorem dJ8_charAt_11 : decode cJ8_charAt 11 = .ok (.iload_n 1, 1) := dk_27 (dk_at dksJ8_charAt_0 11 rfl rfl)
theorem dJ8_charAt_12 : decode cJ8_charAt 12 = .ok (.invokestatic 495, 3) := dk_184 1 239 (dk_at dksJ8_charAt_0 12 rfl rfl)
theorem dJ8_charAt_15 : decode cJ8_charAt 15 = .ok (.ireturn, 1) := dk_172 (dk_at dksJ8_charAt_0 15 rfl rfl)
theorem dJ8_charAt_16 : decode cJ8_charAt 16 = .ok (.aload_n 0, 1) := dk_42 (dk_at dksJ8_charAt_0 16 rfl rfl)
theorem dJ8_charAt_17 : decode cJ8_charAt 17 = .ok (.getfield 9, 3) := dk_180 0 9 (dk_at dksJ8_charAt_0 17 rfl rfl)
theorem dJ8_charAt_20 : decode cJ8_charAt 20 = .ok (.iload_n 1, 1) := dk_27 (dk_at dksJ8_charAt_0 20 rfl rfl)
theorem dJ8_charAt_21 : decode cJ8_charAt 21 = .ok (.invokestatic 498, 3) := dk_184 1 242 (dk_at dksJ8_charAt_0 21 rfl rfl)
theorem dJ8_charAt_24 : decode cJ8_charAt 24 = .ok (.ireturn, 1) := dk_172 (dk_at dksJ8_charAt_1 0 rfl rfl)
abbrev cJ8_isLatin1 : ByteArray := prog_27_method_154_code
def yJ8_isLatin1 : MethodName := ⟨RJ8, "isLatin1", "()Z"⟩
def dkwJ8_isLatin1_0 : List UInt8 := [178, 0, 38, 153, 0, 14, 42, 180, 0, 15, 154, 0, 7, 4, 167, 0, 4, 3, 172]
abbrev dktJ8_isLatin1_0 : List UInt8 := dkwJ8_isLatin1_0 ++ []
theorem dksJ8_isLatin1_0 : cJ8_isLatin1.data.toList.drop 0 = dktJ8_isLatin1_0 := by decide +kernel
theorem dJ8_isLatin1_0 : decode cJ8_isLatin1 0 = .ok (.getstatic 38, 3) := dk_178 0 38 (dk_at dksJ8_isLatin1_0 0 rfl rfl)
theorem dJ8_isLatin1_3 : decode cJ8_isLatin1 3 = .ok (.ifCond .eq 14, 3) := dk_153 0 14 (dk_at dksJ8_isLatin1_0 3 rfl rfl)
theorem dJ8_isLatin1_6 : decode cJ8_isLatin1 6 = .ok (.aload_n 0, 1) := dk_42 (dk_at dksJ8_isLatin1_0 6 rfl rfl)
theorem dJ8_isLatin1_7 : decode cJ8_isLatin1 7 = .ok (.getfield 15, 3) := dk_180 0 15 (dk_at dksJ8_isLatin1_0 7 rfl rfl)
theorem dJ8_isLatin1_10 : decode cJ8_isLatin1 10 = .ok (.ifCond .ne 7, 3) := dk_154 0 7 (dk_at dksJ8_isLatin1_0 10 rfl rfl)
theorem dJ8_isLatin1_13 : decode cJ8_isLatin1 13 = .ok (.iconst 1, 1) := dk_4 (dk_at dksJ8_isLatin1_0 13 rfl rfl)
theorem dJ8_isLatin1_14 : decode cJ8_isLatin1 14 = .ok (.goto 4, 3) := dk_167 0 4 (dk_at dksJ8_isLatin1_0 14 rfl rfl)
theorem dJ8_isLatin1_17 : decode cJ8_isLatin1 17 = .ok (.iconst 0, 1) := dk_3 (dk_at dksJ8_isLatin1_0 17 rfl rfl)
theorem dJ8_isLatin1_18 : decode cJ8_isLatin1 18 = .ok (.ireturn, 1) := dk_172 (dk_at dksJ8_isLatin1_0 18 rfl rfl)
abbrev cJ8_checkIndex : ByteArray := prog_27_method_155_code
def yJ8_checkIndex : MethodName := ⟨RJ8, "checkIndex", "(II)V"⟩
def dkwJ8_checkIndex_0 : List UInt8 := [26, 27, 178, 4, 29, 184, 4, 35, 87, 177]
abbrev dktJ8_checkIndex_0 : List UInt8 := dkwJ8_checkIndex_0 ++ []
theorem dksJ8_checkIndex_0 : cJ8_checkIndex.data.toList.drop 0 = dktJ8_checkIndex_0 := by decide +kernel
theorem dJ8_checkIndex_0 : decode cJ8_checkIndex 0 = .ok (.iload_n 0, 1) := dk_26 (dk_at dksJ8_checkIndex_0 0 rfl rfl)
theorem dJ8_checkIndex_1 : decode cJ8_checkIndex 1 = .ok (.iload_n 1, 1) := dk_27 (dk_at dksJ8_checkIndex_0 1 rfl rfl)
theorem dJ8_checkIndex_2 : decode cJ8_checkIndex 2 = .ok (.getstatic 1053, 3) := dk_178 4 29 (dk_at dksJ8_checkIndex_0 2 rfl rfl)
theorem dJ8_checkIndex_5 : decode cJ8_checkIndex 5 = .ok (.invokestatic 1059, 3) := dk_184 4 35 (dk_at dksJ8_checkIndex_0 5 rfl rfl)
theorem dJ8_checkIndex_8 : decode cJ8_checkIndex 8 = .ok (.pop, 1) := dk_87 (dk_at dksJ8_checkIndex_0 8 rfl rfl)
theorem dJ8_checkIndex_9 : decode cJ8_checkIndex 9 = .ok (.return_, 1) := dk_177 (dk_at dksJ8_checkIndex_0 9 rfl rfl)
theorem q78 : (Jvm.Cond.initialized "java/lang/String") ∈ lw_all := lw_g (lw_at lw_m1 21 rfl) rfl
theorem q443 : (Jvm.Cond.instantiable "java/lang/String" (4 : Nat)) ∈ lw_all := lw_g (lw_at lw_m2 146 rfl) rfl
theorem q444 : (Jvm.Cond.laysFinal "java/lang/String" "java/lang/String" "value" "[B") ∈ lw_all := lw_g (lw_at lw_m2 147 rfl) rfl
theorem q445 : (Jvm.Cond.soleField "java/lang/String" "value") ∈ lw_all := lw_g (lw_at lw_m2 148 rfl) rfl
theorem q446 : (Jvm.Cond.laysFinal "java/lang/String" "java/lang/String" "coder" "B") ∈ lw_all := lw_g (lw_at lw_m2 149 rfl) rfl
theorem q447 : (Jvm.Cond.soleField "java/lang/String" "coder") ∈ lw_all := lw_g (lw_at lw_m2 150 rfl) rfl
theorem q567 : (Jvm.Cond.instanceMethod ({ cls := "java/lang/String", name := "length", desc := "()I" } : Jvm.MethodName)) ∈ lw_all := lw_g (lw_at lw_m3 30 rfl) rfl
theorem q568 : (Jvm.Cond.selects "java/lang/String" ({ cls := "java/lang/String", name := "length", desc := "()I" } : Jvm.MethodName) ({ cls := "java/lang/String", name := "length", desc := "()I" } : Jvm.MethodName)) ∈ lw_all := lw_g (lw_at lw_m3 31 rfl) rfl
theorem q569 : (Jvm.Cond.code ({ cls := "java/lang/String", name := "length", desc := "()I" } : Jvm.MethodName) prog_27_method_54_code (1 : Nat) (Option.some Jvm.ClassFile.FieldType.int)) ∈ lw_all := lw_g (lw_at lw_m3 32 rfl) rfl
theorem q570 : (Jvm.Cond.methodLink "java/lang/String" (335 : Nat) ({ cls := "java/lang/String", name := "coder", desc := "()B" } : Jvm.MethodName)) ∈ lw_all := lw_g (lw_at lw_m3 33 rfl) rfl
theorem q571 : (Jvm.Cond.instanceMethod ({ cls := "java/lang/String", name := "coder", desc := "()B" } : Jvm.MethodName)) ∈ lw_all := lw_g (lw_at lw_m3 34 rfl) rfl
theorem q572 : (Jvm.Cond.selects "java/lang/String" ({ cls := "java/lang/String", name := "coder", desc := "()B" } : Jvm.MethodName) ({ cls := "java/lang/String", name := "coder", desc := "()B" } : Jvm.MethodName)) ∈ lw_all := lw_g (lw_at lw_m3 35 rfl) rfl
theorem q573 : (Jvm.Cond.code ({ cls := "java/lang/String", name := "coder", desc := "()B" } : Jvm.MethodName) prog_27_method_152_code (1 : Nat) (Option.some Jvm.ClassFile.FieldType.byte)) ∈ lw_all := lw_g (lw_at lw_m3 36 rfl) rfl
theorem q574 : (Jvm.Cond.fieldLink "java/lang/String" (38 : Nat) "java/lang/String" "COMPACT_STRINGS" "Z") ∈ lw_all := lw_g (lw_at lw_m3 37 rfl) rfl
theorem q575 : (Jvm.Cond.laysStatic "java/lang/String" "COMPACT_STRINGS" "Z") ∈ lw_tbl := lw_at lw_m3 38 rfl
theorem q577 : (Jvm.Cond.instanceMethod ({ cls := "java/lang/String", name := "charAt", desc := "(I)C" } : Jvm.MethodName)) ∈ lw_all := lw_g (lw_at lw_m3 40 rfl) rfl
theorem q578 : (Jvm.Cond.selects "java/lang/String" ({ cls := "java/lang/String", name := "charAt", desc := "(I)C" } : Jvm.MethodName) ({ cls := "java/lang/String", name := "charAt", desc := "(I)C" } : Jvm.MethodName)) ∈ lw_all := lw_g (lw_at lw_m3 41 rfl) rfl
theorem q579 : (Jvm.Cond.code ({ cls := "java/lang/String", name := "charAt", desc := "(I)C" } : Jvm.MethodName) prog_27_method_56_code (2 : Nat) (Option.some Jvm.ClassFile.FieldType.char)) ∈ lw_all := lw_g (lw_at lw_m3 42 rfl) rfl
theorem q580 : (Jvm.Cond.methodLink "java/lang/String" (492 : Nat) ({ cls := "java/lang/String", name := "isLatin1", desc := "()Z" } : Jvm.MethodName)) ∈ lw_all := lw_g (lw_at lw_m3 43 rfl) rfl
theorem q581 : (Jvm.Cond.instanceMethod ({ cls := "java/lang/String", name := "isLatin1", desc := "()Z" } : Jvm.MethodName)) ∈ lw_all := lw_g (lw_at lw_m3 44 rfl) rfl
theorem q582 : (Jvm.Cond.selects "java/lang/String" ({ cls := "java/lang/String", name := "isLatin1", desc := "()Z" } : Jvm.MethodName) ({ cls := "java/lang/String", name := "isLatin1", desc := "()Z" } : Jvm.MethodName)) ∈ lw_all := lw_g (lw_at lw_m3 45 rfl) rfl
theorem q583 : (Jvm.Cond.code ({ cls := "java/lang/String", name := "isLatin1", desc := "()Z" } : Jvm.MethodName) prog_27_method_154_code (1 : Nat) (Option.some Jvm.ClassFile.FieldType.boolean)) ∈ lw_all := lw_g (lw_at lw_m3 46 rfl) rfl
theorem q584 : (Jvm.Cond.methodLink "java/lang/String" (495 : Nat) ({ cls := "java/lang/StringLatin1", name := "charAt", desc := "([BI)C" } : Jvm.MethodName)) ∈ lw_all := lw_g (lw_at lw_m3 47 rfl) rfl
theorem q588 : (Jvm.Cond.static ({ cls := "java/lang/String", name := "checkIndex", desc := "(II)V" } : Jvm.MethodName)) ∈ lw_all := lw_g (lw_at lw_m3 51 rfl) rfl
theorem q589 : (Jvm.Cond.code ({ cls := "java/lang/String", name := "checkIndex", desc := "(II)V" } : Jvm.MethodName) prog_27_method_155_code (2 : Nat) (Option.none : Option Jvm.ClassFile.FieldType)) ∈ lw_all := lw_g (lw_at lw_m3 52 rfl) rfl
theorem q590 : (Jvm.Cond.fieldLink "java/lang/String" (1053 : Nat) "jdk/internal/util/Preconditions" "SIOOBE_FORMATTER" "Ljava/util/function/BiFunction;") ∈ lw_all := lw_g (lw_at lw_m3 53 rfl) rfl
theorem q592 : (Jvm.Cond.methodLink "java/lang/String" (1059 : Nat) ({ cls := "jdk/internal/util/Preconditions", name := "checkIndex", desc := "(IILjava/util/function/BiFunction;)I" } : Jvm.MethodName)) ∈ lw_all := lw_g (lw_at lw_m3 55 rfl) rfl
theorem q595 : (Jvm.Cond.methodLink "java/lang/String" (498 : Nat) ({ cls := "java/lang/StringUTF16", name := "charAt", desc := "([BI)C" } : Jvm.MethodName)) ∈ lw_all := lw_g (lw_at lw_m3 58 rfl) rfl
theorem q1633 : (Jvm.Cond.castable "java/lang/String" "java/lang/Object") ∈ lw_tbl := lw_at lw_m7 136 rfl
theorem q1645 : (Jvm.Cond.fieldLink "java/lang/String" (9 : Nat) "java/lang/String" "value" "[B") ∈ lw_all := lw_g (lw_at lw_m7 148 rfl) rfl
theorem q1646 : (Jvm.Cond.fieldLink "java/lang/String" (15 : Nat) "java/lang/String" "coder" "B") ∈ lw_all := lw_g (lw_at lw_m7 149 rfl) rfl
theorem in_J8 : ∀ w ∈ wsJ80, w ∈ lw_all := lw_in wsJ80 [444, 446] (by decide +kernel) (by decide +kernel)
/-! java/lang/StringLatin1 -/
set_option maxRecDepth 100000
def RJ9 : String := "java/lang/StringLatin1"
abbrev cJ9_charAt : ByteArray := prog_28_method_2_code
def yJ9_charAt : MethodName := ⟨RJ9, "charAt", "([BI)C"⟩
def dkwJ9_charAt_0 : List UInt8 := [27, 42, 190, 184, 0, 9, 42, 27, 51, 17, 0, 255, 126, 146, 172]
abbrev dktJ9_charAt_0 : List UInt8 := dkwJ9_charAt_0 ++ []
theorem dksJ9_charAt_0 : cJ9_charAt.data.toList.drop 0 = dktJ9_charAt_0 := by decide +kernel
theorem dJ9_charAt_0 : decode cJ9_charAt 0 = .ok (.iload_n 1, 1) := dk_27 (dk_at dksJ9_charAt_0 0 rfl rfl)
theorem dJ9_charAt_1 : decode cJ9_charAt 1 = .ok (.aload_n 0, 1) := dk_42 (dk_at dksJ9_charAt_0 1 rfl rfl)
theorem dJ9_charAt_2 : decode cJ9_charAt 2 = .ok (.arraylength, 1) := dk_190 (dk_at dksJ9_charAt_0 2 rfl rfl)
theorem dJ9_charAt_3 : decode cJ9_charAt 3 = .ok (.invokestatic 9, 3) := dk_184 0 9 (dk_at dksJ9_charAt_0 3 rfl rfl)
theorem dJ9_charAt_6 : decode cJ9_charAt 6 = .ok (.aload_n 0, 1) := dk_42 (dk_at dksJ9_charAt_0 6 rfl rfl)
theorem dJ9_charAt_7 : decode cJ9_charAt 7 = .ok (.iload_n 1, 1) := dk_27 (dk_at dksJ9_charAt_0 7 rfl rfl)
theorem dJ9_charAt_8 : decode cJ9_charAt 8 = .ok (.baload, 1) := dk_51 (dk_at dksJ9_charAt_0 8 rfl rfl)
theorem dJ9_charAt_9 : decode cJ9_charAt 9 = .ok (.sipush 255, 3) := dk_17 0 255 (dk_at dksJ9_charAt_0 9 rfl rfl)
theorem dJ9_charAt_12 : decode cJ9_charAt 12 = .ok (.iand, 1) := dk_126 (dk_at dksJ9_charAt_0 12 rfl rfl)
theorem dJ9_charAt_13 : decode cJ9_charAt 13 = .ok (.i2c, 1) := dk_146 (dk_at dksJ9_charAt_0 13 rfl rfl)
theorem dJ9_charAt_14 : decode cJ9_charAt 14 = .ok (.ireturn, 1) := dk_172 (dk_at dksJ9_charAt_0 14 rfl rfl)
theorem q82 : (Jvm.Cond.initialized "java/lang/StringLatin1") ∈ lw_all := lw_g (lw_at lw_m1 25 rfl) rfl
theorem q585 : (Jvm.Cond.static ({ cls := "java/lang/StringLatin1", name := "charAt", desc := "([BI)C" } : Jvm.MethodName)) ∈ lw_all := lw_g (lw_at lw_m3 48 rfl) rfl
theorem q586 : (Jvm.Cond.code ({ cls := "java/lang/StringLatin1", name := "charAt", desc := "([BI)C" } : Jvm.MethodName) prog_28_method_2_code (2 : Nat) (Option.some Jvm.ClassFile.FieldType.char)) ∈ lw_all := lw_g (lw_at lw_m3 49 rfl) rfl
theorem q587 : (Jvm.Cond.methodLink "java/lang/StringLatin1" (9 : Nat) ({ cls := "java/lang/String", name := "checkIndex", desc := "(II)V" } : Jvm.MethodName)) ∈ lw_all := lw_g (lw_at lw_m3 50 rfl) rfl
/-! LampSquares$Finding -/
set_option maxRecDepth 100000
def RX10 : String := "LampSquares$Finding"
def TX10 : u_T := fun k => match k with
  | 0 => ("java/lang/Throwable", "cause", "Ljava/lang/Throwable;", false)
  | 1 => ("java/lang/Throwable", "stackTrace", "[Ljava/lang/StackTraceElement;", false)
  | 2 => ("java/lang/Throwable", "suppressedExceptions", "Ljava/util/List;", false)
  | 3 => ("java/lang/Throwable", "detailMessage", "Ljava/lang/String;", false)
  | 4 => ("java/lang/Throwable", "backtrace", "Ljava/lang/Object;", false)
  | 5 => ("java/lang/Throwable", "depth", "I", false)
  | _ => ("LampSquares$Finding", "number", "I", true)
def tyX10 : Nat → FieldType := fun k => match k with
  | 0 => .object "java/lang/Throwable"
  | 1 => .array (.object "java/lang/StackTraceElement")
  | 2 => .object "java/util/List"
  | 3 => .object "java/lang/String"
  | 4 => .object "java/lang/Object"
  | 5 => .int
  | _ => .int
abbrev wsX100 : List Cond := u_ws RX10 TX10 7
theorem nmX10 : ∀ a, a < 7 → ∀ b, b < 7 → a ≠ b → (TX10 a).2.1 ≠ (TX10 b).2.1 := by decide +kernel
theorem tyX10_ok : ∀ k, k < 7 → parseFieldDescriptor (TX10 k).2.2.1 = some (tyX10 k) := by decide +kernel
abbrev cX10_init : ByteArray := prog_6_method_1_code
def yX10_init : MethodName := ⟨RX10, "<init>", "(I)V"⟩
def dkwX10_init_0 : List UInt8 := [42, 1, 1, 3, 3, 183, 0, 1, 42, 27, 181, 0, 7, 177]
abbrev dktX10_init_0 : List UInt8 := dkwX10_init_0 ++ []
theorem dksX10_init_0 : cX10_init.data.toList.drop 0 = dktX10_init_0 := by decide +kernel
theorem dX10_init_0 : decode cX10_init 0 = .ok (.aload_n 0, 1) := dk_42 (dk_at dksX10_init_0 0 rfl rfl)
theorem dX10_init_1 : decode cX10_init 1 = .ok (.aconst_null, 1) := dk_1 (dk_at dksX10_init_0 1 rfl rfl)
theorem dX10_init_2 : decode cX10_init 2 = .ok (.aconst_null, 1) := dk_1 (dk_at dksX10_init_0 2 rfl rfl)
theorem dX10_init_3 : decode cX10_init 3 = .ok (.iconst 0, 1) := dk_3 (dk_at dksX10_init_0 3 rfl rfl)
theorem dX10_init_4 : decode cX10_init 4 = .ok (.iconst 0, 1) := dk_3 (dk_at dksX10_init_0 4 rfl rfl)
theorem dX10_init_5 : decode cX10_init 5 = .ok (.invokespecial 1, 3) := dk_183 0 1 (dk_at dksX10_init_0 5 rfl rfl)
theorem dX10_init_8 : decode cX10_init 8 = .ok (.aload_n 0, 1) := dk_42 (dk_at dksX10_init_0 8 rfl rfl)
theorem dX10_init_9 : decode cX10_init 9 = .ok (.iload_n 1, 1) := dk_27 (dk_at dksX10_init_0 9 rfl rfl)
theorem dX10_init_10 : decode cX10_init 10 = .ok (.putfield 7, 3) := dk_181 0 7 (dk_at dksX10_init_0 10 rfl rfl)
theorem dX10_init_13 : decode cX10_init 13 = .ok (.return_, 1) := dk_177 (dk_at dksX10_init_0 13 rfl rfl)
theorem q73 : (Jvm.Cond.initialized "LampSquares$Finding") ∈ lw_all := lw_g (lw_at lw_m1 16 rfl) rfl
theorem q310 : (Jvm.Cond.instantiable "LampSquares$Finding" (7 : Nat)) ∈ lw_all := lw_g (lw_at lw_m2 13 rfl) rfl
theorem q311 : (Jvm.Cond.castable "LampSquares$Finding" "LampSquares$Finding") ∈ lw_tbl := lw_at lw_m2 14 rfl
theorem q316 : (Jvm.Cond.selects "LampSquares$Finding" ({ cls := "java/lang/Throwable", name := "fillInStackTrace", desc := "(I)Ljava/lang/Throwable;" } : Jvm.MethodName) ({ cls := "java/lang/Throwable", name := "fillInStackTrace", desc := "(I)Ljava/lang/Throwable;" } : Jvm.MethodName)) ∈ lw_all := lw_g (lw_at lw_m2 19 rfl) rfl
theorem q317 : (Jvm.Cond.selects "LampSquares$Finding" ({ cls := "java/lang/Throwable", name := "fillInStackTrace", desc := "()Ljava/lang/Throwable;" } : Jvm.MethodName) ({ cls := "java/lang/Throwable", name := "fillInStackTrace", desc := "()Ljava/lang/Throwable;" } : Jvm.MethodName)) ∈ lw_all := lw_g (lw_at lw_m2 20 rfl) rfl
theorem q318 : (Jvm.Cond.lays "LampSquares$Finding" "java/lang/Throwable" "cause" "Ljava/lang/Throwable;") ∈ lw_all := lw_g (lw_at lw_m2 21 rfl) rfl
theorem q320 : (Jvm.Cond.lays "LampSquares$Finding" "java/lang/Throwable" "stackTrace" "[Ljava/lang/StackTraceElement;") ∈ lw_all := lw_g (lw_at lw_m2 23 rfl) rfl
theorem q322 : (Jvm.Cond.lays "LampSquares$Finding" "java/lang/Throwable" "suppressedExceptions" "Ljava/util/List;") ∈ lw_all := lw_g (lw_at lw_m2 25 rfl) rfl
theorem q324 : (Jvm.Cond.lays "LampSquares$Finding" "java/lang/Throwable" "detailMessage" "Ljava/lang/String;") ∈ lw_all := lw_g (lw_at lw_m2 27 rfl) rfl
theorem q326 : (Jvm.Cond.lays "LampSquares$Finding" "java/lang/Throwable" "backtrace" "Ljava/lang/Object;") ∈ lw_all := lw_g (lw_at lw_m2 29 rfl) rfl
theorem q350 : (Jvm.Cond.instanceMethod ({ cls := "LampSquares$Finding", name := "<init>", desc := "(I)V" } : Jvm.MethodName)) ∈ lw_all := lw_g (lw_at lw_m2 53 rfl) rfl
theorem q351 : (Jvm.Cond.code ({ cls := "LampSquares$Finding", name := "<init>", desc := "(I)V" } : Jvm.MethodName) prog_6_method_1_code (2 : Nat) (Option.none : Option Jvm.ClassFile.FieldType)) ∈ lw_all := lw_g (lw_at lw_m2 54 rfl) rfl
theorem q352 : (Jvm.Cond.methodLink "LampSquares$Finding" (1 : Nat) ({ cls := "java/lang/Exception", name := "<init>", desc := "(Ljava/lang/String;Ljava/lang/Throwable;ZZ)V" } : Jvm.MethodName)) ∈ lw_all := lw_g (lw_at lw_m2 55 rfl) rfl
theorem q358 : (Jvm.Cond.fieldLink "LampSquares$Finding" (7 : Nat) "LampSquares$Finding" "number" "I") ∈ lw_all := lw_g (lw_at lw_m2 61 rfl) rfl
theorem q365 : (Jvm.Cond.laysFinal "LampSquares$Finding" "LampSquares$Finding" "number" "I") ∈ lw_all := lw_g (lw_at lw_m2 68 rfl) rfl
theorem q366 : (Jvm.Cond.soleField "LampSquares$Finding" "number") ∈ lw_all := lw_g (lw_at lw_m2 69 rfl) rfl
theorem q371 : (Jvm.Cond.lays "LampSquares$Finding" "java/lang/Throwable" "depth" "I") ∈ lw_all := lw_g (lw_at lw_m2 74 rfl) rfl
theorem q374 : (Jvm.Cond.superclass "LampSquares$Finding" "java/lang/Exception") ∈ lw_all := lw_g (lw_at lw_m2 77 rfl) rfl
theorem q681 : (Jvm.Cond.selects "LampSquares$Finding" ({ cls := "java/lang/Object", name := "getClass", desc := "()Ljava/lang/Class;" } : Jvm.MethodName) ({ cls := "java/lang/Object", name := "getClass", desc := "()Ljava/lang/Class;" } : Jvm.MethodName)) ∈ lw_all := lw_g (lw_at lw_m3 144 rfl) rfl
theorem q1627 : (Jvm.Cond.castable "LampSquares$Finding" "java/lang/Object") ∈ lw_tbl := lw_at lw_m7 130 rfl
theorem in_X10 : ∀ w ∈ wsX100, w ∈ lw_all := lw_in wsX100 [318, 320, 322, 324, 326, 371, 365] (by decide +kernel) (by decide +kernel)
/-! LampSquares$Row -/
set_option maxRecDepth 100000
def RX11 : String := "LampSquares$Row"
def TX11 : u_T := fun k => match k with
  | 0 => ("LampSquares$Row", "lane", "I", true)
  | _ => ("LampSquares$Row", "items", "[I", true)
def tyX11 : Nat → FieldType := fun k => match k with
  | 0 => .int
  | _ => .array .int
abbrev wsX110 : List Cond := u_ws RX11 TX11 2
theorem nmX11 : ∀ a, a < 2 → ∀ b, b < 2 → a ≠ b → (TX11 a).2.1 ≠ (TX11 b).2.1 := by decide +kernel
theorem tyX11_ok : ∀ k, k < 2 → parseFieldDescriptor (TX11 k).2.2.1 = some (tyX11 k) := by decide +kernel
abbrev cX11_init : ByteArray := prog_11_method_1_code
def yX11_init : MethodName := ⟨RX11, "<init>", "(II)V"⟩
def dkwX11_init_0 : List UInt8 := [42, 183, 0, 3, 42, 27, 181, 0, 9, 42, 28, 188, 10, 181, 0, 15, 177]
abbrev dktX11_init_0 : List UInt8 := dkwX11_init_0 ++ []
theorem dksX11_init_0 : cX11_init.data.toList.drop 0 = dktX11_init_0 := by decide +kernel
theorem dX11_init_0 : decode cX11_init 0 = .ok (.aload_n 0, 1) := dk_42 (dk_at dksX11_init_0 0 rfl rfl)
theorem dX11_init_1 : decode cX11_init 1 = .ok (.invokespecial 3, 3) := dk_183 0 3 (dk_at dksX11_init_0 1 rfl rfl)
theorem dX11_init_4 : decode cX11_init 4 = .ok (.aload_n 0, 1) := dk_42 (dk_at dksX11_init_0 4 rfl rfl)
theorem dX11_init_5 : decode cX11_init 5 = .ok (.iload_n 1, 1) := dk_27 (dk_at dksX11_init_0 5 rfl rfl)
theorem dX11_init_6 : decode cX11_init 6 = .ok (.putfield 9, 3) := dk_181 0 9 (dk_at dksX11_init_0 6 rfl rfl)
theorem dX11_init_9 : decode cX11_init 9 = .ok (.aload_n 0, 1) := dk_42 (dk_at dksX11_init_0 9 rfl rfl)
theorem dX11_init_10 : decode cX11_init 10 = .ok (.iload_n 2, 1) := dk_28 (dk_at dksX11_init_0 10 rfl rfl)
theorem dX11_init_11 : decode cX11_init 11 = .ok (.newarray .int, 2) := dk_188_10 (dk_at dksX11_init_0 11 rfl rfl)
theorem dX11_init_13 : decode cX11_init 13 = .ok (.putfield 15, 3) := dk_181 0 15 (dk_at dksX11_init_0 13 rfl rfl)
theorem dX11_init_16 : decode cX11_init 16 = .ok (.return_, 1) := dk_177 (dk_at dksX11_init_0 16 rfl rfl)
abbrev cX11_cut : ByteArray := prog_11_method_2_code
def yX11_cut : MethodName := ⟨RX11, "cut", "(I)I"⟩
def dkwX11_cut_1 : List UInt8 := [167, 0, 4, 27, 172]
abbrev dktX11_cut_1 : List UInt8 := dkwX11_cut_1 ++ []
def dkwX11_cut_0 : List UInt8 := [42, 180, 0, 9, 154, 0, 8, 27, 145, 167, 0, 17, 42, 180, 0, 9, 4, 160, 0, 8, 27, 147]
abbrev dktX11_cut_0 : List UInt8 := dkwX11_cut_0 ++ dktX11_cut_1
theorem dksX11_cut_0 : cX11_cut.data.toList.drop 0 = dktX11_cut_0 := by decide +kernel
theorem dksX11_cut_1 : cX11_cut.data.toList.drop 22 = dktX11_cut_1 := dk_seg dksX11_cut_0 22 rfl rfl
theorem dX11_cut_0 : decode cX11_cut 0 = .ok (.aload_n 0, 1) := dk_42 (dk_at dksX11_cut_0 0 rfl rfl)
theorem dX11_cut_1 : decode cX11_cut 1 = .ok (.getfield 9, 3) := dk_180 0 9 (dk_at dksX11_cut_0 1 rfl rfl)
theorem dX11_cut_4 : decode cX11_cut 4 = .ok (.ifCond .ne 8, 3) := dk_154 0 8 (dk_at dksX11_cut_0 4 rfl rfl)
theorem dX11_cut_7 : decode cX11_cut 7 = .ok (.iload_n 1, 1) := dk_27 (dk_at dksX11_cut_0 7 rfl rfl)
theorem dX11_cut_8 : decode cX11_cut 8 = .ok (.i2b, 1) := dk_145 (dk_at dksX11_cut_0 8 rfl rfl)
theorem dX11_cut_9 : decode cX11_cut 9 = .ok (.goto 17, 3) := dk_167 0 17 (dk_at dksX11_cut_0 9 rfl rfl)
theorem dX11_cut_12 : decode cX11_cut 12 = .ok (.aload_n 0, 1) := dk_42 (dk_at dksX11_cut_0 12 rfl rfl)
theorem dX11_cut_13 : decode cX11_cut 13 = .ok (.getfield 9, 3) := dk_180 0 9 (dk_at dksX11_cut_0 13 rfl rfl)
theorem dX11_cut_16 : decode cX11_cut 16 = .ok (.iconst 1, 1) := dk_4 (dk_at dksX11_cut_0 16 rfl rfl)
theorem dX11_cut_17 : decode cX11_cut 17 = .ok (.if_icmp .ne 8, 3) := dk_160 0 8 (dk_at dksX11_cut_0 17 rfl rfl)
theorem dX11_cut_20 : decode cX11_cut 20 = .ok (.iload_n 1, 1) := dk_27 (dk_at dksX11_cut_0 20 rfl rfl)
theorem dX11_cut_21 : decode cX11_cut 21 = .ok (.i2s, 1) := dk_147 (dk_at dksX11_cut_0 21 rfl rfl)
theorem dX11_cut_22 : decode cX11_cut 22 = .ok (.goto 4, 3) := dk_167 0 4 (dk_at dksX11_cut_1 0 rfl rfl)
theorem dX11_cut_25 : decode cX11_cut 25 = .ok (.iload_n 1, 1) := dk_27 (dk_at dksX11_cut_1 3 rfl rfl)
theorem dX11_cut_26 : decode cX11_cut 26 = .ok (.ireturn, 1) := dk_172 (dk_at dksX11_cut_1 4 rfl rfl)
abbrev cX11_row : ByteArray := prog_11_method_3_code
def yX11_row : MethodName := ⟨RX11, "row", "(II)[I"⟩
def dkwX11_row_1 : List UInt8 := [5, 184, 0, 19, 28, 188, 10, 78, 42, 180, 0, 15, 27, 45, 3, 28, 184, 0, 23, 45, 176]
abbrev dktX11_row_1 : List UInt8 := dkwX11_row_1 ++ []
def dkwX11_row_0 : List UInt8 := [27, 155, 0, 22, 27, 133, 28, 133, 97, 42, 180, 0, 15, 190, 133, 148, 157, 0, 7, 4, 167, 0, 4, 3]
abbrev dktX11_row_0 : List UInt8 := dkwX11_row_0 ++ dktX11_row_1
theorem dksX11_row_0 : cX11_row.data.toList.drop 0 = dktX11_row_0 := by decide +kernel
theorem dksX11_row_1 : cX11_row.data.toList.drop 24 = dktX11_row_1 := dk_seg dksX11_row_0 24 rfl rfl
theorem dX11_row_0 : decode cX11_row 0 = .ok (.iload_n 1, 1) := dk_27 (dk_at dksX11_row_0 0 rfl rfl)
theorem dX11_row_1 : decode cX11_row 1 = .ok (.ifCond .lt 22, 3) := dk_155 0 22 (dk_at dksX11_row_0 1 rfl rfl)
theorem dX11_row_4 : decode cX11_row 4 = .ok (.iload_n 1, 1) := dk_27 (dk_at dksX11_row_0 4 rfl rfl)
theorem dX11_row_5 : decode cX11_row 5 = .ok (.i2l, 1) := dk_133 (dk_at dksX11_row_0 5 rfl rfl)
theorem dX11_row_6 : decode cX11_row 6 = .ok (.iload_n 2, 1) := dk_28 (dk_at dksX11_row_0 6 rfl rfl)
theorem dX11_row_7 : decode cX11_row 7 = .ok (.i2l, 1) := dk_133 (dk_at dksX11_row_0 7 rfl rfl)
theorem dX11_row_8 : decode cX11_row 8 = .ok (.ladd, 1) := dk_97 (dk_at dksX11_row_0 8 rfl rfl)
theorem dX11_row_9 : decode cX11_row 9 = .ok (.aload_n 0, 1) := dk_42 (dk_at dksX11_row_0 9 rfl rfl)
theorem dX11_row_10 : decode cX11_row 10 = .ok (.getfield 15, 3) := dk_180 0 15 (dk_at dksX11_row_0 10 rfl rfl)
theorem dX11_row_13 : decode cX11_row 13 = .ok (.arraylength, 1) := dk_190 (dk_at dksX11_row_0 13 rfl rfl)
theorem dX11_row_14 : decode cX11_row 14 = .ok (.i2l, 1) := dk_133 (dk_at dksX11_row_0 14 rfl rfl)
theorem dX11_row_15 : decode cX11_row 15 = .ok (.lcmp, 1) := dk_148 (dk_at dksX11_row_0 15 rfl rfl)
theorem dX11_row_16 : decode cX11_row 16 = .ok (.ifCond .gt 7, 3) := dk_157 0 7 (dk_at dksX11_row_0 16 rfl rfl)
theorem dX11_row_19 : decode cX11_row 19 = .ok (.iconst 1, 1) := dk_4 (dk_at dksX11_row_0 19 rfl rfl)
theorem dX11_row_20 : decode cX11_row 20 = .ok (.goto 4, 3) := dk_167 0 4 (dk_at dksX11_row_0 20 rfl rfl)
theorem dX11_row_23 : decode cX11_row 23 = .ok (.iconst 0, 1) := dk_3 (dk_at dksX11_row_0 23 rfl rfl)
theorem dX11_row_24 : decode cX11_row 24 = .ok (.iconst 2, 1) := dk_5 (dk_at dksX11_row_1 0 rfl rfl)
theorem dX11_row_25 : decode cX11_row 25 = .ok (.invokestatic 19, 3) := dk_184 0 19 (dk_at dksX11_row_1 1 rfl rfl)
theorem dX11_row_28 : decode cX11_row 28 = .ok (.iload_n 2, 1) := dk_28 (dk_at dksX11_row_1 4 rfl rfl)
theorem dX11_row_29 : decode cX11_row 29 = .ok (.newarray .int, 2) := dk_188_10 (dk_at dksX11_row_1 5 rfl rfl)
theorem dX11_row_31 : decode cX11_row 31 = .ok (.astore_n 3, 1) := dk_78 (dk_at dksX11_row_1 7 rfl rfl)
theorem dX11_row_32 : decode cX11_row 32 = .ok (.aload_n 0, 1) := dk_42 (dk_at dksX11_row_1 8 rfl rfl)
theorem dX11_row_33 : decode cX11_row 33 = .ok (.getfield 15, 3) := dk_180 0 15 (dk_at dksX11_row_1 9 rfl rfl)
theorem dX11_row_36 : decode cX11_row 36 = .ok (.iload_n 1, 1) := dk_27 (dk_at dksX11_row_1 12 rfl rfl)
theorem dX11_row_37 : decode cX11_row 37 = .ok (.aload_n 3, 1) := dk_45 (dk_at dksX11_row_1 13 rfl rfl)
theorem dX11_row_38 : decode cX11_row 38 = .ok (.iconst 0, 1) := dk_3 (dk_at dksX11_row_1 14 rfl rfl)
theorem dX11_row_39 : decode cX11_row 39 = .ok (.iload_n 2, 1) := dk_28 (dk_at dksX11_row_1 15 rfl rfl)
theorem dX11_row_40 : decode cX11_row 40 = .ok (.invokestatic 23, 3) := dk_184 0 23 (dk_at dksX11_row_1 16 rfl rfl)
theorem dX11_row_43 : decode cX11_row 43 = .ok (.aload_n 3, 1) := dk_45 (dk_at dksX11_row_1 19 rfl rfl)
theorem dX11_row_44 : decode cX11_row 44 = .ok (.areturn, 1) := dk_176 (dk_at dksX11_row_1 20 rfl rfl)
theorem q74 : (Jvm.Cond.initialized "LampSquares$Row") ∈ lw_all := lw_g (lw_at lw_m1 17 rfl) rfl
theorem q375 : (Jvm.Cond.instantiable "LampSquares$Row" (2 : Nat)) ∈ lw_all := lw_g (lw_at lw_m2 78 rfl) rfl
theorem q377 : (Jvm.Cond.instanceMethod ({ cls := "LampSquares$Row", name := "<init>", desc := "(II)V" } : Jvm.MethodName)) ∈ lw_all := lw_g (lw_at lw_m2 80 rfl) rfl
theorem q378 : (Jvm.Cond.code ({ cls := "LampSquares$Row", name := "<init>", desc := "(II)V" } : Jvm.MethodName) prog_11_method_1_code (3 : Nat) (Option.none : Option Jvm.ClassFile.FieldType)) ∈ lw_all := lw_g (lw_at lw_m2 81 rfl) rfl
theorem q379 : (Jvm.Cond.methodLink "LampSquares$Row" (3 : Nat) ({ cls := "java/lang/Object", name := "<init>", desc := "()V" } : Jvm.MethodName)) ∈ lw_all := lw_g (lw_at lw_m2 82 rfl) rfl
theorem q380 : (Jvm.Cond.fieldLink "LampSquares$Row" (9 : Nat) "LampSquares$Row" "lane" "I") ∈ lw_all := lw_g (lw_at lw_m2 83 rfl) rfl
theorem q382 : (Jvm.Cond.fieldLink "LampSquares$Row" (15 : Nat) "LampSquares$Row" "items" "[I") ∈ lw_all := lw_g (lw_at lw_m2 85 rfl) rfl
theorem q384 : (Jvm.Cond.laysFinal "LampSquares$Row" "LampSquares$Row" "lane" "I") ∈ lw_all := lw_g (lw_at lw_m2 87 rfl) rfl
theorem q385 : (Jvm.Cond.soleField "LampSquares$Row" "lane") ∈ lw_all := lw_g (lw_at lw_m2 88 rfl) rfl
theorem q386 : (Jvm.Cond.laysFinal "LampSquares$Row" "LampSquares$Row" "items" "[I") ∈ lw_all := lw_g (lw_at lw_m2 89 rfl) rfl
theorem q387 : (Jvm.Cond.soleField "LampSquares$Row" "items") ∈ lw_all := lw_g (lw_at lw_m2 90 rfl) rfl
theorem q388 : (Jvm.Cond.superclass "LampSquares$Row" "java/lang/Object") ∈ lw_all := lw_g (lw_at lw_m2 91 rfl) rfl
theorem q407 : (Jvm.Cond.instanceMethod ({ cls := "LampSquares$Row", name := "cut", desc := "(I)I" } : Jvm.MethodName)) ∈ lw_all := lw_g (lw_at lw_m2 110 rfl) rfl
theorem q408 : (Jvm.Cond.selects "LampSquares$Row" ({ cls := "LampSquares$Row", name := "cut", desc := "(I)I" } : Jvm.MethodName) ({ cls := "LampSquares$Row", name := "cut", desc := "(I)I" } : Jvm.MethodName)) ∈ lw_all := lw_g (lw_at lw_m2 111 rfl) rfl
theorem q409 : (Jvm.Cond.code ({ cls := "LampSquares$Row", name := "cut", desc := "(I)I" } : Jvm.MethodName) prog_11_method_2_code (2 : Nat) (Option.some Jvm.ClassFile.FieldType.int)) ∈ lw_all := lw_g (lw_at lw_m2 112 rfl) rfl
theorem q685 : (Jvm.Cond.selects "LampSquares$Row" ({ cls := "java/lang/Object", name := "getClass", desc := "()Ljava/lang/Class;" } : Jvm.MethodName) ({ cls := "java/lang/Object", name := "getClass", desc := "()Ljava/lang/Class;" } : Jvm.MethodName)) ∈ lw_all := lw_g (lw_at lw_m3 148 rfl) rfl
theorem q961 : (Jvm.Cond.instanceMethod ({ cls := "LampSquares$Row", name := "row", desc := "(II)[I" } : Jvm.MethodName)) ∈ lw_all := lw_g (lw_at lw_m4 184 rfl) rfl
theorem q962 : (Jvm.Cond.selects "LampSquares$Row" ({ cls := "LampSquares$Row", name := "row", desc := "(II)[I" } : Jvm.MethodName) ({ cls := "LampSquares$Row", name := "row", desc := "(II)[I" } : Jvm.MethodName)) ∈ lw_all := lw_g (lw_at lw_m4 185 rfl) rfl
theorem q963 : (Jvm.Cond.code ({ cls := "LampSquares$Row", name := "row", desc := "(II)[I" } : Jvm.MethodName) prog_11_method_3_code (4 : Nat) (Option.some (Jvm.ClassFile.FieldType.array Jvm.ClassFile.FieldType.int))) ∈ lw_all := lw_g (lw_at lw_m4 186 rfl) rfl
theorem q964 : (Jvm.Cond.methodLinkNest "LampSquares$Row" (19 : Nat) ({ cls := "LampSquares", name := "must", desc := "(ZI)V" } : Jvm.MethodName) "LampSquares") ∈ lw_tbl := lw_at lw_m4 187 rfl
theorem q965 : (Jvm.Cond.methodLink "LampSquares$Row" (23 : Nat) ({ cls := "java/lang/System", name := "arraycopy", desc := "(Ljava/lang/Object;ILjava/lang/Object;II)V" } : Jvm.MethodName)) ∈ lw_all := lw_g (lw_at lw_m4 188 rfl) rfl
theorem q1615 : (Jvm.Cond.castable "LampSquares$Row" "java/lang/Object") ∈ lw_tbl := lw_at lw_m7 118 rfl
theorem in_X11 : ∀ w ∈ wsX110, w ∈ lw_all := lw_in wsX110 [384, 386] (by decide +kernel) (by decide +kernel)
/-! LampSquares$Reader -/
set_option maxRecDepth 100000
def RX12 : String := "LampSquares$Reader"
def TX12 : u_T := fun k => match k with
  | 0 => ("LampSquares$Reader", "text", "[B", true)
  | 1 => ("LampSquares$Reader", "size", "I", true)
  | 2 => ("LampSquares$Reader", "at", "I", false)
  | 3 => ("LampSquares$Reader", "token", "I", false)
  | 4 => ("LampSquares$Reader", "from", "I", false)
  | 5 => ("LampSquares$Reader", "value", "I", false)
  | _ => ("LampSquares$Reader", "made", "LLampSquares$Door;", true)
def tyX12 : Nat → FieldType := fun k => match k with
  | 0 => .array .byte
  | 1 => .int
  | 2 => .int
  | 3 => .int
  | 4 => .int
  | 5 => .int
  | _ => .object "LampSquares$Door"
abbrev wsX120 : List Cond := u_ws RX12 TX12 7
theorem nmX12 : ∀ a, a < 7 → ∀ b, b < 7 → a ≠ b → (TX12 a).2.1 ≠ (TX12 b).2.1 := by decide +kernel
theorem tyX12_ok : ∀ k, k < 7 → parseFieldDescriptor (TX12 k).2.2.1 = some (tyX12 k) := by decide +kernel
abbrev cX12_init : ByteArray := prog_10_method_1_code
def yX12_init : MethodName := ⟨RX12, "<init>", "([BI)V"⟩
def dkwX12_init_1 : List UInt8 := [181, 0, 22, 177]
abbrev dktX12_init_1 : List UInt8 := dkwX12_init_1 ++ []
def dkwX12_init_0 : List UInt8 := [42, 183, 0, 3, 42, 187, 0, 9, 89, 183, 0, 11, 181, 0, 12, 42, 43, 181, 0, 18, 42, 28]
abbrev dktX12_init_0 : List UInt8 := dkwX12_init_0 ++ dktX12_init_1
theorem dksX12_init_0 : cX12_init.data.toList.drop 0 = dktX12_init_0 := by decide +kernel
theorem dksX12_init_1 : cX12_init.data.toList.drop 22 = dktX12_init_1 := dk_seg dksX12_init_0 22 rfl rfl
theorem dX12_init_0 : decode cX12_init 0 = .ok (.aload_n 0, 1) := dk_42 (dk_at dksX12_init_0 0 rfl rfl)
theorem dX12_init_1 : decode cX12_init 1 = .ok (.invokespecial 3, 3) := dk_183 0 3 (dk_at dksX12_init_0 1 rfl rfl)
theorem dX12_init_4 : decode cX12_init 4 = .ok (.aload_n 0, 1) := dk_42 (dk_at dksX12_init_0 4 rfl rfl)
theorem dX12_init_5 : decode cX12_init 5 = .ok (.new 9, 3) := dk_187 0 9 (dk_at dksX12_init_0 5 rfl rfl)
theorem dX12_init_8 : decode cX12_init 8 = .ok (.dup, 1) := dk_89 (dk_at dksX12_init_0 8 rfl rfl)
theorem dX12_init_9 : decode cX12_init 9 = .ok (.invokespecial 11, 3) := dk_183 0 11 (dk_at dksX12_init_0 9 rfl rfl)
theorem dX12_init_12 : decode cX12_init 12 = .ok (.putfield 12, 3) := dk_181 0 12 (dk_at dksX12_init_0 12 rfl rfl)
theorem dX12_init_15 : decode cX12_init 15 = .ok (.aload_n 0, 1) := dk_42 (dk_at dksX12_init_0 15 rfl rfl)
theorem dX12_init_16 : decode cX12_init 16 = .ok (.aload_n 1, 1) := dk_43 (dk_at dksX12_init_0 16 rfl rfl)
theorem dX12_init_17 : decode cX12_init 17 = .ok (.putfield 18, 3) := dk_181 0 18 (dk_at dksX12_init_0 17 rfl rfl)
theorem dX12_init_20 : decode cX12_init 20 = .ok (.aload_n 0, 1) := dk_42 (dk_at dksX12_init_0 20 rfl rfl)
theorem dX12_init_21 : decode cX12_init 21 = .ok (.iload_n 2, 1) := dk_28 (dk_at dksX12_init_0 21 rfl rfl)
theorem dX12_init_22 : decode cX12_init 22 = .ok (.putfield 22, 3) := dk_181 0 22 (dk_at dksX12_init_1 0 rfl rfl)
theorem dX12_init_25 : decode cX12_init 25 = .ok (.return_, 1) := dk_177 (dk_at dksX12_init_1 3 rfl rfl)
abbrev cX12_all : ByteArray := prog_10_method_12_code
def yX12_all : MethodName := ⟨RX12, "all", "()V"⟩
def dkwX12_all_5 : List UInt8 := [154, 0, 7, 4, 167, 0, 4, 3, 4, 182, 0, 60, 42, 180, 0, 12, 27, 181, 0, 110, 177]
abbrev dktX12_all_5 : List UInt8 := dkwX12_all_5 ++ []
def dkwX12_all_4 : List UInt8 := [182, 0, 60, 42, 16, 118, 182, 0, 88, 153, 0, 10, 42, 182, 0, 107, 167, 255, 243, 42, 42, 180, 0, 40]
abbrev dktX12_all_4 : List UInt8 := dkwX12_all_4 ++ dktX12_all_5
def dkwX12_all_3 : List UInt8 := [182, 0, 100, 18, 29, 159, 0, 10, 42, 182, 0, 104, 167, 255, 241, 42, 42, 16, 118, 182, 0, 88, 4]
abbrev dktX12_all_3 : List UInt8 := dkwX12_all_3 ++ dktX12_all_4
def dkwX12_all_2 : List UInt8 := [42, 18, 98, 182, 0, 100, 18, 29, 159, 0, 7, 4, 167, 0, 4, 3, 4, 182, 0, 60, 42, 18, 98]
abbrev dktX12_all_2 : List UInt8 := dkwX12_all_2 ++ dktX12_all_3
def dkwX12_all_1 : List UInt8 := [182, 0, 71, 60, 42, 180, 0, 12, 42, 3, 16, 8, 182, 0, 92, 181, 0, 95, 42, 7, 182, 0, 67, 42]
abbrev dktX12_all_1 : List UInt8 := dkwX12_all_1 ++ dktX12_all_2
def dkwX12_all_0 : List UInt8 := [42, 182, 0, 64, 42, 42, 16, 100, 182, 0, 88, 4, 182, 0, 60, 42, 182, 0, 64, 42, 4, 16, 9]
abbrev dktX12_all_0 : List UInt8 := dkwX12_all_0 ++ dktX12_all_1
theorem dksX12_all_0 : cX12_all.data.toList.drop 0 = dktX12_all_0 := by decide +kernel
theorem dksX12_all_1 : cX12_all.data.toList.drop 23 = dktX12_all_1 := dk_seg dksX12_all_0 23 rfl rfl
theorem dksX12_all_2 : cX12_all.data.toList.drop 47 = dktX12_all_2 := dk_seg dksX12_all_1 24 rfl rfl
theorem dksX12_all_3 : cX12_all.data.toList.drop 70 = dktX12_all_3 := dk_seg dksX12_all_2 23 rfl rfl
theorem dksX12_all_4 : cX12_all.data.toList.drop 93 = dktX12_all_4 := dk_seg dksX12_all_3 23 rfl rfl
theorem dksX12_all_5 : cX12_all.data.toList.drop 117 = dktX12_all_5 := dk_seg dksX12_all_4 24 rfl rfl
theorem dX12_all_0 : decode cX12_all 0 = .ok (.aload_n 0, 1) := dk_42 (dk_at dksX12_all_0 0 rfl rfl)
theorem dX12_all_1 : decode cX12_all 1 = .ok (.invokevirtual 64, 3) := dk_182 0 64 (dk_at dksX12_all_0 1 rfl rfl)
theorem dX12_all_4 : decode cX12_all 4 = .ok (.aload_n 0, 1) := dk_42 (dk_at dksX12_all_0 4 rfl rfl)
theorem dX12_all_5 : decode cX12_all 5 = .ok (.aload_n 0, 1) := dk_42 (dk_at dksX12_all_0 5 rfl rfl)
theorem dX12_all_6 : decode cX12_all 6 = .ok (.bipush 100, 2) := dk_16 100 (dk_at dksX12_all_0 6 rfl rfl)
theorem dX12_all_8 : decode cX12_all 8 = .ok (.invokevirtual 88, 3) := dk_182 0 88 (dk_at dksX12_all_0 8 rfl rfl)
theorem dX12_all_11 : decode cX12_all 11 = .ok (.iconst 1, 1) := dk_4 (dk_at dksX12_all_0 11 rfl rfl)
theorem dX12_all_12 : decode cX12_all 12 = .ok (.invokevirtual 60, 3) := dk_182 0 60 (dk_at dksX12_all_0 12 rfl rfl)
theorem dX12_all_15 : decode cX12_all 15 = .ok (.aload_n 0, 1) := dk_42 (dk_at dksX12_all_0 15 rfl rfl)
theorem dX12_all_16 : decode cX12_all 16 = .ok (.invokevirtual 64, 3) := dk_182 0 64 (dk_at dksX12_all_0 16 rfl rfl)
theorem dX12_all_19 : decode cX12_all 19 = .ok (.aload_n 0, 1) := dk_42 (dk_at dksX12_all_0 19 rfl rfl)
theorem dX12_all_20 : decode cX12_all 20 = .ok (.iconst 1, 1) := dk_4 (dk_at dksX12_all_0 20 rfl rfl)
theorem dX12_all_21 : decode cX12_all 21 = .ok (.bipush 9, 2) := dk_16 9 (dk_at dksX12_all_0 21 rfl rfl)
theorem dX12_all_23 : decode cX12_all 23 = .ok (.invokevirtual 71, 3) := dk_182 0 71 (dk_at dksX12_all_1 0 rfl rfl)
theorem dX12_all_26 : decode cX12_all 26 = .ok (.istore_n 1, 1) := dk_60 (dk_at dksX12_all_1 3 rfl rfl)
theorem dX12_all_27 : decode cX12_all 27 = .ok (.aload_n 0, 1) := dk_42 (dk_at dksX12_all_1 4 rfl rfl)
theorem dX12_all_28 : decode cX12_all 28 = .ok (.getfield 12, 3) := dk_180 0 12 (dk_at dksX12_all_1 5 rfl rfl)
theorem dX12_all_31 : decode cX12_all 31 = .ok (.aload_n 0, 1) := dk_42 (dk_at dksX12_all_1 8 rfl rfl)
theorem dX12_all_32 : decode cX12_all 32 = .ok (.iconst 0, 1) := dk_3 (dk_at dksX12_all_1 9 rfl rfl)
theorem dX12_all_33 : decode cX12_all 33 = .ok (.bipush 8, 2) := dk_16 8 (dk_at dksX12_all_1 10 rfl rfl)
theorem dX12_all_35 : decode cX12_all 35 = .ok (.invokevirtual 92, 3) := dk_182 0 92 (dk_at dksX12_all_1 12 rfl rfl)
theorem dX12_all_38 : decode cX12_all 38 = .ok (.putfield 95, 3) := dk_181 0 95 (dk_at dksX12_all_1 15 rfl rfl)
theorem dX12_all_41 : decode cX12_all 41 = .ok (.aload_n 0, 1) := dk_42 (dk_at dksX12_all_1 18 rfl rfl)
theorem dX12_all_42 : decode cX12_all 42 = .ok (.iconst 4, 1) := dk_7 (dk_at dksX12_all_1 19 rfl rfl)
theorem dX12_all_43 : decode cX12_all 43 = .ok (.invokevirtual 67, 3) := dk_182 0 67 (dk_at dksX12_all_1 20 rfl rfl)
theorem dX12_all_46 : decode cX12_all 46 = .ok (.aload_n 0, 1) := dk_42 (dk_at dksX12_all_1 23 rfl rfl)
theorem dX12_all_47 : decode cX12_all 47 = .ok (.aload_n 0, 1) := dk_42 (dk_at dksX12_all_2 0 rfl rfl)
theorem dX12_all_48 : decode cX12_all 48 = .ok (.ldc 98, 2) := dk_18 98 (dk_at dksX12_all_2 1 rfl rfl)
theorem dX12_all_50 : decode cX12_all 50 = .ok (.invokevirtual 100, 3) := dk_182 0 100 (dk_at dksX12_all_2 3 rfl rfl)
theorem dX12_all_53 : decode cX12_all 53 = .ok (.ldc 29, 2) := dk_18 29 (dk_at dksX12_all_2 6 rfl rfl)
theorem dX12_all_55 : decode cX12_all 55 = .ok (.if_icmp .eq 7, 3) := dk_159 0 7 (dk_at dksX12_all_2 8 rfl rfl)
theorem dX12_all_58 : decode cX12_all 58 = .ok (.iconst 1, 1) := dk_4 (dk_at dksX12_all_2 11 rfl rfl)
theorem dX12_all_59 : decode cX12_all 59 = .ok (.goto 4, 3) := dk_167 0 4 (dk_at dksX12_all_2 12 rfl rfl)
theorem dX12_all_62 : decode cX12_all 62 = .ok (.iconst 0, 1) := dk_3 (dk_at dksX12_all_2 15 rfl rfl)
theorem dX12_all_63 : decode cX12_all 63 = .ok (.iconst 1, 1) := dk_4 (dk_at dksX12_all_2 16 rfl rfl)
theorem dX12_all_64 : decode cX12_all 64 = .ok (.invokevirtual 60, 3) := dk_182 0 60 (dk_at dksX12_all_2 17 rfl rfl)
theorem dX12_all_67 : decode cX12_all 67 = .ok (.aload_n 0, 1) := dk_42 (dk_at dksX12_all_2 20 rfl rfl)
theorem dX12_all_68 : decode cX12_all 68 = .ok (.ldc 98, 2) := dk_18 98 (dk_at dksX12_all_2 21 rfl rfl)
theorem dX12_all_70 : decode cX12_all 70 = .ok (.invokevirtual 100, 3) := dk_182 0 100 (dk_at dksX12_all_3 0 rfl rfl)
theorem dX12_all_73 : decode cX12_all 73 = .ok (.ldc 29, 2) := dk_18 29 (dk_at dksX12_all_3 3 rfl rfl)
theorem dX12_all_75 : decode cX12_all 75 = .ok (.if_icmp .eq 10, 3) := dk_159 0 10 (dk_at dksX12_all_3 5 rfl rfl)
theorem dX12_all_78 : decode cX12_all 78 = .ok (.aload_n 0, 1) := dk_42 (dk_at dksX12_all_3 8 rfl rfl)
theorem dX12_all_79 : decode cX12_all 79 = .ok (.invokevirtual 104, 3) := dk_182 0 104 (dk_at dksX12_all_3 9 rfl rfl)
theorem dX12_all_82 : decode cX12_all 82 = .ok (.goto (-15), 3) := dk_167 255 241 (dk_at dksX12_all_3 12 rfl rfl)
theorem dX12_all_85 : decode cX12_all 85 = .ok (.aload_n 0, 1) := dk_42 (dk_at dksX12_all_3 15 rfl rfl)
theorem dX12_all_86 : decode cX12_all 86 = .ok (.aload_n 0, 1) := dk_42 (dk_at dksX12_all_3 16 rfl rfl)
theorem dX12_all_87 : decode cX12_all 87 = .ok (.bipush 118, 2) := dk_16 118 (dk_at dksX12_all_3 17 rfl rfl)
theorem dX12_all_89 : decode cX12_all 89 = .ok (.invokevirtual 88, 3) := dk_182 0 88 (dk_at dksX12_all_3 19 rfl rfl)
theorem dX12_all_92 : decode cX12_all 92 = .ok (.iconst 1, 1) := dk_4 (dk_at dksX12_all_3 22 rfl rfl)
theorem dX12_all_93 : decode cX12_all 93 = .ok (.invokevirtual 60, 3) := dk_182 0 60 (dk_at dksX12_all_4 0 rfl rfl)
theorem dX12_all_96 : decode cX12_all 96 = .ok (.aload_n 0, 1) := dk_42 (dk_at dksX12_all_4 3 rfl rfl)
theorem dX12_all_97 : decode cX12_all 97 = .ok (.bipush 118, 2) := dk_16 118 (dk_at dksX12_all_4 4 rfl rfl)
theorem dX12_all_99 : decode cX12_all 99 = .ok (.invokevirtual 88, 3) := dk_182 0 88 (dk_at dksX12_all_4 6 rfl rfl)
theorem dX12_all_102 : decode cX12_all 102 = .ok (.ifCond .eq 10, 3) := dk_153 0 10 (dk_at dksX12_all_4 9 rfl rfl)
theorem dX12_all_105 : decode cX12_all 105 = .ok (.aload_n 0, 1) := dk_42 (dk_at dksX12_all_4 12 rfl rfl)
theorem dX12_all_106 : decode cX12_all 106 = .ok (.invokevirtual 107, 3) := dk_182 0 107 (dk_at dksX12_all_4 13 rfl rfl)
theorem dX12_all_109 : decode cX12_all 109 = .ok (.goto (-13), 3) := dk_167 255 243 (dk_at dksX12_all_4 16 rfl rfl)
theorem dX12_all_112 : decode cX12_all 112 = .ok (.aload_n 0, 1) := dk_42 (dk_at dksX12_all_4 19 rfl rfl)
theorem dX12_all_113 : decode cX12_all 113 = .ok (.aload_n 0, 1) := dk_42 (dk_at dksX12_all_4 20 rfl rfl)
theorem dX12_all_114 : decode cX12_all 114 = .ok (.getfield 40, 3) := dk_180 0 40 (dk_at dksX12_all_4 21 rfl rfl)
theorem dX12_all_117 : decode cX12_all 117 = .ok (.ifCond .ne 7, 3) := dk_154 0 7 (dk_at dksX12_all_5 0 rfl rfl)
theorem dX12_all_120 : decode cX12_all 120 = .ok (.iconst 1, 1) := dk_4 (dk_at dksX12_all_5 3 rfl rfl)
theorem dX12_all_121 : decode cX12_all 121 = .ok (.goto 4, 3) := dk_167 0 4 (dk_at dksX12_all_5 4 rfl rfl)
theorem dX12_all_124 : decode cX12_all 124 = .ok (.iconst 0, 1) := dk_3 (dk_at dksX12_all_5 7 rfl rfl)
theorem dX12_all_125 : decode cX12_all 125 = .ok (.iconst 1, 1) := dk_4 (dk_at dksX12_all_5 8 rfl rfl)
theorem dX12_all_126 : decode cX12_all 126 = .ok (.invokevirtual 60, 3) := dk_182 0 60 (dk_at dksX12_all_5 9 rfl rfl)
theorem dX12_all_129 : decode cX12_all 129 = .ok (.aload_n 0, 1) := dk_42 (dk_at dksX12_all_5 12 rfl rfl)
theorem dX12_all_130 : decode cX12_all 130 = .ok (.getfield 12, 3) := dk_180 0 12 (dk_at dksX12_all_5 13 rfl rfl)
theorem dX12_all_133 : decode cX12_all 133 = .ok (.iload_n 1, 1) := dk_27 (dk_at dksX12_all_5 16 rfl rfl)
theorem dX12_all_134 : decode cX12_all 134 = .ok (.putfield 110, 3) := dk_181 0 110 (dk_at dksX12_all_5 17 rfl rfl)
theorem dX12_all_137 : decode cX12_all 137 = .ok (.return_, 1) := dk_177 (dk_at dksX12_all_5 20 rfl rfl)
abbrev cX12_next : ByteArray := prog_10_method_3_code
def yX12_next : MethodName := ⟨RX12, "next", "()V"⟩
def dkwX12_next_8 : List UInt8 := [16, 59, 160, 0, 7, 7, 167, 0, 4, 8, 181, 0, 40, 177]
abbrev dktX12_next_8 : List UInt8 := dkwX12_next_8 ++ []
def dkwX12_next_7 : List UInt8 := [20, 0, 53, 184, 0, 47, 153, 0, 7, 4, 167, 0, 24, 27, 16, 44, 160, 0, 7, 6, 167, 0, 14, 27]
abbrev dktX12_next_7 : List UInt8 := dkwX12_next_7 ++ dktX12_next_8
def dkwX12_next_6 : List UInt8 := [181, 0, 40, 167, 0, 56, 42, 89, 180, 0, 26, 4, 96, 181, 0, 26, 42, 27, 133, 20, 0, 51]
abbrev dktX12_next_6 : List UInt8 := dkwX12_next_6 ++ dktX12_next_7
def dkwX12_next_5 : List UInt8 := [167, 255, 190, 42, 42, 180, 0, 26, 42, 180, 0, 30, 100, 5, 163, 0, 7, 5, 167, 0, 4, 8]
abbrev dktX12_next_5 : List UInt8 := dkwX12_next_5 ++ dktX12_next_6
def dkwX12_next_4 : List UInt8 := [16, 48, 100, 167, 0, 7, 42, 180, 0, 37, 181, 0, 37, 42, 89, 180, 0, 26, 4, 96, 181, 0, 26]
abbrev dktX12_next_4 : List UInt8 := dkwX12_next_4 ++ dktX12_next_5
def dkwX12_next_3 : List UInt8 := [180, 0, 26, 42, 180, 0, 30, 100, 5, 162, 0, 21, 16, 10, 42, 180, 0, 37, 104, 42, 182, 0, 33, 96]
abbrev dktX12_next_3 : List UInt8 := dkwX12_next_3 ++ dktX12_next_4
def dkwX12_next_2 : List UInt8 := [181, 0, 37, 42, 182, 0, 33, 133, 20, 0, 43, 20, 0, 45, 184, 0, 47, 153, 0, 55, 42, 42]
abbrev dktX12_next_2 : List UInt8 := dkwX12_next_2 ++ dktX12_next_3
def dkwX12_next_1 : List UInt8 := [42, 3, 181, 0, 40, 167, 0, 169, 27, 133, 20, 0, 43, 20, 0, 45, 184, 0, 47, 153, 0, 102, 42, 3]
abbrev dktX12_next_1 : List UInt8 := dkwX12_next_1 ++ dktX12_next_2
def dkwX12_next_0 : List UInt8 := [42, 42, 180, 0, 26, 181, 0, 30, 42, 182, 0, 33, 60, 42, 27, 181, 0, 37, 27, 18, 29, 160, 0, 11]
abbrev dktX12_next_0 : List UInt8 := dkwX12_next_0 ++ dktX12_next_1
theorem dksX12_next_0 : cX12_next.data.toList.drop 0 = dktX12_next_0 := by decide +kernel
theorem dksX12_next_1 : cX12_next.data.toList.drop 24 = dktX12_next_1 := dk_seg dksX12_next_0 24 rfl rfl
theorem dksX12_next_2 : cX12_next.data.toList.drop 48 = dktX12_next_2 := dk_seg dksX12_next_1 24 rfl rfl
theorem dksX12_next_3 : cX12_next.data.toList.drop 70 = dktX12_next_3 := dk_seg dksX12_next_2 22 rfl rfl
theorem dksX12_next_4 : cX12_next.data.toList.drop 94 = dktX12_next_4 := dk_seg dksX12_next_3 24 rfl rfl
theorem dksX12_next_5 : cX12_next.data.toList.drop 117 = dktX12_next_5 := dk_seg dksX12_next_4 23 rfl rfl
theorem dksX12_next_6 : cX12_next.data.toList.drop 139 = dktX12_next_6 := dk_seg dksX12_next_5 22 rfl rfl
theorem dksX12_next_7 : cX12_next.data.toList.drop 161 = dktX12_next_7 := dk_seg dksX12_next_6 22 rfl rfl
theorem dksX12_next_8 : cX12_next.data.toList.drop 185 = dktX12_next_8 := dk_seg dksX12_next_7 24 rfl rfl
theorem dX12_next_0 : decode cX12_next 0 = .ok (.aload_n 0, 1) := dk_42 (dk_at dksX12_next_0 0 rfl rfl)
theorem dX12_next_1 : decode cX12_next 1 = .ok (.aload_n 0, 1) := dk_42 (dk_at dksX12_next_0 1 rfl rfl)
theorem dX12_next_2 : decode cX12_next 2 = .ok (.getfield 26, 3) := dk_180 0 26 (dk_at dksX12_next_0 2 rfl rfl)
theorem dX12_next_5 : decode cX12_next 5 = .ok (.putfield 30, 3) := dk_181 0 30 (dk_at dksX12_next_0 5 rfl rfl)
theorem dX12_next_8 : decode cX12_next 8 = .ok (.aload_n 0, 1) := dk_42 (dk_at dksX12_next_0 8 rfl rfl)
theorem dX12_next_9 : decode cX12_next 9 = .ok (.invokevirtual 33, 3) := dk_182 0 33 (dk_at dksX12_next_0 9 rfl rfl)
theorem dX12_next_12 : decode cX12_next 12 = .ok (.istore_n 1, 1) := dk_60 (dk_at dksX12_next_0 12 rfl rfl)
theorem dX12_next_13 : decode cX12_next 13 = .ok (.aload_n 0, 1) := dk_42 (dk_at dksX12_next_0 13 rfl rfl)
theorem dX12_next_14 : decode cX12_next 14 = .ok (.iload_n 1, 1) := dk_27 (dk_at dksX12_next_0 14 rfl rfl)
theorem dX12_next_15 : decode cX12_next 15 = .ok (.putfield 37, 3) := dk_181 0 37 (dk_at dksX12_next_0 15 rfl rfl)
theorem dX12_next_18 : decode cX12_next 18 = .ok (.iload_n 1, 1) := dk_27 (dk_at dksX12_next_0 18 rfl rfl)
theorem dX12_next_19 : decode cX12_next 19 = .ok (.ldc 29, 2) := dk_18 29 (dk_at dksX12_next_0 19 rfl rfl)
theorem dX12_next_21 : decode cX12_next 21 = .ok (.if_icmp .ne 11, 3) := dk_160 0 11 (dk_at dksX12_next_0 21 rfl rfl)
theorem dX12_next_24 : decode cX12_next 24 = .ok (.aload_n 0, 1) := dk_42 (dk_at dksX12_next_1 0 rfl rfl)
theorem dX12_next_25 : decode cX12_next 25 = .ok (.iconst 0, 1) := dk_3 (dk_at dksX12_next_1 1 rfl rfl)
theorem dX12_next_26 : decode cX12_next 26 = .ok (.putfield 40, 3) := dk_181 0 40 (dk_at dksX12_next_1 2 rfl rfl)
theorem dX12_next_29 : decode cX12_next 29 = .ok (.goto 169, 3) := dk_167 0 169 (dk_at dksX12_next_1 5 rfl rfl)
theorem dX12_next_32 : decode cX12_next 32 = .ok (.iload_n 1, 1) := dk_27 (dk_at dksX12_next_1 8 rfl rfl)
theorem dX12_next_33 : decode cX12_next 33 = .ok (.i2l, 1) := dk_133 (dk_at dksX12_next_1 9 rfl rfl)
theorem dX12_next_34 : decode cX12_next 34 = .ok (.ldc2_w 43, 3) := dk_20 0 43 (dk_at dksX12_next_1 10 rfl rfl)
theorem dX12_next_37 : decode cX12_next 37 = .ok (.ldc2_w 45, 3) := dk_20 0 45 (dk_at dksX12_next_1 13 rfl rfl)
theorem dX12_next_40 : decode cX12_next 40 = .ok (.invokestatic 47, 3) := dk_184 0 47 (dk_at dksX12_next_1 16 rfl rfl)
theorem dX12_next_43 : decode cX12_next 43 = .ok (.ifCond .eq 102, 3) := dk_153 0 102 (dk_at dksX12_next_1 19 rfl rfl)
theorem dX12_next_46 : decode cX12_next 46 = .ok (.aload_n 0, 1) := dk_42 (dk_at dksX12_next_1 22 rfl rfl)
theorem dX12_next_47 : decode cX12_next 47 = .ok (.iconst 0, 1) := dk_3 (dk_at dksX12_next_1 23 rfl rfl)
theorem dX12_next_48 : decode cX12_next 48 = .ok (.putfield 37, 3) := dk_181 0 37 (dk_at dksX12_next_2 0 rfl rfl)
theorem dX12_next_51 : decode cX12_next 51 = .ok (.aload_n 0, 1) := dk_42 (dk_at dksX12_next_2 3 rfl rfl)
theorem dX12_next_52 : decode cX12_next 52 = .ok (.invokevirtual 33, 3) := dk_182 0 33 (dk_at dksX12_next_2 4 rfl rfl)
theorem dX12_next_55 : decode cX12_next 55 = .ok (.i2l, 1) := dk_133 (dk_at dksX12_next_2 7 rfl rfl)
theorem dX12_next_56 : decode cX12_next 56 = .ok (.ldc2_w 43, 3) := dk_20 0 43 (dk_at dksX12_next_2 8 rfl rfl)
theorem dX12_next_59 : decode cX12_next 59 = .ok (.ldc2_w 45, 3) := dk_20 0 45 (dk_at dksX12_next_2 11 rfl rfl)
theorem dX12_next_62 : decode cX12_next 62 = .ok (.invokestatic 47, 3) := dk_184 0 47 (dk_at dksX12_next_2 14 rfl rfl)
theorem dX12_next_65 : decode cX12_next 65 = .ok (.ifCond .eq 55, 3) := dk_153 0 55 (dk_at dksX12_next_2 17 rfl rfl)
theorem dX12_next_68 : decode cX12_next 68 = .ok (.aload_n 0, 1) := dk_42 (dk_at dksX12_next_2 20 rfl rfl)
theorem dX12_next_69 : decode cX12_next 69 = .ok (.aload_n 0, 1) := dk_42 (dk_at dksX12_next_2 21 rfl rfl)
theorem dX12_next_70 : decode cX12_next 70 = .ok (.getfield 26, 3) := dk_180 0 26 (dk_at dksX12_next_3 0 rfl rfl)
theorem dX12_next_73 : decode cX12_next 73 = .ok (.aload_n 0, 1) := dk_42 (dk_at dksX12_next_3 3 rfl rfl)
theorem dX12_next_74 : decode cX12_next 74 = .ok (.getfield 30, 3) := dk_180 0 30 (dk_at dksX12_next_3 4 rfl rfl)
theorem dX12_next_77 : decode cX12_next 77 = .ok (.isub, 1) := dk_100 (dk_at dksX12_next_3 7 rfl rfl)
theorem dX12_next_78 : decode cX12_next 78 = .ok (.iconst 2, 1) := dk_5 (dk_at dksX12_next_3 8 rfl rfl)
theorem dX12_next_79 : decode cX12_next 79 = .ok (.if_icmp .ge 21, 3) := dk_162 0 21 (dk_at dksX12_next_3 9 rfl rfl)
theorem dX12_next_82 : decode cX12_next 82 = .ok (.bipush 10, 2) := dk_16 10 (dk_at dksX12_next_3 12 rfl rfl)
theorem dX12_next_84 : decode cX12_next 84 = .ok (.aload_n 0, 1) := dk_42 (dk_at dksX12_next_3 14 rfl rfl)
theorem dX12_next_85 : decode cX12_next 85 = .ok (.getfield 37, 3) := dk_180 0 37 (dk_at dksX12_next_3 15 rfl rfl)
theorem dX12_next_88 : decode cX12_next 88 = .ok (.imul, 1) := dk_104 (dk_at dksX12_next_3 18 rfl rfl)
theorem dX12_next_89 : decode cX12_next 89 = .ok (.aload_n 0, 1) := dk_42 (dk_at dksX12_next_3 19 rfl rfl)
theorem dX12_next_90 : decode cX12_next 90 = .ok (.invokevirtual 33, 3) := dk_182 0 33 (dk_at dksX12_next_3 20 rfl rfl)
theorem dX12_next_93 : decode cX12_next 93 = .ok (.iadd, 1) := dk_96 (dk_at dksX12_next_3 23 rfl rfl)
theorem dX12_next_94 : decode cX12_next 94 = .ok (.bipush 48, 2) := dk_16 48 (dk_at dksX12_next_4 0 rfl rfl)
theorem dX12_next_96 : decode cX12_next 96 = .ok (.isub, 1) := dk_100 (dk_at dksX12_next_4 2 rfl rfl)
theorem dX12_next_97 : decode cX12_next 97 = .ok (.goto 7, 3) := dk_167 0 7 (dk_at dksX12_next_4 3 rfl rfl)
theorem dX12_next_100 : decode cX12_next 100 = .ok (.aload_n 0, 1) := dk_42 (dk_at dksX12_next_4 6 rfl rfl)
theorem dX12_next_101 : decode cX12_next 101 = .ok (.getfield 37, 3) := dk_180 0 37 (dk_at dksX12_next_4 7 rfl rfl)
theorem dX12_next_104 : decode cX12_next 104 = .ok (.putfield 37, 3) := dk_181 0 37 (dk_at dksX12_next_4 10 rfl rfl)
theorem dX12_next_107 : decode cX12_next 107 = .ok (.aload_n 0, 1) := dk_42 (dk_at dksX12_next_4 13 rfl rfl)
theorem dX12_next_108 : decode cX12_next 108 = .ok (.dup, 1) := dk_89 (dk_at dksX12_next_4 14 rfl rfl)
theorem dX12_next_109 : decode cX12_next 109 = .ok (.getfield 26, 3) := dk_180 0 26 (dk_at dksX12_next_4 15 rfl rfl)
theorem dX12_next_112 : decode cX12_next 112 = .ok (.iconst 1, 1) := dk_4 (dk_at dksX12_next_4 18 rfl rfl)
theorem dX12_next_113 : decode cX12_next 113 = .ok (.iadd, 1) := dk_96 (dk_at dksX12_next_4 19 rfl rfl)
theorem dX12_next_114 : decode cX12_next 114 = .ok (.putfield 26, 3) := dk_181 0 26 (dk_at dksX12_next_4 20 rfl rfl)
theorem dX12_next_117 : decode cX12_next 117 = .ok (.goto (-66), 3) := dk_167 255 190 (dk_at dksX12_next_5 0 rfl rfl)
theorem dX12_next_120 : decode cX12_next 120 = .ok (.aload_n 0, 1) := dk_42 (dk_at dksX12_next_5 3 rfl rfl)
theorem dX12_next_121 : decode cX12_next 121 = .ok (.aload_n 0, 1) := dk_42 (dk_at dksX12_next_5 4 rfl rfl)
theorem dX12_next_122 : decode cX12_next 122 = .ok (.getfield 26, 3) := dk_180 0 26 (dk_at dksX12_next_5 5 rfl rfl)
theorem dX12_next_125 : decode cX12_next 125 = .ok (.aload_n 0, 1) := dk_42 (dk_at dksX12_next_5 8 rfl rfl)
theorem dX12_next_126 : decode cX12_next 126 = .ok (.getfield 30, 3) := dk_180 0 30 (dk_at dksX12_next_5 9 rfl rfl)
theorem dX12_next_129 : decode cX12_next 129 = .ok (.isub, 1) := dk_100 (dk_at dksX12_next_5 12 rfl rfl)
theorem dX12_next_130 : decode cX12_next 130 = .ok (.iconst 2, 1) := dk_5 (dk_at dksX12_next_5 13 rfl rfl)
theorem dX12_next_131 : decode cX12_next 131 = .ok (.if_icmp .gt 7, 3) := dk_163 0 7 (dk_at dksX12_next_5 14 rfl rfl)
theorem dX12_next_134 : decode cX12_next 134 = .ok (.iconst 2, 1) := dk_5 (dk_at dksX12_next_5 17 rfl rfl)
theorem dX12_next_135 : decode cX12_next 135 = .ok (.goto 4, 3) := dk_167 0 4 (dk_at dksX12_next_5 18 rfl rfl)
theorem dX12_next_138 : decode cX12_next 138 = .ok (.iconst 5, 1) := dk_8 (dk_at dksX12_next_5 21 rfl rfl)
theorem dX12_next_139 : decode cX12_next 139 = .ok (.putfield 40, 3) := dk_181 0 40 (dk_at dksX12_next_6 0 rfl rfl)
theorem dX12_next_142 : decode cX12_next 142 = .ok (.goto 56, 3) := dk_167 0 56 (dk_at dksX12_next_6 3 rfl rfl)
theorem dX12_next_145 : decode cX12_next 145 = .ok (.aload_n 0, 1) := dk_42 (dk_at dksX12_next_6 6 rfl rfl)
theorem dX12_next_146 : decode cX12_next 146 = .ok (.dup, 1) := dk_89 (dk_at dksX12_next_6 7 rfl rfl)
theorem dX12_next_147 : decode cX12_next 147 = .ok (.getfield 26, 3) := dk_180 0 26 (dk_at dksX12_next_6 8 rfl rfl)
theorem dX12_next_150 : decode cX12_next 150 = .ok (.iconst 1, 1) := dk_4 (dk_at dksX12_next_6 11 rfl rfl)
theorem dX12_next_151 : decode cX12_next 151 = .ok (.iadd, 1) := dk_96 (dk_at dksX12_next_6 12 rfl rfl)
theorem dX12_next_152 : decode cX12_next 152 = .ok (.putfield 26, 3) := dk_181 0 26 (dk_at dksX12_next_6 13 rfl rfl)
theorem dX12_next_155 : decode cX12_next 155 = .ok (.aload_n 0, 1) := dk_42 (dk_at dksX12_next_6 16 rfl rfl)
theorem dX12_next_156 : decode cX12_next 156 = .ok (.iload_n 1, 1) := dk_27 (dk_at dksX12_next_6 17 rfl rfl)
theorem dX12_next_157 : decode cX12_next 157 = .ok (.i2l, 1) := dk_133 (dk_at dksX12_next_6 18 rfl rfl)
theorem dX12_next_158 : decode cX12_next 158 = .ok (.ldc2_w 51, 3) := dk_20 0 51 (dk_at dksX12_next_6 19 rfl rfl)
theorem dX12_next_161 : decode cX12_next 161 = .ok (.ldc2_w 53, 3) := dk_20 0 53 (dk_at dksX12_next_7 0 rfl rfl)
theorem dX12_next_164 : decode cX12_next 164 = .ok (.invokestatic 47, 3) := dk_184 0 47 (dk_at dksX12_next_7 3 rfl rfl)
theorem dX12_next_167 : decode cX12_next 167 = .ok (.ifCond .eq 7, 3) := dk_153 0 7 (dk_at dksX12_next_7 6 rfl rfl)
theorem dX12_next_170 : decode cX12_next 170 = .ok (.iconst 1, 1) := dk_4 (dk_at dksX12_next_7 9 rfl rfl)
theorem dX12_next_171 : decode cX12_next 171 = .ok (.goto 24, 3) := dk_167 0 24 (dk_at dksX12_next_7 10 rfl rfl)
theorem dX12_next_174 : decode cX12_next 174 = .ok (.iload_n 1, 1) := dk_27 (dk_at dksX12_next_7 13 rfl rfl)
theorem dX12_next_175 : decode cX12_next 175 = .ok (.bipush 44, 2) := dk_16 44 (dk_at dksX12_next_7 14 rfl rfl)
theorem dX12_next_177 : decode cX12_next 177 = .ok (.if_icmp .ne 7, 3) := dk_160 0 7 (dk_at dksX12_next_7 16 rfl rfl)
theorem dX12_next_180 : decode cX12_next 180 = .ok (.iconst 3, 1) := dk_6 (dk_at dksX12_next_7 19 rfl rfl)
theorem dX12_next_181 : decode cX12_next 181 = .ok (.goto 14, 3) := dk_167 0 14 (dk_at dksX12_next_7 20 rfl rfl)
theorem dX12_next_184 : decode cX12_next 184 = .ok (.iload_n 1, 1) := dk_27 (dk_at dksX12_next_7 23 rfl rfl)
theorem dX12_next_185 : decode cX12_next 185 = .ok (.bipush 59, 2) := dk_16 59 (dk_at dksX12_next_8 0 rfl rfl)
theorem dX12_next_187 : decode cX12_next 187 = .ok (.if_icmp .ne 7, 3) := dk_160 0 7 (dk_at dksX12_next_8 2 rfl rfl)
theorem dX12_next_190 : decode cX12_next 190 = .ok (.iconst 4, 1) := dk_7 (dk_at dksX12_next_8 5 rfl rfl)
theorem dX12_next_191 : decode cX12_next 191 = .ok (.goto 4, 3) := dk_167 0 4 (dk_at dksX12_next_8 6 rfl rfl)
theorem dX12_next_194 : decode cX12_next 194 = .ok (.iconst 5, 1) := dk_8 (dk_at dksX12_next_8 9 rfl rfl)
theorem dX12_next_195 : decode cX12_next 195 = .ok (.putfield 40, 3) := dk_181 0 40 (dk_at dksX12_next_8 10 rfl rfl)
theorem dX12_next_198 : decode cX12_next 198 = .ok (.return_, 1) := dk_177 (dk_at dksX12_next_8 13 rfl rfl)
abbrev cX12_look : ByteArray := prog_10_method_2_code
def yX12_look : MethodName := ⟨RX12, "look", "()I"⟩
def dkwX12_look_1 : List UInt8 := [167, 0, 5, 18, 29, 172]
abbrev dktX12_look_1 : List UInt8 := dkwX12_look_1 ++ []
def dkwX12_look_0 : List UInt8 := [42, 180, 0, 26, 42, 180, 0, 22, 162, 0, 19, 42, 180, 0, 18, 42, 180, 0, 26, 51, 17, 0, 255, 126]
abbrev dktX12_look_0 : List UInt8 := dkwX12_look_0 ++ dktX12_look_1
theorem dksX12_look_0 : cX12_look.data.toList.drop 0 = dktX12_look_0 := by decide +kernel
theorem dksX12_look_1 : cX12_look.data.toList.drop 24 = dktX12_look_1 := dk_seg dksX12_look_0 24 rfl rfl
theorem dX12_look_0 : decode cX12_look 0 = .ok (.aload_n 0, 1) := dk_42 (dk_at dksX12_look_0 0 rfl rfl)
theorem dX12_look_1 : decode cX12_look 1 = .ok (.getfield 26, 3) := dk_180 0 26 (dk_at dksX12_look_0 1 rfl rfl)
theorem dX12_look_4 : decode cX12_look 4 = .ok (.aload_n 0, 1) := dk_42 (dk_at dksX12_look_0 4 rfl rfl)
theorem dX12_look_5 : decode cX12_look 5 = .ok (.getfield 22, 3) := dk_180 0 22 (dk_at dksX12_look_0 5 rfl rfl)
theorem dX12_look_8 : decode cX12_look 8 = .ok (.if_icmp .ge 19, 3) := dk_162 0 19 (dk_at dksX12_look_0 8 rfl rfl)
theorem dX12_look_11 : decode cX12_look 11 = .ok (.aload_n 0, 1) := dk_42 (dk_at dksX12_look_0 11 rfl rfl)
theorem dX12_look_12 : decode cX12_look 12 = .ok (.getfield 18, 3) := dk_180 0 18 (dk_at dksX12_look_0 12 rfl rfl)
theorem dX12_look_15 : decode cX12_look 15 = .ok (.aload_n 0, 1) := dk_42 (dk_at dksX12_look_0 15 rfl rfl)
theorem dX12_look_16 : decode cX12_look 16 = .ok (.getfield 26, 3) := dk_180 0 26 (dk_at dksX12_look_0 16 rfl rfl)
theorem dX12_look_19 : decode cX12_look 19 = .ok (.baload, 1) := dk_51 (dk_at dksX12_look_0 19 rfl rfl)
theorem dX12_look_20 : decode cX12_look 20 = .ok (.sipush 255, 3) := dk_17 0 255 (dk_at dksX12_look_0 20 rfl rfl)
theorem dX12_look_23 : decode cX12_look 23 = .ok (.iand, 1) := dk_126 (dk_at dksX12_look_0 23 rfl rfl)
theorem dX12_look_24 : decode cX12_look 24 = .ok (.goto 5, 3) := dk_167 0 5 (dk_at dksX12_look_1 0 rfl rfl)
theorem dX12_look_27 : decode cX12_look 27 = .ok (.ldc 29, 2) := dk_18 29 (dk_at dksX12_look_1 3 rfl rfl)
theorem dX12_look_29 : decode cX12_look 29 = .ok (.ireturn, 1) := dk_172 (dk_at dksX12_look_1 5 rfl rfl)
abbrev cX12_isLetter : ByteArray := prog_10_method_5_code
def yX12_isLetter : MethodName := ⟨RX12, "isLetter", "(I)Z"⟩
def dkwX12_isLetter_0 : List UInt8 := [42, 180, 0, 40, 4, 160, 0, 15, 42, 180, 0, 37, 27, 160, 0, 7, 4, 167, 0, 4, 3, 172]
abbrev dktX12_isLetter_0 : List UInt8 := dkwX12_isLetter_0 ++ []
theorem dksX12_isLetter_0 : cX12_isLetter.data.toList.drop 0 = dktX12_isLetter_0 := by decide +kernel
theorem dX12_isLetter_0 : decode cX12_isLetter 0 = .ok (.aload_n 0, 1) := dk_42 (dk_at dksX12_isLetter_0 0 rfl rfl)
theorem dX12_isLetter_1 : decode cX12_isLetter 1 = .ok (.getfield 40, 3) := dk_180 0 40 (dk_at dksX12_isLetter_0 1 rfl rfl)
theorem dX12_isLetter_4 : decode cX12_isLetter 4 = .ok (.iconst 1, 1) := dk_4 (dk_at dksX12_isLetter_0 4 rfl rfl)
theorem dX12_isLetter_5 : decode cX12_isLetter 5 = .ok (.if_icmp .ne 15, 3) := dk_160 0 15 (dk_at dksX12_isLetter_0 5 rfl rfl)
theorem dX12_isLetter_8 : decode cX12_isLetter 8 = .ok (.aload_n 0, 1) := dk_42 (dk_at dksX12_isLetter_0 8 rfl rfl)
theorem dX12_isLetter_9 : decode cX12_isLetter 9 = .ok (.getfield 37, 3) := dk_180 0 37 (dk_at dksX12_isLetter_0 9 rfl rfl)
theorem dX12_isLetter_12 : decode cX12_isLetter 12 = .ok (.iload_n 1, 1) := dk_27 (dk_at dksX12_isLetter_0 12 rfl rfl)
theorem dX12_isLetter_13 : decode cX12_isLetter 13 = .ok (.if_icmp .ne 7, 3) := dk_160 0 7 (dk_at dksX12_isLetter_0 13 rfl rfl)
theorem dX12_isLetter_16 : decode cX12_isLetter 16 = .ok (.iconst 1, 1) := dk_4 (dk_at dksX12_isLetter_0 16 rfl rfl)
theorem dX12_isLetter_17 : decode cX12_isLetter 17 = .ok (.goto 4, 3) := dk_167 0 4 (dk_at dksX12_isLetter_0 17 rfl rfl)
theorem dX12_isLetter_20 : decode cX12_isLetter 20 = .ok (.iconst 0, 1) := dk_3 (dk_at dksX12_isLetter_0 20 rfl rfl)
theorem dX12_isLetter_21 : decode cX12_isLetter 21 = .ok (.ireturn, 1) := dk_172 (dk_at dksX12_isLetter_0 21 rfl rfl)
abbrev cX12_must : ByteArray := prog_10_method_4_code
def yX12_must : MethodName := ⟨RX12, "must", "(ZI)V"⟩
def dkwX12_must_0 : List UInt8 := [27, 154, 0, 16, 187, 0, 55, 89, 28, 42, 180, 0, 30, 183, 0, 57, 191, 177]
abbrev dktX12_must_0 : List UInt8 := dkwX12_must_0 ++ []
theorem dksX12_must_0 : cX12_must.data.toList.drop 0 = dktX12_must_0 := by decide +kernel
theorem dX12_must_0 : decode cX12_must 0 = .ok (.iload_n 1, 1) := dk_27 (dk_at dksX12_must_0 0 rfl rfl)
theorem dX12_must_1 : decode cX12_must 1 = .ok (.ifCond .ne 16, 3) := dk_154 0 16 (dk_at dksX12_must_0 1 rfl rfl)
theorem dX12_must_4 : decode cX12_must 4 = .ok (.new 55, 3) := dk_187 0 55 (dk_at dksX12_must_0 4 rfl rfl)
theorem dX12_must_7 : decode cX12_must 7 = .ok (.dup, 1) := dk_89 (dk_at dksX12_must_0 7 rfl rfl)
theorem dX12_must_8 : decode cX12_must 8 = .ok (.iload_n 2, 1) := dk_28 (dk_at dksX12_must_0 8 rfl rfl)
theorem dX12_must_9 : decode cX12_must 9 = .ok (.aload_n 0, 1) := dk_42 (dk_at dksX12_must_0 9 rfl rfl)
theorem dX12_must_10 : decode cX12_must 10 = .ok (.getfield 30, 3) := dk_180 0 30 (dk_at dksX12_must_0 10 rfl rfl)
theorem dX12_must_13 : decode cX12_must 13 = .ok (.invokespecial 57, 3) := dk_183 0 57 (dk_at dksX12_must_0 13 rfl rfl)
theorem dX12_must_16 : decode cX12_must 16 = .ok (.athrow, 1) := dk_191 (dk_at dksX12_must_0 16 rfl rfl)
theorem dX12_must_17 : decode cX12_must 17 = .ok (.return_, 1) := dk_177 (dk_at dksX12_must_0 17 rfl rfl)
abbrev cX12_figure : ByteArray := prog_10_method_6_code
def yX12_figure : MethodName := ⟨RX12, "figure", "(II)I"⟩
def dkwX12_figure_1 : List UInt8 := [27, 133, 28, 133, 184, 0, 47, 5, 182, 0, 60, 42, 180, 0, 37, 62, 42, 182, 0, 64, 29, 172]
abbrev dktX12_figure_1 : List UInt8 := dkwX12_figure_1 ++ []
def dkwX12_figure_0 : List UInt8 := [42, 42, 180, 0, 40, 5, 160, 0, 7, 4, 167, 0, 4, 3, 4, 182, 0, 60, 42, 42, 180, 0, 37, 133]
abbrev dktX12_figure_0 : List UInt8 := dkwX12_figure_0 ++ dktX12_figure_1
theorem dksX12_figure_0 : cX12_figure.data.toList.drop 0 = dktX12_figure_0 := by decide +kernel
theorem dksX12_figure_1 : cX12_figure.data.toList.drop 24 = dktX12_figure_1 := dk_seg dksX12_figure_0 24 rfl rfl
theorem dX12_figure_0 : decode cX12_figure 0 = .ok (.aload_n 0, 1) := dk_42 (dk_at dksX12_figure_0 0 rfl rfl)
theorem dX12_figure_1 : decode cX12_figure 1 = .ok (.aload_n 0, 1) := dk_42 (dk_at dksX12_figure_0 1 rfl rfl)
theorem dX12_figure_2 : decode cX12_figure 2 = .ok (.getfield 40, 3) := dk_180 0 40 (dk_at dksX12_figure_0 2 rfl rfl)
theorem dX12_figure_5 : decode cX12_figure 5 = .ok (.iconst 2, 1) := dk_5 (dk_at dksX12_figure_0 5 rfl rfl)
theorem dX12_figure_6 : decode cX12_figure 6 = .ok (.if_icmp .ne 7, 3) := dk_160 0 7 (dk_at dksX12_figure_0 6 rfl rfl)
theorem dX12_figure_9 : decode cX12_figure 9 = .ok (.iconst 1, 1) := dk_4 (dk_at dksX12_figure_0 9 rfl rfl)
theorem dX12_figure_10 : decode cX12_figure 10 = .ok (.goto 4, 3) := dk_167 0 4 (dk_at dksX12_figure_0 10 rfl rfl)
theorem dX12_figure_13 : decode cX12_figure 13 = .ok (.iconst 0, 1) := dk_3 (dk_at dksX12_figure_0 13 rfl rfl)
theorem dX12_figure_14 : decode cX12_figure 14 = .ok (.iconst 1, 1) := dk_4 (dk_at dksX12_figure_0 14 rfl rfl)
theorem dX12_figure_15 : decode cX12_figure 15 = .ok (.invokevirtual 60, 3) := dk_182 0 60 (dk_at dksX12_figure_0 15 rfl rfl)
theorem dX12_figure_18 : decode cX12_figure 18 = .ok (.aload_n 0, 1) := dk_42 (dk_at dksX12_figure_0 18 rfl rfl)
theorem dX12_figure_19 : decode cX12_figure 19 = .ok (.aload_n 0, 1) := dk_42 (dk_at dksX12_figure_0 19 rfl rfl)
theorem dX12_figure_20 : decode cX12_figure 20 = .ok (.getfield 37, 3) := dk_180 0 37 (dk_at dksX12_figure_0 20 rfl rfl)
theorem dX12_figure_23 : decode cX12_figure 23 = .ok (.i2l, 1) := dk_133 (dk_at dksX12_figure_0 23 rfl rfl)
theorem dX12_figure_24 : decode cX12_figure 24 = .ok (.iload_n 1, 1) := dk_27 (dk_at dksX12_figure_1 0 rfl rfl)
theorem dX12_figure_25 : decode cX12_figure 25 = .ok (.i2l, 1) := dk_133 (dk_at dksX12_figure_1 1 rfl rfl)
theorem dX12_figure_26 : decode cX12_figure 26 = .ok (.iload_n 2, 1) := dk_28 (dk_at dksX12_figure_1 2 rfl rfl)
theorem dX12_figure_27 : decode cX12_figure 27 = .ok (.i2l, 1) := dk_133 (dk_at dksX12_figure_1 3 rfl rfl)
theorem dX12_figure_28 : decode cX12_figure 28 = .ok (.invokestatic 47, 3) := dk_184 0 47 (dk_at dksX12_figure_1 4 rfl rfl)
theorem dX12_figure_31 : decode cX12_figure 31 = .ok (.iconst 2, 1) := dk_5 (dk_at dksX12_figure_1 7 rfl rfl)
theorem dX12_figure_32 : decode cX12_figure 32 = .ok (.invokevirtual 60, 3) := dk_182 0 60 (dk_at dksX12_figure_1 8 rfl rfl)
theorem dX12_figure_35 : decode cX12_figure 35 = .ok (.aload_n 0, 1) := dk_42 (dk_at dksX12_figure_1 11 rfl rfl)
theorem dX12_figure_36 : decode cX12_figure 36 = .ok (.getfield 37, 3) := dk_180 0 37 (dk_at dksX12_figure_1 12 rfl rfl)
theorem dX12_figure_39 : decode cX12_figure 39 = .ok (.istore_n 3, 1) := dk_62 (dk_at dksX12_figure_1 15 rfl rfl)
theorem dX12_figure_40 : decode cX12_figure 40 = .ok (.aload_n 0, 1) := dk_42 (dk_at dksX12_figure_1 16 rfl rfl)
theorem dX12_figure_41 : decode cX12_figure 41 = .ok (.invokevirtual 64, 3) := dk_182 0 64 (dk_at dksX12_figure_1 17 rfl rfl)
theorem dX12_figure_44 : decode cX12_figure 44 = .ok (.iload_n 3, 1) := dk_29 (dk_at dksX12_figure_1 20 rfl rfl)
theorem dX12_figure_45 : decode cX12_figure 45 = .ok (.ireturn, 1) := dk_172 (dk_at dksX12_figure_1 21 rfl rfl)
abbrev cX12_more : ByteArray := prog_10_method_7_code
def yX12_more : MethodName := ⟨RX12, "more", "(II)I"⟩
def dkwX12_more_0 : List UInt8 := [42, 6, 182, 0, 67, 42, 27, 28, 182, 0, 71, 172]
abbrev dktX12_more_0 : List UInt8 := dkwX12_more_0 ++ []
theorem dksX12_more_0 : cX12_more.data.toList.drop 0 = dktX12_more_0 := by decide +kernel
theorem dX12_more_0 : decode cX12_more 0 = .ok (.aload_n 0, 1) := dk_42 (dk_at dksX12_more_0 0 rfl rfl)
theorem dX12_more_1 : decode cX12_more 1 = .ok (.iconst 3, 1) := dk_6 (dk_at dksX12_more_0 1 rfl rfl)
theorem dX12_more_2 : decode cX12_more 2 = .ok (.invokevirtual 67, 3) := dk_182 0 67 (dk_at dksX12_more_0 2 rfl rfl)
theorem dX12_more_5 : decode cX12_more 5 = .ok (.aload_n 0, 1) := dk_42 (dk_at dksX12_more_0 5 rfl rfl)
theorem dX12_more_6 : decode cX12_more 6 = .ok (.iload_n 1, 1) := dk_27 (dk_at dksX12_more_0 6 rfl rfl)
theorem dX12_more_7 : decode cX12_more 7 = .ok (.iload_n 2, 1) := dk_28 (dk_at dksX12_more_0 7 rfl rfl)
theorem dX12_more_8 : decode cX12_more 8 = .ok (.invokevirtual 71, 3) := dk_182 0 71 (dk_at dksX12_more_0 8 rfl rfl)
theorem dX12_more_11 : decode cX12_more 11 = .ok (.ireturn, 1) := dk_172 (dk_at dksX12_more_0 11 rfl rfl)
abbrev cX12_sign : ByteArray := prog_10_method_8_code
def yX12_sign : MethodName := ⟨RX12, "sign", "(I)V"⟩
def dkwX12_sign_0 : List UInt8 := [42, 42, 180, 0, 40, 27, 160, 0, 7, 4, 167, 0, 4, 3, 4, 182, 0, 60, 42, 182, 0, 64, 177]
abbrev dktX12_sign_0 : List UInt8 := dkwX12_sign_0 ++ []
theorem dksX12_sign_0 : cX12_sign.data.toList.drop 0 = dktX12_sign_0 := by decide +kernel
theorem dX12_sign_0 : decode cX12_sign 0 = .ok (.aload_n 0, 1) := dk_42 (dk_at dksX12_sign_0 0 rfl rfl)
theorem dX12_sign_1 : decode cX12_sign 1 = .ok (.aload_n 0, 1) := dk_42 (dk_at dksX12_sign_0 1 rfl rfl)
theorem dX12_sign_2 : decode cX12_sign 2 = .ok (.getfield 40, 3) := dk_180 0 40 (dk_at dksX12_sign_0 2 rfl rfl)
theorem dX12_sign_5 : decode cX12_sign 5 = .ok (.iload_n 1, 1) := dk_27 (dk_at dksX12_sign_0 5 rfl rfl)
theorem dX12_sign_6 : decode cX12_sign 6 = .ok (.if_icmp .ne 7, 3) := dk_160 0 7 (dk_at dksX12_sign_0 6 rfl rfl)
theorem dX12_sign_9 : decode cX12_sign 9 = .ok (.iconst 1, 1) := dk_4 (dk_at dksX12_sign_0 9 rfl rfl)
theorem dX12_sign_10 : decode cX12_sign 10 = .ok (.goto 4, 3) := dk_167 0 4 (dk_at dksX12_sign_0 10 rfl rfl)
theorem dX12_sign_13 : decode cX12_sign 13 = .ok (.iconst 0, 1) := dk_3 (dk_at dksX12_sign_0 13 rfl rfl)
theorem dX12_sign_14 : decode cX12_sign 14 = .ok (.iconst 1, 1) := dk_4 (dk_at dksX12_sign_0 14 rfl rfl)
theorem dX12_sign_15 : decode cX12_sign 15 = .ok (.invokevirtual 60, 3) := dk_182 0 60 (dk_at dksX12_sign_0 15 rfl rfl)
theorem dX12_sign_18 : decode cX12_sign 18 = .ok (.aload_n 0, 1) := dk_42 (dk_at dksX12_sign_0 18 rfl rfl)
theorem dX12_sign_19 : decode cX12_sign 19 = .ok (.invokevirtual 64, 3) := dk_182 0 64 (dk_at dksX12_sign_0 19 rfl rfl)
theorem dX12_sign_22 : decode cX12_sign 22 = .ok (.return_, 1) := dk_177 (dk_at dksX12_sign_0 22 rfl rfl)
abbrev cX12_sortOf : ByteArray := prog_10_method_11_code
def yX12_sortOf : MethodName := ⟨RX12, "sortOf", "(Ljava/lang/String;)I"⟩
def dkwX12_sortOf_0 : List UInt8 := [43, 42, 180, 0, 40, 42, 180, 0, 37, 184, 0, 84, 172]
abbrev dktX12_sortOf_0 : List UInt8 := dkwX12_sortOf_0 ++ []
theorem dksX12_sortOf_0 : cX12_sortOf.data.toList.drop 0 = dktX12_sortOf_0 := by decide +kernel
theorem dX12_sortOf_0 : decode cX12_sortOf 0 = .ok (.aload_n 1, 1) := dk_43 (dk_at dksX12_sortOf_0 0 rfl rfl)
theorem dX12_sortOf_1 : decode cX12_sortOf 1 = .ok (.aload_n 0, 1) := dk_42 (dk_at dksX12_sortOf_0 1 rfl rfl)
theorem dX12_sortOf_2 : decode cX12_sortOf 2 = .ok (.getfield 40, 3) := dk_180 0 40 (dk_at dksX12_sortOf_0 2 rfl rfl)
theorem dX12_sortOf_5 : decode cX12_sortOf 5 = .ok (.aload_n 0, 1) := dk_42 (dk_at dksX12_sortOf_0 5 rfl rfl)
theorem dX12_sortOf_6 : decode cX12_sortOf 6 = .ok (.getfield 37, 3) := dk_180 0 37 (dk_at dksX12_sortOf_0 6 rfl rfl)
theorem dX12_sortOf_9 : decode cX12_sortOf 9 = .ok (.invokestatic 84, 3) := dk_184 0 84 (dk_at dksX12_sortOf_0 9 rfl rfl)
theorem dX12_sortOf_12 : decode cX12_sortOf 12 = .ok (.ireturn, 1) := dk_172 (dk_at dksX12_sortOf_0 12 rfl rfl)
abbrev cX12_sortIn : ByteArray := prog_10_method_10_code
def yX12_sortIn : MethodName := ⟨RX12, "sortIn", "(Ljava/lang/String;II)I"⟩
def dkwX12_sortIn_1 : List UInt8 := [132, 3, 1, 167, 255, 231, 29, 42, 182, 0, 75, 162, 0, 7, 29, 167, 0, 5, 18, 29, 172]
abbrev dktX12_sortIn_1 : List UInt8 := dkwX12_sortIn_1 ++ []
def dkwX12_sortIn_0 : List UInt8 := [3, 62, 29, 42, 182, 0, 75, 162, 0, 23, 27, 4, 160, 0, 12, 42, 29, 182, 0, 80, 28, 159, 0, 9]
abbrev dktX12_sortIn_0 : List UInt8 := dkwX12_sortIn_0 ++ dktX12_sortIn_1
theorem dksX12_sortIn_0 : cX12_sortIn.data.toList.drop 0 = dktX12_sortIn_0 := by decide +kernel
theorem dksX12_sortIn_1 : cX12_sortIn.data.toList.drop 24 = dktX12_sortIn_1 := dk_seg dksX12_sortIn_0 24 rfl rfl
theorem dX12_sortIn_0 : decode cX12_sortIn 0 = .ok (.iconst 0, 1) := dk_3 (dk_at dksX12_sortIn_0 0 rfl rfl)
theorem dX12_sortIn_1 : decode cX12_sortIn 1 = .ok (.istore_n 3, 1) := dk_62 (dk_at dksX12_sortIn_0 1 rfl rfl)
theorem dX12_sortIn_2 : decode cX12_sortIn 2 = .ok (.iload_n 3, 1) := dk_29 (dk_at dksX12_sortIn_0 2 rfl rfl)
theorem dX12_sortIn_3 : decode cX12_sortIn 3 = .ok (.aload_n 0, 1) := dk_42 (dk_at dksX12_sortIn_0 3 rfl rfl)
theorem dX12_sortIn_4 : decode cX12_sortIn 4 = .ok (.invokevirtual 75, 3) := dk_182 0 75 (dk_at dksX12_sortIn_0 4 rfl rfl)
theorem dX12_sortIn_7 : decode cX12_sortIn 7 = .ok (.if_icmp .ge 23, 3) := dk_162 0 23 (dk_at dksX12_sortIn_0 7 rfl rfl)
theorem dX12_sortIn_10 : decode cX12_sortIn 10 = .ok (.iload_n 1, 1) := dk_27 (dk_at dksX12_sortIn_0 10 rfl rfl)
theorem dX12_sortIn_11 : decode cX12_sortIn 11 = .ok (.iconst 1, 1) := dk_4 (dk_at dksX12_sortIn_0 11 rfl rfl)
theorem dX12_sortIn_12 : decode cX12_sortIn 12 = .ok (.if_icmp .ne 12, 3) := dk_160 0 12 (dk_at dksX12_sortIn_0 12 rfl rfl)
theorem dX12_sortIn_15 : decode cX12_sortIn 15 = .ok (.aload_n 0, 1) := dk_42 (dk_at dksX12_sortIn_0 15 rfl rfl)
theorem dX12_sortIn_16 : decode cX12_sortIn 16 = .ok (.iload_n 3, 1) := dk_29 (dk_at dksX12_sortIn_0 16 rfl rfl)
theorem dX12_sortIn_17 : decode cX12_sortIn 17 = .ok (.invokevirtual 80, 3) := dk_182 0 80 (dk_at dksX12_sortIn_0 17 rfl rfl)
theorem dX12_sortIn_20 : decode cX12_sortIn 20 = .ok (.iload_n 2, 1) := dk_28 (dk_at dksX12_sortIn_0 20 rfl rfl)
theorem dX12_sortIn_21 : decode cX12_sortIn 21 = .ok (.if_icmp .eq 9, 3) := dk_159 0 9 (dk_at dksX12_sortIn_0 21 rfl rfl)
theorem dX12_sortIn_24 : decode cX12_sortIn 24 = .ok (.iinc 3 1, 3) := dk_132 3 1 (dk_at dksX12_sortIn_1 0 rfl rfl)
theorem dX12_sortIn_27 : decode cX12_sortIn 27 = .ok (.goto (-25), 3) := dk_167 255 231 (dk_at dksX12_sortIn_1 3 rfl rfl)
theorem dX12_sortIn_30 : decode cX12_sortIn 30 = .ok (.iload_n 3, 1) := dk_29 (dk_at dksX12_sortIn_1 6 rfl rfl)
theorem dX12_sortIn_31 : decode cX12_sortIn 31 = .ok (.aload_n 0, 1) := dk_42 (dk_at dksX12_sortIn_1 7 rfl rfl)
theorem dX12_sortIn_32 : decode cX12_sortIn 32 = .ok (.invokevirtual 75, 3) := dk_182 0 75 (dk_at dksX12_sortIn_1 8 rfl rfl)
theorem dX12_sortIn_35 : decode cX12_sortIn 35 = .ok (.if_icmp .ge 7, 3) := dk_162 0 7 (dk_at dksX12_sortIn_1 11 rfl rfl)
theorem dX12_sortIn_38 : decode cX12_sortIn 38 = .ok (.iload_n 3, 1) := dk_29 (dk_at dksX12_sortIn_1 14 rfl rfl)
theorem dX12_sortIn_39 : decode cX12_sortIn 39 = .ok (.goto 5, 3) := dk_167 0 5 (dk_at dksX12_sortIn_1 15 rfl rfl)
theorem dX12_sortIn_42 : decode cX12_sortIn 42 = .ok (.ldc 29, 2) := dk_18 29 (dk_at dksX12_sortIn_1 18 rfl rfl)
theorem dX12_sortIn_44 : decode cX12_sortIn 44 = .ok (.ireturn, 1) := dk_172 (dk_at dksX12_sortIn_1 20 rfl rfl)
abbrev cX12_square : ByteArray := prog_10_method_13_code
def yX12_square : MethodName := ⟨RX12, "square", "()V"⟩
def dkwX12_square_3 : List UInt8 := [182, 0, 67, 177]
abbrev dktX12_square_3 : List UInt8 := dkwX12_square_3 ++ []
def dkwX12_square_2 : List UInt8 := [18, 29, 79, 42, 180, 0, 12, 180, 0, 126, 27, 28, 184, 0, 130, 185, 0, 134, 2, 0, 87, 42, 7]
abbrev dktX12_square_2 : List UInt8 := dkwX12_square_2 ++ dktX12_square_3
def dkwX12_square_1 : List UInt8 := [180, 0, 12, 180, 0, 119, 28, 42, 3, 16, 9, 182, 0, 71, 79, 42, 180, 0, 12, 180, 0, 123, 28]
abbrev dktX12_square_1 : List UInt8 := dkwX12_square_1 ++ dktX12_square_2
def dkwX12_square_0 : List UInt8 := [42, 18, 98, 182, 0, 100, 60, 42, 180, 0, 12, 182, 0, 113, 61, 42, 28, 16, 8, 182, 0, 116, 42]
abbrev dktX12_square_0 : List UInt8 := dkwX12_square_0 ++ dktX12_square_1
theorem dksX12_square_0 : cX12_square.data.toList.drop 0 = dktX12_square_0 := by decide +kernel
theorem dksX12_square_1 : cX12_square.data.toList.drop 23 = dktX12_square_1 := dk_seg dksX12_square_0 23 rfl rfl
theorem dksX12_square_2 : cX12_square.data.toList.drop 46 = dktX12_square_2 := dk_seg dksX12_square_1 23 rfl rfl
theorem dksX12_square_3 : cX12_square.data.toList.drop 69 = dktX12_square_3 := dk_seg dksX12_square_2 23 rfl rfl
theorem dX12_square_0 : decode cX12_square 0 = .ok (.aload_n 0, 1) := dk_42 (dk_at dksX12_square_0 0 rfl rfl)
theorem dX12_square_1 : decode cX12_square 1 = .ok (.ldc 98, 2) := dk_18 98 (dk_at dksX12_square_0 1 rfl rfl)
theorem dX12_square_3 : decode cX12_square 3 = .ok (.invokevirtual 100, 3) := dk_182 0 100 (dk_at dksX12_square_0 3 rfl rfl)
theorem dX12_square_6 : decode cX12_square 6 = .ok (.istore_n 1, 1) := dk_60 (dk_at dksX12_square_0 6 rfl rfl)
theorem dX12_square_7 : decode cX12_square 7 = .ok (.aload_n 0, 1) := dk_42 (dk_at dksX12_square_0 7 rfl rfl)
theorem dX12_square_8 : decode cX12_square 8 = .ok (.getfield 12, 3) := dk_180 0 12 (dk_at dksX12_square_0 8 rfl rfl)
theorem dX12_square_11 : decode cX12_square 11 = .ok (.invokevirtual 113, 3) := dk_182 0 113 (dk_at dksX12_square_0 11 rfl rfl)
theorem dX12_square_14 : decode cX12_square 14 = .ok (.istore_n 2, 1) := dk_61 (dk_at dksX12_square_0 14 rfl rfl)
theorem dX12_square_15 : decode cX12_square 15 = .ok (.aload_n 0, 1) := dk_42 (dk_at dksX12_square_0 15 rfl rfl)
theorem dX12_square_16 : decode cX12_square 16 = .ok (.iload_n 2, 1) := dk_28 (dk_at dksX12_square_0 16 rfl rfl)
theorem dX12_square_17 : decode cX12_square 17 = .ok (.bipush 8, 2) := dk_16 8 (dk_at dksX12_square_0 17 rfl rfl)
theorem dX12_square_19 : decode cX12_square 19 = .ok (.invokevirtual 116, 3) := dk_182 0 116 (dk_at dksX12_square_0 19 rfl rfl)
theorem dX12_square_22 : decode cX12_square 22 = .ok (.aload_n 0, 1) := dk_42 (dk_at dksX12_square_0 22 rfl rfl)
theorem dX12_square_23 : decode cX12_square 23 = .ok (.getfield 12, 3) := dk_180 0 12 (dk_at dksX12_square_1 0 rfl rfl)
theorem dX12_square_26 : decode cX12_square 26 = .ok (.getfield 119, 3) := dk_180 0 119 (dk_at dksX12_square_1 3 rfl rfl)
theorem dX12_square_29 : decode cX12_square 29 = .ok (.iload_n 2, 1) := dk_28 (dk_at dksX12_square_1 6 rfl rfl)
theorem dX12_square_30 : decode cX12_square 30 = .ok (.aload_n 0, 1) := dk_42 (dk_at dksX12_square_1 7 rfl rfl)
theorem dX12_square_31 : decode cX12_square 31 = .ok (.iconst 0, 1) := dk_3 (dk_at dksX12_square_1 8 rfl rfl)
theorem dX12_square_32 : decode cX12_square 32 = .ok (.bipush 9, 2) := dk_16 9 (dk_at dksX12_square_1 9 rfl rfl)
theorem dX12_square_34 : decode cX12_square 34 = .ok (.invokevirtual 71, 3) := dk_182 0 71 (dk_at dksX12_square_1 11 rfl rfl)
theorem dX12_square_37 : decode cX12_square 37 = .ok (.iastore, 1) := dk_79 (dk_at dksX12_square_1 14 rfl rfl)
theorem dX12_square_38 : decode cX12_square 38 = .ok (.aload_n 0, 1) := dk_42 (dk_at dksX12_square_1 15 rfl rfl)
theorem dX12_square_39 : decode cX12_square 39 = .ok (.getfield 12, 3) := dk_180 0 12 (dk_at dksX12_square_1 16 rfl rfl)
theorem dX12_square_42 : decode cX12_square 42 = .ok (.getfield 123, 3) := dk_180 0 123 (dk_at dksX12_square_1 19 rfl rfl)
theorem dX12_square_45 : decode cX12_square 45 = .ok (.iload_n 2, 1) := dk_28 (dk_at dksX12_square_1 22 rfl rfl)
theorem dX12_square_46 : decode cX12_square 46 = .ok (.ldc 29, 2) := dk_18 29 (dk_at dksX12_square_2 0 rfl rfl)
theorem dX12_square_48 : decode cX12_square 48 = .ok (.iastore, 1) := dk_79 (dk_at dksX12_square_2 2 rfl rfl)
theorem dX12_square_49 : decode cX12_square 49 = .ok (.aload_n 0, 1) := dk_42 (dk_at dksX12_square_2 3 rfl rfl)
theorem dX12_square_50 : decode cX12_square 50 = .ok (.getfield 12, 3) := dk_180 0 12 (dk_at dksX12_square_2 4 rfl rfl)
theorem dX12_square_53 : decode cX12_square 53 = .ok (.getfield 126, 3) := dk_180 0 126 (dk_at dksX12_square_2 7 rfl rfl)
theorem dX12_square_56 : decode cX12_square 56 = .ok (.iload_n 1, 1) := dk_27 (dk_at dksX12_square_2 10 rfl rfl)
theorem dX12_square_57 : decode cX12_square 57 = .ok (.iload_n 2, 1) := dk_28 (dk_at dksX12_square_2 11 rfl rfl)
theorem dX12_square_58 : decode cX12_square 58 = .ok (.invokestatic 130, 3) := dk_184 0 130 (dk_at dksX12_square_2 12 rfl rfl)
theorem dX12_square_61 : decode cX12_square 61 = .ok (.invokeinterface 134 2, 5) := by decide +kernel
theorem dX12_square_66 : decode cX12_square 66 = .ok (.pop, 1) := dk_87 (dk_at dksX12_square_2 20 rfl rfl)
theorem dX12_square_67 : decode cX12_square 67 = .ok (.aload_n 0, 1) := dk_42 (dk_at dksX12_square_2 21 rfl rfl)
theorem dX12_square_68 : decode cX12_square 68 = .ok (.iconst 4, 1) := dk_7 (dk_at dksX12_square_2 22 rfl rfl)
theorem dX12_square_69 : decode cX12_square 69 = .ok (.invokevirtual 67, 3) := dk_182 0 67 (dk_at dksX12_square_3 0 rfl rfl)
theorem dX12_square_72 : decode cX12_square 72 = .ok (.return_, 1) := dk_177 (dk_at dksX12_square_3 3 rfl rfl)
abbrev cX12_begin : ByteArray := prog_10_method_9_code
def yX12_begin : MethodName := ⟨RX12, "begin", "(II)V"⟩
def dkwX12_begin_0 : List UInt8 := [42, 27, 28, 162, 0, 7, 4, 167, 0, 4, 3, 6, 182, 0, 60, 42, 182, 0, 64, 177]
abbrev dktX12_begin_0 : List UInt8 := dkwX12_begin_0 ++ []
theorem dksX12_begin_0 : cX12_begin.data.toList.drop 0 = dktX12_begin_0 := by decide +kernel
theorem dX12_begin_0 : decode cX12_begin 0 = .ok (.aload_n 0, 1) := dk_42 (dk_at dksX12_begin_0 0 rfl rfl)
theorem dX12_begin_1 : decode cX12_begin 1 = .ok (.iload_n 1, 1) := dk_27 (dk_at dksX12_begin_0 1 rfl rfl)
theorem dX12_begin_2 : decode cX12_begin 2 = .ok (.iload_n 2, 1) := dk_28 (dk_at dksX12_begin_0 2 rfl rfl)
theorem dX12_begin_3 : decode cX12_begin 3 = .ok (.if_icmp .ge 7, 3) := dk_162 0 7 (dk_at dksX12_begin_0 3 rfl rfl)
theorem dX12_begin_6 : decode cX12_begin 6 = .ok (.iconst 1, 1) := dk_4 (dk_at dksX12_begin_0 6 rfl rfl)
theorem dX12_begin_7 : decode cX12_begin 7 = .ok (.goto 4, 3) := dk_167 0 4 (dk_at dksX12_begin_0 7 rfl rfl)
theorem dX12_begin_10 : decode cX12_begin 10 = .ok (.iconst 0, 1) := dk_3 (dk_at dksX12_begin_0 10 rfl rfl)
theorem dX12_begin_11 : decode cX12_begin 11 = .ok (.iconst 3, 1) := dk_6 (dk_at dksX12_begin_0 11 rfl rfl)
theorem dX12_begin_12 : decode cX12_begin 12 = .ok (.invokevirtual 60, 3) := dk_182 0 60 (dk_at dksX12_begin_0 12 rfl rfl)
theorem dX12_begin_15 : decode cX12_begin 15 = .ok (.aload_n 0, 1) := dk_42 (dk_at dksX12_begin_0 15 rfl rfl)
theorem dX12_begin_16 : decode cX12_begin 16 = .ok (.invokevirtual 64, 3) := dk_182 0 64 (dk_at dksX12_begin_0 16 rfl rfl)
theorem dX12_begin_19 : decode cX12_begin 19 = .ok (.return_, 1) := dk_177 (dk_at dksX12_begin_0 19 rfl rfl)
abbrev cX12_visitor : ByteArray := prog_10_method_14_code
def yX12_visitor : MethodName := ⟨RX12, "visitor", "()V"⟩
def dkwX12_visitor_2 : List UInt8 := [180, 0, 12, 89, 180, 0, 140, 4, 96, 181, 0, 140, 42, 7, 182, 0, 67, 177]
abbrev dktX12_visitor_2 : List UInt8 := dkwX12_visitor_2 ++ []
def dkwX12_visitor_1 : List UInt8 := [16, 9, 182, 0, 71, 79, 42, 180, 0, 12, 180, 0, 146, 27, 42, 3, 16, 9, 182, 0, 92, 79, 42]
abbrev dktX12_visitor_1 : List UInt8 := dkwX12_visitor_1 ++ dktX12_visitor_2
def dkwX12_visitor_0 : List UInt8 := [42, 180, 0, 12, 180, 0, 140, 60, 42, 27, 8, 182, 0, 116, 42, 180, 0, 12, 180, 0, 143, 27, 42, 3]
abbrev dktX12_visitor_0 : List UInt8 := dkwX12_visitor_0 ++ dktX12_visitor_1
theorem dksX12_visitor_0 : cX12_visitor.data.toList.drop 0 = dktX12_visitor_0 := by decide +kernel
theorem dksX12_visitor_1 : cX12_visitor.data.toList.drop 24 = dktX12_visitor_1 := dk_seg dksX12_visitor_0 24 rfl rfl
theorem dksX12_visitor_2 : cX12_visitor.data.toList.drop 47 = dktX12_visitor_2 := dk_seg dksX12_visitor_1 23 rfl rfl
theorem dX12_visitor_0 : decode cX12_visitor 0 = .ok (.aload_n 0, 1) := dk_42 (dk_at dksX12_visitor_0 0 rfl rfl)
theorem dX12_visitor_1 : decode cX12_visitor 1 = .ok (.getfield 12, 3) := dk_180 0 12 (dk_at dksX12_visitor_0 1 rfl rfl)
theorem dX12_visitor_4 : decode cX12_visitor 4 = .ok (.getfield 140, 3) := dk_180 0 140 (dk_at dksX12_visitor_0 4 rfl rfl)
theorem dX12_visitor_7 : decode cX12_visitor 7 = .ok (.istore_n 1, 1) := dk_60 (dk_at dksX12_visitor_0 7 rfl rfl)
theorem dX12_visitor_8 : decode cX12_visitor 8 = .ok (.aload_n 0, 1) := dk_42 (dk_at dksX12_visitor_0 8 rfl rfl)
theorem dX12_visitor_9 : decode cX12_visitor 9 = .ok (.iload_n 1, 1) := dk_27 (dk_at dksX12_visitor_0 9 rfl rfl)
theorem dX12_visitor_10 : decode cX12_visitor 10 = .ok (.iconst 5, 1) := dk_8 (dk_at dksX12_visitor_0 10 rfl rfl)
theorem dX12_visitor_11 : decode cX12_visitor 11 = .ok (.invokevirtual 116, 3) := dk_182 0 116 (dk_at dksX12_visitor_0 11 rfl rfl)
theorem dX12_visitor_14 : decode cX12_visitor 14 = .ok (.aload_n 0, 1) := dk_42 (dk_at dksX12_visitor_0 14 rfl rfl)
theorem dX12_visitor_15 : decode cX12_visitor 15 = .ok (.getfield 12, 3) := dk_180 0 12 (dk_at dksX12_visitor_0 15 rfl rfl)
theorem dX12_visitor_18 : decode cX12_visitor 18 = .ok (.getfield 143, 3) := dk_180 0 143 (dk_at dksX12_visitor_0 18 rfl rfl)
theorem dX12_visitor_21 : decode cX12_visitor 21 = .ok (.iload_n 1, 1) := dk_27 (dk_at dksX12_visitor_0 21 rfl rfl)
theorem dX12_visitor_22 : decode cX12_visitor 22 = .ok (.aload_n 0, 1) := dk_42 (dk_at dksX12_visitor_0 22 rfl rfl)
theorem dX12_visitor_23 : decode cX12_visitor 23 = .ok (.iconst 0, 1) := dk_3 (dk_at dksX12_visitor_0 23 rfl rfl)
theorem dX12_visitor_24 : decode cX12_visitor 24 = .ok (.bipush 9, 2) := dk_16 9 (dk_at dksX12_visitor_1 0 rfl rfl)
theorem dX12_visitor_26 : decode cX12_visitor 26 = .ok (.invokevirtual 71, 3) := dk_182 0 71 (dk_at dksX12_visitor_1 2 rfl rfl)
theorem dX12_visitor_29 : decode cX12_visitor 29 = .ok (.iastore, 1) := dk_79 (dk_at dksX12_visitor_1 5 rfl rfl)
theorem dX12_visitor_30 : decode cX12_visitor 30 = .ok (.aload_n 0, 1) := dk_42 (dk_at dksX12_visitor_1 6 rfl rfl)
theorem dX12_visitor_31 : decode cX12_visitor 31 = .ok (.getfield 12, 3) := dk_180 0 12 (dk_at dksX12_visitor_1 7 rfl rfl)
theorem dX12_visitor_34 : decode cX12_visitor 34 = .ok (.getfield 146, 3) := dk_180 0 146 (dk_at dksX12_visitor_1 10 rfl rfl)
theorem dX12_visitor_37 : decode cX12_visitor 37 = .ok (.iload_n 1, 1) := dk_27 (dk_at dksX12_visitor_1 13 rfl rfl)
theorem dX12_visitor_38 : decode cX12_visitor 38 = .ok (.aload_n 0, 1) := dk_42 (dk_at dksX12_visitor_1 14 rfl rfl)
theorem dX12_visitor_39 : decode cX12_visitor 39 = .ok (.iconst 0, 1) := dk_3 (dk_at dksX12_visitor_1 15 rfl rfl)
theorem dX12_visitor_40 : decode cX12_visitor 40 = .ok (.bipush 9, 2) := dk_16 9 (dk_at dksX12_visitor_1 16 rfl rfl)
theorem dX12_visitor_42 : decode cX12_visitor 42 = .ok (.invokevirtual 92, 3) := dk_182 0 92 (dk_at dksX12_visitor_1 18 rfl rfl)
theorem dX12_visitor_45 : decode cX12_visitor 45 = .ok (.iastore, 1) := dk_79 (dk_at dksX12_visitor_1 21 rfl rfl)
theorem dX12_visitor_46 : decode cX12_visitor 46 = .ok (.aload_n 0, 1) := dk_42 (dk_at dksX12_visitor_1 22 rfl rfl)
theorem dX12_visitor_47 : decode cX12_visitor 47 = .ok (.getfield 12, 3) := dk_180 0 12 (dk_at dksX12_visitor_2 0 rfl rfl)
theorem dX12_visitor_50 : decode cX12_visitor 50 = .ok (.dup, 1) := dk_89 (dk_at dksX12_visitor_2 3 rfl rfl)
theorem dX12_visitor_51 : decode cX12_visitor 51 = .ok (.getfield 140, 3) := dk_180 0 140 (dk_at dksX12_visitor_2 4 rfl rfl)
theorem dX12_visitor_54 : decode cX12_visitor 54 = .ok (.iconst 1, 1) := dk_4 (dk_at dksX12_visitor_2 7 rfl rfl)
theorem dX12_visitor_55 : decode cX12_visitor 55 = .ok (.iadd, 1) := dk_96 (dk_at dksX12_visitor_2 8 rfl rfl)
theorem dX12_visitor_56 : decode cX12_visitor 56 = .ok (.putfield 140, 3) := dk_181 0 140 (dk_at dksX12_visitor_2 9 rfl rfl)
theorem dX12_visitor_59 : decode cX12_visitor 59 = .ok (.aload_n 0, 1) := dk_42 (dk_at dksX12_visitor_2 12 rfl rfl)
theorem dX12_visitor_60 : decode cX12_visitor 60 = .ok (.iconst 4, 1) := dk_7 (dk_at dksX12_visitor_2 13 rfl rfl)
theorem dX12_visitor_61 : decode cX12_visitor 61 = .ok (.invokevirtual 67, 3) := dk_182 0 67 (dk_at dksX12_visitor_2 14 rfl rfl)
theorem dX12_visitor_64 : decode cX12_visitor 64 = .ok (.return_, 1) := dk_177 (dk_at dksX12_visitor_2 17 rfl rfl)
theorem q80 : (Jvm.Cond.initialized "LampSquares$Reader") ∈ lw_all := lw_g (lw_at lw_m1 23 rfl) rfl
theorem q135 : (Jvm.Cond.fieldLink "LampSquares$Reader" (110 : Nat) "LampSquares$Door" "edge" "I") ∈ lw_all := lw_g (lw_at lw_m1 78 rfl) rfl
theorem q138 : (Jvm.Cond.fieldLink "LampSquares$Reader" (95 : Nat) "LampSquares$Door" "strict" "I") ∈ lw_all := lw_g (lw_at lw_m1 81 rfl) rfl
theorem q141 : (Jvm.Cond.fieldLink "LampSquares$Reader" (126 : Nat) "LampSquares$Door" "squares" "Ljava/util/List;") ∈ lw_all := lw_g (lw_at lw_m1 84 rfl) rfl
theorem q145 : (Jvm.Cond.fieldLink "LampSquares$Reader" (119 : Nat) "LampSquares$Door" "share" "[I") ∈ lw_all := lw_g (lw_at lw_m1 88 rfl) rfl
theorem q152 : (Jvm.Cond.fieldLink "LampSquares$Reader" (123 : Nat) "LampSquares$Door" "settled" "[I") ∈ lw_all := lw_g (lw_at lw_m1 95 rfl) rfl
theorem q155 : (Jvm.Cond.fieldLink "LampSquares$Reader" (140 : Nat) "LampSquares$Door" "visitors" "I") ∈ lw_all := lw_g (lw_at lw_m1 98 rfl) rfl
theorem q158 : (Jvm.Cond.fieldLink "LampSquares$Reader" (143 : Nat) "LampSquares$Door" "care" "[I") ∈ lw_all := lw_g (lw_at lw_m1 101 rfl) rfl
theorem q161 : (Jvm.Cond.fieldLink "LampSquares$Reader" (146 : Nat) "LampSquares$Door" "ear" "[I") ∈ lw_all := lw_g (lw_at lw_m1 104 rfl) rfl
theorem q467 : (Jvm.Cond.instantiable "LampSquares$Reader" (7 : Nat)) ∈ lw_all := lw_g (lw_at lw_m2 170 rfl) rfl
theorem q469 : (Jvm.Cond.instanceMethod ({ cls := "LampSquares$Reader", name := "<init>", desc := "([BI)V" } : Jvm.MethodName)) ∈ lw_all := lw_g (lw_at lw_m2 172 rfl) rfl
theorem q470 : (Jvm.Cond.code ({ cls := "LampSquares$Reader", name := "<init>", desc := "([BI)V" } : Jvm.MethodName) prog_10_method_1_code (3 : Nat) (Option.none : Option Jvm.ClassFile.FieldType)) ∈ lw_all := lw_g (lw_at lw_m2 173 rfl) rfl
theorem q471 : (Jvm.Cond.methodLink "LampSquares$Reader" (3 : Nat) ({ cls := "java/lang/Object", name := "<init>", desc := "()V" } : Jvm.MethodName)) ∈ lw_all := lw_g (lw_at lw_m2 174 rfl) rfl
theorem q472 : (Jvm.Cond.classLink "LampSquares$Reader" (9 : Nat) "LampSquares$Door") ∈ lw_all := lw_g (lw_at lw_m2 175 rfl) rfl
theorem q473 : (Jvm.Cond.methodLinkNest "LampSquares$Reader" (11 : Nat) ({ cls := "LampSquares$Door", name := "<init>", desc := "()V" } : Jvm.MethodName) "LampSquares") ∈ lw_tbl := lw_at lw_m2 176 rfl
theorem q474 : (Jvm.Cond.fieldLink "LampSquares$Reader" (18 : Nat) "LampSquares$Reader" "text" "[B") ∈ lw_all := lw_g (lw_at lw_m2 177 rfl) rfl
theorem q475 : (Jvm.Cond.fieldLink "LampSquares$Reader" (22 : Nat) "LampSquares$Reader" "size" "I") ∈ lw_all := lw_g (lw_at lw_m2 178 rfl) rfl
theorem q476 : (Jvm.Cond.fieldLink "LampSquares$Reader" (26 : Nat) "LampSquares$Reader" "at" "I") ∈ lw_all := lw_g (lw_at lw_m2 179 rfl) rfl
theorem q477 : (Jvm.Cond.fieldLink "LampSquares$Reader" (40 : Nat) "LampSquares$Reader" "token" "I") ∈ lw_all := lw_g (lw_at lw_m2 180 rfl) rfl
theorem q478 : (Jvm.Cond.fieldLink "LampSquares$Reader" (30 : Nat) "LampSquares$Reader" "from" "I") ∈ lw_all := lw_g (lw_at lw_m2 181 rfl) rfl
theorem q479 : (Jvm.Cond.fieldLink "LampSquares$Reader" (37 : Nat) "LampSquares$Reader" "value" "I") ∈ lw_all := lw_g (lw_at lw_m2 182 rfl) rfl
theorem q480 : (Jvm.Cond.fieldLink "LampSquares$Reader" (12 : Nat) "LampSquares$Reader" "made" "LLampSquares$Door;") ∈ lw_all := lw_g (lw_at lw_m2 183 rfl) rfl
theorem q482 : (Jvm.Cond.laysFinal "LampSquares$Reader" "LampSquares$Reader" "text" "[B") ∈ lw_all := lw_g (lw_at lw_m2 185 rfl) rfl
theorem q483 : (Jvm.Cond.soleField "LampSquares$Reader" "text") ∈ lw_all := lw_g (lw_at lw_m2 186 rfl) rfl
theorem q484 : (Jvm.Cond.laysFinal "LampSquares$Reader" "LampSquares$Reader" "size" "I") ∈ lw_all := lw_g (lw_at lw_m2 187 rfl) rfl
theorem q485 : (Jvm.Cond.soleField "LampSquares$Reader" "size") ∈ lw_all := lw_g (lw_at lw_m2 188 rfl) rfl
theorem q486 : (Jvm.Cond.lays "LampSquares$Reader" "LampSquares$Reader" "at" "I") ∈ lw_all := lw_g (lw_at lw_m2 189 rfl) rfl
theorem q487 : (Jvm.Cond.soleField "LampSquares$Reader" "at") ∈ lw_all := lw_g (lw_at lw_m2 190 rfl) rfl
theorem q488 : (Jvm.Cond.lays "LampSquares$Reader" "LampSquares$Reader" "token" "I") ∈ lw_all := lw_g (lw_at lw_m2 191 rfl) rfl
theorem q489 : (Jvm.Cond.soleField "LampSquares$Reader" "token") ∈ lw_all := lw_g (lw_at lw_m2 192 rfl) rfl
theorem q490 : (Jvm.Cond.lays "LampSquares$Reader" "LampSquares$Reader" "from" "I") ∈ lw_all := lw_g (lw_at lw_m2 193 rfl) rfl
theorem q491 : (Jvm.Cond.soleField "LampSquares$Reader" "from") ∈ lw_all := lw_g (lw_at lw_m2 194 rfl) rfl
theorem q492 : (Jvm.Cond.lays "LampSquares$Reader" "LampSquares$Reader" "value" "I") ∈ lw_all := lw_g (lw_at lw_m2 195 rfl) rfl
theorem q493 : (Jvm.Cond.soleField "LampSquares$Reader" "value") ∈ lw_all := lw_g (lw_at lw_m2 196 rfl) rfl
theorem q494 : (Jvm.Cond.laysFinal "LampSquares$Reader" "LampSquares$Reader" "made" "LLampSquares$Door;") ∈ lw_all := lw_g (lw_at lw_m2 197 rfl) rfl
theorem q495 : (Jvm.Cond.soleField "LampSquares$Reader" "made") ∈ lw_all := lw_g (lw_at lw_m2 198 rfl) rfl
theorem q496 : (Jvm.Cond.superclass "LampSquares$Reader" "java/lang/Object") ∈ lw_all := lw_g (lw_at lw_m2 199 rfl) rfl
theorem q498 : (Jvm.Cond.instanceMethod ({ cls := "LampSquares$Reader", name := "all", desc := "()V" } : Jvm.MethodName)) ∈ lw_all := lw_g (lw_at lw_m2 201 rfl) rfl
theorem q499 : (Jvm.Cond.selects "LampSquares$Reader" ({ cls := "LampSquares$Reader", name := "all", desc := "()V" } : Jvm.MethodName) ({ cls := "LampSquares$Reader", name := "all", desc := "()V" } : Jvm.MethodName)) ∈ lw_all := lw_g (lw_at lw_m2 202 rfl) rfl
theorem q500 : (Jvm.Cond.code ({ cls := "LampSquares$Reader", name := "all", desc := "()V" } : Jvm.MethodName) prog_10_method_12_code (2 : Nat) (Option.none : Option Jvm.ClassFile.FieldType)) ∈ lw_all := lw_g (lw_at lw_m2 203 rfl) rfl
theorem q501 : (Jvm.Cond.methodLink "LampSquares$Reader" (64 : Nat) ({ cls := "LampSquares$Reader", name := "next", desc := "()V" } : Jvm.MethodName)) ∈ lw_all := lw_g (lw_at lw_m2 204 rfl) rfl
theorem q502 : (Jvm.Cond.privateMethod ({ cls := "LampSquares$Reader", name := "next", desc := "()V" } : Jvm.MethodName)) ∈ lw_tbl := lw_at lw_m2 205 rfl
theorem q503 : (Jvm.Cond.instanceMethod ({ cls := "LampSquares$Reader", name := "next", desc := "()V" } : Jvm.MethodName)) ∈ lw_all := lw_g (lw_at lw_m2 206 rfl) rfl
theorem q504 : (Jvm.Cond.code ({ cls := "LampSquares$Reader", name := "next", desc := "()V" } : Jvm.MethodName) prog_10_method_3_code (2 : Nat) (Option.none : Option Jvm.ClassFile.FieldType)) ∈ lw_all := lw_g (lw_at lw_m2 207 rfl) rfl
theorem q505 : (Jvm.Cond.methodLink "LampSquares$Reader" (33 : Nat) ({ cls := "LampSquares$Reader", name := "look", desc := "()I" } : Jvm.MethodName)) ∈ lw_all := lw_g (lw_at lw_m2 208 rfl) rfl
theorem q506 : (Jvm.Cond.privateMethod ({ cls := "LampSquares$Reader", name := "look", desc := "()I" } : Jvm.MethodName)) ∈ lw_tbl := lw_at lw_m2 209 rfl
theorem q507 : (Jvm.Cond.instanceMethod ({ cls := "LampSquares$Reader", name := "look", desc := "()I" } : Jvm.MethodName)) ∈ lw_all := lw_g (lw_at lw_m2 210 rfl) rfl
theorem q508 : (Jvm.Cond.code ({ cls := "LampSquares$Reader", name := "look", desc := "()I" } : Jvm.MethodName) prog_10_method_2_code (1 : Nat) (Option.some Jvm.ClassFile.FieldType.int)) ∈ lw_all := lw_g (lw_at lw_m2 211 rfl) rfl
theorem q509 : (Jvm.Cond.constant "LampSquares$Reader" (29 : Nat) (-1000000 : Int32)) ∈ lw_all := lw_g (lw_at lw_m2 212 rfl) rfl
theorem q510 : (Jvm.Cond.constantLong "LampSquares$Reader" (43 : Nat) (48 : Int64)) ∈ lw_all := lw_g (lw_at lw_m2 213 rfl) rfl
theorem q511 : (Jvm.Cond.constantLong "LampSquares$Reader" (45 : Nat) (57 : Int64)) ∈ lw_all := lw_g (lw_at lw_m2 214 rfl) rfl
theorem q512 : (Jvm.Cond.methodLinkNest "LampSquares$Reader" (47 : Nat) ({ cls := "LampSquares", name := "isIn", desc := "(JJJ)Z" } : Jvm.MethodName) "LampSquares") ∈ lw_tbl := lw_at lw_m2 215 rfl
theorem q513 : (Jvm.Cond.constantLong "LampSquares$Reader" (51 : Nat) (97 : Int64)) ∈ lw_all := lw_g (lw_at lw_m2 216 rfl) rfl
theorem q514 : (Jvm.Cond.constantLong "LampSquares$Reader" (53 : Nat) (122 : Int64)) ∈ lw_all := lw_g (lw_at lw_m2 217 rfl) rfl
theorem q515 : (Jvm.Cond.methodLink "LampSquares$Reader" (88 : Nat) ({ cls := "LampSquares$Reader", name := "isLetter", desc := "(I)Z" } : Jvm.MethodName)) ∈ lw_all := lw_g (lw_at lw_m2 218 rfl) rfl
theorem q516 : (Jvm.Cond.privateMethod ({ cls := "LampSquares$Reader", name := "isLetter", desc := "(I)Z" } : Jvm.MethodName)) ∈ lw_tbl := lw_at lw_m2 219 rfl
theorem q517 : (Jvm.Cond.instanceMethod ({ cls := "LampSquares$Reader", name := "isLetter", desc := "(I)Z" } : Jvm.MethodName)) ∈ lw_all := lw_g (lw_at lw_m2 220 rfl) rfl
theorem q518 : (Jvm.Cond.code ({ cls := "LampSquares$Reader", name := "isLetter", desc := "(I)Z" } : Jvm.MethodName) prog_10_method_5_code (2 : Nat) (Option.some Jvm.ClassFile.FieldType.boolean)) ∈ lw_all := lw_g (lw_at lw_m2 221 rfl) rfl
theorem q519 : (Jvm.Cond.methodLink "LampSquares$Reader" (60 : Nat) ({ cls := "LampSquares$Reader", name := "must", desc := "(ZI)V" } : Jvm.MethodName)) ∈ lw_all := lw_g (lw_at lw_m2 222 rfl) rfl
theorem q520 : (Jvm.Cond.privateMethod ({ cls := "LampSquares$Reader", name := "must", desc := "(ZI)V" } : Jvm.MethodName)) ∈ lw_tbl := lw_at lw_m2 223 rfl
theorem q521 : (Jvm.Cond.instanceMethod ({ cls := "LampSquares$Reader", name := "must", desc := "(ZI)V" } : Jvm.MethodName)) ∈ lw_all := lw_g (lw_at lw_m2 224 rfl) rfl
theorem q522 : (Jvm.Cond.code ({ cls := "LampSquares$Reader", name := "must", desc := "(ZI)V" } : Jvm.MethodName) prog_10_method_4_code (3 : Nat) (Option.none : Option Jvm.ClassFile.FieldType)) ∈ lw_all := lw_g (lw_at lw_m2 225 rfl) rfl
theorem q523 : (Jvm.Cond.classLink "LampSquares$Reader" (55 : Nat) "LampSquares$Fault") ∈ lw_all := lw_g (lw_at lw_m2 226 rfl) rfl
theorem q532 : (Jvm.Cond.methodLink "LampSquares$Reader" (57 : Nat) ({ cls := "LampSquares$Fault", name := "<init>", desc := "(II)V" } : Jvm.MethodName)) ∈ lw_all := lw_g (lw_at lw_m2 235 rfl) rfl
theorem q546 : (Jvm.Cond.methodLink "LampSquares$Reader" (71 : Nat) ({ cls := "LampSquares$Reader", name := "figure", desc := "(II)I" } : Jvm.MethodName)) ∈ lw_all := lw_g (lw_at lw_m3 9 rfl) rfl
theorem q547 : (Jvm.Cond.privateMethod ({ cls := "LampSquares$Reader", name := "figure", desc := "(II)I" } : Jvm.MethodName)) ∈ lw_tbl := lw_at lw_m3 10 rfl
theorem q548 : (Jvm.Cond.instanceMethod ({ cls := "LampSquares$Reader", name := "figure", desc := "(II)I" } : Jvm.MethodName)) ∈ lw_all := lw_g (lw_at lw_m3 11 rfl) rfl
theorem q549 : (Jvm.Cond.code ({ cls := "LampSquares$Reader", name := "figure", desc := "(II)I" } : Jvm.MethodName) prog_10_method_6_code (4 : Nat) (Option.some Jvm.ClassFile.FieldType.int)) ∈ lw_all := lw_g (lw_at lw_m3 12 rfl) rfl
theorem q550 : (Jvm.Cond.methodLink "LampSquares$Reader" (92 : Nat) ({ cls := "LampSquares$Reader", name := "more", desc := "(II)I" } : Jvm.MethodName)) ∈ lw_all := lw_g (lw_at lw_m3 13 rfl) rfl
theorem q551 : (Jvm.Cond.privateMethod ({ cls := "LampSquares$Reader", name := "more", desc := "(II)I" } : Jvm.MethodName)) ∈ lw_tbl := lw_at lw_m3 14 rfl
theorem q552 : (Jvm.Cond.instanceMethod ({ cls := "LampSquares$Reader", name := "more", desc := "(II)I" } : Jvm.MethodName)) ∈ lw_all := lw_g (lw_at lw_m3 15 rfl) rfl
theorem q553 : (Jvm.Cond.code ({ cls := "LampSquares$Reader", name := "more", desc := "(II)I" } : Jvm.MethodName) prog_10_method_7_code (3 : Nat) (Option.some Jvm.ClassFile.FieldType.int)) ∈ lw_all := lw_g (lw_at lw_m3 16 rfl) rfl
theorem q554 : (Jvm.Cond.methodLink "LampSquares$Reader" (67 : Nat) ({ cls := "LampSquares$Reader", name := "sign", desc := "(I)V" } : Jvm.MethodName)) ∈ lw_all := lw_g (lw_at lw_m3 17 rfl) rfl
theorem q555 : (Jvm.Cond.privateMethod ({ cls := "LampSquares$Reader", name := "sign", desc := "(I)V" } : Jvm.MethodName)) ∈ lw_tbl := lw_at lw_m3 18 rfl
theorem q556 : (Jvm.Cond.instanceMethod ({ cls := "LampSquares$Reader", name := "sign", desc := "(I)V" } : Jvm.MethodName)) ∈ lw_all := lw_g (lw_at lw_m3 19 rfl) rfl
theorem q557 : (Jvm.Cond.code ({ cls := "LampSquares$Reader", name := "sign", desc := "(I)V" } : Jvm.MethodName) prog_10_method_8_code (2 : Nat) (Option.none : Option Jvm.ClassFile.FieldType)) ∈ lw_all := lw_g (lw_at lw_m3 20 rfl) rfl
theorem q558 : (Jvm.Cond.stringRef "LampSquares$Reader" (98 : Nat) "kecuh") ∈ lw_tbl := lw_at lw_m3 21 rfl
theorem q559 : (Jvm.Cond.methodLink "LampSquares$Reader" (100 : Nat) ({ cls := "LampSquares$Reader", name := "sortOf", desc := "(Ljava/lang/String;)I" } : Jvm.MethodName)) ∈ lw_all := lw_g (lw_at lw_m3 22 rfl) rfl
theorem q560 : (Jvm.Cond.privateMethod ({ cls := "LampSquares$Reader", name := "sortOf", desc := "(Ljava/lang/String;)I" } : Jvm.MethodName)) ∈ lw_tbl := lw_at lw_m3 23 rfl
theorem q561 : (Jvm.Cond.instanceMethod ({ cls := "LampSquares$Reader", name := "sortOf", desc := "(Ljava/lang/String;)I" } : Jvm.MethodName)) ∈ lw_all := lw_g (lw_at lw_m3 24 rfl) rfl
theorem q562 : (Jvm.Cond.code ({ cls := "LampSquares$Reader", name := "sortOf", desc := "(Ljava/lang/String;)I" } : Jvm.MethodName) prog_10_method_11_code (2 : Nat) (Option.some Jvm.ClassFile.FieldType.int)) ∈ lw_all := lw_g (lw_at lw_m3 25 rfl) rfl
theorem q563 : (Jvm.Cond.methodLink "LampSquares$Reader" (84 : Nat) ({ cls := "LampSquares$Reader", name := "sortIn", desc := "(Ljava/lang/String;II)I" } : Jvm.MethodName)) ∈ lw_all := lw_g (lw_at lw_m3 26 rfl) rfl
theorem q564 : (Jvm.Cond.static ({ cls := "LampSquares$Reader", name := "sortIn", desc := "(Ljava/lang/String;II)I" } : Jvm.MethodName)) ∈ lw_all := lw_g (lw_at lw_m3 27 rfl) rfl
theorem q565 : (Jvm.Cond.code ({ cls := "LampSquares$Reader", name := "sortIn", desc := "(Ljava/lang/String;II)I" } : Jvm.MethodName) prog_10_method_10_code (4 : Nat) (Option.some Jvm.ClassFile.FieldType.int)) ∈ lw_all := lw_g (lw_at lw_m3 28 rfl) rfl
theorem q566 : (Jvm.Cond.methodLink "LampSquares$Reader" (75 : Nat) ({ cls := "java/lang/String", name := "length", desc := "()I" } : Jvm.MethodName)) ∈ lw_all := lw_g (lw_at lw_m3 29 rfl) rfl
theorem q576 : (Jvm.Cond.methodLink "LampSquares$Reader" (80 : Nat) ({ cls := "java/lang/String", name := "charAt", desc := "(I)C" } : Jvm.MethodName)) ∈ lw_all := lw_g (lw_at lw_m3 39 rfl) rfl
theorem q614 : (Jvm.Cond.methodLink "LampSquares$Reader" (104 : Nat) ({ cls := "LampSquares$Reader", name := "square", desc := "()V" } : Jvm.MethodName)) ∈ lw_all := lw_g (lw_at lw_m3 77 rfl) rfl
theorem q615 : (Jvm.Cond.privateMethod ({ cls := "LampSquares$Reader", name := "square", desc := "()V" } : Jvm.MethodName)) ∈ lw_tbl := lw_at lw_m3 78 rfl
theorem q616 : (Jvm.Cond.instanceMethod ({ cls := "LampSquares$Reader", name := "square", desc := "()V" } : Jvm.MethodName)) ∈ lw_all := lw_g (lw_at lw_m3 79 rfl) rfl
theorem q617 : (Jvm.Cond.code ({ cls := "LampSquares$Reader", name := "square", desc := "()V" } : Jvm.MethodName) prog_10_method_13_code (3 : Nat) (Option.none : Option Jvm.ClassFile.FieldType)) ∈ lw_all := lw_g (lw_at lw_m3 80 rfl) rfl
theorem q618 : (Jvm.Cond.methodLink "LampSquares$Reader" (113 : Nat) ({ cls := "LampSquares$Door", name := "many", desc := "()I" } : Jvm.MethodName)) ∈ lw_all := lw_g (lw_at lw_m3 81 rfl) rfl
theorem q632 : (Jvm.Cond.methodLink "LampSquares$Reader" (116 : Nat) ({ cls := "LampSquares$Reader", name := "begin", desc := "(II)V" } : Jvm.MethodName)) ∈ lw_all := lw_g (lw_at lw_m3 95 rfl) rfl
theorem q633 : (Jvm.Cond.privateMethod ({ cls := "LampSquares$Reader", name := "begin", desc := "(II)V" } : Jvm.MethodName)) ∈ lw_tbl := lw_at lw_m3 96 rfl
theorem q634 : (Jvm.Cond.instanceMethod ({ cls := "LampSquares$Reader", name := "begin", desc := "(II)V" } : Jvm.MethodName)) ∈ lw_all := lw_g (lw_at lw_m3 97 rfl) rfl
theorem q635 : (Jvm.Cond.code ({ cls := "LampSquares$Reader", name := "begin", desc := "(II)V" } : Jvm.MethodName) prog_10_method_9_code (3 : Nat) (Option.none : Option Jvm.ClassFile.FieldType)) ∈ lw_all := lw_g (lw_at lw_m3 98 rfl) rfl
theorem q636 : (Jvm.Cond.methodLinkNest "LampSquares$Reader" (130 : Nat) ({ cls := "LampSquares", name := "squareBy", desc := "(II)LLampSquares$Square;" } : Jvm.MethodName) "LampSquares") ∈ lw_tbl := lw_at lw_m3 99 rfl
theorem q639 : (Jvm.Cond.interfaceEntry "LampSquares$Reader" (134 : Nat)) ∈ lw_tbl := lw_at lw_m3 102 rfl
theorem q640 : (Jvm.Cond.methodLink "LampSquares$Reader" (134 : Nat) ({ cls := "java/util/List", name := "add", desc := "(Ljava/lang/Object;)Z" } : Jvm.MethodName)) ∈ lw_all := lw_g (lw_at lw_m3 103 rfl) rfl
theorem q684 : (Jvm.Cond.selects "LampSquares$Reader" ({ cls := "java/lang/Object", name := "getClass", desc := "()Ljava/lang/Class;" } : Jvm.MethodName) ({ cls := "java/lang/Object", name := "getClass", desc := "()Ljava/lang/Class;" } : Jvm.MethodName)) ∈ lw_all := lw_g (lw_at lw_m3 147 rfl) rfl
theorem q705 : (Jvm.Cond.methodLink "LampSquares$Reader" (107 : Nat) ({ cls := "LampSquares$Reader", name := "visitor", desc := "()V" } : Jvm.MethodName)) ∈ lw_all := lw_g (lw_at lw_m3 168 rfl) rfl
theorem q706 : (Jvm.Cond.privateMethod ({ cls := "LampSquares$Reader", name := "visitor", desc := "()V" } : Jvm.MethodName)) ∈ lw_tbl := lw_at lw_m3 169 rfl
theorem q707 : (Jvm.Cond.instanceMethod ({ cls := "LampSquares$Reader", name := "visitor", desc := "()V" } : Jvm.MethodName)) ∈ lw_all := lw_g (lw_at lw_m3 170 rfl) rfl
theorem q708 : (Jvm.Cond.code ({ cls := "LampSquares$Reader", name := "visitor", desc := "()V" } : Jvm.MethodName) prog_10_method_14_code (2 : Nat) (Option.none : Option Jvm.ClassFile.FieldType)) ∈ lw_all := lw_g (lw_at lw_m3 171 rfl) rfl
theorem q1629 : (Jvm.Cond.castable "LampSquares$Reader" "java/lang/Object") ∈ lw_tbl := lw_at lw_m7 132 rfl
theorem in_X12 : ∀ w ∈ wsX120, w ∈ lw_all := lw_in wsX120 [482, 484, 486, 488, 490, 492, 494] (by decide +kernel) (by decide +kernel)
/-! LampSquares$Fault -/
set_option maxRecDepth 100000
def RX13 : String := "LampSquares$Fault"
def TX13 : u_T := fun k => match k with
  | 0 => ("java/lang/Throwable", "cause", "Ljava/lang/Throwable;", false)
  | 1 => ("java/lang/Throwable", "stackTrace", "[Ljava/lang/StackTraceElement;", false)
  | 2 => ("java/lang/Throwable", "suppressedExceptions", "Ljava/util/List;", false)
  | 3 => ("java/lang/Throwable", "detailMessage", "Ljava/lang/String;", false)
  | 4 => ("java/lang/Throwable", "backtrace", "Ljava/lang/Object;", false)
  | 5 => ("java/lang/Throwable", "depth", "I", false)
  | 6 => ("LampSquares$Fault", "kind", "I", true)
  | _ => ("LampSquares$Fault", "place", "I", true)
def tyX13 : Nat → FieldType := fun k => match k with
  | 0 => .object "java/lang/Throwable"
  | 1 => .array (.object "java/lang/StackTraceElement")
  | 2 => .object "java/util/List"
  | 3 => .object "java/lang/String"
  | 4 => .object "java/lang/Object"
  | 5 => .int
  | 6 => .int
  | _ => .int
abbrev wsX130 : List Cond := u_ws RX13 TX13 8
theorem nmX13 : ∀ a, a < 8 → ∀ b, b < 8 → a ≠ b → (TX13 a).2.1 ≠ (TX13 b).2.1 := by decide +kernel
theorem tyX13_ok : ∀ k, k < 8 → parseFieldDescriptor (TX13 k).2.2.1 = some (tyX13 k) := by decide +kernel
abbrev cX13_init : ByteArray := prog_5_method_1_code
def yX13_init : MethodName := ⟨RX13, "<init>", "(II)V"⟩
def dkwX13_init_0 : List UInt8 := [42, 1, 1, 3, 3, 183, 0, 1, 42, 27, 181, 0, 7, 42, 28, 181, 0, 13, 177]
abbrev dktX13_init_0 : List UInt8 := dkwX13_init_0 ++ []
theorem dksX13_init_0 : cX13_init.data.toList.drop 0 = dktX13_init_0 := by decide +kernel
theorem dX13_init_0 : decode cX13_init 0 = .ok (.aload_n 0, 1) := dk_42 (dk_at dksX13_init_0 0 rfl rfl)
theorem dX13_init_1 : decode cX13_init 1 = .ok (.aconst_null, 1) := dk_1 (dk_at dksX13_init_0 1 rfl rfl)
theorem dX13_init_2 : decode cX13_init 2 = .ok (.aconst_null, 1) := dk_1 (dk_at dksX13_init_0 2 rfl rfl)
theorem dX13_init_3 : decode cX13_init 3 = .ok (.iconst 0, 1) := dk_3 (dk_at dksX13_init_0 3 rfl rfl)
theorem dX13_init_4 : decode cX13_init 4 = .ok (.iconst 0, 1) := dk_3 (dk_at dksX13_init_0 4 rfl rfl)
theorem dX13_init_5 : decode cX13_init 5 = .ok (.invokespecial 1, 3) := dk_183 0 1 (dk_at dksX13_init_0 5 rfl rfl)
theorem dX13_init_8 : decode cX13_init 8 = .ok (.aload_n 0, 1) := dk_42 (dk_at dksX13_init_0 8 rfl rfl)
theorem dX13_init_9 : decode cX13_init 9 = .ok (.iload_n 1, 1) := dk_27 (dk_at dksX13_init_0 9 rfl rfl)
theorem dX13_init_10 : decode cX13_init 10 = .ok (.putfield 7, 3) := dk_181 0 7 (dk_at dksX13_init_0 10 rfl rfl)
theorem dX13_init_13 : decode cX13_init 13 = .ok (.aload_n 0, 1) := dk_42 (dk_at dksX13_init_0 13 rfl rfl)
theorem dX13_init_14 : decode cX13_init 14 = .ok (.iload_n 2, 1) := dk_28 (dk_at dksX13_init_0 14 rfl rfl)
theorem dX13_init_15 : decode cX13_init 15 = .ok (.putfield 13, 3) := dk_181 0 13 (dk_at dksX13_init_0 15 rfl rfl)
theorem dX13_init_18 : decode cX13_init 18 = .ok (.return_, 1) := dk_177 (dk_at dksX13_init_0 18 rfl rfl)
theorem q81 : (Jvm.Cond.initialized "LampSquares$Fault") ∈ lw_all := lw_g (lw_at lw_m1 24 rfl) rfl
theorem q340 : (Jvm.Cond.selects "LampSquares$Fault" ({ cls := "java/lang/Throwable", name := "fillInStackTrace", desc := "()Ljava/lang/Throwable;" } : Jvm.MethodName) ({ cls := "java/lang/Throwable", name := "fillInStackTrace", desc := "()Ljava/lang/Throwable;" } : Jvm.MethodName)) ∈ lw_all := lw_g (lw_at lw_m2 43 rfl) rfl
theorem q524 : (Jvm.Cond.instantiable "LampSquares$Fault" (8 : Nat)) ∈ lw_all := lw_g (lw_at lw_m2 227 rfl) rfl
theorem q525 : (Jvm.Cond.castable "LampSquares$Fault" "LampSquares$Fault") ∈ lw_tbl := lw_at lw_m2 228 rfl
theorem q526 : (Jvm.Cond.selects "LampSquares$Fault" ({ cls := "java/lang/Throwable", name := "fillInStackTrace", desc := "(I)Ljava/lang/Throwable;" } : Jvm.MethodName) ({ cls := "java/lang/Throwable", name := "fillInStackTrace", desc := "(I)Ljava/lang/Throwable;" } : Jvm.MethodName)) ∈ lw_all := lw_g (lw_at lw_m2 229 rfl) rfl
theorem q527 : (Jvm.Cond.lays "LampSquares$Fault" "java/lang/Throwable" "cause" "Ljava/lang/Throwable;") ∈ lw_all := lw_g (lw_at lw_m2 230 rfl) rfl
theorem q528 : (Jvm.Cond.lays "LampSquares$Fault" "java/lang/Throwable" "stackTrace" "[Ljava/lang/StackTraceElement;") ∈ lw_all := lw_g (lw_at lw_m2 231 rfl) rfl
theorem q529 : (Jvm.Cond.lays "LampSquares$Fault" "java/lang/Throwable" "suppressedExceptions" "Ljava/util/List;") ∈ lw_all := lw_g (lw_at lw_m2 232 rfl) rfl
theorem q530 : (Jvm.Cond.lays "LampSquares$Fault" "java/lang/Throwable" "detailMessage" "Ljava/lang/String;") ∈ lw_all := lw_g (lw_at lw_m2 233 rfl) rfl
theorem q531 : (Jvm.Cond.lays "LampSquares$Fault" "java/lang/Throwable" "backtrace" "Ljava/lang/Object;") ∈ lw_all := lw_g (lw_at lw_m2 234 rfl) rfl
theorem q533 : (Jvm.Cond.instanceMethod ({ cls := "LampSquares$Fault", name := "<init>", desc := "(II)V" } : Jvm.MethodName)) ∈ lw_all := lw_g (lw_at lw_m2 236 rfl) rfl
theorem q534 : (Jvm.Cond.code ({ cls := "LampSquares$Fault", name := "<init>", desc := "(II)V" } : Jvm.MethodName) prog_5_method_1_code (3 : Nat) (Option.none : Option Jvm.ClassFile.FieldType)) ∈ lw_all := lw_g (lw_at lw_m2 237 rfl) rfl
theorem q535 : (Jvm.Cond.methodLink "LampSquares$Fault" (1 : Nat) ({ cls := "java/lang/Exception", name := "<init>", desc := "(Ljava/lang/String;Ljava/lang/Throwable;ZZ)V" } : Jvm.MethodName)) ∈ lw_all := lw_g (lw_at lw_m2 238 rfl) rfl
theorem q536 : (Jvm.Cond.fieldLink "LampSquares$Fault" (7 : Nat) "LampSquares$Fault" "kind" "I") ∈ lw_all := lw_g (lw_at lw_m2 239 rfl) rfl
theorem q538 : (Jvm.Cond.fieldLink "LampSquares$Fault" (13 : Nat) "LampSquares$Fault" "place" "I") ∈ lw_all := lw_g (lw_at lw_m3 1 rfl) rfl
theorem q540 : (Jvm.Cond.laysFinal "LampSquares$Fault" "LampSquares$Fault" "kind" "I") ∈ lw_all := lw_g (lw_at lw_m3 3 rfl) rfl
theorem q541 : (Jvm.Cond.soleField "LampSquares$Fault" "kind") ∈ lw_all := lw_g (lw_at lw_m3 4 rfl) rfl
theorem q542 : (Jvm.Cond.laysFinal "LampSquares$Fault" "LampSquares$Fault" "place" "I") ∈ lw_all := lw_g (lw_at lw_m3 5 rfl) rfl
theorem q543 : (Jvm.Cond.soleField "LampSquares$Fault" "place") ∈ lw_all := lw_g (lw_at lw_m3 6 rfl) rfl
theorem q544 : (Jvm.Cond.lays "LampSquares$Fault" "java/lang/Throwable" "depth" "I") ∈ lw_all := lw_g (lw_at lw_m3 7 rfl) rfl
theorem q545 : (Jvm.Cond.superclass "LampSquares$Fault" "java/lang/Exception") ∈ lw_all := lw_g (lw_at lw_m3 8 rfl) rfl
theorem q680 : (Jvm.Cond.selects "LampSquares$Fault" ({ cls := "java/lang/Object", name := "getClass", desc := "()Ljava/lang/Class;" } : Jvm.MethodName) ({ cls := "java/lang/Object", name := "getClass", desc := "()Ljava/lang/Class;" } : Jvm.MethodName)) ∈ lw_all := lw_g (lw_at lw_m3 143 rfl) rfl
theorem q1630 : (Jvm.Cond.castable "LampSquares$Fault" "java/lang/Object") ∈ lw_tbl := lw_at lw_m7 133 rfl
theorem in_X13 : ∀ w ∈ wsX130, w ∈ lw_all := lw_in wsX130 [527, 528, 529, 530, 531, 544, 540, 542] (by decide +kernel) (by decide +kernel)
/-! LampSquares$Marked -/
set_option maxRecDepth 100000
def RX14 : String := "LampSquares$Marked"
abbrev cX14_mark : ByteArray := prog_9_method_3_code
def yX14_mark : MethodName := ⟨RX14, "mark", "(LLampSquares$Trail;LLampSquares$Door;)I"⟩
def dkwX14_mark_0 : List UInt8 := [43, 16, 20, 182, 0, 1, 42, 185, 0, 7, 1, 0, 172]
abbrev dktX14_mark_0 : List UInt8 := dkwX14_mark_0 ++ []
theorem dksX14_mark_0 : cX14_mark.data.toList.drop 0 = dktX14_mark_0 := by decide +kernel
theorem dX14_mark_0 : decode cX14_mark 0 = .ok (.aload_n 1, 1) := dk_43 (dk_at dksX14_mark_0 0 rfl rfl)
theorem dX14_mark_1 : decode cX14_mark 1 = .ok (.bipush 20, 2) := dk_16 20 (dk_at dksX14_mark_0 1 rfl rfl)
theorem dX14_mark_3 : decode cX14_mark 3 = .ok (.invokevirtual 1, 3) := dk_182 0 1 (dk_at dksX14_mark_0 3 rfl rfl)
theorem dX14_mark_6 : decode cX14_mark 6 = .ok (.aload_n 0, 1) := dk_42 (dk_at dksX14_mark_0 6 rfl rfl)
theorem dX14_mark_7 : decode cX14_mark 7 = .ok (.invokeinterface 7 1, 5) := by decide +kernel
theorem dX14_mark_12 : decode cX14_mark 12 = .ok (.ireturn, 1) := dk_172 (dk_at dksX14_mark_0 12 rfl rfl)
theorem q1101 : (Jvm.Cond.declares ({ cls := "LampSquares$Marked", name := "mark", desc := "(LLampSquares$Trail;LLampSquares$Door;)I" } : Jvm.MethodName)) ∈ lw_tbl := lw_at lw_m5 84 rfl
theorem q1102 : (Jvm.Cond.instanceMethod ({ cls := "LampSquares$Marked", name := "mark", desc := "(LLampSquares$Trail;LLampSquares$Door;)I" } : Jvm.MethodName)) ∈ lw_all := lw_g (lw_at lw_m5 85 rfl) rfl
theorem q1103 : (Jvm.Cond.code ({ cls := "LampSquares$Marked", name := "mark", desc := "(LLampSquares$Trail;LLampSquares$Door;)I" } : Jvm.MethodName) prog_9_method_3_code (3 : Nat) (Option.some Jvm.ClassFile.FieldType.int)) ∈ lw_all := lw_g (lw_at lw_m5 86 rfl) rfl
theorem q1104 : (Jvm.Cond.methodLink "LampSquares$Marked" (1 : Nat) ({ cls := "LampSquares$Trail", name := "begins", desc := "(I)V" } : Jvm.MethodName)) ∈ lw_all := lw_g (lw_at lw_m5 87 rfl) rfl
theorem q1105 : (Jvm.Cond.interfaceEntry "LampSquares$Marked" (7 : Nat)) ∈ lw_tbl := lw_at lw_m5 88 rfl
theorem q1106 : (Jvm.Cond.methodLink "LampSquares$Marked" (7 : Nat) ({ cls := "LampSquares$Marked", name := "number", desc := "()I" } : Jvm.MethodName)) ∈ lw_all := lw_g (lw_at lw_m5 89 rfl) rfl
theorem q1107 : (Jvm.Cond.interfaceMethod "LampSquares$Marked" "LampSquares$Marked" "number" "()I") ∈ lw_tbl := lw_at lw_m5 90 rfl
theorem q1108 : (Jvm.Cond.declares ({ cls := "LampSquares$Marked", name := "number", desc := "()I" } : Jvm.MethodName)) ∈ lw_tbl := lw_at lw_m5 91 rfl
/-! LampSquares$Trail -/
set_option maxRecDepth 100000
def RX2 : String := "LampSquares$Trail"
def TX2 : u_T := fun k => match k with
  | 0 => ("LampSquares$Trail", "body", "[I", true)
  | _ => ("LampSquares$Trail", "many", "I", false)
def tyX2 : Nat → FieldType := fun k => match k with
  | 0 => .array .int
  | _ => .int
abbrev wsX20 : List Cond := u_ws RX2 TX2 2
theorem nmX2 : ∀ a, a < 2 → ∀ b, b < 2 → a ≠ b → (TX2 a).2.1 ≠ (TX2 b).2.1 := by decide +kernel
theorem tyX2_ok : ∀ k, k < 2 → parseFieldDescriptor (TX2 k).2.2.1 = some (tyX2 k) := by decide +kernel
abbrev cX2_init : ByteArray := prog_13_method_1_code
def yX2_init : MethodName := ⟨RX2, "<init>", "()V"⟩
def dkwX2_init_0 : List UInt8 := [42, 183, 0, 3, 42, 16, 16, 188, 10, 181, 0, 9, 177]
abbrev dktX2_init_0 : List UInt8 := dkwX2_init_0 ++ []
theorem dksX2_init_0 : cX2_init.data.toList.drop 0 = dktX2_init_0 := by decide +kernel
theorem dX2_init_0 : decode cX2_init 0 = .ok (.aload_n 0, 1) := dk_42 (dk_at dksX2_init_0 0 rfl rfl)
theorem dX2_init_1 : decode cX2_init 1 = .ok (.invokespecial 3, 3) := dk_183 0 3 (dk_at dksX2_init_0 1 rfl rfl)
theorem dX2_init_4 : decode cX2_init 4 = .ok (.aload_n 0, 1) := dk_42 (dk_at dksX2_init_0 4 rfl rfl)
theorem dX2_init_5 : decode cX2_init 5 = .ok (.bipush 16, 2) := dk_16 16 (dk_at dksX2_init_0 5 rfl rfl)
theorem dX2_init_7 : decode cX2_init 7 = .ok (.newarray .int, 2) := dk_188_10 (dk_at dksX2_init_0 7 rfl rfl)
theorem dX2_init_9 : decode cX2_init 9 = .ok (.putfield 9, 3) := dk_181 0 9 (dk_at dksX2_init_0 9 rfl rfl)
theorem dX2_init_12 : decode cX2_init 12 = .ok (.return_, 1) := dk_177 (dk_at dksX2_init_0 12 rfl rfl)
abbrev cX2_begins : ByteArray := prog_13_method_2_code
def yX2_begins : MethodName := ⟨RX2, "begins", "(I)V"⟩
def dkwX2_begins_1 : List UInt8 := [27, 79, 177]
abbrev dktX2_begins_1 : List UInt8 := dkwX2_begins_1 ++ []
def dkwX2_begins_0 : List UInt8 := [42, 180, 0, 15, 16, 16, 162, 0, 20, 42, 180, 0, 9, 42, 89, 180, 0, 15, 90, 4, 96, 181, 0, 15]
abbrev dktX2_begins_0 : List UInt8 := dkwX2_begins_0 ++ dktX2_begins_1
theorem dksX2_begins_0 : cX2_begins.data.toList.drop 0 = dktX2_begins_0 := by decide +kernel
theorem dksX2_begins_1 : cX2_begins.data.toList.drop 24 = dktX2_begins_1 := dk_seg dksX2_begins_0 24 rfl rfl
theorem dX2_begins_0 : decode cX2_begins 0 = .ok (.aload_n 0, 1) := dk_42 (dk_at dksX2_begins_0 0 rfl rfl)
theorem dX2_begins_1 : decode cX2_begins 1 = .ok (.getfield 15, 3) := dk_180 0 15 (dk_at dksX2_begins_0 1 rfl rfl)
theorem dX2_begins_4 : decode cX2_begins 4 = .ok (.bipush 16, 2) := dk_16 16 (dk_at dksX2_begins_0 4 rfl rfl)
theorem dX2_begins_6 : decode cX2_begins 6 = .ok (.if_icmp .ge 20, 3) := dk_162 0 20 (dk_at dksX2_begins_0 6 rfl rfl)
theorem dX2_begins_9 : decode cX2_begins 9 = .ok (.aload_n 0, 1) := dk_42 (dk_at dksX2_begins_0 9 rfl rfl)
theorem dX2_begins_10 : decode cX2_begins 10 = .ok (.getfield 9, 3) := dk_180 0 9 (dk_at dksX2_begins_0 10 rfl rfl)
theorem dX2_begins_13 : decode cX2_begins 13 = .ok (.aload_n 0, 1) := dk_42 (dk_at dksX2_begins_0 13 rfl rfl)
theorem dX2_begins_14 : decode cX2_begins 14 = .ok (.dup, 1) := dk_89 (dk_at dksX2_begins_0 14 rfl rfl)
theorem dX2_begins_15 : decode cX2_begins 15 = .ok (.getfield 15, 3) := dk_180 0 15 (dk_at dksX2_begins_0 15 rfl rfl)
theorem dX2_begins_18 : decode cX2_begins 18 = .ok (.dup_x1, 1) := dk_90 (dk_at dksX2_begins_0 18 rfl rfl)
theorem dX2_begins_19 : decode cX2_begins 19 = .ok (.iconst 1, 1) := dk_4 (dk_at dksX2_begins_0 19 rfl rfl)
theorem dX2_begins_20 : decode cX2_begins 20 = .ok (.iadd, 1) := dk_96 (dk_at dksX2_begins_0 20 rfl rfl)
theorem dX2_begins_21 : decode cX2_begins 21 = .ok (.putfield 15, 3) := dk_181 0 15 (dk_at dksX2_begins_0 21 rfl rfl)
theorem dX2_begins_24 : decode cX2_begins 24 = .ok (.iload_n 1, 1) := dk_27 (dk_at dksX2_begins_1 0 rfl rfl)
theorem dX2_begins_25 : decode cX2_begins 25 = .ok (.iastore, 1) := dk_79 (dk_at dksX2_begins_1 1 rfl rfl)
theorem dX2_begins_26 : decode cX2_begins 26 = .ok (.return_, 1) := dk_177 (dk_at dksX2_begins_1 2 rfl rfl)
theorem q63 : (Jvm.Cond.initialized "LampSquares$Trail") ∈ lw_all := lw_g (lw_at lw_m1 6 rfl) rfl
theorem q195 : (Jvm.Cond.instantiable "LampSquares$Trail" (2 : Nat)) ∈ lw_all := lw_g (lw_at lw_m1 138 rfl) rfl
theorem q197 : (Jvm.Cond.instanceMethod ({ cls := "LampSquares$Trail", name := "<init>", desc := "()V" } : Jvm.MethodName)) ∈ lw_all := lw_g (lw_at lw_m1 140 rfl) rfl
theorem q198 : (Jvm.Cond.code ({ cls := "LampSquares$Trail", name := "<init>", desc := "()V" } : Jvm.MethodName) prog_13_method_1_code (1 : Nat) (Option.none : Option Jvm.ClassFile.FieldType)) ∈ lw_all := lw_g (lw_at lw_m1 141 rfl) rfl
theorem q199 : (Jvm.Cond.methodLink "LampSquares$Trail" (3 : Nat) ({ cls := "java/lang/Object", name := "<init>", desc := "()V" } : Jvm.MethodName)) ∈ lw_all := lw_g (lw_at lw_m1 142 rfl) rfl
theorem q200 : (Jvm.Cond.fieldLink "LampSquares$Trail" (9 : Nat) "LampSquares$Trail" "body" "[I") ∈ lw_all := lw_g (lw_at lw_m1 143 rfl) rfl
theorem q202 : (Jvm.Cond.fieldLink "LampSquares$Trail" (15 : Nat) "LampSquares$Trail" "many" "I") ∈ lw_all := lw_g (lw_at lw_m1 145 rfl) rfl
theorem q204 : (Jvm.Cond.laysFinal "LampSquares$Trail" "LampSquares$Trail" "body" "[I") ∈ lw_all := lw_g (lw_at lw_m1 147 rfl) rfl
theorem q205 : (Jvm.Cond.soleField "LampSquares$Trail" "body") ∈ lw_all := lw_g (lw_at lw_m1 148 rfl) rfl
theorem q206 : (Jvm.Cond.lays "LampSquares$Trail" "LampSquares$Trail" "many" "I") ∈ lw_all := lw_g (lw_at lw_m1 149 rfl) rfl
theorem q207 : (Jvm.Cond.soleField "LampSquares$Trail" "many") ∈ lw_all := lw_g (lw_at lw_m1 150 rfl) rfl
theorem q208 : (Jvm.Cond.superclass "LampSquares$Trail" "java/lang/Object") ∈ lw_all := lw_g (lw_at lw_m1 151 rfl) rfl
theorem q686 : (Jvm.Cond.selects "LampSquares$Trail" ({ cls := "java/lang/Object", name := "getClass", desc := "()Ljava/lang/Class;" } : Jvm.MethodName) ({ cls := "java/lang/Object", name := "getClass", desc := "()Ljava/lang/Class;" } : Jvm.MethodName)) ∈ lw_all := lw_g (lw_at lw_m3 149 rfl) rfl
theorem q1081 : (Jvm.Cond.instanceMethod ({ cls := "LampSquares$Trail", name := "begins", desc := "(I)V" } : Jvm.MethodName)) ∈ lw_all := lw_g (lw_at lw_m5 64 rfl) rfl
theorem q1082 : (Jvm.Cond.selects "LampSquares$Trail" ({ cls := "LampSquares$Trail", name := "begins", desc := "(I)V" } : Jvm.MethodName) ({ cls := "LampSquares$Trail", name := "begins", desc := "(I)V" } : Jvm.MethodName)) ∈ lw_all := lw_g (lw_at lw_m5 65 rfl) rfl
theorem q1083 : (Jvm.Cond.code ({ cls := "LampSquares$Trail", name := "begins", desc := "(I)V" } : Jvm.MethodName) prog_13_method_2_code (2 : Nat) (Option.none : Option Jvm.ClassFile.FieldType)) ∈ lw_all := lw_g (lw_at lw_m5 66 rfl) rfl
theorem q1620 : (Jvm.Cond.castable "LampSquares$Trail" "java/lang/Object") ∈ lw_tbl := lw_at lw_m7 123 rfl
theorem in_X2 : ∀ w ∈ wsX20, w ∈ lw_all := lw_in wsX20 [204, 206] (by decide +kernel) (by decide +kernel)
/-! LampSquares$Square -/
set_option maxRecDepth 100000
def RX3 : String := "LampSquares$Square"
abbrev cX3_init : ByteArray := prog_12_method_1_code
def yX3_init : MethodName := ⟨RX3, "<init>", "(I)V"⟩
def dkwX3_init_0 : List UInt8 := [42, 183, 0, 1, 42, 27, 181, 0, 7, 177]
abbrev dktX3_init_0 : List UInt8 := dkwX3_init_0 ++ []
theorem dksX3_init_0 : cX3_init.data.toList.drop 0 = dktX3_init_0 := by decide +kernel
theorem dX3_init_0 : decode cX3_init 0 = .ok (.aload_n 0, 1) := dk_42 (dk_at dksX3_init_0 0 rfl rfl)
theorem dX3_init_1 : decode cX3_init 1 = .ok (.invokespecial 1, 3) := dk_183 0 1 (dk_at dksX3_init_0 1 rfl rfl)
theorem dX3_init_4 : decode cX3_init 4 = .ok (.aload_n 0, 1) := dk_42 (dk_at dksX3_init_0 4 rfl rfl)
theorem dX3_init_5 : decode cX3_init 5 = .ok (.iload_n 1, 1) := dk_27 (dk_at dksX3_init_0 5 rfl rfl)
theorem dX3_init_6 : decode cX3_init 6 = .ok (.putfield 7, 3) := dk_181 0 7 (dk_at dksX3_init_0 6 rfl rfl)
theorem dX3_init_9 : decode cX3_init 9 = .ok (.return_, 1) := dk_177 (dk_at dksX3_init_0 9 rfl rfl)
abbrev cX3_seen : ByteArray := prog_12_method_4_code
def yX3_seen : MethodName := ⟨RX3, "seen", "(III)I"⟩
theorem dX3_seen_0 : decode cX3_seen 0 = .ok (.iload_n 1, 1) := by decide +kernel
theorem dX3_seen_1 : decode cX3_seen 1 = .ok (.ireturn, 1) := by decide +kernel
abbrev cX3_counts : ByteArray := prog_12_method_3_code
def yX3_counts : MethodName := ⟨RX3, "counts", "()Z"⟩
theorem dX3_counts_0 : decode cX3_counts 0 = .ok (.iconst 0, 1) := by decide +kernel
theorem dX3_counts_1 : decode cX3_counts 1 = .ok (.ireturn, 1) := by decide +kernel
abbrev cX3_number : ByteArray := prog_12_method_5_code
def yX3_number : MethodName := ⟨RX3, "number", "()I"⟩
theorem dX3_number_0 : decode cX3_number 0 = .ok (.aload_n 0, 1) := by decide +kernel
theorem dX3_number_1 : decode cX3_number 1 = .ok (.getfield 7, 3) := by decide +kernel
theorem dX3_number_4 : decode cX3_number 4 = .ok (.ireturn, 1) := by decide +kernel
abbrev cX3_size : ByteArray := prog_12_method_6_code
def yX3_size : MethodName := ⟨RX3, "size", "(LLampSquares$Trail;LLampSquares$Door;)I"⟩
def dkwX3_size_0 : List UInt8 := [43, 16, 10, 182, 0, 13, 44, 180, 0, 19, 42, 180, 0, 7, 46, 172]
abbrev dktX3_size_0 : List UInt8 := dkwX3_size_0 ++ []
theorem dksX3_size_0 : cX3_size.data.toList.drop 0 = dktX3_size_0 := by decide +kernel
theorem dX3_size_0 : decode cX3_size 0 = .ok (.aload_n 1, 1) := dk_43 (dk_at dksX3_size_0 0 rfl rfl)
theorem dX3_size_1 : decode cX3_size 1 = .ok (.bipush 10, 2) := dk_16 10 (dk_at dksX3_size_0 1 rfl rfl)
theorem dX3_size_3 : decode cX3_size 3 = .ok (.invokevirtual 13, 3) := dk_182 0 13 (dk_at dksX3_size_0 3 rfl rfl)
theorem dX3_size_6 : decode cX3_size 6 = .ok (.aload_n 2, 1) := dk_44 (dk_at dksX3_size_0 6 rfl rfl)
theorem dX3_size_7 : decode cX3_size 7 = .ok (.getfield 19, 3) := dk_180 0 19 (dk_at dksX3_size_0 7 rfl rfl)
theorem dX3_size_10 : decode cX3_size 10 = .ok (.aload_n 0, 1) := dk_42 (dk_at dksX3_size_0 10 rfl rfl)
theorem dX3_size_11 : decode cX3_size 11 = .ok (.getfield 7, 3) := dk_180 0 7 (dk_at dksX3_size_0 11 rfl rfl)
theorem dX3_size_14 : decode cX3_size 14 = .ok (.iaload, 1) := dk_46 (dk_at dksX3_size_0 14 rfl rfl)
theorem dX3_size_15 : decode cX3_size 15 = .ok (.ireturn, 1) := dk_172 (dk_at dksX3_size_0 15 rfl rfl)
theorem q64 : (Jvm.Cond.initialized "LampSquares$Square") ∈ lw_all := lw_g (lw_at lw_m1 7 rfl) rfl
theorem q144 : (Jvm.Cond.fieldLink "LampSquares$Square" (19 : Nat) "LampSquares$Door" "share" "[I") ∈ lw_all := lw_g (lw_at lw_m1 87 rfl) rfl
theorem q217 : (Jvm.Cond.instanceMethod ({ cls := "LampSquares$Square", name := "<init>", desc := "(I)V" } : Jvm.MethodName)) ∈ lw_all := lw_g (lw_at lw_m1 160 rfl) rfl
theorem q218 : (Jvm.Cond.code ({ cls := "LampSquares$Square", name := "<init>", desc := "(I)V" } : Jvm.MethodName) prog_12_method_1_code (2 : Nat) (Option.none : Option Jvm.ClassFile.FieldType)) ∈ lw_all := lw_g (lw_at lw_m1 161 rfl) rfl
theorem q219 : (Jvm.Cond.methodLink "LampSquares$Square" (1 : Nat) ({ cls := "java/lang/Object", name := "<init>", desc := "()V" } : Jvm.MethodName)) ∈ lw_all := lw_g (lw_at lw_m1 162 rfl) rfl
theorem q220 : (Jvm.Cond.fieldLink "LampSquares$Square" (7 : Nat) "LampSquares$Square" "number" "I") ∈ lw_all := lw_g (lw_at lw_m1 163 rfl) rfl
theorem q222 : (Jvm.Cond.soleField "LampSquares$Square" "number") ∈ lw_all := lw_g (lw_at lw_m1 165 rfl) rfl
theorem q780 : (Jvm.Cond.instanceMethod ({ cls := "LampSquares$Square", name := "seen", desc := "(III)I" } : Jvm.MethodName)) ∈ lw_all := lw_g (lw_at lw_m4 3 rfl) rfl
theorem q781 : (Jvm.Cond.sameMethod "LampSquares$Square" "LampSquares$Square" "seen" "(III)I") ∈ lw_all := lw_g (lw_at lw_m4 4 rfl) rfl
theorem q787 : (Jvm.Cond.declares ({ cls := "LampSquares$Square", name := "seen", desc := "(III)I" } : Jvm.MethodName)) ∈ lw_tbl := lw_at lw_m4 10 rfl
theorem q800 : (Jvm.Cond.code ({ cls := "LampSquares$Square", name := "seen", desc := "(III)I" } : Jvm.MethodName) prog_12_method_4_code (4 : Nat) (Option.some Jvm.ClassFile.FieldType.int)) ∈ lw_all := lw_g (lw_at lw_m4 23 rfl) rfl
theorem q823 : (Jvm.Cond.instanceMethod ({ cls := "LampSquares$Square", name := "counts", desc := "()Z" } : Jvm.MethodName)) ∈ lw_all := lw_g (lw_at lw_m4 46 rfl) rfl
theorem q824 : (Jvm.Cond.sameMethod "LampSquares$Square" "LampSquares$Square" "counts" "()Z") ∈ lw_all := lw_g (lw_at lw_m4 47 rfl) rfl
theorem q832 : (Jvm.Cond.code ({ cls := "LampSquares$Square", name := "counts", desc := "()Z" } : Jvm.MethodName) prog_12_method_3_code (1 : Nat) (Option.some Jvm.ClassFile.FieldType.boolean)) ∈ lw_all := lw_g (lw_at lw_m4 55 rfl) rfl
theorem q978 : (Jvm.Cond.declares ({ cls := "LampSquares$Square", name := "kind", desc := "()I" } : Jvm.MethodName)) ∈ lw_tbl := lw_at lw_m4 201 rfl
theorem q979 : (Jvm.Cond.sameMethod "LampSquares$Square" "LampSquares$Square" "kind" "()I") ∈ lw_all := lw_g (lw_at lw_m4 202 rfl) rfl
theorem q1062 : (Jvm.Cond.instanceMethod ({ cls := "LampSquares$Square", name := "number", desc := "()I" } : Jvm.MethodName)) ∈ lw_all := lw_g (lw_at lw_m5 45 rfl) rfl
theorem q1063 : (Jvm.Cond.sameMethod "LampSquares$Square" "LampSquares$Square" "number" "()I") ∈ lw_all := lw_g (lw_at lw_m5 46 rfl) rfl
theorem q1069 : (Jvm.Cond.code ({ cls := "LampSquares$Square", name := "number", desc := "()I" } : Jvm.MethodName) prog_12_method_5_code (1 : Nat) (Option.some Jvm.ClassFile.FieldType.int)) ∈ lw_all := lw_g (lw_at lw_m5 52 rfl) rfl
theorem q1075 : (Jvm.Cond.instanceMethod ({ cls := "LampSquares$Square", name := "size", desc := "(LLampSquares$Trail;LLampSquares$Door;)I" } : Jvm.MethodName)) ∈ lw_all := lw_g (lw_at lw_m5 58 rfl) rfl
theorem q1076 : (Jvm.Cond.sameMethod "LampSquares$Square" "LampSquares$Square" "size" "(LLampSquares$Trail;LLampSquares$Door;)I") ∈ lw_all := lw_g (lw_at lw_m5 59 rfl) rfl
theorem q1100 : (Jvm.Cond.superclass "LampSquares$Square" "java/lang/Object") ∈ lw_all := lw_g (lw_at lw_m5 83 rfl) rfl
theorem q1112 : (Jvm.Cond.publicMethod ({ cls := "LampSquares$Square", name := "number", desc := "()I" } : Jvm.MethodName)) ∈ lw_tbl := lw_at lw_m5 95 rfl
theorem q1127 : (Jvm.Cond.declares ({ cls := "LampSquares$Square", name := "number", desc := "()I" } : Jvm.MethodName)) ∈ lw_tbl := lw_at lw_m5 110 rfl
theorem q1151 : (Jvm.Cond.code ({ cls := "LampSquares$Square", name := "size", desc := "(LLampSquares$Trail;LLampSquares$Door;)I" } : Jvm.MethodName) prog_12_method_6_code (3 : Nat) (Option.some Jvm.ClassFile.FieldType.int)) ∈ lw_all := lw_g (lw_at lw_m5 134 rfl) rfl
theorem q1152 : (Jvm.Cond.methodLink "LampSquares$Square" (13 : Nat) ({ cls := "LampSquares$Trail", name := "begins", desc := "(I)V" } : Jvm.MethodName)) ∈ lw_all := lw_g (lw_at lw_m5 135 rfl) rfl
theorem q1617 : (Jvm.Cond.castable "LampSquares$Square" "java/lang/Object") ∈ lw_tbl := lw_at lw_m7 120 rfl
/-! LampSquares$Known -/
set_option maxRecDepth 100000
def RX4 : String := "LampSquares$Known"
def TX4 : u_T := fun k => match k with
  | _ => ("LampSquares$Square", "number", "I", true)
def tyX4 : Nat → FieldType := fun k => match k with
  | _ => .int
abbrev wsX40 : List Cond := u_ws RX4 TX4 1
theorem nmX4 : ∀ a, a < 1 → ∀ b, b < 1 → a ≠ b → (TX4 a).2.1 ≠ (TX4 b).2.1 := by decide +kernel
theorem tyX4_ok : ∀ k, k < 1 → parseFieldDescriptor (TX4 k).2.2.1 = some (tyX4 k) := by decide +kernel
abbrev cX4_init : ByteArray := prog_8_method_1_code
def yX4_init : MethodName := ⟨RX4, "<init>", "(I)V"⟩
def dkwX4_init_0 : List UInt8 := [42, 27, 183, 0, 3, 177]
abbrev dktX4_init_0 : List UInt8 := dkwX4_init_0 ++ []
theorem dksX4_init_0 : cX4_init.data.toList.drop 0 = dktX4_init_0 := by decide +kernel
theorem dX4_init_0 : decode cX4_init 0 = .ok (.aload_n 0, 1) := dk_42 (dk_at dksX4_init_0 0 rfl rfl)
theorem dX4_init_1 : decode cX4_init 1 = .ok (.iload_n 1, 1) := dk_27 (dk_at dksX4_init_0 1 rfl rfl)
theorem dX4_init_2 : decode cX4_init 2 = .ok (.invokespecial 3, 3) := dk_183 0 3 (dk_at dksX4_init_0 2 rfl rfl)
theorem dX4_init_5 : decode cX4_init 5 = .ok (.return_, 1) := dk_177 (dk_at dksX4_init_0 5 rfl rfl)
abbrev cX4_counts : ByteArray := prog_8_method_3_code
def yX4_counts : MethodName := ⟨RX4, "counts", "()Z"⟩
theorem dX4_counts_0 : decode cX4_counts 0 = .ok (.iconst 1, 1) := by decide +kernel
theorem dX4_counts_1 : decode cX4_counts 1 = .ok (.ireturn, 1) := by decide +kernel
abbrev cX4_kind : ByteArray := prog_8_method_2_code
def yX4_kind : MethodName := ⟨RX4, "kind", "()I"⟩
theorem dX4_kind_0 : decode cX4_kind 0 = .ok (.iconst 1, 1) := by decide +kernel
theorem dX4_kind_1 : decode cX4_kind 1 = .ok (.ireturn, 1) := by decide +kernel
abbrev cX4_size : ByteArray := prog_8_method_4_code
def yX4_size : MethodName := ⟨RX4, "size", "(LLampSquares$Trail;LLampSquares$Door;)I"⟩
def dkwX4_size_0 : List UInt8 := [43, 16, 11, 182, 0, 9, 42, 43, 44, 183, 0, 14, 42, 43, 44, 182, 0, 18, 96, 172]
abbrev dktX4_size_0 : List UInt8 := dkwX4_size_0 ++ []
theorem dksX4_size_0 : cX4_size.data.toList.drop 0 = dktX4_size_0 := by decide +kernel
theorem dX4_size_0 : decode cX4_size 0 = .ok (.aload_n 1, 1) := dk_43 (dk_at dksX4_size_0 0 rfl rfl)
theorem dX4_size_1 : decode cX4_size 1 = .ok (.bipush 11, 2) := dk_16 11 (dk_at dksX4_size_0 1 rfl rfl)
theorem dX4_size_3 : decode cX4_size 3 = .ok (.invokevirtual 9, 3) := dk_182 0 9 (dk_at dksX4_size_0 3 rfl rfl)
theorem dX4_size_6 : decode cX4_size 6 = .ok (.aload_n 0, 1) := dk_42 (dk_at dksX4_size_0 6 rfl rfl)
theorem dX4_size_7 : decode cX4_size 7 = .ok (.aload_n 1, 1) := dk_43 (dk_at dksX4_size_0 7 rfl rfl)
theorem dX4_size_8 : decode cX4_size 8 = .ok (.aload_n 2, 1) := dk_44 (dk_at dksX4_size_0 8 rfl rfl)
theorem dX4_size_9 : decode cX4_size 9 = .ok (.invokespecial 14, 3) := dk_183 0 14 (dk_at dksX4_size_0 9 rfl rfl)
theorem dX4_size_12 : decode cX4_size 12 = .ok (.aload_n 0, 1) := dk_42 (dk_at dksX4_size_0 12 rfl rfl)
theorem dX4_size_13 : decode cX4_size 13 = .ok (.aload_n 1, 1) := dk_43 (dk_at dksX4_size_0 13 rfl rfl)
theorem dX4_size_14 : decode cX4_size 14 = .ok (.aload_n 2, 1) := dk_44 (dk_at dksX4_size_0 14 rfl rfl)
theorem dX4_size_15 : decode cX4_size 15 = .ok (.invokevirtual 18, 3) := dk_182 0 18 (dk_at dksX4_size_0 15 rfl rfl)
theorem dX4_size_18 : decode cX4_size 18 = .ok (.iadd, 1) := dk_96 (dk_at dksX4_size_0 18 rfl rfl)
theorem dX4_size_19 : decode cX4_size 19 = .ok (.ireturn, 1) := dk_172 (dk_at dksX4_size_0 19 rfl rfl)
abbrev cX4_mark : ByteArray := prog_8_method_5_code
def yX4_mark : MethodName := ⟨RX4, "mark", "(LLampSquares$Trail;LLampSquares$Door;)I"⟩
def dkwX4_mark_1 : List UInt8 := [172]
abbrev dktX4_mark_1 : List UInt8 := dkwX4_mark_1 ++ []
def dkwX4_mark_0 : List UInt8 := [43, 16, 21, 182, 0, 9, 42, 43, 44, 183, 0, 23, 44, 42, 182, 0, 24, 182, 0, 28, 184, 0, 34, 96]
abbrev dktX4_mark_0 : List UInt8 := dkwX4_mark_0 ++ dktX4_mark_1
theorem dksX4_mark_0 : cX4_mark.data.toList.drop 0 = dktX4_mark_0 := by decide +kernel
theorem dksX4_mark_1 : cX4_mark.data.toList.drop 24 = dktX4_mark_1 := dk_seg dksX4_mark_0 24 rfl rfl
theorem dX4_mark_0 : decode cX4_mark 0 = .ok (.aload_n 1, 1) := dk_43 (dk_at dksX4_mark_0 0 rfl rfl)
theorem dX4_mark_1 : decode cX4_mark 1 = .ok (.bipush 21, 2) := dk_16 21 (dk_at dksX4_mark_0 1 rfl rfl)
theorem dX4_mark_3 : decode cX4_mark 3 = .ok (.invokevirtual 9, 3) := dk_182 0 9 (dk_at dksX4_mark_0 3 rfl rfl)
theorem dX4_mark_6 : decode cX4_mark 6 = .ok (.aload_n 0, 1) := dk_42 (dk_at dksX4_mark_0 6 rfl rfl)
theorem dX4_mark_7 : decode cX4_mark 7 = .ok (.aload_n 1, 1) := dk_43 (dk_at dksX4_mark_0 7 rfl rfl)
theorem dX4_mark_8 : decode cX4_mark 8 = .ok (.aload_n 2, 1) := dk_44 (dk_at dksX4_mark_0 8 rfl rfl)
theorem dX4_mark_9 : decode cX4_mark 9 = .ok (.invokespecial 23, 3) := dk_183 0 23 (dk_at dksX4_mark_0 9 rfl rfl)
theorem dX4_mark_12 : decode cX4_mark 12 = .ok (.aload_n 2, 1) := dk_44 (dk_at dksX4_mark_0 12 rfl rfl)
theorem dX4_mark_13 : decode cX4_mark 13 = .ok (.aload_n 0, 1) := dk_42 (dk_at dksX4_mark_0 13 rfl rfl)
theorem dX4_mark_14 : decode cX4_mark 14 = .ok (.invokevirtual 24, 3) := dk_182 0 24 (dk_at dksX4_mark_0 14 rfl rfl)
theorem dX4_mark_17 : decode cX4_mark 17 = .ok (.invokevirtual 28, 3) := dk_182 0 28 (dk_at dksX4_mark_0 17 rfl rfl)
theorem dX4_mark_20 : decode cX4_mark 20 = .ok (.invokestatic 34, 3) := dk_184 0 34 (dk_at dksX4_mark_0 20 rfl rfl)
theorem dX4_mark_23 : decode cX4_mark 23 = .ok (.iadd, 1) := dk_96 (dk_at dksX4_mark_0 23 rfl rfl)
theorem dX4_mark_24 : decode cX4_mark 24 = .ok (.ireturn, 1) := dk_172 (dk_at dksX4_mark_1 0 rfl rfl)
theorem q65 : (Jvm.Cond.initialized "LampSquares$Known") ∈ lw_all := lw_g (lw_at lw_m1 8 rfl) rfl
theorem q212 : (Jvm.Cond.instantiable "LampSquares$Known" (1 : Nat)) ∈ lw_all := lw_g (lw_at lw_m1 155 rfl) rfl
theorem q214 : (Jvm.Cond.instanceMethod ({ cls := "LampSquares$Known", name := "<init>", desc := "(I)V" } : Jvm.MethodName)) ∈ lw_all := lw_g (lw_at lw_m1 157 rfl) rfl
theorem q215 : (Jvm.Cond.code ({ cls := "LampSquares$Known", name := "<init>", desc := "(I)V" } : Jvm.MethodName) prog_8_method_1_code (2 : Nat) (Option.none : Option Jvm.ClassFile.FieldType)) ∈ lw_all := lw_g (lw_at lw_m1 158 rfl) rfl
theorem q216 : (Jvm.Cond.methodLink "LampSquares$Known" (3 : Nat) ({ cls := "LampSquares$Square", name := "<init>", desc := "(I)V" } : Jvm.MethodName)) ∈ lw_all := lw_g (lw_at lw_m1 159 rfl) rfl
theorem q221 : (Jvm.Cond.laysFinal "LampSquares$Known" "LampSquares$Square" "number" "I") ∈ lw_all := lw_g (lw_at lw_m1 164 rfl) rfl
theorem q223 : (Jvm.Cond.superclass "LampSquares$Known" "LampSquares$Square") ∈ lw_all := lw_g (lw_at lw_m1 166 rfl) rfl
theorem q683 : (Jvm.Cond.selects "LampSquares$Known" ({ cls := "java/lang/Object", name := "getClass", desc := "()Ljava/lang/Class;" } : Jvm.MethodName) ({ cls := "java/lang/Object", name := "getClass", desc := "()Ljava/lang/Class;" } : Jvm.MethodName)) ∈ lw_all := lw_g (lw_at lw_m3 146 rfl) rfl
theorem q786 : (Jvm.Cond.sameMethod "LampSquares$Known" "LampSquares$Square" "seen" "(III)I") ∈ lw_all := lw_g (lw_at lw_m4 9 rfl) rfl
theorem q798 : (Jvm.Cond.selects "LampSquares$Known" ({ cls := "LampSquares$Square", name := "seen", desc := "(III)I" } : Jvm.MethodName) ({ cls := "LampSquares$Square", name := "seen", desc := "(III)I" } : Jvm.MethodName)) ∈ lw_all := lw_g (lw_at lw_m4 21 rfl) rfl
theorem q826 : (Jvm.Cond.instanceMethod ({ cls := "LampSquares$Known", name := "counts", desc := "()Z" } : Jvm.MethodName)) ∈ lw_all := lw_g (lw_at lw_m4 49 rfl) rfl
theorem q827 : (Jvm.Cond.code ({ cls := "LampSquares$Known", name := "counts", desc := "()Z" } : Jvm.MethodName) prog_8_method_3_code (1 : Nat) (Option.some Jvm.ClassFile.FieldType.boolean)) ∈ lw_all := lw_g (lw_at lw_m4 50 rfl) rfl
theorem q830 : (Jvm.Cond.selects "LampSquares$Known" ({ cls := "LampSquares$Square", name := "counts", desc := "()Z" } : Jvm.MethodName) ({ cls := "LampSquares$Known", name := "counts", desc := "()Z" } : Jvm.MethodName)) ∈ lw_all := lw_g (lw_at lw_m4 53 rfl) rfl
theorem q989 : (Jvm.Cond.selects "LampSquares$Known" ({ cls := "LampSquares$Square", name := "kind", desc := "()I" } : Jvm.MethodName) ({ cls := "LampSquares$Known", name := "kind", desc := "()I" } : Jvm.MethodName)) ∈ lw_all := lw_g (lw_at lw_m4 212 rfl) rfl
theorem q990 : (Jvm.Cond.instanceMethod ({ cls := "LampSquares$Known", name := "kind", desc := "()I" } : Jvm.MethodName)) ∈ lw_all := lw_g (lw_at lw_m4 213 rfl) rfl
theorem q991 : (Jvm.Cond.code ({ cls := "LampSquares$Known", name := "kind", desc := "()I" } : Jvm.MethodName) prog_8_method_2_code (1 : Nat) (Option.some Jvm.ClassFile.FieldType.int)) ∈ lw_all := lw_g (lw_at lw_m4 214 rfl) rfl
theorem q1067 : (Jvm.Cond.selects "LampSquares$Known" ({ cls := "LampSquares$Square", name := "number", desc := "()I" } : Jvm.MethodName) ({ cls := "LampSquares$Square", name := "number", desc := "()I" } : Jvm.MethodName)) ∈ lw_all := lw_g (lw_at lw_m5 50 rfl) rfl
theorem q1078 : (Jvm.Cond.instanceMethod ({ cls := "LampSquares$Known", name := "size", desc := "(LLampSquares$Trail;LLampSquares$Door;)I" } : Jvm.MethodName)) ∈ lw_all := lw_g (lw_at lw_m5 61 rfl) rfl
theorem q1079 : (Jvm.Cond.code ({ cls := "LampSquares$Known", name := "size", desc := "(LLampSquares$Trail;LLampSquares$Door;)I" } : Jvm.MethodName) prog_8_method_4_code (3 : Nat) (Option.some Jvm.ClassFile.FieldType.int)) ∈ lw_all := lw_g (lw_at lw_m5 62 rfl) rfl
theorem q1080 : (Jvm.Cond.methodLink "LampSquares$Known" (9 : Nat) ({ cls := "LampSquares$Trail", name := "begins", desc := "(I)V" } : Jvm.MethodName)) ∈ lw_all := lw_g (lw_at lw_m5 63 rfl) rfl
theorem q1084 : (Jvm.Cond.methodLink "LampSquares$Known" (14 : Nat) ({ cls := "LampSquares$Square", name := "size", desc := "(LLampSquares$Trail;LLampSquares$Door;)I" } : Jvm.MethodName)) ∈ lw_all := lw_g (lw_at lw_m5 67 rfl) rfl
theorem q1085 : (Jvm.Cond.methodLink "LampSquares$Known" (18 : Nat) ({ cls := "LampSquares$Known", name := "mark", desc := "(LLampSquares$Trail;LLampSquares$Door;)I" } : Jvm.MethodName)) ∈ lw_all := lw_g (lw_at lw_m5 68 rfl) rfl
theorem q1086 : (Jvm.Cond.instanceMethod ({ cls := "LampSquares$Known", name := "mark", desc := "(LLampSquares$Trail;LLampSquares$Door;)I" } : Jvm.MethodName)) ∈ lw_all := lw_g (lw_at lw_m5 69 rfl) rfl
theorem q1087 : (Jvm.Cond.selects "LampSquares$Known" ({ cls := "LampSquares$Known", name := "mark", desc := "(LLampSquares$Trail;LLampSquares$Door;)I" } : Jvm.MethodName) ({ cls := "LampSquares$Known", name := "mark", desc := "(LLampSquares$Trail;LLampSquares$Door;)I" } : Jvm.MethodName)) ∈ lw_all := lw_g (lw_at lw_m5 70 rfl) rfl
theorem q1088 : (Jvm.Cond.sameMethod "LampSquares$Known" "LampSquares$Known" "mark" "(LLampSquares$Trail;LLampSquares$Door;)I") ∈ lw_all := lw_g (lw_at lw_m5 71 rfl) rfl
theorem q1099 : (Jvm.Cond.code ({ cls := "LampSquares$Known", name := "mark", desc := "(LLampSquares$Trail;LLampSquares$Door;)I" } : Jvm.MethodName) prog_8_method_5_code (3 : Nat) (Option.some Jvm.ClassFile.FieldType.int)) ∈ lw_all := lw_g (lw_at lw_m5 82 rfl) rfl
theorem q1119 : (Jvm.Cond.castable "LampSquares$Known" "LampSquares$Marked") ∈ lw_tbl := lw_at lw_m5 102 rfl
theorem q1120 : (Jvm.Cond.selects "LampSquares$Known" ({ cls := "LampSquares$Marked", name := "number", desc := "()I" } : Jvm.MethodName) ({ cls := "LampSquares$Square", name := "number", desc := "()I" } : Jvm.MethodName)) ∈ lw_all := lw_g (lw_at lw_m5 103 rfl) rfl
theorem q1121 : (Jvm.Cond.unhidden "LampSquares$Known" "number" "()I") ∈ lw_tbl := lw_at lw_m5 104 rfl
theorem q1125 : (Jvm.Cond.methodLink "LampSquares$Known" (24 : Nat) ({ cls := "LampSquares$Known", name := "number", desc := "()I" } : Jvm.MethodName)) ∈ lw_all := lw_g (lw_at lw_m5 108 rfl) rfl
theorem q1126 : (Jvm.Cond.sameMethod "LampSquares$Known" "LampSquares$Square" "number" "()I") ∈ lw_all := lw_g (lw_at lw_m5 109 rfl) rfl
theorem q1130 : (Jvm.Cond.selects "LampSquares$Known" ({ cls := "LampSquares$Known", name := "number", desc := "()I" } : Jvm.MethodName) ({ cls := "LampSquares$Square", name := "number", desc := "()I" } : Jvm.MethodName)) ∈ lw_all := lw_g (lw_at lw_m5 113 rfl) rfl
theorem q1131 : (Jvm.Cond.methodLink "LampSquares$Known" (28 : Nat) ({ cls := "LampSquares$Door", name := "clickers", desc := "(I)I" } : Jvm.MethodName)) ∈ lw_all := lw_g (lw_at lw_m5 114 rfl) rfl
theorem q1135 : (Jvm.Cond.methodLink "LampSquares$Known" (34 : Nat) ({ cls := "java/lang/Integer", name := "bitCount", desc := "(I)I" } : Jvm.MethodName)) ∈ lw_all := lw_g (lw_at lw_m5 118 rfl) rfl
theorem q1149 : (Jvm.Cond.selects "LampSquares$Known" ({ cls := "LampSquares$Square", name := "size", desc := "(LLampSquares$Trail;LLampSquares$Door;)I" } : Jvm.MethodName) ({ cls := "LampSquares$Known", name := "size", desc := "(LLampSquares$Trail;LLampSquares$Door;)I" } : Jvm.MethodName)) ∈ lw_all := lw_g (lw_at lw_m5 132 rfl) rfl
theorem q1159 : (Jvm.Cond.selects "LampSquares$Known" ({ cls := "LampSquares$Marked", name := "mark", desc := "(LLampSquares$Trail;LLampSquares$Door;)I" } : Jvm.MethodName) ({ cls := "LampSquares$Known", name := "mark", desc := "(LLampSquares$Trail;LLampSquares$Door;)I" } : Jvm.MethodName)) ∈ lw_all := lw_g (lw_at lw_m5 142 rfl) rfl
theorem q1602 : (Jvm.Cond.sameMethod "LampSquares$Known" "LampSquares$Known" "size" "(LLampSquares$Trail;LLampSquares$Door;)I") ∈ lw_all := lw_g (lw_at lw_m7 105 rfl) rfl
theorem q1610 : (Jvm.Cond.castable "LampSquares$Known" "LampSquares$Square") ∈ lw_tbl := lw_at lw_m7 113 rfl
theorem q1621 : (Jvm.Cond.castable "LampSquares$Known" "java/lang/Object") ∈ lw_tbl := lw_at lw_m7 124 rfl
theorem in_X4 : ∀ w ∈ wsX40, w ∈ lw_all := lw_in wsX40 [221] (by decide +kernel) (by decide +kernel)
/-! LampSquares$Edged -/
set_option maxRecDepth 100000
def RX5 : String := "LampSquares$Edged"
def TX5 : u_T := fun k => match k with
  | _ => ("LampSquares$Square", "number", "I", true)
def tyX5 : Nat → FieldType := fun k => match k with
  | _ => .int
abbrev wsX50 : List Cond := u_ws RX5 TX5 1
theorem nmX5 : ∀ a, a < 1 → ∀ b, b < 1 → a ≠ b → (TX5 a).2.1 ≠ (TX5 b).2.1 := by decide +kernel
theorem tyX5_ok : ∀ k, k < 1 → parseFieldDescriptor (TX5 k).2.2.1 = some (tyX5 k) := by decide +kernel
abbrev cX5_init : ByteArray := prog_4_method_1_code
def yX5_init : MethodName := ⟨RX5, "<init>", "(I)V"⟩
def dkwX5_init_0 : List UInt8 := [42, 27, 183, 0, 3, 177]
abbrev dktX5_init_0 : List UInt8 := dkwX5_init_0 ++ []
theorem dksX5_init_0 : cX5_init.data.toList.drop 0 = dktX5_init_0 := by decide +kernel
theorem dX5_init_0 : decode cX5_init 0 = .ok (.aload_n 0, 1) := dk_42 (dk_at dksX5_init_0 0 rfl rfl)
theorem dX5_init_1 : decode cX5_init 1 = .ok (.iload_n 1, 1) := dk_27 (dk_at dksX5_init_0 1 rfl rfl)
theorem dX5_init_2 : decode cX5_init 2 = .ok (.invokespecial 3, 3) := dk_183 0 3 (dk_at dksX5_init_0 2 rfl rfl)
theorem dX5_init_5 : decode cX5_init 5 = .ok (.return_, 1) := dk_177 (dk_at dksX5_init_0 5 rfl rfl)
abbrev cX5_seen : ByteArray := prog_4_method_3_code
def yX5_seen : MethodName := ⟨RX5, "seen", "(III)I"⟩
def dkwX5_seen_0 : List UInt8 := [3, 42, 27, 28, 29, 183, 0, 9, 4, 100, 184, 0, 13, 172]
abbrev dktX5_seen_0 : List UInt8 := dkwX5_seen_0 ++ []
theorem dksX5_seen_0 : cX5_seen.data.toList.drop 0 = dktX5_seen_0 := by decide +kernel
theorem dX5_seen_0 : decode cX5_seen 0 = .ok (.iconst 0, 1) := dk_3 (dk_at dksX5_seen_0 0 rfl rfl)
theorem dX5_seen_1 : decode cX5_seen 1 = .ok (.aload_n 0, 1) := dk_42 (dk_at dksX5_seen_0 1 rfl rfl)
theorem dX5_seen_2 : decode cX5_seen 2 = .ok (.iload_n 1, 1) := dk_27 (dk_at dksX5_seen_0 2 rfl rfl)
theorem dX5_seen_3 : decode cX5_seen 3 = .ok (.iload_n 2, 1) := dk_28 (dk_at dksX5_seen_0 3 rfl rfl)
theorem dX5_seen_4 : decode cX5_seen 4 = .ok (.iload_n 3, 1) := dk_29 (dk_at dksX5_seen_0 4 rfl rfl)
theorem dX5_seen_5 : decode cX5_seen 5 = .ok (.invokespecial 9, 3) := dk_183 0 9 (dk_at dksX5_seen_0 5 rfl rfl)
theorem dX5_seen_8 : decode cX5_seen 8 = .ok (.iconst 1, 1) := dk_4 (dk_at dksX5_seen_0 8 rfl rfl)
theorem dX5_seen_9 : decode cX5_seen 9 = .ok (.isub, 1) := dk_100 (dk_at dksX5_seen_0 9 rfl rfl)
theorem dX5_seen_10 : decode cX5_seen 10 = .ok (.invokestatic 13, 3) := dk_184 0 13 (dk_at dksX5_seen_0 10 rfl rfl)
theorem dX5_seen_13 : decode cX5_seen 13 = .ok (.ireturn, 1) := dk_172 (dk_at dksX5_seen_0 13 rfl rfl)
abbrev cX5_kind : ByteArray := prog_4_method_2_code
def yX5_kind : MethodName := ⟨RX5, "kind", "()I"⟩
theorem dX5_kind_0 : decode cX5_kind 0 = .ok (.iconst 2, 1) := by decide +kernel
theorem dX5_kind_1 : decode cX5_kind 1 = .ok (.ireturn, 1) := by decide +kernel
abbrev cX5_mark : ByteArray := prog_4_method_5_code
def yX5_mark : MethodName := ⟨RX5, "mark", "(LLampSquares$Trail;LLampSquares$Door;)I"⟩
def dkwX5_mark_0 : List UInt8 := [43, 16, 24, 182, 0, 19, 5, 42, 43, 44, 183, 0, 28, 104, 172]
abbrev dktX5_mark_0 : List UInt8 := dkwX5_mark_0 ++ []
theorem dksX5_mark_0 : cX5_mark.data.toList.drop 0 = dktX5_mark_0 := by decide +kernel
theorem dX5_mark_0 : decode cX5_mark 0 = .ok (.aload_n 1, 1) := dk_43 (dk_at dksX5_mark_0 0 rfl rfl)
theorem dX5_mark_1 : decode cX5_mark 1 = .ok (.bipush 24, 2) := dk_16 24 (dk_at dksX5_mark_0 1 rfl rfl)
theorem dX5_mark_3 : decode cX5_mark 3 = .ok (.invokevirtual 19, 3) := dk_182 0 19 (dk_at dksX5_mark_0 3 rfl rfl)
theorem dX5_mark_6 : decode cX5_mark 6 = .ok (.iconst 2, 1) := dk_5 (dk_at dksX5_mark_0 6 rfl rfl)
theorem dX5_mark_7 : decode cX5_mark 7 = .ok (.aload_n 0, 1) := dk_42 (dk_at dksX5_mark_0 7 rfl rfl)
theorem dX5_mark_8 : decode cX5_mark 8 = .ok (.aload_n 1, 1) := dk_43 (dk_at dksX5_mark_0 8 rfl rfl)
theorem dX5_mark_9 : decode cX5_mark 9 = .ok (.aload_n 2, 1) := dk_44 (dk_at dksX5_mark_0 9 rfl rfl)
theorem dX5_mark_10 : decode cX5_mark 10 = .ok (.invokespecial 28, 3) := dk_183 0 28 (dk_at dksX5_mark_0 10 rfl rfl)
theorem dX5_mark_13 : decode cX5_mark 13 = .ok (.imul, 1) := dk_104 (dk_at dksX5_mark_0 13 rfl rfl)
theorem dX5_mark_14 : decode cX5_mark 14 = .ok (.ireturn, 1) := dk_172 (dk_at dksX5_mark_0 14 rfl rfl)
abbrev cX5_size : ByteArray := prog_4_method_4_code
def yX5_size : MethodName := ⟨RX5, "size", "(LLampSquares$Trail;LLampSquares$Door;)I"⟩
def dkwX5_size_0 : List UInt8 := [43, 16, 12, 182, 0, 19, 42, 43, 44, 183, 0, 24, 116, 172]
abbrev dktX5_size_0 : List UInt8 := dkwX5_size_0 ++ []
theorem dksX5_size_0 : cX5_size.data.toList.drop 0 = dktX5_size_0 := by decide +kernel
theorem dX5_size_0 : decode cX5_size 0 = .ok (.aload_n 1, 1) := dk_43 (dk_at dksX5_size_0 0 rfl rfl)
theorem dX5_size_1 : decode cX5_size 1 = .ok (.bipush 12, 2) := dk_16 12 (dk_at dksX5_size_0 1 rfl rfl)
theorem dX5_size_3 : decode cX5_size 3 = .ok (.invokevirtual 19, 3) := dk_182 0 19 (dk_at dksX5_size_0 3 rfl rfl)
theorem dX5_size_6 : decode cX5_size 6 = .ok (.aload_n 0, 1) := dk_42 (dk_at dksX5_size_0 6 rfl rfl)
theorem dX5_size_7 : decode cX5_size 7 = .ok (.aload_n 1, 1) := dk_43 (dk_at dksX5_size_0 7 rfl rfl)
theorem dX5_size_8 : decode cX5_size 8 = .ok (.aload_n 2, 1) := dk_44 (dk_at dksX5_size_0 8 rfl rfl)
theorem dX5_size_9 : decode cX5_size 9 = .ok (.invokespecial 24, 3) := dk_183 0 24 (dk_at dksX5_size_0 9 rfl rfl)
theorem dX5_size_12 : decode cX5_size 12 = .ok (.ineg, 1) := dk_116 (dk_at dksX5_size_0 12 rfl rfl)
theorem dX5_size_13 : decode cX5_size 13 = .ok (.ireturn, 1) := dk_172 (dk_at dksX5_size_0 13 rfl rfl)
theorem q66 : (Jvm.Cond.initialized "LampSquares$Edged") ∈ lw_all := lw_g (lw_at lw_m1 9 rfl) rfl
theorem q225 : (Jvm.Cond.instantiable "LampSquares$Edged" (1 : Nat)) ∈ lw_all := lw_g (lw_at lw_m1 168 rfl) rfl
theorem q227 : (Jvm.Cond.instanceMethod ({ cls := "LampSquares$Edged", name := "<init>", desc := "(I)V" } : Jvm.MethodName)) ∈ lw_all := lw_g (lw_at lw_m1 170 rfl) rfl
theorem q228 : (Jvm.Cond.code ({ cls := "LampSquares$Edged", name := "<init>", desc := "(I)V" } : Jvm.MethodName) prog_4_method_1_code (2 : Nat) (Option.none : Option Jvm.ClassFile.FieldType)) ∈ lw_all := lw_g (lw_at lw_m1 171 rfl) rfl
theorem q229 : (Jvm.Cond.methodLink "LampSquares$Edged" (3 : Nat) ({ cls := "LampSquares$Known", name := "<init>", desc := "(I)V" } : Jvm.MethodName)) ∈ lw_all := lw_g (lw_at lw_m1 172 rfl) rfl
theorem q230 : (Jvm.Cond.laysFinal "LampSquares$Edged" "LampSquares$Square" "number" "I") ∈ lw_all := lw_g (lw_at lw_m1 173 rfl) rfl
theorem q231 : (Jvm.Cond.superclass "LampSquares$Edged" "LampSquares$Known") ∈ lw_all := lw_g (lw_at lw_m1 174 rfl) rfl
theorem q679 : (Jvm.Cond.selects "LampSquares$Edged" ({ cls := "java/lang/Object", name := "getClass", desc := "()Ljava/lang/Class;" } : Jvm.MethodName) ({ cls := "java/lang/Object", name := "getClass", desc := "()Ljava/lang/Class;" } : Jvm.MethodName)) ∈ lw_all := lw_g (lw_at lw_m3 142 rfl) rfl
theorem q788 : (Jvm.Cond.selects "LampSquares$Edged" ({ cls := "LampSquares$Square", name := "seen", desc := "(III)I" } : Jvm.MethodName) ({ cls := "LampSquares$Edged", name := "seen", desc := "(III)I" } : Jvm.MethodName)) ∈ lw_all := lw_g (lw_at lw_m4 11 rfl) rfl
theorem q789 : (Jvm.Cond.instanceMethod ({ cls := "LampSquares$Edged", name := "seen", desc := "(III)I" } : Jvm.MethodName)) ∈ lw_all := lw_g (lw_at lw_m4 12 rfl) rfl
theorem q790 : (Jvm.Cond.code ({ cls := "LampSquares$Edged", name := "seen", desc := "(III)I" } : Jvm.MethodName) prog_4_method_3_code (4 : Nat) (Option.some Jvm.ClassFile.FieldType.int)) ∈ lw_all := lw_g (lw_at lw_m4 13 rfl) rfl
theorem q791 : (Jvm.Cond.methodLink "LampSquares$Edged" (9 : Nat) ({ cls := "LampSquares$Known", name := "seen", desc := "(III)I" } : Jvm.MethodName)) ∈ lw_all := lw_g (lw_at lw_m4 14 rfl) rfl
theorem q792 : (Jvm.Cond.methodLink "LampSquares$Edged" (13 : Nat) ({ cls := "java/lang/Math", name := "max", desc := "(II)I" } : Jvm.MethodName)) ∈ lw_all := lw_g (lw_at lw_m4 15 rfl) rfl
theorem q828 : (Jvm.Cond.selects "LampSquares$Edged" ({ cls := "LampSquares$Square", name := "counts", desc := "()Z" } : Jvm.MethodName) ({ cls := "LampSquares$Known", name := "counts", desc := "()Z" } : Jvm.MethodName)) ∈ lw_all := lw_g (lw_at lw_m4 51 rfl) rfl
theorem q983 : (Jvm.Cond.selects "LampSquares$Edged" ({ cls := "LampSquares$Square", name := "kind", desc := "()I" } : Jvm.MethodName) ({ cls := "LampSquares$Edged", name := "kind", desc := "()I" } : Jvm.MethodName)) ∈ lw_all := lw_g (lw_at lw_m4 206 rfl) rfl
theorem q984 : (Jvm.Cond.instanceMethod ({ cls := "LampSquares$Edged", name := "kind", desc := "()I" } : Jvm.MethodName)) ∈ lw_all := lw_g (lw_at lw_m4 207 rfl) rfl
theorem q985 : (Jvm.Cond.code ({ cls := "LampSquares$Edged", name := "kind", desc := "()I" } : Jvm.MethodName) prog_4_method_2_code (1 : Nat) (Option.some Jvm.ClassFile.FieldType.int)) ∈ lw_all := lw_g (lw_at lw_m4 208 rfl) rfl
theorem q1065 : (Jvm.Cond.selects "LampSquares$Edged" ({ cls := "LampSquares$Square", name := "number", desc := "()I" } : Jvm.MethodName) ({ cls := "LampSquares$Square", name := "number", desc := "()I" } : Jvm.MethodName)) ∈ lw_all := lw_g (lw_at lw_m5 48 rfl) rfl
theorem q1094 : (Jvm.Cond.selects "LampSquares$Edged" ({ cls := "LampSquares$Known", name := "mark", desc := "(LLampSquares$Trail;LLampSquares$Door;)I" } : Jvm.MethodName) ({ cls := "LampSquares$Edged", name := "mark", desc := "(LLampSquares$Trail;LLampSquares$Door;)I" } : Jvm.MethodName)) ∈ lw_all := lw_g (lw_at lw_m5 77 rfl) rfl
theorem q1095 : (Jvm.Cond.instanceMethod ({ cls := "LampSquares$Edged", name := "mark", desc := "(LLampSquares$Trail;LLampSquares$Door;)I" } : Jvm.MethodName)) ∈ lw_all := lw_g (lw_at lw_m5 78 rfl) rfl
theorem q1096 : (Jvm.Cond.code ({ cls := "LampSquares$Edged", name := "mark", desc := "(LLampSquares$Trail;LLampSquares$Door;)I" } : Jvm.MethodName) prog_4_method_5_code (3 : Nat) (Option.some Jvm.ClassFile.FieldType.int)) ∈ lw_all := lw_g (lw_at lw_m5 79 rfl) rfl
theorem q1097 : (Jvm.Cond.methodLink "LampSquares$Edged" (19 : Nat) ({ cls := "LampSquares$Trail", name := "begins", desc := "(I)V" } : Jvm.MethodName)) ∈ lw_all := lw_g (lw_at lw_m5 80 rfl) rfl
theorem q1098 : (Jvm.Cond.methodLink "LampSquares$Edged" (28 : Nat) ({ cls := "LampSquares$Known", name := "mark", desc := "(LLampSquares$Trail;LLampSquares$Door;)I" } : Jvm.MethodName)) ∈ lw_all := lw_g (lw_at lw_m5 81 rfl) rfl
theorem q1113 : (Jvm.Cond.castable "LampSquares$Edged" "LampSquares$Marked") ∈ lw_tbl := lw_at lw_m5 96 rfl
theorem q1114 : (Jvm.Cond.selects "LampSquares$Edged" ({ cls := "LampSquares$Marked", name := "number", desc := "()I" } : Jvm.MethodName) ({ cls := "LampSquares$Square", name := "number", desc := "()I" } : Jvm.MethodName)) ∈ lw_all := lw_g (lw_at lw_m5 97 rfl) rfl
theorem q1115 : (Jvm.Cond.unhidden "LampSquares$Edged" "number" "()I") ∈ lw_tbl := lw_at lw_m5 98 rfl
theorem q1129 : (Jvm.Cond.selects "LampSquares$Edged" ({ cls := "LampSquares$Known", name := "number", desc := "()I" } : Jvm.MethodName) ({ cls := "LampSquares$Square", name := "number", desc := "()I" } : Jvm.MethodName)) ∈ lw_all := lw_g (lw_at lw_m5 112 rfl) rfl
theorem q1136 : (Jvm.Cond.selects "LampSquares$Edged" ({ cls := "LampSquares$Square", name := "size", desc := "(LLampSquares$Trail;LLampSquares$Door;)I" } : Jvm.MethodName) ({ cls := "LampSquares$Edged", name := "size", desc := "(LLampSquares$Trail;LLampSquares$Door;)I" } : Jvm.MethodName)) ∈ lw_all := lw_g (lw_at lw_m5 119 rfl) rfl
theorem q1137 : (Jvm.Cond.instanceMethod ({ cls := "LampSquares$Edged", name := "size", desc := "(LLampSquares$Trail;LLampSquares$Door;)I" } : Jvm.MethodName)) ∈ lw_all := lw_g (lw_at lw_m5 120 rfl) rfl
theorem q1138 : (Jvm.Cond.code ({ cls := "LampSquares$Edged", name := "size", desc := "(LLampSquares$Trail;LLampSquares$Door;)I" } : Jvm.MethodName) prog_4_method_4_code (3 : Nat) (Option.some Jvm.ClassFile.FieldType.int)) ∈ lw_all := lw_g (lw_at lw_m5 121 rfl) rfl
theorem q1139 : (Jvm.Cond.methodLink "LampSquares$Edged" (24 : Nat) ({ cls := "LampSquares$Known", name := "size", desc := "(LLampSquares$Trail;LLampSquares$Door;)I" } : Jvm.MethodName)) ∈ lw_all := lw_g (lw_at lw_m5 122 rfl) rfl
theorem q1154 : (Jvm.Cond.selects "LampSquares$Edged" ({ cls := "LampSquares$Marked", name := "mark", desc := "(LLampSquares$Trail;LLampSquares$Door;)I" } : Jvm.MethodName) ({ cls := "LampSquares$Edged", name := "mark", desc := "(LLampSquares$Trail;LLampSquares$Door;)I" } : Jvm.MethodName)) ∈ lw_all := lw_g (lw_at lw_m5 137 rfl) rfl
theorem q1608 : (Jvm.Cond.castable "LampSquares$Edged" "LampSquares$Square") ∈ lw_tbl := lw_at lw_m7 111 rfl
theorem q1613 : (Jvm.Cond.castable "LampSquares$Edged" "LampSquares$Known") ∈ lw_tbl := lw_at lw_m7 116 rfl
theorem q1622 : (Jvm.Cond.castable "LampSquares$Edged" "java/lang/Object") ∈ lw_tbl := lw_at lw_m7 125 rfl
theorem in_X5 : ∀ w ∈ wsX50, w ∈ lw_all := lw_in wsX50 [230] (by decide +kernel) (by decide +kernel)
/-! LampSquares$Crooked -/
set_option maxRecDepth 100000
def RX6 : String := "LampSquares$Crooked"
def TX6 : u_T := fun k => match k with
  | _ => ("LampSquares$Square", "number", "I", true)
def tyX6 : Nat → FieldType := fun k => match k with
  | _ => .int
abbrev wsX60 : List Cond := u_ws RX6 TX6 1
theorem nmX6 : ∀ a, a < 1 → ∀ b, b < 1 → a ≠ b → (TX6 a).2.1 ≠ (TX6 b).2.1 := by decide +kernel
theorem tyX6_ok : ∀ k, k < 1 → parseFieldDescriptor (TX6 k).2.2.1 = some (tyX6 k) := by decide +kernel
abbrev cX6_init : ByteArray := prog_2_method_1_code
def yX6_init : MethodName := ⟨RX6, "<init>", "(I)V"⟩
def dkwX6_init_0 : List UInt8 := [42, 27, 183, 0, 3, 177]
abbrev dktX6_init_0 : List UInt8 := dkwX6_init_0 ++ []
theorem dksX6_init_0 : cX6_init.data.toList.drop 0 = dktX6_init_0 := by decide +kernel
theorem dX6_init_0 : decode cX6_init 0 = .ok (.aload_n 0, 1) := dk_42 (dk_at dksX6_init_0 0 rfl rfl)
theorem dX6_init_1 : decode cX6_init 1 = .ok (.iload_n 1, 1) := dk_27 (dk_at dksX6_init_0 1 rfl rfl)
theorem dX6_init_2 : decode cX6_init 2 = .ok (.invokespecial 3, 3) := dk_183 0 3 (dk_at dksX6_init_0 2 rfl rfl)
theorem dX6_init_5 : decode cX6_init 5 = .ok (.return_, 1) := dk_177 (dk_at dksX6_init_0 5 rfl rfl)
abbrev cX6_seen : ByteArray := prog_2_method_3_code
def yX6_seen : MethodName := ⟨RX6, "seen", "(III)I"⟩
def dkwX6_seen_0 : List UInt8 := [28, 8, 162, 0, 10, 16, 9, 27, 100, 167, 0, 10, 42, 27, 28, 29, 183, 0, 9, 172]
abbrev dktX6_seen_0 : List UInt8 := dkwX6_seen_0 ++ []
theorem dksX6_seen_0 : cX6_seen.data.toList.drop 0 = dktX6_seen_0 := by decide +kernel
theorem dX6_seen_0 : decode cX6_seen 0 = .ok (.iload_n 2, 1) := dk_28 (dk_at dksX6_seen_0 0 rfl rfl)
theorem dX6_seen_1 : decode cX6_seen 1 = .ok (.iconst 5, 1) := dk_8 (dk_at dksX6_seen_0 1 rfl rfl)
theorem dX6_seen_2 : decode cX6_seen 2 = .ok (.if_icmp .ge 10, 3) := dk_162 0 10 (dk_at dksX6_seen_0 2 rfl rfl)
theorem dX6_seen_5 : decode cX6_seen 5 = .ok (.bipush 9, 2) := dk_16 9 (dk_at dksX6_seen_0 5 rfl rfl)
theorem dX6_seen_7 : decode cX6_seen 7 = .ok (.iload_n 1, 1) := dk_27 (dk_at dksX6_seen_0 7 rfl rfl)
theorem dX6_seen_8 : decode cX6_seen 8 = .ok (.isub, 1) := dk_100 (dk_at dksX6_seen_0 8 rfl rfl)
theorem dX6_seen_9 : decode cX6_seen 9 = .ok (.goto 10, 3) := dk_167 0 10 (dk_at dksX6_seen_0 9 rfl rfl)
theorem dX6_seen_12 : decode cX6_seen 12 = .ok (.aload_n 0, 1) := dk_42 (dk_at dksX6_seen_0 12 rfl rfl)
theorem dX6_seen_13 : decode cX6_seen 13 = .ok (.iload_n 1, 1) := dk_27 (dk_at dksX6_seen_0 13 rfl rfl)
theorem dX6_seen_14 : decode cX6_seen 14 = .ok (.iload_n 2, 1) := dk_28 (dk_at dksX6_seen_0 14 rfl rfl)
theorem dX6_seen_15 : decode cX6_seen 15 = .ok (.iload_n 3, 1) := dk_29 (dk_at dksX6_seen_0 15 rfl rfl)
theorem dX6_seen_16 : decode cX6_seen 16 = .ok (.invokespecial 9, 3) := dk_183 0 9 (dk_at dksX6_seen_0 16 rfl rfl)
theorem dX6_seen_19 : decode cX6_seen 19 = .ok (.ireturn, 1) := dk_172 (dk_at dksX6_seen_0 19 rfl rfl)
abbrev cX6_kind : ByteArray := prog_2_method_2_code
def yX6_kind : MethodName := ⟨RX6, "kind", "()I"⟩
theorem dX6_kind_0 : decode cX6_kind 0 = .ok (.iconst 3, 1) := by decide +kernel
theorem dX6_kind_1 : decode cX6_kind 1 = .ok (.ireturn, 1) := by decide +kernel
abbrev cX6_mark : ByteArray := prog_2_method_4_code
def yX6_mark : MethodName := ⟨RX6, "mark", "(LLampSquares$Trail;LLampSquares$Door;)I"⟩
def dkwX6_mark_0 : List UInt8 := [43, 16, 22, 182, 0, 13, 42, 43, 44, 183, 0, 18, 17, 3, 232, 100, 172]
abbrev dktX6_mark_0 : List UInt8 := dkwX6_mark_0 ++ []
theorem dksX6_mark_0 : cX6_mark.data.toList.drop 0 = dktX6_mark_0 := by decide +kernel
theorem dX6_mark_0 : decode cX6_mark 0 = .ok (.aload_n 1, 1) := dk_43 (dk_at dksX6_mark_0 0 rfl rfl)
theorem dX6_mark_1 : decode cX6_mark 1 = .ok (.bipush 22, 2) := dk_16 22 (dk_at dksX6_mark_0 1 rfl rfl)
theorem dX6_mark_3 : decode cX6_mark 3 = .ok (.invokevirtual 13, 3) := dk_182 0 13 (dk_at dksX6_mark_0 3 rfl rfl)
theorem dX6_mark_6 : decode cX6_mark 6 = .ok (.aload_n 0, 1) := dk_42 (dk_at dksX6_mark_0 6 rfl rfl)
theorem dX6_mark_7 : decode cX6_mark 7 = .ok (.aload_n 1, 1) := dk_43 (dk_at dksX6_mark_0 7 rfl rfl)
theorem dX6_mark_8 : decode cX6_mark 8 = .ok (.aload_n 2, 1) := dk_44 (dk_at dksX6_mark_0 8 rfl rfl)
theorem dX6_mark_9 : decode cX6_mark 9 = .ok (.invokespecial 18, 3) := dk_183 0 18 (dk_at dksX6_mark_0 9 rfl rfl)
theorem dX6_mark_12 : decode cX6_mark 12 = .ok (.sipush 1000, 3) := dk_17 3 232 (dk_at dksX6_mark_0 12 rfl rfl)
theorem dX6_mark_15 : decode cX6_mark 15 = .ok (.isub, 1) := dk_100 (dk_at dksX6_mark_0 15 rfl rfl)
theorem dX6_mark_16 : decode cX6_mark 16 = .ok (.ireturn, 1) := dk_172 (dk_at dksX6_mark_0 16 rfl rfl)
theorem q67 : (Jvm.Cond.initialized "LampSquares$Crooked") ∈ lw_all := lw_g (lw_at lw_m1 10 rfl) rfl
theorem q233 : (Jvm.Cond.instantiable "LampSquares$Crooked" (1 : Nat)) ∈ lw_all := lw_g (lw_at lw_m1 176 rfl) rfl
theorem q235 : (Jvm.Cond.instanceMethod ({ cls := "LampSquares$Crooked", name := "<init>", desc := "(I)V" } : Jvm.MethodName)) ∈ lw_all := lw_g (lw_at lw_m1 178 rfl) rfl
theorem q236 : (Jvm.Cond.code ({ cls := "LampSquares$Crooked", name := "<init>", desc := "(I)V" } : Jvm.MethodName) prog_2_method_1_code (2 : Nat) (Option.none : Option Jvm.ClassFile.FieldType)) ∈ lw_all := lw_g (lw_at lw_m1 179 rfl) rfl
theorem q237 : (Jvm.Cond.methodLink "LampSquares$Crooked" (3 : Nat) ({ cls := "LampSquares$Known", name := "<init>", desc := "(I)V" } : Jvm.MethodName)) ∈ lw_all := lw_g (lw_at lw_m1 180 rfl) rfl
theorem q238 : (Jvm.Cond.laysFinal "LampSquares$Crooked" "LampSquares$Square" "number" "I") ∈ lw_all := lw_g (lw_at lw_m1 181 rfl) rfl
theorem q239 : (Jvm.Cond.superclass "LampSquares$Crooked" "LampSquares$Known") ∈ lw_all := lw_g (lw_at lw_m1 182 rfl) rfl
theorem q677 : (Jvm.Cond.selects "LampSquares$Crooked" ({ cls := "java/lang/Object", name := "getClass", desc := "()Ljava/lang/Class;" } : Jvm.MethodName) ({ cls := "java/lang/Object", name := "getClass", desc := "()Ljava/lang/Class;" } : Jvm.MethodName)) ∈ lw_all := lw_g (lw_at lw_m3 140 rfl) rfl
theorem q782 : (Jvm.Cond.selects "LampSquares$Crooked" ({ cls := "LampSquares$Square", name := "seen", desc := "(III)I" } : Jvm.MethodName) ({ cls := "LampSquares$Crooked", name := "seen", desc := "(III)I" } : Jvm.MethodName)) ∈ lw_all := lw_g (lw_at lw_m4 5 rfl) rfl
theorem q783 : (Jvm.Cond.instanceMethod ({ cls := "LampSquares$Crooked", name := "seen", desc := "(III)I" } : Jvm.MethodName)) ∈ lw_all := lw_g (lw_at lw_m4 6 rfl) rfl
theorem q784 : (Jvm.Cond.code ({ cls := "LampSquares$Crooked", name := "seen", desc := "(III)I" } : Jvm.MethodName) prog_2_method_3_code (4 : Nat) (Option.some Jvm.ClassFile.FieldType.int)) ∈ lw_all := lw_g (lw_at lw_m4 7 rfl) rfl
theorem q785 : (Jvm.Cond.methodLink "LampSquares$Crooked" (9 : Nat) ({ cls := "LampSquares$Known", name := "seen", desc := "(III)I" } : Jvm.MethodName)) ∈ lw_all := lw_g (lw_at lw_m4 8 rfl) rfl
theorem q825 : (Jvm.Cond.selects "LampSquares$Crooked" ({ cls := "LampSquares$Square", name := "counts", desc := "()Z" } : Jvm.MethodName) ({ cls := "LampSquares$Known", name := "counts", desc := "()Z" } : Jvm.MethodName)) ∈ lw_all := lw_g (lw_at lw_m4 48 rfl) rfl
theorem q980 : (Jvm.Cond.selects "LampSquares$Crooked" ({ cls := "LampSquares$Square", name := "kind", desc := "()I" } : Jvm.MethodName) ({ cls := "LampSquares$Crooked", name := "kind", desc := "()I" } : Jvm.MethodName)) ∈ lw_all := lw_g (lw_at lw_m4 203 rfl) rfl
theorem q981 : (Jvm.Cond.instanceMethod ({ cls := "LampSquares$Crooked", name := "kind", desc := "()I" } : Jvm.MethodName)) ∈ lw_all := lw_g (lw_at lw_m4 204 rfl) rfl
theorem q982 : (Jvm.Cond.code ({ cls := "LampSquares$Crooked", name := "kind", desc := "()I" } : Jvm.MethodName) prog_2_method_2_code (1 : Nat) (Option.some Jvm.ClassFile.FieldType.int)) ∈ lw_all := lw_g (lw_at lw_m4 205 rfl) rfl
theorem q1064 : (Jvm.Cond.selects "LampSquares$Crooked" ({ cls := "LampSquares$Square", name := "number", desc := "()I" } : Jvm.MethodName) ({ cls := "LampSquares$Square", name := "number", desc := "()I" } : Jvm.MethodName)) ∈ lw_all := lw_g (lw_at lw_m5 47 rfl) rfl
theorem q1077 : (Jvm.Cond.selects "LampSquares$Crooked" ({ cls := "LampSquares$Square", name := "size", desc := "(LLampSquares$Trail;LLampSquares$Door;)I" } : Jvm.MethodName) ({ cls := "LampSquares$Known", name := "size", desc := "(LLampSquares$Trail;LLampSquares$Door;)I" } : Jvm.MethodName)) ∈ lw_all := lw_g (lw_at lw_m5 60 rfl) rfl
theorem q1089 : (Jvm.Cond.selects "LampSquares$Crooked" ({ cls := "LampSquares$Known", name := "mark", desc := "(LLampSquares$Trail;LLampSquares$Door;)I" } : Jvm.MethodName) ({ cls := "LampSquares$Crooked", name := "mark", desc := "(LLampSquares$Trail;LLampSquares$Door;)I" } : Jvm.MethodName)) ∈ lw_all := lw_g (lw_at lw_m5 72 rfl) rfl
theorem q1090 : (Jvm.Cond.instanceMethod ({ cls := "LampSquares$Crooked", name := "mark", desc := "(LLampSquares$Trail;LLampSquares$Door;)I" } : Jvm.MethodName)) ∈ lw_all := lw_g (lw_at lw_m5 73 rfl) rfl
theorem q1091 : (Jvm.Cond.code ({ cls := "LampSquares$Crooked", name := "mark", desc := "(LLampSquares$Trail;LLampSquares$Door;)I" } : Jvm.MethodName) prog_2_method_4_code (3 : Nat) (Option.some Jvm.ClassFile.FieldType.int)) ∈ lw_all := lw_g (lw_at lw_m5 74 rfl) rfl
theorem q1092 : (Jvm.Cond.methodLink "LampSquares$Crooked" (13 : Nat) ({ cls := "LampSquares$Trail", name := "begins", desc := "(I)V" } : Jvm.MethodName)) ∈ lw_all := lw_g (lw_at lw_m5 75 rfl) rfl
theorem q1093 : (Jvm.Cond.methodLink "LampSquares$Crooked" (18 : Nat) ({ cls := "LampSquares$Known", name := "mark", desc := "(LLampSquares$Trail;LLampSquares$Door;)I" } : Jvm.MethodName)) ∈ lw_all := lw_g (lw_at lw_m5 76 rfl) rfl
theorem q1109 : (Jvm.Cond.castable "LampSquares$Crooked" "LampSquares$Marked") ∈ lw_tbl := lw_at lw_m5 92 rfl
theorem q1110 : (Jvm.Cond.selects "LampSquares$Crooked" ({ cls := "LampSquares$Marked", name := "number", desc := "()I" } : Jvm.MethodName) ({ cls := "LampSquares$Square", name := "number", desc := "()I" } : Jvm.MethodName)) ∈ lw_all := lw_g (lw_at lw_m5 93 rfl) rfl
theorem q1111 : (Jvm.Cond.unhidden "LampSquares$Crooked" "number" "()I") ∈ lw_tbl := lw_at lw_m5 94 rfl
theorem q1128 : (Jvm.Cond.selects "LampSquares$Crooked" ({ cls := "LampSquares$Known", name := "number", desc := "()I" } : Jvm.MethodName) ({ cls := "LampSquares$Square", name := "number", desc := "()I" } : Jvm.MethodName)) ∈ lw_all := lw_g (lw_at lw_m5 111 rfl) rfl
theorem q1153 : (Jvm.Cond.selects "LampSquares$Crooked" ({ cls := "LampSquares$Marked", name := "mark", desc := "(LLampSquares$Trail;LLampSquares$Door;)I" } : Jvm.MethodName) ({ cls := "LampSquares$Crooked", name := "mark", desc := "(LLampSquares$Trail;LLampSquares$Door;)I" } : Jvm.MethodName)) ∈ lw_all := lw_g (lw_at lw_m5 136 rfl) rfl
theorem q1607 : (Jvm.Cond.castable "LampSquares$Crooked" "LampSquares$Square") ∈ lw_tbl := lw_at lw_m7 110 rfl
theorem q1612 : (Jvm.Cond.castable "LampSquares$Crooked" "LampSquares$Known") ∈ lw_tbl := lw_at lw_m7 115 rfl
theorem q1623 : (Jvm.Cond.castable "LampSquares$Crooked" "java/lang/Object") ∈ lw_tbl := lw_at lw_m7 126 rfl
theorem in_X6 : ∀ w ∈ wsX60, w ∈ lw_all := lw_in wsX60 [238] (by decide +kernel) (by decide +kernel)
/-! LampSquares$Unknown -/
set_option maxRecDepth 100000
def RX7 : String := "LampSquares$Unknown"
def TX7 : u_T := fun k => match k with
  | _ => ("LampSquares$Square", "number", "I", true)
def tyX7 : Nat → FieldType := fun k => match k with
  | _ => .int
abbrev wsX70 : List Cond := u_ws RX7 TX7 1
theorem nmX7 : ∀ a, a < 1 → ∀ b, b < 1 → a ≠ b → (TX7 a).2.1 ≠ (TX7 b).2.1 := by decide +kernel
theorem tyX7_ok : ∀ k, k < 1 → parseFieldDescriptor (TX7 k).2.2.1 = some (tyX7 k) := by decide +kernel
abbrev cX7_init : ByteArray := prog_14_method_1_code
def yX7_init : MethodName := ⟨RX7, "<init>", "(I)V"⟩
def dkwX7_init_0 : List UInt8 := [42, 27, 183, 0, 3, 177]
abbrev dktX7_init_0 : List UInt8 := dkwX7_init_0 ++ []
theorem dksX7_init_0 : cX7_init.data.toList.drop 0 = dktX7_init_0 := by decide +kernel
theorem dX7_init_0 : decode cX7_init 0 = .ok (.aload_n 0, 1) := dk_42 (dk_at dksX7_init_0 0 rfl rfl)
theorem dX7_init_1 : decode cX7_init 1 = .ok (.iload_n 1, 1) := dk_27 (dk_at dksX7_init_0 1 rfl rfl)
theorem dX7_init_2 : decode cX7_init 2 = .ok (.invokespecial 3, 3) := dk_183 0 3 (dk_at dksX7_init_0 2 rfl rfl)
theorem dX7_init_5 : decode cX7_init 5 = .ok (.return_, 1) := dk_177 (dk_at dksX7_init_0 5 rfl rfl)
abbrev cX7_kind : ByteArray := prog_14_method_2_code
def yX7_kind : MethodName := ⟨RX7, "kind", "()I"⟩
theorem dX7_kind_0 : decode cX7_kind 0 = .ok (.iconst 4, 1) := by decide +kernel
theorem dX7_kind_1 : decode cX7_kind 1 = .ok (.ireturn, 1) := by decide +kernel
abbrev cX7_size : ByteArray := prog_14_method_3_code
def yX7_size : MethodName := ⟨RX7, "size", "(LLampSquares$Trail;LLampSquares$Door;)I"⟩
def dkwX7_size_0 : List UInt8 := [43, 16, 13, 182, 0, 9, 42, 43, 44, 183, 0, 14, 16, 100, 100, 172]
abbrev dktX7_size_0 : List UInt8 := dkwX7_size_0 ++ []
theorem dksX7_size_0 : cX7_size.data.toList.drop 0 = dktX7_size_0 := by decide +kernel
theorem dX7_size_0 : decode cX7_size 0 = .ok (.aload_n 1, 1) := dk_43 (dk_at dksX7_size_0 0 rfl rfl)
theorem dX7_size_1 : decode cX7_size 1 = .ok (.bipush 13, 2) := dk_16 13 (dk_at dksX7_size_0 1 rfl rfl)
theorem dX7_size_3 : decode cX7_size 3 = .ok (.invokevirtual 9, 3) := dk_182 0 9 (dk_at dksX7_size_0 3 rfl rfl)
theorem dX7_size_6 : decode cX7_size 6 = .ok (.aload_n 0, 1) := dk_42 (dk_at dksX7_size_0 6 rfl rfl)
theorem dX7_size_7 : decode cX7_size 7 = .ok (.aload_n 1, 1) := dk_43 (dk_at dksX7_size_0 7 rfl rfl)
theorem dX7_size_8 : decode cX7_size 8 = .ok (.aload_n 2, 1) := dk_44 (dk_at dksX7_size_0 8 rfl rfl)
theorem dX7_size_9 : decode cX7_size 9 = .ok (.invokespecial 14, 3) := dk_183 0 14 (dk_at dksX7_size_0 9 rfl rfl)
theorem dX7_size_12 : decode cX7_size 12 = .ok (.bipush 100, 2) := dk_16 100 (dk_at dksX7_size_0 12 rfl rfl)
theorem dX7_size_14 : decode cX7_size 14 = .ok (.isub, 1) := dk_100 (dk_at dksX7_size_0 14 rfl rfl)
theorem dX7_size_15 : decode cX7_size 15 = .ok (.ireturn, 1) := dk_172 (dk_at dksX7_size_0 15 rfl rfl)
abbrev cX7_mark : ByteArray := prog_14_method_4_code
def yX7_mark : MethodName := ⟨RX7, "mark", "(LLampSquares$Trail;LLampSquares$Door;)I"⟩
def dkwX7_mark_0 : List UInt8 := [43, 16, 23, 182, 0, 9, 42, 43, 44, 183, 0, 18, 42, 43, 44, 182, 0, 21, 100, 172]
abbrev dktX7_mark_0 : List UInt8 := dkwX7_mark_0 ++ []
theorem dksX7_mark_0 : cX7_mark.data.toList.drop 0 = dktX7_mark_0 := by decide +kernel
theorem dX7_mark_0 : decode cX7_mark 0 = .ok (.aload_n 1, 1) := dk_43 (dk_at dksX7_mark_0 0 rfl rfl)
theorem dX7_mark_1 : decode cX7_mark 1 = .ok (.bipush 23, 2) := dk_16 23 (dk_at dksX7_mark_0 1 rfl rfl)
theorem dX7_mark_3 : decode cX7_mark 3 = .ok (.invokevirtual 9, 3) := dk_182 0 9 (dk_at dksX7_mark_0 3 rfl rfl)
theorem dX7_mark_6 : decode cX7_mark 6 = .ok (.aload_n 0, 1) := dk_42 (dk_at dksX7_mark_0 6 rfl rfl)
theorem dX7_mark_7 : decode cX7_mark 7 = .ok (.aload_n 1, 1) := dk_43 (dk_at dksX7_mark_0 7 rfl rfl)
theorem dX7_mark_8 : decode cX7_mark 8 = .ok (.aload_n 2, 1) := dk_44 (dk_at dksX7_mark_0 8 rfl rfl)
theorem dX7_mark_9 : decode cX7_mark 9 = .ok (.invokespecial 18, 3) := dk_183 0 18 (dk_at dksX7_mark_0 9 rfl rfl)
theorem dX7_mark_12 : decode cX7_mark 12 = .ok (.aload_n 0, 1) := dk_42 (dk_at dksX7_mark_0 12 rfl rfl)
theorem dX7_mark_13 : decode cX7_mark 13 = .ok (.aload_n 1, 1) := dk_43 (dk_at dksX7_mark_0 13 rfl rfl)
theorem dX7_mark_14 : decode cX7_mark 14 = .ok (.aload_n 2, 1) := dk_44 (dk_at dksX7_mark_0 14 rfl rfl)
theorem dX7_mark_15 : decode cX7_mark 15 = .ok (.invokevirtual 21, 3) := dk_182 0 21 (dk_at dksX7_mark_0 15 rfl rfl)
theorem dX7_mark_18 : decode cX7_mark 18 = .ok (.isub, 1) := dk_100 (dk_at dksX7_mark_0 18 rfl rfl)
theorem dX7_mark_19 : decode cX7_mark 19 = .ok (.ireturn, 1) := dk_172 (dk_at dksX7_mark_0 19 rfl rfl)
theorem q68 : (Jvm.Cond.initialized "LampSquares$Unknown") ∈ lw_all := lw_g (lw_at lw_m1 11 rfl) rfl
theorem q241 : (Jvm.Cond.instantiable "LampSquares$Unknown" (1 : Nat)) ∈ lw_all := lw_g (lw_at lw_m1 184 rfl) rfl
theorem q243 : (Jvm.Cond.instanceMethod ({ cls := "LampSquares$Unknown", name := "<init>", desc := "(I)V" } : Jvm.MethodName)) ∈ lw_all := lw_g (lw_at lw_m1 186 rfl) rfl
theorem q244 : (Jvm.Cond.code ({ cls := "LampSquares$Unknown", name := "<init>", desc := "(I)V" } : Jvm.MethodName) prog_14_method_1_code (2 : Nat) (Option.none : Option Jvm.ClassFile.FieldType)) ∈ lw_all := lw_g (lw_at lw_m1 187 rfl) rfl
theorem q245 : (Jvm.Cond.methodLink "LampSquares$Unknown" (3 : Nat) ({ cls := "LampSquares$Square", name := "<init>", desc := "(I)V" } : Jvm.MethodName)) ∈ lw_all := lw_g (lw_at lw_m1 188 rfl) rfl
theorem q246 : (Jvm.Cond.laysFinal "LampSquares$Unknown" "LampSquares$Square" "number" "I") ∈ lw_all := lw_g (lw_at lw_m1 189 rfl) rfl
theorem q247 : (Jvm.Cond.superclass "LampSquares$Unknown" "LampSquares$Square") ∈ lw_all := lw_g (lw_at lw_m1 190 rfl) rfl
theorem q687 : (Jvm.Cond.selects "LampSquares$Unknown" ({ cls := "java/lang/Object", name := "getClass", desc := "()Ljava/lang/Class;" } : Jvm.MethodName) ({ cls := "java/lang/Object", name := "getClass", desc := "()Ljava/lang/Class;" } : Jvm.MethodName)) ∈ lw_all := lw_g (lw_at lw_m3 150 rfl) rfl
theorem q797 : (Jvm.Cond.sameMethod "LampSquares$Unknown" "LampSquares$Square" "seen" "(III)I") ∈ lw_all := lw_g (lw_at lw_m4 20 rfl) rfl
theorem q799 : (Jvm.Cond.selects "LampSquares$Unknown" ({ cls := "LampSquares$Square", name := "seen", desc := "(III)I" } : Jvm.MethodName) ({ cls := "LampSquares$Square", name := "seen", desc := "(III)I" } : Jvm.MethodName)) ∈ lw_all := lw_g (lw_at lw_m4 22 rfl) rfl
theorem q831 : (Jvm.Cond.selects "LampSquares$Unknown" ({ cls := "LampSquares$Square", name := "counts", desc := "()Z" } : Jvm.MethodName) ({ cls := "LampSquares$Square", name := "counts", desc := "()Z" } : Jvm.MethodName)) ∈ lw_all := lw_g (lw_at lw_m4 54 rfl) rfl
theorem q992 : (Jvm.Cond.selects "LampSquares$Unknown" ({ cls := "LampSquares$Square", name := "kind", desc := "()I" } : Jvm.MethodName) ({ cls := "LampSquares$Unknown", name := "kind", desc := "()I" } : Jvm.MethodName)) ∈ lw_all := lw_g (lw_at lw_m4 215 rfl) rfl
theorem q993 : (Jvm.Cond.instanceMethod ({ cls := "LampSquares$Unknown", name := "kind", desc := "()I" } : Jvm.MethodName)) ∈ lw_all := lw_g (lw_at lw_m4 216 rfl) rfl
theorem q994 : (Jvm.Cond.code ({ cls := "LampSquares$Unknown", name := "kind", desc := "()I" } : Jvm.MethodName) prog_14_method_2_code (1 : Nat) (Option.some Jvm.ClassFile.FieldType.int)) ∈ lw_all := lw_g (lw_at lw_m4 217 rfl) rfl
theorem q1068 : (Jvm.Cond.selects "LampSquares$Unknown" ({ cls := "LampSquares$Square", name := "number", desc := "()I" } : Jvm.MethodName) ({ cls := "LampSquares$Square", name := "number", desc := "()I" } : Jvm.MethodName)) ∈ lw_all := lw_g (lw_at lw_m5 51 rfl) rfl
theorem q1122 : (Jvm.Cond.castable "LampSquares$Unknown" "LampSquares$Marked") ∈ lw_tbl := lw_at lw_m5 105 rfl
theorem q1123 : (Jvm.Cond.selects "LampSquares$Unknown" ({ cls := "LampSquares$Marked", name := "number", desc := "()I" } : Jvm.MethodName) ({ cls := "LampSquares$Square", name := "number", desc := "()I" } : Jvm.MethodName)) ∈ lw_all := lw_g (lw_at lw_m5 106 rfl) rfl
theorem q1124 : (Jvm.Cond.unhidden "LampSquares$Unknown" "number" "()I") ∈ lw_tbl := lw_at lw_m5 107 rfl
theorem q1145 : (Jvm.Cond.instanceMethod ({ cls := "LampSquares$Unknown", name := "size", desc := "(LLampSquares$Trail;LLampSquares$Door;)I" } : Jvm.MethodName)) ∈ lw_all := lw_g (lw_at lw_m5 128 rfl) rfl
theorem q1146 : (Jvm.Cond.code ({ cls := "LampSquares$Unknown", name := "size", desc := "(LLampSquares$Trail;LLampSquares$Door;)I" } : Jvm.MethodName) prog_14_method_3_code (3 : Nat) (Option.some Jvm.ClassFile.FieldType.int)) ∈ lw_all := lw_g (lw_at lw_m5 129 rfl) rfl
theorem q1147 : (Jvm.Cond.methodLink "LampSquares$Unknown" (9 : Nat) ({ cls := "LampSquares$Trail", name := "begins", desc := "(I)V" } : Jvm.MethodName)) ∈ lw_all := lw_g (lw_at lw_m5 130 rfl) rfl
theorem q1148 : (Jvm.Cond.methodLink "LampSquares$Unknown" (14 : Nat) ({ cls := "LampSquares$Square", name := "size", desc := "(LLampSquares$Trail;LLampSquares$Door;)I" } : Jvm.MethodName)) ∈ lw_all := lw_g (lw_at lw_m5 131 rfl) rfl
theorem q1150 : (Jvm.Cond.selects "LampSquares$Unknown" ({ cls := "LampSquares$Square", name := "size", desc := "(LLampSquares$Trail;LLampSquares$Door;)I" } : Jvm.MethodName) ({ cls := "LampSquares$Unknown", name := "size", desc := "(LLampSquares$Trail;LLampSquares$Door;)I" } : Jvm.MethodName)) ∈ lw_all := lw_g (lw_at lw_m5 133 rfl) rfl
theorem q1156 : (Jvm.Cond.instanceMethod ({ cls := "LampSquares$Unknown", name := "mark", desc := "(LLampSquares$Trail;LLampSquares$Door;)I" } : Jvm.MethodName)) ∈ lw_all := lw_g (lw_at lw_m5 139 rfl) rfl
theorem q1157 : (Jvm.Cond.code ({ cls := "LampSquares$Unknown", name := "mark", desc := "(LLampSquares$Trail;LLampSquares$Door;)I" } : Jvm.MethodName) prog_14_method_4_code (3 : Nat) (Option.some Jvm.ClassFile.FieldType.int)) ∈ lw_all := lw_g (lw_at lw_m5 140 rfl) rfl
theorem q1158 : (Jvm.Cond.methodLink "LampSquares$Unknown" (21 : Nat) ({ cls := "LampSquares$Unknown", name := "size", desc := "(LLampSquares$Trail;LLampSquares$Door;)I" } : Jvm.MethodName)) ∈ lw_all := lw_g (lw_at lw_m5 141 rfl) rfl
theorem q1160 : (Jvm.Cond.selects "LampSquares$Unknown" ({ cls := "LampSquares$Marked", name := "mark", desc := "(LLampSquares$Trail;LLampSquares$Door;)I" } : Jvm.MethodName) ({ cls := "LampSquares$Unknown", name := "mark", desc := "(LLampSquares$Trail;LLampSquares$Door;)I" } : Jvm.MethodName)) ∈ lw_all := lw_g (lw_at lw_m5 143 rfl) rfl
theorem q1603 : (Jvm.Cond.sameMethod "LampSquares$Unknown" "LampSquares$Unknown" "size" "(LLampSquares$Trail;LLampSquares$Door;)I") ∈ lw_all := lw_g (lw_at lw_m7 106 rfl) rfl
theorem q1605 : (Jvm.Cond.selects "LampSquares$Unknown" ({ cls := "LampSquares$Unknown", name := "size", desc := "(LLampSquares$Trail;LLampSquares$Door;)I" } : Jvm.MethodName) ({ cls := "LampSquares$Unknown", name := "size", desc := "(LLampSquares$Trail;LLampSquares$Door;)I" } : Jvm.MethodName)) ∈ lw_all := lw_g (lw_at lw_m7 108 rfl) rfl
theorem q1611 : (Jvm.Cond.castable "LampSquares$Unknown" "LampSquares$Square") ∈ lw_tbl := lw_at lw_m7 114 rfl
theorem q1624 : (Jvm.Cond.castable "LampSquares$Unknown" "java/lang/Object") ∈ lw_tbl := lw_at lw_m7 127 rfl
theorem in_X7 : ∀ w ∈ wsX70, w ∈ lw_all := lw_in wsX70 [246] (by decide +kernel) (by decide +kernel)
/-! LampSquares$Heard -/
set_option maxRecDepth 100000
def RX8 : String := "LampSquares$Heard"
def TX8 : u_T := fun k => match k with
  | _ => ("LampSquares$Square", "number", "I", true)
def tyX8 : Nat → FieldType := fun k => match k with
  | _ => .int
abbrev wsX80 : List Cond := u_ws RX8 TX8 1
theorem nmX8 : ∀ a, a < 1 → ∀ b, b < 1 → a ≠ b → (TX8 a).2.1 ≠ (TX8 b).2.1 := by decide +kernel
theorem tyX8_ok : ∀ k, k < 1 → parseFieldDescriptor (TX8 k).2.2.1 = some (tyX8 k) := by decide +kernel
abbrev cX8_init : ByteArray := prog_7_method_1_code
def yX8_init : MethodName := ⟨RX8, "<init>", "(I)V"⟩
def dkwX8_init_0 : List UInt8 := [42, 27, 183, 0, 3, 177]
abbrev dktX8_init_0 : List UInt8 := dkwX8_init_0 ++ []
theorem dksX8_init_0 : cX8_init.data.toList.drop 0 = dktX8_init_0 := by decide +kernel
theorem dX8_init_0 : decode cX8_init 0 = .ok (.aload_n 0, 1) := dk_42 (dk_at dksX8_init_0 0 rfl rfl)
theorem dX8_init_1 : decode cX8_init 1 = .ok (.iload_n 1, 1) := dk_27 (dk_at dksX8_init_0 1 rfl rfl)
theorem dX8_init_2 : decode cX8_init 2 = .ok (.invokespecial 3, 3) := dk_183 0 3 (dk_at dksX8_init_0 2 rfl rfl)
theorem dX8_init_5 : decode cX8_init 5 = .ok (.return_, 1) := dk_177 (dk_at dksX8_init_0 5 rfl rfl)
abbrev cX8_seen : ByteArray := prog_7_method_3_code
def yX8_seen : MethodName := ⟨RX8, "seen", "(III)I"⟩
def dkwX8_seen_0 : List UInt8 := [29, 8, 162, 0, 7, 3, 167, 0, 10, 42, 27, 28, 29, 183, 0, 9, 172]
abbrev dktX8_seen_0 : List UInt8 := dkwX8_seen_0 ++ []
theorem dksX8_seen_0 : cX8_seen.data.toList.drop 0 = dktX8_seen_0 := by decide +kernel
theorem dX8_seen_0 : decode cX8_seen 0 = .ok (.iload_n 3, 1) := dk_29 (dk_at dksX8_seen_0 0 rfl rfl)
theorem dX8_seen_1 : decode cX8_seen 1 = .ok (.iconst 5, 1) := dk_8 (dk_at dksX8_seen_0 1 rfl rfl)
theorem dX8_seen_2 : decode cX8_seen 2 = .ok (.if_icmp .ge 7, 3) := dk_162 0 7 (dk_at dksX8_seen_0 2 rfl rfl)
theorem dX8_seen_5 : decode cX8_seen 5 = .ok (.iconst 0, 1) := dk_3 (dk_at dksX8_seen_0 5 rfl rfl)
theorem dX8_seen_6 : decode cX8_seen 6 = .ok (.goto 10, 3) := dk_167 0 10 (dk_at dksX8_seen_0 6 rfl rfl)
theorem dX8_seen_9 : decode cX8_seen 9 = .ok (.aload_n 0, 1) := dk_42 (dk_at dksX8_seen_0 9 rfl rfl)
theorem dX8_seen_10 : decode cX8_seen 10 = .ok (.iload_n 1, 1) := dk_27 (dk_at dksX8_seen_0 10 rfl rfl)
theorem dX8_seen_11 : decode cX8_seen 11 = .ok (.iload_n 2, 1) := dk_28 (dk_at dksX8_seen_0 11 rfl rfl)
theorem dX8_seen_12 : decode cX8_seen 12 = .ok (.iload_n 3, 1) := dk_29 (dk_at dksX8_seen_0 12 rfl rfl)
theorem dX8_seen_13 : decode cX8_seen 13 = .ok (.invokespecial 9, 3) := dk_183 0 9 (dk_at dksX8_seen_0 13 rfl rfl)
theorem dX8_seen_16 : decode cX8_seen 16 = .ok (.ireturn, 1) := dk_172 (dk_at dksX8_seen_0 16 rfl rfl)
abbrev cX8_kind : ByteArray := prog_7_method_2_code
def yX8_kind : MethodName := ⟨RX8, "kind", "()I"⟩
theorem dX8_kind_0 : decode cX8_kind 0 = .ok (.iconst 5, 1) := by decide +kernel
theorem dX8_kind_1 : decode cX8_kind 1 = .ok (.ireturn, 1) := by decide +kernel
abbrev cX8_size : ByteArray := prog_7_method_4_code
def yX8_size : MethodName := ⟨RX8, "size", "(LLampSquares$Trail;LLampSquares$Door;)I"⟩
def dkwX8_size_0 : List UInt8 := [43, 16, 14, 182, 0, 13, 5, 42, 43, 44, 183, 0, 18, 104, 172]
abbrev dktX8_size_0 : List UInt8 := dkwX8_size_0 ++ []
theorem dksX8_size_0 : cX8_size.data.toList.drop 0 = dktX8_size_0 := by decide +kernel
theorem dX8_size_0 : decode cX8_size 0 = .ok (.aload_n 1, 1) := dk_43 (dk_at dksX8_size_0 0 rfl rfl)
theorem dX8_size_1 : decode cX8_size 1 = .ok (.bipush 14, 2) := dk_16 14 (dk_at dksX8_size_0 1 rfl rfl)
theorem dX8_size_3 : decode cX8_size 3 = .ok (.invokevirtual 13, 3) := dk_182 0 13 (dk_at dksX8_size_0 3 rfl rfl)
theorem dX8_size_6 : decode cX8_size 6 = .ok (.iconst 2, 1) := dk_5 (dk_at dksX8_size_0 6 rfl rfl)
theorem dX8_size_7 : decode cX8_size 7 = .ok (.aload_n 0, 1) := dk_42 (dk_at dksX8_size_0 7 rfl rfl)
theorem dX8_size_8 : decode cX8_size 8 = .ok (.aload_n 1, 1) := dk_43 (dk_at dksX8_size_0 8 rfl rfl)
theorem dX8_size_9 : decode cX8_size 9 = .ok (.aload_n 2, 1) := dk_44 (dk_at dksX8_size_0 9 rfl rfl)
theorem dX8_size_10 : decode cX8_size 10 = .ok (.invokespecial 18, 3) := dk_183 0 18 (dk_at dksX8_size_0 10 rfl rfl)
theorem dX8_size_13 : decode cX8_size 13 = .ok (.imul, 1) := dk_104 (dk_at dksX8_size_0 13 rfl rfl)
theorem dX8_size_14 : decode cX8_size 14 = .ok (.ireturn, 1) := dk_172 (dk_at dksX8_size_0 14 rfl rfl)
theorem q69 : (Jvm.Cond.initialized "LampSquares$Heard") ∈ lw_all := lw_g (lw_at lw_m1 12 rfl) rfl
theorem q249 : (Jvm.Cond.instantiable "LampSquares$Heard" (1 : Nat)) ∈ lw_all := lw_g (lw_at lw_m1 192 rfl) rfl
theorem q251 : (Jvm.Cond.instanceMethod ({ cls := "LampSquares$Heard", name := "<init>", desc := "(I)V" } : Jvm.MethodName)) ∈ lw_all := lw_g (lw_at lw_m1 194 rfl) rfl
theorem q252 : (Jvm.Cond.code ({ cls := "LampSquares$Heard", name := "<init>", desc := "(I)V" } : Jvm.MethodName) prog_7_method_1_code (2 : Nat) (Option.none : Option Jvm.ClassFile.FieldType)) ∈ lw_all := lw_g (lw_at lw_m1 195 rfl) rfl
theorem q253 : (Jvm.Cond.methodLink "LampSquares$Heard" (3 : Nat) ({ cls := "LampSquares$Unknown", name := "<init>", desc := "(I)V" } : Jvm.MethodName)) ∈ lw_all := lw_g (lw_at lw_m1 196 rfl) rfl
theorem q254 : (Jvm.Cond.laysFinal "LampSquares$Heard" "LampSquares$Square" "number" "I") ∈ lw_all := lw_g (lw_at lw_m1 197 rfl) rfl
theorem q255 : (Jvm.Cond.superclass "LampSquares$Heard" "LampSquares$Unknown") ∈ lw_all := lw_g (lw_at lw_m1 198 rfl) rfl
theorem q682 : (Jvm.Cond.selects "LampSquares$Heard" ({ cls := "java/lang/Object", name := "getClass", desc := "()Ljava/lang/Class;" } : Jvm.MethodName) ({ cls := "java/lang/Object", name := "getClass", desc := "()Ljava/lang/Class;" } : Jvm.MethodName)) ∈ lw_all := lw_g (lw_at lw_m3 145 rfl) rfl
theorem q793 : (Jvm.Cond.selects "LampSquares$Heard" ({ cls := "LampSquares$Square", name := "seen", desc := "(III)I" } : Jvm.MethodName) ({ cls := "LampSquares$Heard", name := "seen", desc := "(III)I" } : Jvm.MethodName)) ∈ lw_all := lw_g (lw_at lw_m4 16 rfl) rfl
theorem q794 : (Jvm.Cond.instanceMethod ({ cls := "LampSquares$Heard", name := "seen", desc := "(III)I" } : Jvm.MethodName)) ∈ lw_all := lw_g (lw_at lw_m4 17 rfl) rfl
theorem q795 : (Jvm.Cond.code ({ cls := "LampSquares$Heard", name := "seen", desc := "(III)I" } : Jvm.MethodName) prog_7_method_3_code (4 : Nat) (Option.some Jvm.ClassFile.FieldType.int)) ∈ lw_all := lw_g (lw_at lw_m4 18 rfl) rfl
theorem q796 : (Jvm.Cond.methodLink "LampSquares$Heard" (9 : Nat) ({ cls := "LampSquares$Unknown", name := "seen", desc := "(III)I" } : Jvm.MethodName)) ∈ lw_all := lw_g (lw_at lw_m4 19 rfl) rfl
theorem q829 : (Jvm.Cond.selects "LampSquares$Heard" ({ cls := "LampSquares$Square", name := "counts", desc := "()Z" } : Jvm.MethodName) ({ cls := "LampSquares$Square", name := "counts", desc := "()Z" } : Jvm.MethodName)) ∈ lw_all := lw_g (lw_at lw_m4 52 rfl) rfl
theorem q986 : (Jvm.Cond.selects "LampSquares$Heard" ({ cls := "LampSquares$Square", name := "kind", desc := "()I" } : Jvm.MethodName) ({ cls := "LampSquares$Heard", name := "kind", desc := "()I" } : Jvm.MethodName)) ∈ lw_all := lw_g (lw_at lw_m4 209 rfl) rfl
theorem q987 : (Jvm.Cond.instanceMethod ({ cls := "LampSquares$Heard", name := "kind", desc := "()I" } : Jvm.MethodName)) ∈ lw_all := lw_g (lw_at lw_m4 210 rfl) rfl
theorem q988 : (Jvm.Cond.code ({ cls := "LampSquares$Heard", name := "kind", desc := "()I" } : Jvm.MethodName) prog_7_method_2_code (1 : Nat) (Option.some Jvm.ClassFile.FieldType.int)) ∈ lw_all := lw_g (lw_at lw_m4 211 rfl) rfl
theorem q1066 : (Jvm.Cond.selects "LampSquares$Heard" ({ cls := "LampSquares$Square", name := "number", desc := "()I" } : Jvm.MethodName) ({ cls := "LampSquares$Square", name := "number", desc := "()I" } : Jvm.MethodName)) ∈ lw_all := lw_g (lw_at lw_m5 49 rfl) rfl
theorem q1116 : (Jvm.Cond.castable "LampSquares$Heard" "LampSquares$Marked") ∈ lw_tbl := lw_at lw_m5 99 rfl
theorem q1117 : (Jvm.Cond.selects "LampSquares$Heard" ({ cls := "LampSquares$Marked", name := "number", desc := "()I" } : Jvm.MethodName) ({ cls := "LampSquares$Square", name := "number", desc := "()I" } : Jvm.MethodName)) ∈ lw_all := lw_g (lw_at lw_m5 100 rfl) rfl
theorem q1118 : (Jvm.Cond.unhidden "LampSquares$Heard" "number" "()I") ∈ lw_tbl := lw_at lw_m5 101 rfl
theorem q1140 : (Jvm.Cond.selects "LampSquares$Heard" ({ cls := "LampSquares$Square", name := "size", desc := "(LLampSquares$Trail;LLampSquares$Door;)I" } : Jvm.MethodName) ({ cls := "LampSquares$Heard", name := "size", desc := "(LLampSquares$Trail;LLampSquares$Door;)I" } : Jvm.MethodName)) ∈ lw_all := lw_g (lw_at lw_m5 123 rfl) rfl
theorem q1141 : (Jvm.Cond.instanceMethod ({ cls := "LampSquares$Heard", name := "size", desc := "(LLampSquares$Trail;LLampSquares$Door;)I" } : Jvm.MethodName)) ∈ lw_all := lw_g (lw_at lw_m5 124 rfl) rfl
theorem q1142 : (Jvm.Cond.code ({ cls := "LampSquares$Heard", name := "size", desc := "(LLampSquares$Trail;LLampSquares$Door;)I" } : Jvm.MethodName) prog_7_method_4_code (3 : Nat) (Option.some Jvm.ClassFile.FieldType.int)) ∈ lw_all := lw_g (lw_at lw_m5 125 rfl) rfl
theorem q1143 : (Jvm.Cond.methodLink "LampSquares$Heard" (13 : Nat) ({ cls := "LampSquares$Trail", name := "begins", desc := "(I)V" } : Jvm.MethodName)) ∈ lw_all := lw_g (lw_at lw_m5 126 rfl) rfl
theorem q1144 : (Jvm.Cond.methodLink "LampSquares$Heard" (18 : Nat) ({ cls := "LampSquares$Unknown", name := "size", desc := "(LLampSquares$Trail;LLampSquares$Door;)I" } : Jvm.MethodName)) ∈ lw_all := lw_g (lw_at lw_m5 127 rfl) rfl
theorem q1155 : (Jvm.Cond.selects "LampSquares$Heard" ({ cls := "LampSquares$Marked", name := "mark", desc := "(LLampSquares$Trail;LLampSquares$Door;)I" } : Jvm.MethodName) ({ cls := "LampSquares$Unknown", name := "mark", desc := "(LLampSquares$Trail;LLampSquares$Door;)I" } : Jvm.MethodName)) ∈ lw_all := lw_g (lw_at lw_m5 138 rfl) rfl
theorem q1604 : (Jvm.Cond.selects "LampSquares$Heard" ({ cls := "LampSquares$Unknown", name := "size", desc := "(LLampSquares$Trail;LLampSquares$Door;)I" } : Jvm.MethodName) ({ cls := "LampSquares$Heard", name := "size", desc := "(LLampSquares$Trail;LLampSquares$Door;)I" } : Jvm.MethodName)) ∈ lw_all := lw_g (lw_at lw_m7 107 rfl) rfl
theorem q1609 : (Jvm.Cond.castable "LampSquares$Heard" "LampSquares$Square") ∈ lw_tbl := lw_at lw_m7 112 rfl
theorem q1614 : (Jvm.Cond.castable "LampSquares$Heard" "LampSquares$Unknown") ∈ lw_tbl := lw_at lw_m7 117 rfl
theorem q1625 : (Jvm.Cond.castable "LampSquares$Heard" "java/lang/Object") ∈ lw_tbl := lw_at lw_m7 128 rfl
theorem in_X8 : ∀ w ∈ wsX80, w ∈ lw_all := lw_in wsX80 [254] (by decide +kernel) (by decide +kernel)
theorem q57 : (Jvm.Cond.initialized "LampSquaresLaw") ∈ lw_all := lw_g (lw_at lw_m1 0 rfl) rfl
set_option maxRecDepth 100000
theorem q91 : (Jvm.Cond.classLink "LampSquaresLaw" (7 : Nat) "LampSquares") ∈ lw_all := lw_g (lw_at lw_m1 34 rfl) rfl
theorem q93 : (Jvm.Cond.methodLink "LampSquaresLaw" (9 : Nat) ({ cls := "LampSquares", name := "<init>", desc := "()V" } : Jvm.MethodName)) ∈ lw_all := lw_g (lw_at lw_m1 36 rfl) rfl
theorem q293 : (Jvm.Cond.methodLink "LampSquaresLaw" (13 : Nat) ({ cls := "LampSquares", name := "row", desc := "(III)I" } : Jvm.MethodName)) ∈ lw_all := lw_g (lw_at lw_m1 236 rfl) rfl
theorem q398 : (Jvm.Cond.methodLink "LampSquaresLaw" (18 : Nat) ({ cls := "LampSquares", name := "set", desc := "(III)I" } : Jvm.MethodName)) ∈ lw_all := lw_g (lw_at lw_m2 101 rfl) rfl
theorem q410 : (Jvm.Cond.methodLink "LampSquaresLaw" (22 : Nat) ({ cls := "LampSquares", name := "copy", desc := "(IIIII)I" } : Jvm.MethodName)) ∈ lw_all := lw_g (lw_at lw_m2 113 rfl) rfl
theorem q451 : (Jvm.Cond.methodLink "LampSquaresLaw" (27 : Nat) ({ cls := "LampSquares", name := "drop", desc := "(I)I" } : Jvm.MethodName)) ∈ lw_all := lw_g (lw_at lw_m2 154 rfl) rfl
theorem q455 : (Jvm.Cond.methodLink "LampSquaresLaw" (32 : Nat) ({ cls := "LampSquares", name := "feed", desc := "(I)I" } : Jvm.MethodName)) ∈ lw_all := lw_g (lw_at lw_m2 158 rfl) rfl
theorem q461 : (Jvm.Cond.methodLink "LampSquaresLaw" (36 : Nat) ({ cls := "LampSquares", name := "door", desc := "()I" } : Jvm.MethodName)) ∈ lw_all := lw_g (lw_at lw_m2 164 rfl) rfl
theorem q716 : (Jvm.Cond.methodLink "LampSquaresLaw" (41 : Nat) ({ cls := "LampSquares", name := "fault", desc := "()I" } : Jvm.MethodName)) ∈ lw_all := lw_g (lw_at lw_m3 179 rfl) rfl
theorem q720 : (Jvm.Cond.methodLink "LampSquaresLaw" (45 : Nat) ({ cls := "LampSquares", name := "undo", desc := "()I" } : Jvm.MethodName)) ∈ lw_all := lw_g (lw_at lw_m3 183 rfl) rfl
theorem q725 : (Jvm.Cond.methodLink "LampSquaresLaw" (49 : Nat) ({ cls := "LampSquares", name := "pose", desc := "(II)I" } : Jvm.MethodName)) ∈ lw_all := lw_g (lw_at lw_m3 188 rfl) rfl
theorem q840 : (Jvm.Cond.methodLink "LampSquaresLaw" (54 : Nat) ({ cls := "LampSquares", name := "strict", desc := "(I)I" } : Jvm.MethodName)) ∈ lw_all := lw_g (lw_at lw_m4 63 rfl) rfl
theorem q849 : (Jvm.Cond.methodLink "LampSquaresLaw" (58 : Nat) ({ cls := "LampSquares", name := "share", desc := "(II)I" } : Jvm.MethodName)) ∈ lw_all := lw_g (lw_at lw_m4 72 rfl) rfl
theorem q858 : (Jvm.Cond.methodLink "LampSquaresLaw" (62 : Nat) ({ cls := "LampSquares", name := "settle", desc := "(I)I" } : Jvm.MethodName)) ∈ lw_all := lw_g (lw_at lw_m4 81 rfl) rfl
theorem q863 : (Jvm.Cond.methodLink "LampSquaresLaw" (66 : Nat) ({ cls := "LampSquares", name := "square", desc := "(II)I" } : Jvm.MethodName)) ∈ lw_all := lw_g (lw_at lw_m4 86 rfl) rfl
theorem q867 : (Jvm.Cond.methodLink "LampSquaresLaw" (70 : Nat) ({ cls := "LampSquares", name := "visitor", desc := "(II)I" } : Jvm.MethodName)) ∈ lw_all := lw_g (lw_at lw_m4 90 rfl) rfl
theorem q871 : (Jvm.Cond.methodLink "LampSquaresLaw" (74 : Nat) ({ cls := "LampSquares", name := "sees", desc := "(II)I" } : Jvm.MethodName)) ∈ lw_all := lw_g (lw_at lw_m4 94 rfl) rfl
theorem q880 : (Jvm.Cond.methodLink "LampSquaresLaw" (78 : Nat) ({ cls := "LampSquares", name := "clicks", desc := "(I)I" } : Jvm.MethodName)) ∈ lw_all := lw_g (lw_at lw_m4 103 rfl) rfl
theorem q885 : (Jvm.Cond.methodLink "LampSquaresLaw" (82 : Nat) ({ cls := "LampSquares", name := "wrong", desc := "(II)I" } : Jvm.MethodName)) ∈ lw_all := lw_g (lw_at lw_m4 108 rfl) rfl
theorem q890 : (Jvm.Cond.methodLink "LampSquaresLaw" (86 : Nat) ({ cls := "LampSquares", name := "guests", desc := "(I)I" } : Jvm.MethodName)) ∈ lw_all := lw_g (lw_at lw_m4 113 rfl) rfl
theorem q898 : (Jvm.Cond.methodLink "LampSquaresLaw" (90 : Nat) ({ cls := "LampSquares", name := "fewest", desc := "(II)I" } : Jvm.MethodName)) ∈ lw_all := lw_g (lw_at lw_m4 121 rfl) rfl
theorem q915 : (Jvm.Cond.methodLink "LampSquaresLaw" (94 : Nat) ({ cls := "LampSquares", name := "harsh", desc := "(II)I" } : Jvm.MethodName)) ∈ lw_all := lw_g (lw_at lw_m4 138 rfl) rfl
theorem q924 : (Jvm.Cond.methodLink "LampSquaresLaw" (98 : Nat) ({ cls := "LampSquares", name := "keen", desc := "(I)I" } : Jvm.MethodName)) ∈ lw_all := lw_g (lw_at lw_m4 147 rfl) rfl
theorem q937 : (Jvm.Cond.methodLink "LampSquaresLaw" (102 : Nat) ({ cls := "LampSquares", name := "tells", desc := "(II)I" } : Jvm.MethodName)) ∈ lw_all := lw_g (lw_at lw_m4 160 rfl) rfl
theorem q941 : (Jvm.Cond.methodLink "LampSquaresLaw" (106 : Nat) ({ cls := "LampSquares", name := "learned", desc := "(I)I" } : Jvm.MethodName)) ∈ lw_all := lw_g (lw_at lw_m4 164 rfl) rfl
theorem q948 : (Jvm.Cond.methodLink "LampSquaresLaw" (110 : Nat) ({ cls := "LampSquares", name := "needs", desc := "(I)I" } : Jvm.MethodName)) ∈ lw_all := lw_g (lw_at lw_m4 171 rfl) rfl
theorem q952 : (Jvm.Cond.methodLink "LampSquaresLaw" (114 : Nat) ({ cls := "LampSquares", name := "save", desc := "(II)I" } : Jvm.MethodName)) ∈ lw_all := lw_g (lw_at lw_m4 175 rfl) rfl
theorem q956 : (Jvm.Cond.methodLink "LampSquaresLaw" (118 : Nat) ({ cls := "LampSquares", name := "shares", desc := "(III)I" } : Jvm.MethodName)) ∈ lw_all := lw_g (lw_at lw_m4 179 rfl) rfl
theorem q973 : (Jvm.Cond.methodLink "LampSquaresLaw" (122 : Nat) ({ cls := "LampSquares", name := "kinds", desc := "(III)I" } : Jvm.MethodName)) ∈ lw_all := lw_g (lw_at lw_m4 196 rfl) rfl
theorem q995 : (Jvm.Cond.methodLink "LampSquaresLaw" (126 : Nat) ({ cls := "LampSquares", name := "who", desc := "(II)I" } : Jvm.MethodName)) ∈ lw_all := lw_g (lw_at lw_m4 218 rfl) rfl
theorem q1003 : (Jvm.Cond.methodLink "LampSquaresLaw" (130 : Nat) ({ cls := "LampSquares", name := "cares", desc := "(III)I" } : Jvm.MethodName)) ∈ lw_all := lw_g (lw_at lw_m4 226 rfl) rfl
theorem q1007 : (Jvm.Cond.methodLink "LampSquaresLaw" (134 : Nat) ({ cls := "LampSquares", name := "slip", desc := "(IIII)J" } : Jvm.MethodName)) ∈ lw_all := lw_g (lw_at lw_m4 230 rfl) rfl
theorem q1017 : (Jvm.Cond.methodLink "LampSquaresLaw" (139 : Nat) ({ cls := "LampSquares", name := "drawn", desc := "(III)I" } : Jvm.MethodName)) ∈ lw_all := lw_g (lw_at lw_m5 0 rfl) rfl
theorem q1030 : (Jvm.Cond.methodLink "LampSquaresLaw" (143 : Nat) ({ cls := "LampSquares", name := "image", desc := "(I)I" } : Jvm.MethodName)) ∈ lw_all := lw_g (lw_at lw_m5 13 rfl) rfl
theorem q1034 : (Jvm.Cond.methodLink "LampSquaresLaw" (147 : Nat) ({ cls := "LampSquares", name := "restore", desc := "(I)I" } : Jvm.MethodName)) ∈ lw_all := lw_g (lw_at lw_m5 17 rfl) rfl
theorem q1038 : (Jvm.Cond.methodLink "LampSquaresLaw" (151 : Nat) ({ cls := "LampSquares", name := "kind", desc := "(I)I" } : Jvm.MethodName)) ∈ lw_all := lw_g (lw_at lw_m5 21 rfl) rfl
theorem q1042 : (Jvm.Cond.methodLink "LampSquaresLaw" (155 : Nat) ({ cls := "LampSquares", name := "as", desc := "(II)I" } : Jvm.MethodName)) ∈ lw_all := lw_g (lw_at lw_m5 25 rfl) rfl
theorem q1070 : (Jvm.Cond.methodLink "LampSquaresLaw" (159 : Nat) ({ cls := "LampSquares", name := "ask", desc := "(II)I" } : Jvm.MethodName)) ∈ lw_all := lw_g (lw_at lw_m5 53 rfl) rfl
theorem q1161 : (Jvm.Cond.methodLink "LampSquaresLaw" (163 : Nat) ({ cls := "LampSquares", name := "trace", desc := "(I)I" } : Jvm.MethodName)) ∈ lw_all := lw_g (lw_at lw_m5 144 rfl) rfl
theorem q1165 : (Jvm.Cond.methodLink "LampSquaresLaw" (167 : Nat) ({ cls := "LampSquares", name := "count", desc := "(I)I" } : Jvm.MethodName)) ∈ lw_all := lw_g (lw_at lw_m5 148 rfl) rfl
theorem q1169 : (Jvm.Cond.methodLink "LampSquaresLaw" (171 : Nat) ({ cls := "LampSquares", name := "status", desc := "()I" } : Jvm.MethodName)) ∈ lw_all := lw_g (lw_at lw_m5 152 rfl) rfl
theorem q1173 : (Jvm.Cond.classLink "LampSquaresLaw" (10 : Nat) "LampSquaresModel") ∈ lw_all := lw_g (lw_at lw_m5 156 rfl) rfl
theorem q1175 : (Jvm.Cond.methodLink "LampSquaresLaw" (12 : Nat) ({ cls := "LampSquaresModel", name := "<init>", desc := "()V" } : Jvm.MethodName)) ∈ lw_all := lw_g (lw_at lw_m5 158 rfl) rfl
theorem q1254 : (Jvm.Cond.methodLink "LampSquaresLaw" (17 : Nat) ({ cls := "LampSquaresModel", name := "row", desc := "(III)I" } : Jvm.MethodName)) ∈ lw_all := lw_g (lw_at lw_m5 237 rfl) rfl
theorem q1272 : (Jvm.Cond.methodLink "LampSquaresLaw" (21 : Nat) ({ cls := "LampSquaresModel", name := "set", desc := "(III)I" } : Jvm.MethodName)) ∈ lw_all := lw_g (lw_at lw_m6 15 rfl) rfl
theorem q1276 : (Jvm.Cond.methodLink "LampSquaresLaw" (26 : Nat) ({ cls := "LampSquaresModel", name := "copy", desc := "(IIIII)I" } : Jvm.MethodName)) ∈ lw_all := lw_g (lw_at lw_m6 19 rfl) rfl
theorem q1280 : (Jvm.Cond.methodLink "LampSquaresLaw" (31 : Nat) ({ cls := "LampSquaresModel", name := "drop", desc := "(I)I" } : Jvm.MethodName)) ∈ lw_all := lw_g (lw_at lw_m6 23 rfl) rfl
theorem q1284 : (Jvm.Cond.methodLink "LampSquaresLaw" (35 : Nat) ({ cls := "LampSquaresModel", name := "feed", desc := "(I)I" } : Jvm.MethodName)) ∈ lw_all := lw_g (lw_at lw_m6 27 rfl) rfl
theorem q1290 : (Jvm.Cond.methodLink "LampSquaresLaw" (44 : Nat) ({ cls := "LampSquaresModel", name := "fault", desc := "()I" } : Jvm.MethodName)) ∈ lw_all := lw_g (lw_at lw_m6 33 rfl) rfl
theorem q1294 : (Jvm.Cond.methodLink "LampSquaresLaw" (40 : Nat) ({ cls := "LampSquaresModel", name := "door", desc := "()I" } : Jvm.MethodName)) ∈ lw_all := lw_g (lw_at lw_m6 37 rfl) rfl
theorem q1351 : (Jvm.Cond.methodLink "LampSquaresLaw" (53 : Nat) ({ cls := "LampSquaresModel", name := "pose", desc := "(II)I" } : Jvm.MethodName)) ∈ lw_all := lw_g (lw_at lw_m6 94 rfl) rfl
theorem q1400 : (Jvm.Cond.methodLink "LampSquaresLaw" (57 : Nat) ({ cls := "LampSquaresModel", name := "strict", desc := "(I)I" } : Jvm.MethodName)) ∈ lw_all := lw_g (lw_at lw_m6 143 rfl) rfl
theorem q1410 : (Jvm.Cond.methodLink "LampSquaresLaw" (61 : Nat) ({ cls := "LampSquaresModel", name := "share", desc := "(II)I" } : Jvm.MethodName)) ∈ lw_all := lw_g (lw_at lw_m6 153 rfl) rfl
theorem q1419 : (Jvm.Cond.methodLink "LampSquaresLaw" (65 : Nat) ({ cls := "LampSquaresModel", name := "settle", desc := "(I)I" } : Jvm.MethodName)) ∈ lw_all := lw_g (lw_at lw_m6 162 rfl) rfl
theorem q1423 : (Jvm.Cond.methodLink "LampSquaresLaw" (48 : Nat) ({ cls := "LampSquaresModel", name := "undo", desc := "()I" } : Jvm.MethodName)) ∈ lw_all := lw_g (lw_at lw_m6 166 rfl) rfl
theorem q1427 : (Jvm.Cond.methodLink "LampSquaresLaw" (69 : Nat) ({ cls := "LampSquaresModel", name := "square", desc := "(II)I" } : Jvm.MethodName)) ∈ lw_all := lw_g (lw_at lw_m6 170 rfl) rfl
theorem q1431 : (Jvm.Cond.methodLink "LampSquaresLaw" (73 : Nat) ({ cls := "LampSquaresModel", name := "visitor", desc := "(II)I" } : Jvm.MethodName)) ∈ lw_all := lw_g (lw_at lw_m6 174 rfl) rfl
theorem q1436 : (Jvm.Cond.methodLink "LampSquaresLaw" (77 : Nat) ({ cls := "LampSquaresModel", name := "sees", desc := "(II)I" } : Jvm.MethodName)) ∈ lw_all := lw_g (lw_at lw_m6 179 rfl) rfl
theorem q1440 : (Jvm.Cond.methodLink "LampSquaresLaw" (81 : Nat) ({ cls := "LampSquaresModel", name := "clicks", desc := "(I)I" } : Jvm.MethodName)) ∈ lw_all := lw_g (lw_at lw_m6 183 rfl) rfl
theorem q1448 : (Jvm.Cond.methodLink "LampSquaresLaw" (85 : Nat) ({ cls := "LampSquaresModel", name := "wrong", desc := "(II)I" } : Jvm.MethodName)) ∈ lw_all := lw_g (lw_at lw_m6 191 rfl) rfl
theorem q1452 : (Jvm.Cond.methodLink "LampSquaresLaw" (89 : Nat) ({ cls := "LampSquaresModel", name := "guests", desc := "(I)I" } : Jvm.MethodName)) ∈ lw_all := lw_g (lw_at lw_m6 195 rfl) rfl
theorem q1460 : (Jvm.Cond.methodLink "LampSquaresLaw" (93 : Nat) ({ cls := "LampSquaresModel", name := "fewest", desc := "(II)I" } : Jvm.MethodName)) ∈ lw_all := lw_g (lw_at lw_m6 203 rfl) rfl
theorem q1475 : (Jvm.Cond.methodLink "LampSquaresLaw" (97 : Nat) ({ cls := "LampSquaresModel", name := "harsh", desc := "(II)I" } : Jvm.MethodName)) ∈ lw_all := lw_g (lw_at lw_m6 218 rfl) rfl
theorem q1479 : (Jvm.Cond.methodLink "LampSquaresLaw" (101 : Nat) ({ cls := "LampSquaresModel", name := "keen", desc := "(I)I" } : Jvm.MethodName)) ∈ lw_all := lw_g (lw_at lw_m6 222 rfl) rfl
theorem q1483 : (Jvm.Cond.methodLink "LampSquaresLaw" (105 : Nat) ({ cls := "LampSquaresModel", name := "tells", desc := "(II)I" } : Jvm.MethodName)) ∈ lw_all := lw_g (lw_at lw_m6 226 rfl) rfl
theorem q1487 : (Jvm.Cond.methodLink "LampSquaresLaw" (109 : Nat) ({ cls := "LampSquaresModel", name := "learned", desc := "(I)I" } : Jvm.MethodName)) ∈ lw_all := lw_g (lw_at lw_m6 230 rfl) rfl
theorem q1491 : (Jvm.Cond.methodLink "LampSquaresLaw" (113 : Nat) ({ cls := "LampSquaresModel", name := "needs", desc := "(I)I" } : Jvm.MethodName)) ∈ lw_all := lw_g (lw_at lw_m6 234 rfl) rfl
theorem q1495 : (Jvm.Cond.methodLink "LampSquaresLaw" (117 : Nat) ({ cls := "LampSquaresModel", name := "save", desc := "(II)I" } : Jvm.MethodName)) ∈ lw_all := lw_g (lw_at lw_m6 238 rfl) rfl
theorem q1499 : (Jvm.Cond.methodLink "LampSquaresLaw" (121 : Nat) ({ cls := "LampSquaresModel", name := "shares", desc := "(III)I" } : Jvm.MethodName)) ∈ lw_all := lw_g (lw_at lw_m7 2 rfl) rfl
theorem q1511 : (Jvm.Cond.methodLink "LampSquaresLaw" (125 : Nat) ({ cls := "LampSquaresModel", name := "kinds", desc := "(III)I" } : Jvm.MethodName)) ∈ lw_all := lw_g (lw_at lw_m7 14 rfl) rfl
theorem q1515 : (Jvm.Cond.methodLink "LampSquaresLaw" (129 : Nat) ({ cls := "LampSquaresModel", name := "who", desc := "(II)I" } : Jvm.MethodName)) ∈ lw_all := lw_g (lw_at lw_m7 18 rfl) rfl
theorem q1523 : (Jvm.Cond.methodLink "LampSquaresLaw" (133 : Nat) ({ cls := "LampSquaresModel", name := "cares", desc := "(III)I" } : Jvm.MethodName)) ∈ lw_all := lw_g (lw_at lw_m7 26 rfl) rfl
theorem q1527 : (Jvm.Cond.methodLink "LampSquaresLaw" (138 : Nat) ({ cls := "LampSquaresModel", name := "slip", desc := "(IIII)J" } : Jvm.MethodName)) ∈ lw_all := lw_g (lw_at lw_m7 30 rfl) rfl
theorem q1533 : (Jvm.Cond.methodLink "LampSquaresLaw" (142 : Nat) ({ cls := "LampSquaresModel", name := "drawn", desc := "(III)I" } : Jvm.MethodName)) ∈ lw_all := lw_g (lw_at lw_m7 36 rfl) rfl
theorem q1545 : (Jvm.Cond.methodLink "LampSquaresLaw" (146 : Nat) ({ cls := "LampSquaresModel", name := "image", desc := "(I)I" } : Jvm.MethodName)) ∈ lw_all := lw_g (lw_at lw_m7 48 rfl) rfl
theorem q1549 : (Jvm.Cond.methodLink "LampSquaresLaw" (150 : Nat) ({ cls := "LampSquaresModel", name := "restore", desc := "(I)I" } : Jvm.MethodName)) ∈ lw_all := lw_g (lw_at lw_m7 52 rfl) rfl
theorem q1553 : (Jvm.Cond.methodLink "LampSquaresLaw" (154 : Nat) ({ cls := "LampSquaresModel", name := "kind", desc := "(I)I" } : Jvm.MethodName)) ∈ lw_all := lw_g (lw_at lw_m7 56 rfl) rfl
theorem q1557 : (Jvm.Cond.methodLink "LampSquaresLaw" (158 : Nat) ({ cls := "LampSquaresModel", name := "as", desc := "(II)I" } : Jvm.MethodName)) ∈ lw_all := lw_g (lw_at lw_m7 60 rfl) rfl
theorem q1565 : (Jvm.Cond.methodLink "LampSquaresLaw" (162 : Nat) ({ cls := "LampSquaresModel", name := "ask", desc := "(II)I" } : Jvm.MethodName)) ∈ lw_all := lw_g (lw_at lw_m7 68 rfl) rfl
theorem q1589 : (Jvm.Cond.methodLink "LampSquaresLaw" (166 : Nat) ({ cls := "LampSquaresModel", name := "trace", desc := "(I)I" } : Jvm.MethodName)) ∈ lw_all := lw_g (lw_at lw_m7 92 rfl) rfl
theorem q1593 : (Jvm.Cond.methodLink "LampSquaresLaw" (170 : Nat) ({ cls := "LampSquaresModel", name := "count", desc := "(I)I" } : Jvm.MethodName)) ∈ lw_all := lw_g (lw_at lw_m7 96 rfl) rfl
theorem q1597 : (Jvm.Cond.methodLink "LampSquaresLaw" (174 : Nat) ({ cls := "LampSquaresModel", name := "status", desc := "()I" } : Jvm.MethodName)) ∈ lw_all := lw_g (lw_at lw_m7 100 rfl) rfl
theorem q1638 : (Jvm.Cond.castable "[B" "java/lang/Object") ∈ lw_tbl := lw_at lw_m7 141 rfl
set_option maxRecDepth 100000
theorem q1639 : (Jvm.Cond.castable "[I" "java/lang/Object") ∈ lw_tbl := lw_at lw_m7 142 rfl
set_option maxRecDepth 100000
theorem q1643 : (Jvm.Cond.castable "[J" "java/lang/Object") ∈ lw_tbl := lw_at lw_m7 146 rfl
set_option maxRecDepth 100000
theorem q1640 : (Jvm.Cond.castable "[LLampSquares$Door;" "java/lang/Object") ∈ lw_tbl := lw_at lw_m7 143 rfl
set_option maxRecDepth 100000
theorem q1637 : (Jvm.Cond.castable "[LLampSquares$Row;" "java/lang/Object") ∈ lw_tbl := lw_at lw_m7 140 rfl
set_option maxRecDepth 100000
theorem q1641 : (Jvm.Cond.castable "[LLampSquares$Square;" "java/lang/Object") ∈ lw_tbl := lw_at lw_m7 144 rfl
set_option maxRecDepth 100000
theorem q1634 : (Jvm.Cond.sameMethod "[Ljava/lang/Object;" "java/lang/Object" "getClass" "()Ljava/lang/Class;") ∈ lw_all := lw_g (lw_at lw_m7 137 rfl) rfl
set_option maxRecDepth 100000
theorem q1635 : (Jvm.Cond.selects "[Ljava/lang/Object;" ({ cls := "java/lang/Object", name := "getClass", desc := "()Ljava/lang/Class;" } : Jvm.MethodName) ({ cls := "java/lang/Object", name := "getClass", desc := "()Ljava/lang/Class;" } : Jvm.MethodName)) ∈ lw_all := lw_g (lw_at lw_m7 138 rfl) rfl
theorem q1642 : (Jvm.Cond.castable "[Ljava/lang/Object;" "java/lang/Object") ∈ lw_tbl := lw_at lw_m7 145 rfl
theorem q1644 : (Jvm.Cond.castable "[Z" "java/lang/Object") ∈ lw_tbl := lw_at lw_m7 147 rfl
set_option maxRecDepth 100000
theorem q79 : (Jvm.Cond.initialized "java/lang/System") ∈ lw_all := lw_g (lw_at lw_m1 22 rfl) rfl
set_option maxRecDepth 100000
theorem q449 : (Jvm.Cond.static ({ cls := "java/lang/System", name := "arraycopy", desc := "(Ljava/lang/Object;ILjava/lang/Object;II)V" } : Jvm.MethodName)) ∈ lw_all := lw_g (lw_at lw_m2 152 rfl) rfl
theorem q450 : (Jvm.Cond.native ({ cls := "java/lang/System", name := "arraycopy", desc := "(Ljava/lang/Object;ILjava/lang/Object;II)V" } : Jvm.MethodName)) ∈ lw_all := lw_g (lw_at lw_m2 153 rfl) rfl
theorem q624 : (Jvm.Cond.interfaceMethod "java/util/List" "java/util/List" "size" "()I") ∈ lw_tbl := lw_at lw_m3 87 rfl
set_option maxRecDepth 100000
theorem q625 : (Jvm.Cond.declares ({ cls := "java/util/List", name := "size", desc := "()I" } : Jvm.MethodName)) ∈ lw_tbl := lw_at lw_m3 88 rfl
theorem q641 : (Jvm.Cond.interfaceMethod "java/util/List" "java/util/List" "add" "(Ljava/lang/Object;)Z") ∈ lw_tbl := lw_at lw_m3 104 rfl
theorem q642 : (Jvm.Cond.declares ({ cls := "java/util/List", name := "add", desc := "(Ljava/lang/Object;)Z" } : Jvm.MethodName)) ∈ lw_tbl := lw_at lw_m3 105 rfl
theorem q760 : (Jvm.Cond.interfaceMethod "java/util/List" "java/util/List" "get" "(I)Ljava/lang/Object;") ∈ lw_tbl := lw_at lw_m3 223 rfl
theorem q761 : (Jvm.Cond.declares ({ cls := "java/util/List", name := "get", desc := "(I)Ljava/lang/Object;" } : Jvm.MethodName)) ∈ lw_tbl := lw_at lw_m3 224 rfl
theorem q100 : (Jvm.Cond.arrayOver (Jvm.ClassFile.FieldType.object "LampSquares$Row")) ∈ lw_tbl := lw_at lw_m1 43 rfl
set_option maxRecDepth 100000
theorem q133 : (Jvm.Cond.arrayClass Jvm.ClassFile.FieldType.byte) ∈ lw_all := lw_g (lw_at lw_m1 76 rfl) rfl
theorem q192 : (Jvm.Cond.arrayClass Jvm.ClassFile.FieldType.int) ∈ lw_all := lw_g (lw_at lw_m1 135 rfl) rfl
theorem q193 : (Jvm.Cond.arrayOver (Jvm.ClassFile.FieldType.object "LampSquares$Door")) ∈ lw_tbl := lw_at lw_m1 136 rfl
theorem q210 : (Jvm.Cond.arrayOver (Jvm.ClassFile.FieldType.object "LampSquares$Square")) ∈ lw_tbl := lw_at lw_m1 153 rfl
theorem q697 : (Jvm.Cond.arrayOver (Jvm.ClassFile.FieldType.object "java/lang/Object")) ∈ lw_tbl := lw_at lw_m3 160 rfl
theorem q1252 : (Jvm.Cond.arrayClass Jvm.ClassFile.FieldType.long) ∈ lw_all := lw_g (lw_at lw_m5 235 rfl) rfl
theorem q1253 : (Jvm.Cond.arrayClass Jvm.ClassFile.FieldType.boolean) ∈ lw_all := lw_g (lw_at lw_m5 236 rfl) rfl
