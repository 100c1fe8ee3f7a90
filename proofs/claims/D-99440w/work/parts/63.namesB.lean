/-! java/util/AbstractCollection -/
set_option maxRecDepth 100000
def RJ0 : String := "java/util/AbstractCollection"
abbrev cJ0_init : ByteArray := prog_47_method_1_code
def yJ0_init : MethodName := ⟨RJ0, "<init>", "()V"⟩
theorem dJ0_init_0 : decode cJ0_init 0 = .ok (.aload_n 0, 1) := by decide +kernel
theorem dJ0_init_1 : decode cJ0_init 1 = .ok (.invokespecial 1, 3) := by decide +kernel
theorem dJ0_init_4 : decode cJ0_init 4 = .ok (.return_, 1) := by decide +kernel
theorem q117 : (Jvm.Cond.initialized "java/util/AbstractCollection") ∈ lw_all := lw_g (lw_at lw_m1 5 rfl) rfl
theorem q346 : (Jvm.Cond.instanceMethod ({ cls := "java/util/AbstractCollection", name := "<init>", desc := "()V" } : Jvm.MethodName)) ∈ lw_all := lw_g (lw_at lw_m1 234 rfl) rfl
theorem q347 : (Jvm.Cond.code ({ cls := "java/util/AbstractCollection", name := "<init>", desc := "()V" } : Jvm.MethodName) prog_47_method_1_code (1 : Nat) (Option.none : Option Jvm.ClassFile.FieldType)) ∈ lw_all := lw_g (lw_at lw_m1 235 rfl) rfl
theorem q348 : (Jvm.Cond.methodLink "java/util/AbstractCollection" (1 : Nat) ({ cls := "java/lang/Object", name := "<init>", desc := "()V" } : Jvm.MethodName)) ∈ lw_all := lw_g (lw_at lw_m1 236 rfl) rfl

/-! java/util/AbstractList -/
set_option maxRecDepth 100000
def RJ1 : String := "java/util/AbstractList"
abbrev cJ1_init : ByteArray := prog_48_method_1_code
def yJ1_init : MethodName := ⟨RJ1, "<init>", "()V"⟩
def dkwJ1_init_0 : List UInt8 := [42, 183, 0, 1, 42, 3, 181, 0, 7, 177]
abbrev dktJ1_init_0 : List UInt8 := dkwJ1_init_0 ++ []
theorem dksJ1_init_0 : cJ1_init.data.toList.drop 0 = dktJ1_init_0 := by decide +kernel
theorem dJ1_init_0 : decode cJ1_init 0 = .ok (.aload_n 0, 1) := dk_42 (dk_at dksJ1_init_0 0 rfl rfl)
theorem dJ1_init_1 : decode cJ1_init 1 = .ok (.invokespecial 1, 3) := dk_183 0 1 (dk_at dksJ1_init_0 1 rfl rfl)
theorem dJ1_init_4 : decode cJ1_init 4 = .ok (.aload_n 0, 1) := dk_42 (dk_at dksJ1_init_0 4 rfl rfl)
theorem dJ1_init_5 : decode cJ1_init 5 = .ok (.iconst 0, 1) := dk_3 (dk_at dksJ1_init_0 5 rfl rfl)
theorem dJ1_init_6 : decode cJ1_init 6 = .ok (.putfield 7, 3) := dk_181 0 7 (dk_at dksJ1_init_0 6 rfl rfl)
theorem dJ1_init_9 : decode cJ1_init 9 = .ok (.return_, 1) := dk_177 (dk_at dksJ1_init_0 9 rfl rfl)
theorem q118 : (Jvm.Cond.initialized "java/util/AbstractList") ∈ lw_all := lw_g (lw_at lw_m1 6 rfl) rfl
theorem q343 : (Jvm.Cond.instanceMethod ({ cls := "java/util/AbstractList", name := "<init>", desc := "()V" } : Jvm.MethodName)) ∈ lw_all := lw_g (lw_at lw_m1 231 rfl) rfl
theorem q344 : (Jvm.Cond.code ({ cls := "java/util/AbstractList", name := "<init>", desc := "()V" } : Jvm.MethodName) prog_48_method_1_code (1 : Nat) (Option.none : Option Jvm.ClassFile.FieldType)) ∈ lw_all := lw_g (lw_at lw_m1 232 rfl) rfl
theorem q345 : (Jvm.Cond.methodLink "java/util/AbstractList" (1 : Nat) ({ cls := "java/util/AbstractCollection", name := "<init>", desc := "()V" } : Jvm.MethodName)) ∈ lw_all := lw_g (lw_at lw_m1 233 rfl) rfl
theorem q353 : (Jvm.Cond.fieldLink "java/util/AbstractList" (7 : Nat) "java/util/AbstractList" "modCount" "I") ∈ lw_all := lw_g (lw_at lw_m2 1 rfl) rfl
theorem q361 : (Jvm.Cond.soleField "java/util/AbstractList" "modCount") ∈ lw_all := lw_g (lw_at lw_m2 9 rfl) rfl

/-! java/lang/StringLatin1 -/
set_option maxRecDepth 100000
def RJ10 : String := "java/lang/StringLatin1"
abbrev cJ10_canEncode : ByteArray := prog_39_method_3_code
def yJ10_canEncode : MethodName := ⟨RJ10, "canEncode", "(C)Z"⟩
def dkwJ10_canEncode_0 : List UInt8 := [26, 17, 0, 255, 163, 0, 7, 4, 167, 0, 4, 3, 172]
abbrev dktJ10_canEncode_0 : List UInt8 := dkwJ10_canEncode_0 ++ []
theorem dksJ10_canEncode_0 : cJ10_canEncode.data.toList.drop 0 = dktJ10_canEncode_0 := by decide +kernel
theorem dJ10_canEncode_0 : decode cJ10_canEncode 0 = .ok (.iload_n 0, 1) := dk_26 (dk_at dksJ10_canEncode_0 0 rfl rfl)
theorem dJ10_canEncode_1 : decode cJ10_canEncode 1 = .ok (.sipush 255, 3) := dk_17 0 255 (dk_at dksJ10_canEncode_0 1 rfl rfl)
theorem dJ10_canEncode_4 : decode cJ10_canEncode 4 = .ok (.if_icmp .gt 7, 3) := dk_163 0 7 (dk_at dksJ10_canEncode_0 4 rfl rfl)
theorem dJ10_canEncode_7 : decode cJ10_canEncode 7 = .ok (.iconst 1, 1) := dk_4 (dk_at dksJ10_canEncode_0 7 rfl rfl)
theorem dJ10_canEncode_8 : decode cJ10_canEncode 8 = .ok (.goto 4, 3) := dk_167 0 4 (dk_at dksJ10_canEncode_0 8 rfl rfl)
theorem dJ10_canEncode_11 : decode cJ10_canEncode 11 = .ok (.iconst 0, 1) := dk_3 (dk_at dksJ10_canEncode_0 11 rfl rfl)
theorem dJ10_canEncode_12 : decode cJ10_canEncode 12 = .ok (.ireturn, 1) := dk_172 (dk_at dksJ10_canEncode_0 12 rfl rfl)
abbrev cJ10_inflate : ByteArray := prog_39_method_50_code
def yJ10_inflate : MethodName := ⟨RJ10, "inflate", "([BI[BII)V"⟩
def dkwJ10_inflate_0 : List UInt8 := [42, 27, 44, 29, 21, 4, 184, 0, 240, 177]
abbrev dktJ10_inflate_0 : List UInt8 := dkwJ10_inflate_0 ++ []
theorem dksJ10_inflate_0 : cJ10_inflate.data.toList.drop 0 = dktJ10_inflate_0 := by decide +kernel
theorem dJ10_inflate_0 : decode cJ10_inflate 0 = .ok (.aload_n 0, 1) := dk_42 (dk_at dksJ10_inflate_0 0 rfl rfl)
theorem dJ10_inflate_1 : decode cJ10_inflate 1 = .ok (.iload_n 1, 1) := dk_27 (dk_at dksJ10_inflate_0 1 rfl rfl)
theorem dJ10_inflate_2 : decode cJ10_inflate 2 = .ok (.aload_n 2, 1) := dk_44 (dk_at dksJ10_inflate_0 2 rfl rfl)
theorem dJ10_inflate_3 : decode cJ10_inflate 3 = .ok (.iload_n 3, 1) := dk_29 (dk_at dksJ10_inflate_0 3 rfl rfl)
theorem dJ10_inflate_4 : decode cJ10_inflate 4 = .ok (.iload 4, 2) := dk_21 4 (dk_at dksJ10_inflate_0 4 rfl rfl)
theorem dJ10_inflate_6 : decode cJ10_inflate 6 = .ok (.invokestatic 240, 3) := dk_184 0 240 (dk_at dksJ10_inflate_0 6 rfl rfl)
theorem dJ10_inflate_9 : decode cJ10_inflate 9 = .ok (.return_, 1) := dk_177 (dk_at dksJ10_inflate_0 9 rfl rfl)
abbrev cJ10_hashCode : ByteArray := prog_39_method_21_code
def yJ10_hashCode : MethodName := ⟨RJ10, "hashCode", "([B)I"⟩
def dkwJ10_hashCode_2 : List UInt8 := [3, 167, 0, 22, 42, 3, 51, 17, 0, 255, 126, 167, 0, 12, 42, 3, 42, 190, 3, 7, 184, 0, 84, 172]
abbrev dktJ10_hashCode_2 : List UInt8 := dkwJ10_hashCode_2 ++ []
def dkwJ10_hashCode_1 : List UInt8 := [171, 0, 0, 0, 0, 40, 0, 0, 0, 2, 0, 0, 0, 0, 0, 0, 0, 26, 0, 0, 0, 1, 0, 0, 0, 30]
abbrev dktJ10_hashCode_1 : List UInt8 := dkwJ10_hashCode_1 ++ dktJ10_hashCode_2
def dkwJ10_hashCode_0 : List UInt8 := [42, 190]
abbrev dktJ10_hashCode_0 : List UInt8 := dkwJ10_hashCode_0 ++ dktJ10_hashCode_1
theorem dksJ10_hashCode_0 : cJ10_hashCode.data.toList.drop 0 = dktJ10_hashCode_0 := by decide +kernel
theorem dksJ10_hashCode_1 : cJ10_hashCode.data.toList.drop 2 = dktJ10_hashCode_1 := dk_seg dksJ10_hashCode_0 2 rfl rfl
theorem dksJ10_hashCode_2 : cJ10_hashCode.data.toList.drop 28 = dktJ10_hashCode_2 := dk_seg dksJ10_hashCode_1 26 rfl rfl
theorem dJ10_hashCode_0 : decode cJ10_hashCode 0 = .ok (.aload_n 0, 1) := dk_42 (dk_at dksJ10_hashCode_0 0 rfl rfl)
theorem dJ10_hashCode_1 : decode cJ10_hashCode 1 = .ok (.arraylength, 1) := dk_190 (dk_at dksJ10_hashCode_0 1 rfl rfl)
theorem dJ10_hashCode_2 : decode cJ10_hashCode 2 = .ok (.lookupswitch 40 #[(0, 26), (1, 30)], 26) := by decide +kernel
theorem dJ10_hashCode_28 : decode cJ10_hashCode 28 = .ok (.iconst 0, 1) := dk_3 (dk_at dksJ10_hashCode_2 0 rfl rfl)
theorem dJ10_hashCode_29 : decode cJ10_hashCode 29 = .ok (.goto 22, 3) := dk_167 0 22 (dk_at dksJ10_hashCode_2 1 rfl rfl)
theorem dJ10_hashCode_32 : decode cJ10_hashCode 32 = .ok (.aload_n 0, 1) := dk_42 (dk_at dksJ10_hashCode_2 4 rfl rfl)
theorem dJ10_hashCode_33 : decode cJ10_hashCode 33 = .ok (.iconst 0, 1) := dk_3 (dk_at dksJ10_hashCode_2 5 rfl rfl)
theorem dJ10_hashCode_34 : decode cJ10_hashCode 34 = .ok (.baload, 1) := dk_51 (dk_at dksJ10_hashCode_2 6 rfl rfl)
theorem dJ10_hashCode_35 : decode cJ10_hashCode 35 = .ok (.sipush 255, 3) := dk_17 0 255 (dk_at dksJ10_hashCode_2 7 rfl rfl)
theorem dJ10_hashCode_38 : decode cJ10_hashCode 38 = .ok (.iand, 1) := dk_126 (dk_at dksJ10_hashCode_2 10 rfl rfl)
theorem dJ10_hashCode_39 : decode cJ10_hashCode 39 = .ok (.goto 12, 3) := dk_167 0 12 (dk_at dksJ10_hashCode_2 11 rfl rfl)
theorem dJ10_hashCode_42 : decode cJ10_hashCode 42 = .ok (.aload_n 0, 1) := dk_42 (dk_at dksJ10_hashCode_2 14 rfl rfl)
theorem dJ10_hashCode_43 : decode cJ10_hashCode 43 = .ok (.iconst 0, 1) := dk_3 (dk_at dksJ10_hashCode_2 15 rfl rfl)
theorem dJ10_hashCode_44 : decode cJ10_hashCode 44 = .ok (.aload_n 0, 1) := dk_42 (dk_at dksJ10_hashCode_2 16 rfl rfl)
theorem dJ10_hashCode_45 : decode cJ10_hashCode 45 = .ok (.arraylength, 1) := dk_190 (dk_at dksJ10_hashCode_2 17 rfl rfl)
theorem dJ10_hashCode_46 : decode cJ10_hashCode 46 = .ok (.iconst 0, 1) := dk_3 (dk_at dksJ10_hashCode_2 18 rfl rfl)
theorem dJ10_hashCode_47 : decode cJ10_hashCode 47 = .ok (.iconst 4, 1) := dk_7 (dk_at dksJ10_hashCode_2 19 rfl rfl)
theorem dJ10_hashCode_48 : decode cJ10_hashCode 48 = .ok (.invokestatic 84, 3) := dk_184 0 84 (dk_at dksJ10_hashCode_2 20 rfl rfl)
theorem dJ10_hashCode_51 : decode cJ10_hashCode 51 = .ok (.ireturn, 1) := dk_172 (dk_at dksJ10_hashCode_2 23 rfl rfl)
abbrev cJ10_equals : ByteArray := prog_39_method_13_code
def yJ10_equals : MethodName := ⟨RJ10, "equals", "([B[B)Z"⟩
def dkwJ10_equals_1 : List UInt8 := [3, 172, 132, 2, 1, 167, 255, 236, 4, 172, 3, 172]
abbrev dktJ10_equals_1 : List UInt8 := dkwJ10_equals_1 ++ []
def dkwJ10_equals_0 : List UInt8 := [42, 190, 43, 190, 160, 0, 30, 3, 61, 28, 42, 190, 162, 0, 20, 42, 28, 51, 43, 28, 51, 159, 0, 5]
abbrev dktJ10_equals_0 : List UInt8 := dkwJ10_equals_0 ++ dktJ10_equals_1
theorem dksJ10_equals_0 : cJ10_equals.data.toList.drop 0 = dktJ10_equals_0 := by decide +kernel
theorem dksJ10_equals_1 : cJ10_equals.data.toList.drop 24 = dktJ10_equals_1 := dk_seg dksJ10_equals_0 24 rfl rfl
theorem dJ10_equals_0 : decode cJ10_equals 0 = .ok (.aload_n 0, 1) := dk_42 (dk_at dksJ10_equals_0 0 rfl rfl)
theorem dJ10_equals_1 : decode cJ10_equals 1 = .ok (.arraylength, 1) := dk_190 (dk_at dksJ10_equals_0 1 rfl rfl)
theorem dJ10_equals_2 : decode cJ10_equals 2 = .ok (.aload_n 1, 1) := dk_43 (dk_at dksJ10_equals_0 2 rfl rfl)
theorem dJ10_equals_3 : decode cJ10_equals 3 = .ok (.arraylength, 1) := dk_190 (dk_at dksJ10_equals_0 3 rfl rfl)
theorem dJ10_equals_4 : decode cJ10_equals 4 = .ok (.if_icmp .ne 30, 3) := dk_160 0 30 (dk_at dksJ10_equals_0 4 rfl rfl)
theorem dJ10_equals_7 : decode cJ10_equals 7 = .ok (.iconst 0, 1) := dk_3 (dk_at dksJ10_equals_0 7 rfl rfl)
theorem dJ10_equals_8 : decode cJ10_equals 8 = .ok (.istore_n 2, 1) := dk_61 (dk_at dksJ10_equals_0 8 rfl rfl)
theorem dJ10_equals_9 : decode cJ10_equals 9 = .ok (.iload_n 2, 1) := dk_28 (dk_at dksJ10_equals_0 9 rfl rfl)
theorem dJ10_equals_10 : decode cJ10_equals 10 = .ok (.aload_n 0, 1) := dk_42 (dk_at dksJ10_equals_0 10 rfl rfl)
theorem dJ10_equals_11 : decode cJ10_equals 11 = .ok (.arraylength, 1) := dk_190 (dk_at dksJ10_equals_0 11 rfl rfl)
theorem dJ10_equals_12 : decode cJ10_equals 12 = .ok (.if_icmp .ge 20, 3) := dk_162 0 20 (dk_at dksJ10_equals_0 12 rfl rfl)
theorem dJ10_equals_15 : decode cJ10_equals 15 = .ok (.aload_n 0, 1) := dk_42 (dk_at dksJ10_equals_0 15 rfl rfl)
theorem dJ10_equals_16 : decode cJ10_equals 16 = .ok (.iload_n 2, 1) := dk_28 (dk_at dksJ10_equals_0 16 rfl rfl)
theorem dJ10_equals_17 : decode cJ10_equals 17 = .ok (.baload, 1) := dk_51 (dk_at dksJ10_equals_0 17 rfl rfl)
theorem dJ10_equals_18 : decode cJ10_equals 18 = .ok (.aload_n 1, 1) := dk_43 (dk_at dksJ10_equals_0 18 rfl rfl)
theorem dJ10_equals_19 : decode cJ10_equals 19 = .ok (.iload_n 2, 1) := dk_28 (dk_at dksJ10_equals_0 19 rfl rfl)
theorem dJ10_equals_20 : decode cJ10_equals 20 = .ok (.baload, 1) := dk_51 (dk_at dksJ10_equals_0 20 rfl rfl)
theorem dJ10_equals_21 : decode cJ10_equals 21 = .ok (.if_icmp .eq 5, 3) := dk_159 0 5 (dk_at dksJ10_equals_0 21 rfl rfl)
theorem dJ10_equals_24 : decode cJ10_equals 24 = .ok (.iconst 0, 1) := dk_3 (dk_at dksJ10_equals_1 0 rfl rfl)
theorem dJ10_equals_25 : decode cJ10_equals 25 = .ok (.ireturn, 1) := dk_172 (dk_at dksJ10_equals_1 1 rfl rfl)
theorem dJ10_equals_26 : decode cJ10_equals 26 = .ok (.iinc 2 1, 3) := dk_132 2 1 (dk_at dksJ10_equals_1 2 rfl rfl)
theorem dJ10_equals_29 : decode cJ10_equals 29 = .ok (.goto (-20), 3) := dk_167 255 236 (dk_at dksJ10_equals_1 5 rfl rfl)
theorem dJ10_equals_32 : decode cJ10_equals 32 = .ok (.iconst 1, 1) := dk_4 (dk_at dksJ10_equals_1 8 rfl rfl)
theorem dJ10_equals_33 : decode cJ10_equals 33 = .ok (.ireturn, 1) := dk_172 (dk_at dksJ10_equals_1 9 rfl rfl)
theorem dJ10_equals_34 : decode cJ10_equals 34 = .ok (.iconst 0, 1) := dk_3 (dk_at dksJ10_equals_1 10 rfl rfl)
theorem dJ10_equals_35 : decode cJ10_equals 35 = .ok (.ireturn, 1) := dk_172 (dk_at dksJ10_equals_1 11 rfl rfl)
abbrev cJ10_charAt : ByteArray := prog_39_method_2_code
def yJ10_charAt : MethodName := ⟨RJ10, "charAt", "([BI)C"⟩
def dkwJ10_charAt_0 : List UInt8 := [27, 42, 190, 184, 0, 9, 42, 27, 51, 17, 0, 255, 126, 146, 172]
abbrev dktJ10_charAt_0 : List UInt8 := dkwJ10_charAt_0 ++ []
theorem dksJ10_charAt_0 : cJ10_charAt.data.toList.drop 0 = dktJ10_charAt_0 := by decide +kernel
theorem dJ10_charAt_0 : decode cJ10_charAt 0 = .ok (.iload_n 1, 1) := dk_27 (dk_at dksJ10_charAt_0 0 rfl rfl)
theorem dJ10_charAt_1 : decode cJ10_charAt 1 = .ok (.aload_n 0, 1) := dk_42 (dk_at dksJ10_charAt_0 1 rfl rfl)
theorem dJ10_charAt_2 : decode cJ10_charAt 2 = .ok (.arraylength, 1) := dk_190 (dk_at dksJ10_charAt_0 2 rfl rfl)
theorem dJ10_charAt_3 : decode cJ10_charAt 3 = .ok (.invokestatic 9, 3) := dk_184 0 9 (dk_at dksJ10_charAt_0 3 rfl rfl)
theorem dJ10_charAt_6 : decode cJ10_charAt 6 = .ok (.aload_n 0, 1) := dk_42 (dk_at dksJ10_charAt_0 6 rfl rfl)
theorem dJ10_charAt_7 : decode cJ10_charAt 7 = .ok (.iload_n 1, 1) := dk_27 (dk_at dksJ10_charAt_0 7 rfl rfl)
theorem dJ10_charAt_8 : decode cJ10_charAt 8 = .ok (.baload, 1) := dk_51 (dk_at dksJ10_charAt_0 8 rfl rfl)
theorem dJ10_charAt_9 : decode cJ10_charAt 9 = .ok (.sipush 255, 3) := dk_17 0 255 (dk_at dksJ10_charAt_0 9 rfl rfl)
theorem dJ10_charAt_12 : decode cJ10_charAt 12 = .ok (.iand, 1) := dk_126 (dk_at dksJ10_charAt_0 12 rfl rfl)
theorem dJ10_charAt_13 : decode cJ10_charAt 13 = .ok (.i2c, 1) := dk_146 (dk_at dksJ10_charAt_0 13 rfl rfl)
theorem dJ10_charAt_14 : decode cJ10_charAt 14 = .ok (.ireturn, 1) := dk_172 (dk_at dksJ10_charAt_0 14 rfl rfl)
theorem q130 : (Jvm.Cond.initialized "java/lang/StringLatin1") ∈ lw_all := lw_g (lw_at lw_m1 18 rfl) rfl
theorem q830 : (Jvm.Cond.static ({ cls := "java/lang/StringLatin1", name := "canEncode", desc := "(C)Z" } : Jvm.MethodName)) ∈ lw_all := lw_g (lw_at lw_m3 238 rfl) rfl
theorem q831 : (Jvm.Cond.code ({ cls := "java/lang/StringLatin1", name := "canEncode", desc := "(C)Z" } : Jvm.MethodName) prog_39_method_3_code (1 : Nat) (Option.some Jvm.ClassFile.FieldType.boolean)) ∈ lw_all := lw_g (lw_at lw_m3 239 rfl) rfl
theorem q837 : (Jvm.Cond.static ({ cls := "java/lang/StringLatin1", name := "inflate", desc := "([BI[BII)V" } : Jvm.MethodName)) ∈ lw_all := lw_g (lw_at lw_m4 5 rfl) rfl
theorem q838 : (Jvm.Cond.code ({ cls := "java/lang/StringLatin1", name := "inflate", desc := "([BI[BII)V" } : Jvm.MethodName) prog_39_method_50_code (5 : Nat) (Option.none : Option Jvm.ClassFile.FieldType)) ∈ lw_all := lw_g (lw_at lw_m4 6 rfl) rfl
theorem q839 : (Jvm.Cond.methodLink "java/lang/StringLatin1" (240 : Nat) ({ cls := "java/lang/StringUTF16", name := "inflate", desc := "([BI[BII)V" } : Jvm.MethodName)) ∈ lw_all := lw_g (lw_at lw_m4 7 rfl) rfl
theorem q1120 : (Jvm.Cond.static ({ cls := "java/lang/StringLatin1", name := "hashCode", desc := "([B)I" } : Jvm.MethodName)) ∈ lw_all := lw_g (lw_at lw_m5 48 rfl) rfl
theorem q1121 : (Jvm.Cond.code ({ cls := "java/lang/StringLatin1", name := "hashCode", desc := "([B)I" } : Jvm.MethodName) prog_39_method_21_code (1 : Nat) (Option.some Jvm.ClassFile.FieldType.int)) ∈ lw_all := lw_g (lw_at lw_m5 49 rfl) rfl
theorem q1122 : (Jvm.Cond.methodLink "java/lang/StringLatin1" (84 : Nat) ({ cls := "jdk/internal/util/ArraysSupport", name := "vectorizedHashCode", desc := "(Ljava/lang/Object;IIII)I" } : Jvm.MethodName)) ∈ lw_all := lw_g (lw_at lw_m5 50 rfl) rfl
theorem q1179 : (Jvm.Cond.static ({ cls := "java/lang/StringLatin1", name := "equals", desc := "([B[B)Z" } : Jvm.MethodName)) ∈ lw_all := lw_g (lw_at lw_m5 107 rfl) rfl
theorem q1180 : (Jvm.Cond.code ({ cls := "java/lang/StringLatin1", name := "equals", desc := "([B[B)Z" } : Jvm.MethodName) prog_39_method_13_code (3 : Nat) (Option.some Jvm.ClassFile.FieldType.boolean)) ∈ lw_all := lw_g (lw_at lw_m5 108 rfl) rfl
theorem q2082 : (Jvm.Cond.static ({ cls := "java/lang/StringLatin1", name := "charAt", desc := "([BI)C" } : Jvm.MethodName)) ∈ lw_all := lw_g (lw_at lw_m9 50 rfl) rfl
theorem q2083 : (Jvm.Cond.code ({ cls := "java/lang/StringLatin1", name := "charAt", desc := "([BI)C" } : Jvm.MethodName) prog_39_method_2_code (2 : Nat) (Option.some Jvm.ClassFile.FieldType.char)) ∈ lw_all := lw_g (lw_at lw_m9 51 rfl) rfl
theorem q2084 : (Jvm.Cond.methodLink "java/lang/StringLatin1" (9 : Nat) ({ cls := "java/lang/String", name := "checkIndex", desc := "(II)V" } : Jvm.MethodName)) ∈ lw_all := lw_g (lw_at lw_m9 52 rfl) rfl

/-! jdk/internal/util/Preconditions -/
set_option maxRecDepth 100000
def RJ11 : String := "jdk/internal/util/Preconditions"
abbrev cJ11_checkIndex : ByteArray := prog_59_method_11_code
def yJ11_checkIndex : MethodName := ⟨RJ11, "checkIndex", "(IILjava/util/function/BiFunction;)I"⟩
def dkwJ11_checkIndex_0 : List UInt8 := [26, 155, 0, 8, 26, 27, 161, 0, 10, 44, 26, 27, 184, 0, 95, 191, 26, 172]
abbrev dktJ11_checkIndex_0 : List UInt8 := dkwJ11_checkIndex_0 ++ []
theorem dksJ11_checkIndex_0 : cJ11_checkIndex.data.toList.drop 0 = dktJ11_checkIndex_0 := by decide +kernel
theorem dJ11_checkIndex_0 : decode cJ11_checkIndex 0 = .ok (.iload_n 0, 1) := dk_26 (dk_at dksJ11_checkIndex_0 0 rfl rfl)
theorem dJ11_checkIndex_1 : decode cJ11_checkIndex 1 = .ok (.ifCond .lt 8, 3) := dk_155 0 8 (dk_at dksJ11_checkIndex_0 1 rfl rfl)
theorem dJ11_checkIndex_4 : decode cJ11_checkIndex 4 = .ok (.iload_n 0, 1) := dk_26 (dk_at dksJ11_checkIndex_0 4 rfl rfl)
theorem dJ11_checkIndex_5 : decode cJ11_checkIndex 5 = .ok (.iload_n 1, 1) := dk_27 (dk_at dksJ11_checkIndex_0 5 rfl rfl)
theorem dJ11_checkIndex_6 : decode cJ11_checkIndex 6 = .ok (.if_icmp .lt 10, 3) := dk_161 0 10 (dk_at dksJ11_checkIndex_0 6 rfl rfl)
theorem dJ11_checkIndex_9 : decode cJ11_checkIndex 9 = .ok (.aload_n 2, 1) := dk_44 (dk_at dksJ11_checkIndex_0 9 rfl rfl)
theorem dJ11_checkIndex_10 : decode cJ11_checkIndex 10 = .ok (.iload_n 0, 1) := dk_26 (dk_at dksJ11_checkIndex_0 10 rfl rfl)
theorem dJ11_checkIndex_11 : decode cJ11_checkIndex 11 = .ok (.iload_n 1, 1) := dk_27 (dk_at dksJ11_checkIndex_0 11 rfl rfl)
theorem dJ11_checkIndex_12 : decode cJ11_checkIndex 12 = .ok (.invokestatic 95, 3) := dk_184 0 95 (dk_at dksJ11_checkIndex_0 12 rfl rfl)
theorem dJ11_checkIndex_15 : decode cJ11_checkIndex 15 = .ok (.athrow, 1) := dk_191 (dk_at dksJ11_checkIndex_0 15 rfl rfl)
theorem dJ11_checkIndex_16 : decode cJ11_checkIndex 16 = .ok (.iload_n 0, 1) := dk_26 (dk_at dksJ11_checkIndex_0 16 rfl rfl)
theorem dJ11_checkIndex_17 : decode cJ11_checkIndex 17 = .ok (.ireturn, 1) := dk_172 (dk_at dksJ11_checkIndex_0 17 rfl rfl)
abbrev cJ11_checkFromIndexSize : ByteArray := prog_59_method_13_code
def yJ11_checkFromIndexSize : MethodName := ⟨RJ11, "checkFromIndexSize", "(IIILjava/util/function/BiFunction;)I"⟩
def dkwJ11_checkFromIndexSize_1 : List UInt8 := [172]
abbrev dktJ11_checkFromIndexSize_1 : List UInt8 := dkwJ11_checkFromIndexSize_1 ++ []
def dkwJ11_checkFromIndexSize_0 : List UInt8 := [28, 26, 128, 27, 128, 155, 0, 10, 27, 28, 26, 100, 164, 0, 11, 45, 26, 27, 28, 184, 0, 103, 191, 26]
abbrev dktJ11_checkFromIndexSize_0 : List UInt8 := dkwJ11_checkFromIndexSize_0 ++ dktJ11_checkFromIndexSize_1
theorem dksJ11_checkFromIndexSize_0 : cJ11_checkFromIndexSize.data.toList.drop 0 = dktJ11_checkFromIndexSize_0 := by decide +kernel
theorem dksJ11_checkFromIndexSize_1 : cJ11_checkFromIndexSize.data.toList.drop 24 = dktJ11_checkFromIndexSize_1 := dk_seg dksJ11_checkFromIndexSize_0 24 rfl rfl
theorem dJ11_checkFromIndexSize_0 : decode cJ11_checkFromIndexSize 0 = .ok (.iload_n 2, 1) := dk_28 (dk_at dksJ11_checkFromIndexSize_0 0 rfl rfl)
theorem dJ11_checkFromIndexSize_1 : decode cJ11_checkFromIndexSize 1 = .ok (.iload_n 0, 1) := dk_26 (dk_at dksJ11_checkFromIndexSize_0 1 rfl rfl)
theorem dJ11_checkFromIndexSize_2 : decode cJ11_checkFromIndexSize 2 = .ok (.ior, 1) := dk_128 (dk_at dksJ11_checkFromIndexSize_0 2 rfl rfl)
theorem dJ11_checkFromIndexSize_3 : decode cJ11_checkFromIndexSize 3 = .ok (.iload_n 1, 1) := dk_27 (dk_at dksJ11_checkFromIndexSize_0 3 rfl rfl)
theorem dJ11_checkFromIndexSize_4 : decode cJ11_checkFromIndexSize 4 = .ok (.ior, 1) := dk_128 (dk_at dksJ11_checkFromIndexSize_0 4 rfl rfl)
theorem dJ11_checkFromIndexSize_5 : decode cJ11_checkFromIndexSize 5 = .ok (.ifCond .lt 10, 3) := dk_155 0 10 (dk_at dksJ11_checkFromIndexSize_0 5 rfl rfl)
theorem dJ11_checkFromIndexSize_8 : decode cJ11_checkFromIndexSize 8 = .ok (.iload_n 1, 1) := dk_27 (dk_at dksJ11_checkFromIndexSize_0 8 rfl rfl)
theorem dJ11_checkFromIndexSize_9 : decode cJ11_checkFromIndexSize 9 = .ok (.iload_n 2, 1) := dk_28 (dk_at dksJ11_checkFromIndexSize_0 9 rfl rfl)
theorem dJ11_checkFromIndexSize_10 : decode cJ11_checkFromIndexSize 10 = .ok (.iload_n 0, 1) := dk_26 (dk_at dksJ11_checkFromIndexSize_0 10 rfl rfl)
theorem dJ11_checkFromIndexSize_11 : decode cJ11_checkFromIndexSize 11 = .ok (.isub, 1) := dk_100 (dk_at dksJ11_checkFromIndexSize_0 11 rfl rfl)
theorem dJ11_checkFromIndexSize_12 : decode cJ11_checkFromIndexSize 12 = .ok (.if_icmp .le 11, 3) := dk_164 0 11 (dk_at dksJ11_checkFromIndexSize_0 12 rfl rfl)
theorem dJ11_checkFromIndexSize_15 : decode cJ11_checkFromIndexSize 15 = .ok (.aload_n 3, 1) := dk_45 (dk_at dksJ11_checkFromIndexSize_0 15 rfl rfl)
theorem dJ11_checkFromIndexSize_16 : decode cJ11_checkFromIndexSize 16 = .ok (.iload_n 0, 1) := dk_26 (dk_at dksJ11_checkFromIndexSize_0 16 rfl rfl)
theorem dJ11_checkFromIndexSize_17 : decode cJ11_checkFromIndexSize 17 = .ok (.iload_n 1, 1) := dk_27 (dk_at dksJ11_checkFromIndexSize_0 17 rfl rfl)
theorem dJ11_checkFromIndexSize_18 : decode cJ11_checkFromIndexSize 18 = .ok (.iload_n 2, 1) := dk_28 (dk_at dksJ11_checkFromIndexSize_0 18 rfl rfl)
theorem dJ11_checkFromIndexSize_19 : decode cJ11_checkFromIndexSize 19 = .ok (.invokestatic 103, 3) := dk_184 0 103 (dk_at dksJ11_checkFromIndexSize_0 19 rfl rfl)
theorem dJ11_checkFromIndexSize_22 : decode cJ11_checkFromIndexSize 22 = .ok (.athrow, 1) := dk_191 (dk_at dksJ11_checkFromIndexSize_0 22 rfl rfl)
theorem dJ11_checkFromIndexSize_23 : decode cJ11_checkFromIndexSize 23 = .ok (.iload_n 0, 1) := dk_26 (dk_at dksJ11_checkFromIndexSize_0 23 rfl rfl)
theorem dJ11_checkFromIndexSize_24 : decode cJ11_checkFromIndexSize 24 = .ok (.ireturn, 1) := dk_172 (dk_at dksJ11_checkFromIndexSize_1 0 rfl rfl)
abbrev cJ11_checkFromToIndex : ByteArray := prog_59_method_12_code
def yJ11_checkFromToIndex : MethodName := ⟨RJ11, "checkFromToIndex", "(IIILjava/util/function/BiFunction;)I"⟩
def dkwJ11_checkFromToIndex_0 : List UInt8 := [26, 155, 0, 13, 26, 27, 163, 0, 8, 27, 28, 164, 0, 11, 45, 26, 27, 28, 184, 0, 99, 191, 26, 172]
abbrev dktJ11_checkFromToIndex_0 : List UInt8 := dkwJ11_checkFromToIndex_0 ++ []
theorem dksJ11_checkFromToIndex_0 : cJ11_checkFromToIndex.data.toList.drop 0 = dktJ11_checkFromToIndex_0 := by decide +kernel
theorem dJ11_checkFromToIndex_0 : decode cJ11_checkFromToIndex 0 = .ok (.iload_n 0, 1) := dk_26 (dk_at dksJ11_checkFromToIndex_0 0 rfl rfl)
theorem dJ11_checkFromToIndex_1 : decode cJ11_checkFromToIndex 1 = .ok (.ifCond .lt 13, 3) := dk_155 0 13 (dk_at dksJ11_checkFromToIndex_0 1 rfl rfl)
theorem dJ11_checkFromToIndex_4 : decode cJ11_checkFromToIndex 4 = .ok (.iload_n 0, 1) := dk_26 (dk_at dksJ11_checkFromToIndex_0 4 rfl rfl)
theorem dJ11_checkFromToIndex_5 : decode cJ11_checkFromToIndex 5 = .ok (.iload_n 1, 1) := dk_27 (dk_at dksJ11_checkFromToIndex_0 5 rfl rfl)
theorem dJ11_checkFromToIndex_6 : decode cJ11_checkFromToIndex 6 = .ok (.if_icmp .gt 8, 3) := dk_163 0 8 (dk_at dksJ11_checkFromToIndex_0 6 rfl rfl)
theorem dJ11_checkFromToIndex_9 : decode cJ11_checkFromToIndex 9 = .ok (.iload_n 1, 1) := dk_27 (dk_at dksJ11_checkFromToIndex_0 9 rfl rfl)
theorem dJ11_checkFromToIndex_10 : decode cJ11_checkFromToIndex 10 = .ok (.iload_n 2, 1) := dk_28 (dk_at dksJ11_checkFromToIndex_0 10 rfl rfl)
theorem dJ11_checkFromToIndex_11 : decode cJ11_checkFromToIndex 11 = .ok (.if_icmp .le 11, 3) := dk_164 0 11 (dk_at dksJ11_checkFromToIndex_0 11 rfl rfl)
theorem dJ11_checkFromToIndex_14 : decode cJ11_checkFromToIndex 14 = .ok (.aload_n 3, 1) := dk_45 (dk_at dksJ11_checkFromToIndex_0 14 rfl rfl)
theorem dJ11_checkFromToIndex_15 : decode cJ11_checkFromToIndex 15 = .ok (.iload_n 0, 1) := dk_26 (dk_at dksJ11_checkFromToIndex_0 15 rfl rfl)
theorem dJ11_checkFromToIndex_16 : decode cJ11_checkFromToIndex 16 = .ok (.iload_n 1, 1) := dk_27 (dk_at dksJ11_checkFromToIndex_0 16 rfl rfl)
theorem dJ11_checkFromToIndex_17 : decode cJ11_checkFromToIndex 17 = .ok (.iload_n 2, 1) := dk_28 (dk_at dksJ11_checkFromToIndex_0 17 rfl rfl)
theorem dJ11_checkFromToIndex_18 : decode cJ11_checkFromToIndex 18 = .ok (.invokestatic 99, 3) := dk_184 0 99 (dk_at dksJ11_checkFromToIndex_0 18 rfl rfl)
theorem dJ11_checkFromToIndex_21 : decode cJ11_checkFromToIndex 21 = .ok (.athrow, 1) := dk_191 (dk_at dksJ11_checkFromToIndex_0 21 rfl rfl)
theorem dJ11_checkFromToIndex_22 : decode cJ11_checkFromToIndex 22 = .ok (.iload_n 0, 1) := dk_26 (dk_at dksJ11_checkFromToIndex_0 22 rfl rfl)
theorem dJ11_checkFromToIndex_23 : decode cJ11_checkFromToIndex 23 = .ok (.ireturn, 1) := dk_172 (dk_at dksJ11_checkFromToIndex_0 23 rfl rfl)
theorem q131 : (Jvm.Cond.initialized "jdk/internal/util/Preconditions") ∈ lw_all := lw_g (lw_at lw_m1 19 rfl) rfl
theorem q546 : (Jvm.Cond.static ({ cls := "jdk/internal/util/Preconditions", name := "checkIndex", desc := "(IILjava/util/function/BiFunction;)I" } : Jvm.MethodName)) ∈ lw_all := lw_g (lw_at lw_m2 194 rfl) rfl
theorem q547 : (Jvm.Cond.code ({ cls := "jdk/internal/util/Preconditions", name := "checkIndex", desc := "(IILjava/util/function/BiFunction;)I" } : Jvm.MethodName) prog_59_method_11_code (3 : Nat) (Option.some Jvm.ClassFile.FieldType.int)) ∈ lw_all := lw_g (lw_at lw_m2 195 rfl) rfl
theorem q852 : (Jvm.Cond.laysStatic "jdk/internal/util/Preconditions" "SIOOBE_FORMATTER" "Ljava/util/function/BiFunction;") ∈ lw_tbl := lw_at lw_m4 20 rfl
theorem q854 : (Jvm.Cond.static ({ cls := "jdk/internal/util/Preconditions", name := "checkFromIndexSize", desc := "(IIILjava/util/function/BiFunction;)I" } : Jvm.MethodName)) ∈ lw_all := lw_g (lw_at lw_m4 22 rfl) rfl
theorem q855 : (Jvm.Cond.code ({ cls := "jdk/internal/util/Preconditions", name := "checkFromIndexSize", desc := "(IIILjava/util/function/BiFunction;)I" } : Jvm.MethodName) prog_59_method_13_code (4 : Nat) (Option.some Jvm.ClassFile.FieldType.int)) ∈ lw_all := lw_g (lw_at lw_m4 23 rfl) rfl
theorem q985 : (Jvm.Cond.static ({ cls := "jdk/internal/util/Preconditions", name := "checkFromToIndex", desc := "(IIILjava/util/function/BiFunction;)I" } : Jvm.MethodName)) ∈ lw_all := lw_g (lw_at lw_m4 153 rfl) rfl
theorem q986 : (Jvm.Cond.code ({ cls := "jdk/internal/util/Preconditions", name := "checkFromToIndex", desc := "(IIILjava/util/function/BiFunction;)I" } : Jvm.MethodName) prog_59_method_12_code (4 : Nat) (Option.some Jvm.ClassFile.FieldType.int)) ∈ lw_all := lw_g (lw_at lw_m4 154 rfl) rfl

/-! java/lang/Throwable -/
set_option maxRecDepth 100000
def RJ12 : String := "java/lang/Throwable"
def TJ12 : u_T := fun k => match k with
  | 0 => ("java/lang/Throwable", "cause", "Ljava/lang/Throwable;", false)
  | 1 => ("java/lang/Throwable", "stackTrace", "[Ljava/lang/StackTraceElement;", false)
  | 2 => ("java/lang/Throwable", "suppressedExceptions", "Ljava/util/List;", false)
  | 3 => ("java/lang/Throwable", "detailMessage", "Ljava/lang/String;", false)
  | _ => ("java/lang/Throwable", "backtrace", "Ljava/lang/Object;", false)
def tyJ12 : Nat → FieldType := fun k => match k with
  | 0 => .object "java/lang/Throwable"
  | 1 => .array (.object "java/lang/StackTraceElement")
  | 2 => .object "java/util/List"
  | 3 => .object "java/lang/String"
  | _ => .object "java/lang/Object"
abbrev wsJ120 : List Cond := u_ws RJ12 TJ12 5
theorem nmJ12 : ∀ a, a < 5 → ∀ b, b < 5 → a ≠ b → (TJ12 a).2.1 ≠ (TJ12 b).2.1 := by decide +kernel
theorem tyJ12_ok : ∀ k, k < 5 → parseFieldDescriptor (TJ12 k).2.2.1 = some (tyJ12 k) := by decide +kernel
abbrev cJ12_init : ByteArray := prog_43_method_1_code
def yJ12_init : MethodName := ⟨RJ12, "<init>", "()V"⟩
def dkwJ12_init_1 : List UInt8 := [182, 0, 27, 87, 177]
abbrev dktJ12_init_1 : List UInt8 := dkwJ12_init_1 ++ []
def dkwJ12_init_0 : List UInt8 := [42, 183, 0, 1, 42, 42, 181, 0, 7, 42, 178, 0, 13, 181, 0, 17, 42, 178, 0, 20, 181, 0, 24, 42]
abbrev dktJ12_init_0 : List UInt8 := dkwJ12_init_0 ++ dktJ12_init_1
theorem dksJ12_init_0 : cJ12_init.data.toList.drop 0 = dktJ12_init_0 := by decide +kernel
theorem dksJ12_init_1 : cJ12_init.data.toList.drop 24 = dktJ12_init_1 := dk_seg dksJ12_init_0 24 rfl rfl
theorem dJ12_init_0 : decode cJ12_init 0 = .ok (.aload_n 0, 1) := dk_42 (dk_at dksJ12_init_0 0 rfl rfl)
theorem dJ12_init_1 : decode cJ12_init 1 = .ok (.invokespecial 1, 3) := dk_183 0 1 (dk_at dksJ12_init_0 1 rfl rfl)
theorem dJ12_init_4 : decode cJ12_init 4 = .ok (.aload_n 0, 1) := dk_42 (dk_at dksJ12_init_0 4 rfl rfl)
theorem dJ12_init_5 : decode cJ12_init 5 = .ok (.aload_n 0, 1) := dk_42 (dk_at dksJ12_init_0 5 rfl rfl)
theorem dJ12_init_6 : decode cJ12_init 6 = .ok (.putfield 7, 3) := dk_181 0 7 (dk_at dksJ12_init_0 6 rfl rfl)
theorem dJ12_init_9 : decode cJ12_init 9 = .ok (.aload_n 0, 1) := dk_42 (dk_at dksJ12_init_0 9 rfl rfl)
theorem dJ12_init_10 : decode cJ12_init 10 = .ok (.getstatic 13, 3) := dk_178 0 13 (dk_at dksJ12_init_0 10 rfl rfl)
theorem dJ12_init_13 : decode cJ12_init 13 = .ok (.putfield 17, 3) := dk_181 0 17 (dk_at dksJ12_init_0 13 rfl rfl)
theorem dJ12_init_16 : decode cJ12_init 16 = .ok (.aload_n 0, 1) := dk_42 (dk_at dksJ12_init_0 16 rfl rfl)
theorem dJ12_init_17 : decode cJ12_init 17 = .ok (.getstatic 20, 3) := dk_178 0 20 (dk_at dksJ12_init_0 17 rfl rfl)
theorem dJ12_init_20 : decode cJ12_init 20 = .ok (.putfield 24, 3) := dk_181 0 24 (dk_at dksJ12_init_0 20 rfl rfl)
theorem dJ12_init_23 : decode cJ12_init 23 = .ok (.aload_n 0, 1) := dk_42 (dk_at dksJ12_init_0 23 rfl rfl)
theorem dJ12_init_24 : decode cJ12_init 24 = .ok (.invokevirtual 27, 3) := dk_182 0 27 (dk_at dksJ12_init_1 0 rfl rfl)
theorem dJ12_init_27 : decode cJ12_init 27 = .ok (.pop, 1) := dk_87 (dk_at dksJ12_init_1 3 rfl rfl)
theorem dJ12_init_28 : decode cJ12_init 28 = .ok (.return_, 1) := dk_177 (dk_at dksJ12_init_1 4 rfl rfl)
abbrev cJ12_init_2 : ByteArray := prog_43_method_2_code
def yJ12_init_2 : MethodName := ⟨RJ12, "<init>", "(Ljava/lang/String;)V"⟩
def dkwJ12_init_2_1 : List UInt8 := [182, 0, 27, 87, 42, 43, 181, 0, 31, 177]
abbrev dktJ12_init_2_1 : List UInt8 := dkwJ12_init_2_1 ++ []
def dkwJ12_init_2_0 : List UInt8 := [42, 183, 0, 1, 42, 42, 181, 0, 7, 42, 178, 0, 13, 181, 0, 17, 42, 178, 0, 20, 181, 0, 24, 42]
abbrev dktJ12_init_2_0 : List UInt8 := dkwJ12_init_2_0 ++ dktJ12_init_2_1
theorem dksJ12_init_2_0 : cJ12_init_2.data.toList.drop 0 = dktJ12_init_2_0 := by decide +kernel
theorem dksJ12_init_2_1 : cJ12_init_2.data.toList.drop 24 = dktJ12_init_2_1 := dk_seg dksJ12_init_2_0 24 rfl rfl
theorem dJ12_init_2_0 : decode cJ12_init_2 0 = .ok (.aload_n 0, 1) := dk_42 (dk_at dksJ12_init_2_0 0 rfl rfl)
theorem dJ12_init_2_1 : decode cJ12_init_2 1 = .ok (.invokespecial 1, 3) := dk_183 0 1 (dk_at dksJ12_init_2_0 1 rfl rfl)
theorem dJ12_init_2_4 : decode cJ12_init_2 4 = .ok (.aload_n 0, 1) := dk_42 (dk_at dksJ12_init_2_0 4 rfl rfl)
theorem dJ12_init_2_5 : decode cJ12_init_2 5 = .ok (.aload_n 0, 1) := dk_42 (dk_at dksJ12_init_2_0 5 rfl rfl)
theorem dJ12_init_2_6 : decode cJ12_init_2 6 = .ok (.putfield 7, 3) := dk_181 0 7 (dk_at dksJ12_init_2_0 6 rfl rfl)
theorem dJ12_init_2_9 : decode cJ12_init_2 9 = .ok (.aload_n 0, 1) := dk_42 (dk_at dksJ12_init_2_0 9 rfl rfl)
theorem dJ12_init_2_10 : decode cJ12_init_2 10 = .ok (.getstatic 13, 3) := dk_178 0 13 (dk_at dksJ12_init_2_0 10 rfl rfl)
theorem dJ12_init_2_13 : decode cJ12_init_2 13 = .ok (.putfield 17, 3) := dk_181 0 17 (dk_at dksJ12_init_2_0 13 rfl rfl)
theorem dJ12_init_2_16 : decode cJ12_init_2 16 = .ok (.aload_n 0, 1) := dk_42 (dk_at dksJ12_init_2_0 16 rfl rfl)
theorem dJ12_init_2_17 : decode cJ12_init_2 17 = .ok (.getstatic 20, 3) := dk_178 0 20 (dk_at dksJ12_init_2_0 17 rfl rfl)
theorem dJ12_init_2_20 : decode cJ12_init_2 20 = .ok (.putfield 24, 3) := dk_181 0 24 (dk_at dksJ12_init_2_0 20 rfl rfl)
theorem dJ12_init_2_23 : decode cJ12_init_2 23 = .ok (.aload_n 0, 1) := dk_42 (dk_at dksJ12_init_2_0 23 rfl rfl)
theorem dJ12_init_2_24 : decode cJ12_init_2 24 = .ok (.invokevirtual 27, 3) := dk_182 0 27 (dk_at dksJ12_init_2_1 0 rfl rfl)
theorem dJ12_init_2_27 : decode cJ12_init_2 27 = .ok (.pop, 1) := dk_87 (dk_at dksJ12_init_2_1 3 rfl rfl)
theorem dJ12_init_2_28 : decode cJ12_init_2 28 = .ok (.aload_n 0, 1) := dk_42 (dk_at dksJ12_init_2_1 4 rfl rfl)
theorem dJ12_init_2_29 : decode cJ12_init_2 29 = .ok (.aload_n 1, 1) := dk_43 (dk_at dksJ12_init_2_1 5 rfl rfl)
theorem dJ12_init_2_30 : decode cJ12_init_2 30 = .ok (.putfield 31, 3) := dk_181 0 31 (dk_at dksJ12_init_2_1 6 rfl rfl)
theorem dJ12_init_2_33 : decode cJ12_init_2 33 = .ok (.return_, 1) := dk_177 (dk_at dksJ12_init_2_1 9 rfl rfl)
abbrev cJ12_init_3 : ByteArray := prog_43_method_5_code
def yJ12_init_3 : MethodName := ⟨RJ12, "<init>", "(Ljava/lang/String;Ljava/lang/Throwable;ZZ)V"⟩
def dkwJ12_init_3_2 : List UInt8 := [44, 181, 0, 7, 29, 154, 0, 8, 42, 1, 181, 0, 24, 177]
abbrev dktJ12_init_3_2 : List UInt8 := dkwJ12_init_3_2 ++ []
def dkwJ12_init_3_1 : List UInt8 := [21, 4, 153, 0, 11, 42, 182, 0, 27, 87, 167, 0, 8, 42, 1, 181, 0, 17, 42, 43, 181, 0, 31, 42]
abbrev dktJ12_init_3_1 : List UInt8 := dkwJ12_init_3_1 ++ dktJ12_init_3_2
def dkwJ12_init_3_0 : List UInt8 := [42, 183, 0, 1, 42, 42, 181, 0, 7, 42, 178, 0, 13, 181, 0, 17, 42, 178, 0, 20, 181, 0, 24]
abbrev dktJ12_init_3_0 : List UInt8 := dkwJ12_init_3_0 ++ dktJ12_init_3_1
theorem dksJ12_init_3_0 : cJ12_init_3.data.toList.drop 0 = dktJ12_init_3_0 := by decide +kernel
theorem dksJ12_init_3_1 : cJ12_init_3.data.toList.drop 23 = dktJ12_init_3_1 := dk_seg dksJ12_init_3_0 23 rfl rfl
theorem dksJ12_init_3_2 : cJ12_init_3.data.toList.drop 47 = dktJ12_init_3_2 := dk_seg dksJ12_init_3_1 24 rfl rfl
theorem dJ12_init_3_0 : decode cJ12_init_3 0 = .ok (.aload_n 0, 1) := dk_42 (dk_at dksJ12_init_3_0 0 rfl rfl)
theorem dJ12_init_3_1 : decode cJ12_init_3 1 = .ok (.invokespecial 1, 3) := dk_183 0 1 (dk_at dksJ12_init_3_0 1 rfl rfl)
theorem dJ12_init_3_4 : decode cJ12_init_3 4 = .ok (.aload_n 0, 1) := dk_42 (dk_at dksJ12_init_3_0 4 rfl rfl)
theorem dJ12_init_3_5 : decode cJ12_init_3 5 = .ok (.aload_n 0, 1) := dk_42 (dk_at dksJ12_init_3_0 5 rfl rfl)
theorem dJ12_init_3_6 : decode cJ12_init_3 6 = .ok (.putfield 7, 3) := dk_181 0 7 (dk_at dksJ12_init_3_0 6 rfl rfl)
theorem dJ12_init_3_9 : decode cJ12_init_3 9 = .ok (.aload_n 0, 1) := dk_42 (dk_at dksJ12_init_3_0 9 rfl rfl)
theorem dJ12_init_3_10 : decode cJ12_init_3 10 = .ok (.getstatic 13, 3) := dk_178 0 13 (dk_at dksJ12_init_3_0 10 rfl rfl)
theorem dJ12_init_3_13 : decode cJ12_init_3 13 = .ok (.putfield 17, 3) := dk_181 0 17 (dk_at dksJ12_init_3_0 13 rfl rfl)
theorem dJ12_init_3_16 : decode cJ12_init_3 16 = .ok (.aload_n 0, 1) := dk_42 (dk_at dksJ12_init_3_0 16 rfl rfl)
theorem dJ12_init_3_17 : decode cJ12_init_3 17 = .ok (.getstatic 20, 3) := dk_178 0 20 (dk_at dksJ12_init_3_0 17 rfl rfl)
theorem dJ12_init_3_20 : decode cJ12_init_3 20 = .ok (.putfield 24, 3) := dk_181 0 24 (dk_at dksJ12_init_3_0 20 rfl rfl)
theorem dJ12_init_3_23 : decode cJ12_init_3 23 = .ok (.iload 4, 2) := dk_21 4 (dk_at dksJ12_init_3_1 0 rfl rfl)
theorem dJ12_init_3_25 : decode cJ12_init_3 25 = .ok (.ifCond .eq 11, 3) := dk_153 0 11 (dk_at dksJ12_init_3_1 2 rfl rfl)
theorem dJ12_init_3_28 : decode cJ12_init_3 28 = .ok (.aload_n 0, 1) := dk_42 (dk_at dksJ12_init_3_1 5 rfl rfl)
theorem dJ12_init_3_29 : decode cJ12_init_3 29 = .ok (.invokevirtual 27, 3) := dk_182 0 27 (dk_at dksJ12_init_3_1 6 rfl rfl)
theorem dJ12_init_3_32 : decode cJ12_init_3 32 = .ok (.pop, 1) := dk_87 (dk_at dksJ12_init_3_1 9 rfl rfl)
theorem dJ12_init_3_33 : decode cJ12_init_3 33 = .ok (.goto 8, 3) := dk_167 0 8 (dk_at dksJ12_init_3_1 10 rfl rfl)
theorem dJ12_init_3_36 : decode cJ12_init_3 36 = .ok (.aload_n 0, 1) := dk_42 (dk_at dksJ12_init_3_1 13 rfl rfl)
theorem dJ12_init_3_37 : decode cJ12_init_3 37 = .ok (.aconst_null, 1) := dk_1 (dk_at dksJ12_init_3_1 14 rfl rfl)
theorem dJ12_init_3_38 : decode cJ12_init_3 38 = .ok (.putfield 17, 3) := dk_181 0 17 (dk_at dksJ12_init_3_1 15 rfl rfl)
theorem dJ12_init_3_41 : decode cJ12_init_3 41 = .ok (.aload_n 0, 1) := dk_42 (dk_at dksJ12_init_3_1 18 rfl rfl)
theorem dJ12_init_3_42 : decode cJ12_init_3 42 = .ok (.aload_n 1, 1) := dk_43 (dk_at dksJ12_init_3_1 19 rfl rfl)
theorem dJ12_init_3_43 : decode cJ12_init_3 43 = .ok (.putfield 31, 3) := dk_181 0 31 (dk_at dksJ12_init_3_1 20 rfl rfl)
theorem dJ12_init_3_46 : decode cJ12_init_3 46 = .ok (.aload_n 0, 1) := dk_42 (dk_at dksJ12_init_3_1 23 rfl rfl)
theorem dJ12_init_3_47 : decode cJ12_init_3 47 = .ok (.aload_n 2, 1) := dk_44 (dk_at dksJ12_init_3_2 0 rfl rfl)
theorem dJ12_init_3_48 : decode cJ12_init_3 48 = .ok (.putfield 7, 3) := dk_181 0 7 (dk_at dksJ12_init_3_2 1 rfl rfl)
theorem dJ12_init_3_51 : decode cJ12_init_3 51 = .ok (.iload_n 3, 1) := dk_29 (dk_at dksJ12_init_3_2 4 rfl rfl)
theorem dJ12_init_3_52 : decode cJ12_init_3 52 = .ok (.ifCond .ne 8, 3) := dk_154 0 8 (dk_at dksJ12_init_3_2 5 rfl rfl)
theorem dJ12_init_3_55 : decode cJ12_init_3 55 = .ok (.aload_n 0, 1) := dk_42 (dk_at dksJ12_init_3_2 8 rfl rfl)
theorem dJ12_init_3_56 : decode cJ12_init_3 56 = .ok (.aconst_null, 1) := dk_1 (dk_at dksJ12_init_3_2 9 rfl rfl)
theorem dJ12_init_3_57 : decode cJ12_init_3 57 = .ok (.putfield 24, 3) := dk_181 0 24 (dk_at dksJ12_init_3_2 10 rfl rfl)
theorem dJ12_init_3_60 : decode cJ12_init_3 60 = .ok (.return_, 1) := dk_177 (dk_at dksJ12_init_3_2 13 rfl rfl)
theorem q132 : (Jvm.Cond.initialized "java/lang/Throwable") ∈ lw_all := lw_g (lw_at lw_m1 20 rfl) rfl
theorem q918 : (Jvm.Cond.declares ({ cls := "java/lang/Throwable", name := "<init>", desc := "()V" } : Jvm.MethodName)) ∈ lw_tbl := lw_at lw_m4 86 rfl
theorem q919 : (Jvm.Cond.declares ({ cls := "java/lang/Throwable", name := "<init>", desc := "(Ljava/lang/String;)V" } : Jvm.MethodName)) ∈ lw_tbl := lw_at lw_m4 87 rfl
theorem q923 : (Jvm.Cond.lays "java/lang/Throwable" "java/lang/Throwable" "cause" "Ljava/lang/Throwable;") ∈ lw_all := lw_g (lw_at lw_m4 91 rfl) rfl
theorem q925 : (Jvm.Cond.lays "java/lang/Throwable" "java/lang/Throwable" "stackTrace" "[Ljava/lang/StackTraceElement;") ∈ lw_all := lw_g (lw_at lw_m4 93 rfl) rfl
theorem q927 : (Jvm.Cond.lays "java/lang/Throwable" "java/lang/Throwable" "suppressedExceptions" "Ljava/util/List;") ∈ lw_all := lw_g (lw_at lw_m4 95 rfl) rfl
theorem q929 : (Jvm.Cond.lays "java/lang/Throwable" "java/lang/Throwable" "detailMessage" "Ljava/lang/String;") ∈ lw_all := lw_g (lw_at lw_m4 97 rfl) rfl
theorem q931 : (Jvm.Cond.lays "java/lang/Throwable" "java/lang/Throwable" "backtrace" "Ljava/lang/Object;") ∈ lw_all := lw_g (lw_at lw_m4 99 rfl) rfl
theorem q932 : (Jvm.Cond.fieldLink "java/lang/Throwable" (198 : Nat) "java/lang/Throwable" "backtrace" "Ljava/lang/Object;") ∈ lw_all := lw_g (lw_at lw_m4 100 rfl) rfl
theorem q933 : (Jvm.Cond.superclass "java/lang/Throwable" "java/lang/Object") ∈ lw_all := lw_g (lw_at lw_m4 101 rfl) rfl
theorem q934 : (Jvm.Cond.instanceMethod ({ cls := "java/lang/Throwable", name := "<init>", desc := "()V" } : Jvm.MethodName)) ∈ lw_all := lw_g (lw_at lw_m4 102 rfl) rfl
theorem q935 : (Jvm.Cond.code ({ cls := "java/lang/Throwable", name := "<init>", desc := "()V" } : Jvm.MethodName) prog_43_method_1_code (1 : Nat) (Option.none : Option Jvm.ClassFile.FieldType)) ∈ lw_all := lw_g (lw_at lw_m4 103 rfl) rfl
theorem q936 : (Jvm.Cond.methodLink "java/lang/Throwable" (1 : Nat) ({ cls := "java/lang/Object", name := "<init>", desc := "()V" } : Jvm.MethodName)) ∈ lw_all := lw_g (lw_at lw_m4 104 rfl) rfl
theorem q937 : (Jvm.Cond.fieldLink "java/lang/Throwable" (13 : Nat) "java/lang/Throwable" "UNASSIGNED_STACK" "[Ljava/lang/StackTraceElement;") ∈ lw_all := lw_g (lw_at lw_m4 105 rfl) rfl
theorem q938 : (Jvm.Cond.laysStatic "java/lang/Throwable" "UNASSIGNED_STACK" "[Ljava/lang/StackTraceElement;") ∈ lw_tbl := lw_at lw_m4 106 rfl
theorem q939 : (Jvm.Cond.fieldLink "java/lang/Throwable" (20 : Nat) "java/lang/Throwable" "SUPPRESSED_SENTINEL" "Ljava/util/List;") ∈ lw_all := lw_g (lw_at lw_m4 107 rfl) rfl
theorem q940 : (Jvm.Cond.laysStatic "java/lang/Throwable" "SUPPRESSED_SENTINEL" "Ljava/util/List;") ∈ lw_tbl := lw_at lw_m4 108 rfl
theorem q941 : (Jvm.Cond.methodLink "java/lang/Throwable" (27 : Nat) ({ cls := "java/lang/Throwable", name := "fillInStackTrace", desc := "()Ljava/lang/Throwable;" } : Jvm.MethodName)) ∈ lw_all := lw_g (lw_at lw_m4 109 rfl) rfl
theorem q942 : (Jvm.Cond.instanceMethod ({ cls := "java/lang/Throwable", name := "fillInStackTrace", desc := "()Ljava/lang/Throwable;" } : Jvm.MethodName)) ∈ lw_all := lw_g (lw_at lw_m4 110 rfl) rfl
theorem q943 : (Jvm.Cond.sameMethod "java/lang/Throwable" "java/lang/Throwable" "fillInStackTrace" "()Ljava/lang/Throwable;") ∈ lw_all := lw_g (lw_at lw_m4 111 rfl) rfl
theorem q950 : (Jvm.Cond.codeSync ({ cls := "java/lang/Throwable", name := "fillInStackTrace", desc := "()Ljava/lang/Throwable;" } : Jvm.MethodName) prog_43_method_18_code (1 : Nat) (Option.some (Jvm.ClassFile.FieldType.object "java/lang/Throwable"))) ∈ lw_all := lw_g (lw_at lw_m4 118 rfl) rfl
theorem q951 : (Jvm.Cond.methodLink "java/lang/Throwable" (202 : Nat) ({ cls := "java/lang/Throwable", name := "fillInStackTrace", desc := "(I)Ljava/lang/Throwable;" } : Jvm.MethodName)) ∈ lw_all := lw_g (lw_at lw_m4 119 rfl) rfl
theorem q952 : (Jvm.Cond.privateMethod ({ cls := "java/lang/Throwable", name := "fillInStackTrace", desc := "(I)Ljava/lang/Throwable;" } : Jvm.MethodName)) ∈ lw_tbl := lw_at lw_m4 120 rfl
theorem q953 : (Jvm.Cond.instanceMethod ({ cls := "java/lang/Throwable", name := "fillInStackTrace", desc := "(I)Ljava/lang/Throwable;" } : Jvm.MethodName)) ∈ lw_all := lw_g (lw_at lw_m4 121 rfl) rfl
theorem q954 : (Jvm.Cond.instantiable "java/lang/Throwable" (6 : Nat)) ∈ lw_all := lw_g (lw_at lw_m4 122 rfl) rfl
theorem q955 : (Jvm.Cond.native ({ cls := "java/lang/Throwable", name := "fillInStackTrace", desc := "(I)Ljava/lang/Throwable;" } : Jvm.MethodName)) ∈ lw_all := lw_g (lw_at lw_m4 123 rfl) rfl
theorem q1042 : (Jvm.Cond.instanceMethod ({ cls := "java/lang/Throwable", name := "<init>", desc := "(Ljava/lang/String;)V" } : Jvm.MethodName)) ∈ lw_all := lw_g (lw_at lw_m4 210 rfl) rfl
theorem q1043 : (Jvm.Cond.code ({ cls := "java/lang/Throwable", name := "<init>", desc := "(Ljava/lang/String;)V" } : Jvm.MethodName) prog_43_method_2_code (2 : Nat) (Option.none : Option Jvm.ClassFile.FieldType)) ∈ lw_all := lw_g (lw_at lw_m4 211 rfl) rfl
theorem q1044 : (Jvm.Cond.fieldLink "java/lang/Throwable" (198 : Nat) "java/lang/Throwable" "backtrace" "Ljava/lang/Object;") ∈ lw_all := lw_g (lw_at lw_m4 212 rfl) rfl
theorem q1045 : (Jvm.Cond.fieldLink "java/lang/Throwable" (31 : Nat) "java/lang/Throwable" "detailMessage" "Ljava/lang/String;") ∈ lw_all := lw_g (lw_at lw_m4 213 rfl) rfl
theorem q1046 : (Jvm.Cond.fieldLink "java/lang/Throwable" (7 : Nat) "java/lang/Throwable" "cause" "Ljava/lang/Throwable;") ∈ lw_all := lw_g (lw_at lw_m4 214 rfl) rfl
theorem q1047 : (Jvm.Cond.fieldLink "java/lang/Throwable" (17 : Nat) "java/lang/Throwable" "stackTrace" "[Ljava/lang/StackTraceElement;") ∈ lw_all := lw_g (lw_at lw_m4 215 rfl) rfl
theorem q1048 : (Jvm.Cond.fieldLink "java/lang/Throwable" (24 : Nat) "java/lang/Throwable" "suppressedExceptions" "Ljava/util/List;") ∈ lw_all := lw_g (lw_at lw_m4 216 rfl) rfl
theorem q1049 : (Jvm.Cond.soleField "java/lang/Throwable" "backtrace") ∈ lw_all := lw_g (lw_at lw_m4 217 rfl) rfl
theorem q1050 : (Jvm.Cond.soleField "java/lang/Throwable" "detailMessage") ∈ lw_all := lw_g (lw_at lw_m4 218 rfl) rfl
theorem q1051 : (Jvm.Cond.soleField "java/lang/Throwable" "cause") ∈ lw_all := lw_g (lw_at lw_m4 219 rfl) rfl
theorem q1052 : (Jvm.Cond.soleField "java/lang/Throwable" "stackTrace") ∈ lw_all := lw_g (lw_at lw_m4 220 rfl) rfl
theorem q1054 : (Jvm.Cond.soleField "java/lang/Throwable" "depth") ∈ lw_all := lw_g (lw_at lw_m4 222 rfl) rfl
theorem q1055 : (Jvm.Cond.soleField "java/lang/Throwable" "suppressedExceptions") ∈ lw_all := lw_g (lw_at lw_m4 223 rfl) rfl
theorem q1103 : (Jvm.Cond.instanceMethod ({ cls := "java/lang/Throwable", name := "<init>", desc := "(Ljava/lang/String;Ljava/lang/Throwable;ZZ)V" } : Jvm.MethodName)) ∈ lw_all := lw_g (lw_at lw_m5 31 rfl) rfl
theorem q1104 : (Jvm.Cond.code ({ cls := "java/lang/Throwable", name := "<init>", desc := "(Ljava/lang/String;Ljava/lang/Throwable;ZZ)V" } : Jvm.MethodName) prog_43_method_5_code (5 : Nat) (Option.none : Option Jvm.ClassFile.FieldType)) ∈ lw_all := lw_g (lw_at lw_m5 32 rfl) rfl
theorem q2521 : (Jvm.Cond.sameMethod "java/lang/Throwable" "java/lang/Throwable" "fillInStackTrace" "(I)Ljava/lang/Throwable;") ∈ lw_all := lw_g (lw_at lw_m11 9 rfl) rfl
theorem q2556 : (Jvm.Cond.castable "java/lang/Throwable" "java/lang/Object") ∈ lw_tbl := lw_at lw_m11 44 rfl
theorem in_J12 : ∀ w ∈ wsJ120, w ∈ lw_all := lw_in wsJ120 [923, 925, 927, 929, 931] (by decide +kernel) (by decide +kernel)

/-! java/lang/Exception -/
set_option maxRecDepth 100000
def RJ13 : String := "java/lang/Exception"
abbrev cJ13_init : ByteArray := prog_28_method_2_code
def yJ13_init : MethodName := ⟨RJ13, "<init>", "(Ljava/lang/String;)V"⟩
def dkwJ13_init_0 : List UInt8 := [42, 43, 183, 0, 7, 177]
abbrev dktJ13_init_0 : List UInt8 := dkwJ13_init_0 ++ []
theorem dksJ13_init_0 : cJ13_init.data.toList.drop 0 = dktJ13_init_0 := by decide +kernel
theorem dJ13_init_0 : decode cJ13_init 0 = .ok (.aload_n 0, 1) := dk_42 (dk_at dksJ13_init_0 0 rfl rfl)
theorem dJ13_init_1 : decode cJ13_init 1 = .ok (.aload_n 1, 1) := dk_43 (dk_at dksJ13_init_0 1 rfl rfl)
theorem dJ13_init_2 : decode cJ13_init 2 = .ok (.invokespecial 7, 3) := dk_183 0 7 (dk_at dksJ13_init_0 2 rfl rfl)
theorem dJ13_init_5 : decode cJ13_init 5 = .ok (.return_, 1) := dk_177 (dk_at dksJ13_init_0 5 rfl rfl)
abbrev cJ13_init_2 : ByteArray := prog_28_method_5_code
def yJ13_init_2 : MethodName := ⟨RJ13, "<init>", "(Ljava/lang/String;Ljava/lang/Throwable;ZZ)V"⟩
def dkwJ13_init_2_0 : List UInt8 := [42, 43, 44, 29, 21, 4, 183, 0, 16, 177]
abbrev dktJ13_init_2_0 : List UInt8 := dkwJ13_init_2_0 ++ []
theorem dksJ13_init_2_0 : cJ13_init_2.data.toList.drop 0 = dktJ13_init_2_0 := by decide +kernel
theorem dJ13_init_2_0 : decode cJ13_init_2 0 = .ok (.aload_n 0, 1) := dk_42 (dk_at dksJ13_init_2_0 0 rfl rfl)
theorem dJ13_init_2_1 : decode cJ13_init_2 1 = .ok (.aload_n 1, 1) := dk_43 (dk_at dksJ13_init_2_0 1 rfl rfl)
theorem dJ13_init_2_2 : decode cJ13_init_2 2 = .ok (.aload_n 2, 1) := dk_44 (dk_at dksJ13_init_2_0 2 rfl rfl)
theorem dJ13_init_2_3 : decode cJ13_init_2 3 = .ok (.iload_n 3, 1) := dk_29 (dk_at dksJ13_init_2_0 3 rfl rfl)
theorem dJ13_init_2_4 : decode cJ13_init_2 4 = .ok (.iload 4, 2) := dk_21 4 (dk_at dksJ13_init_2_0 4 rfl rfl)
theorem dJ13_init_2_6 : decode cJ13_init_2 6 = .ok (.invokespecial 16, 3) := dk_183 0 16 (dk_at dksJ13_init_2_0 6 rfl rfl)
theorem dJ13_init_2_9 : decode cJ13_init_2 9 = .ok (.return_, 1) := dk_177 (dk_at dksJ13_init_2_0 9 rfl rfl)
abbrev cJ13_init_3 : ByteArray := prog_28_method_1_code
def yJ13_init_3 : MethodName := ⟨RJ13, "<init>", "()V"⟩
theorem dJ13_init_3_0 : decode cJ13_init_3 0 = .ok (.aload_n 0, 1) := by decide +kernel
theorem dJ13_init_3_1 : decode cJ13_init_3 1 = .ok (.invokespecial 1, 3) := by decide +kernel
theorem dJ13_init_3_4 : decode cJ13_init_3 4 = .ok (.return_, 1) := by decide +kernel
theorem q133 : (Jvm.Cond.initialized "java/lang/Exception") ∈ lw_all := lw_g (lw_at lw_m1 21 rfl) rfl
theorem q916 : (Jvm.Cond.declares ({ cls := "java/lang/Exception", name := "<init>", desc := "()V" } : Jvm.MethodName)) ∈ lw_tbl := lw_at lw_m4 84 rfl
theorem q917 : (Jvm.Cond.declares ({ cls := "java/lang/Exception", name := "<init>", desc := "(Ljava/lang/String;)V" } : Jvm.MethodName)) ∈ lw_tbl := lw_at lw_m4 85 rfl
theorem q1039 : (Jvm.Cond.instanceMethod ({ cls := "java/lang/Exception", name := "<init>", desc := "(Ljava/lang/String;)V" } : Jvm.MethodName)) ∈ lw_all := lw_g (lw_at lw_m4 207 rfl) rfl
theorem q1040 : (Jvm.Cond.code ({ cls := "java/lang/Exception", name := "<init>", desc := "(Ljava/lang/String;)V" } : Jvm.MethodName) prog_28_method_2_code (2 : Nat) (Option.none : Option Jvm.ClassFile.FieldType)) ∈ lw_all := lw_g (lw_at lw_m4 208 rfl) rfl
theorem q1041 : (Jvm.Cond.methodLink "java/lang/Exception" (7 : Nat) ({ cls := "java/lang/Throwable", name := "<init>", desc := "(Ljava/lang/String;)V" } : Jvm.MethodName)) ∈ lw_all := lw_g (lw_at lw_m4 209 rfl) rfl
theorem q1100 : (Jvm.Cond.instanceMethod ({ cls := "java/lang/Exception", name := "<init>", desc := "(Ljava/lang/String;Ljava/lang/Throwable;ZZ)V" } : Jvm.MethodName)) ∈ lw_all := lw_g (lw_at lw_m5 28 rfl) rfl
theorem q1101 : (Jvm.Cond.code ({ cls := "java/lang/Exception", name := "<init>", desc := "(Ljava/lang/String;Ljava/lang/Throwable;ZZ)V" } : Jvm.MethodName) prog_28_method_5_code (5 : Nat) (Option.none : Option Jvm.ClassFile.FieldType)) ∈ lw_all := lw_g (lw_at lw_m5 29 rfl) rfl
theorem q1102 : (Jvm.Cond.methodLink "java/lang/Exception" (16 : Nat) ({ cls := "java/lang/Throwable", name := "<init>", desc := "(Ljava/lang/String;Ljava/lang/Throwable;ZZ)V" } : Jvm.MethodName)) ∈ lw_all := lw_g (lw_at lw_m5 30 rfl) rfl
theorem q1252 : (Jvm.Cond.instanceMethod ({ cls := "java/lang/Exception", name := "<init>", desc := "()V" } : Jvm.MethodName)) ∈ lw_all := lw_g (lw_at lw_m5 180 rfl) rfl
theorem q1253 : (Jvm.Cond.code ({ cls := "java/lang/Exception", name := "<init>", desc := "()V" } : Jvm.MethodName) prog_28_method_1_code (1 : Nat) (Option.none : Option Jvm.ClassFile.FieldType)) ∈ lw_all := lw_g (lw_at lw_m5 181 rfl) rfl
theorem q1254 : (Jvm.Cond.methodLink "java/lang/Exception" (1 : Nat) ({ cls := "java/lang/Throwable", name := "<init>", desc := "()V" } : Jvm.MethodName)) ∈ lw_all := lw_g (lw_at lw_m5 182 rfl) rfl

/-! java/lang/RuntimeException -/
set_option maxRecDepth 100000
def RJ14 : String := "java/lang/RuntimeException"
abbrev cJ14_init : ByteArray := prog_36_method_2_code
def yJ14_init : MethodName := ⟨RJ14, "<init>", "(Ljava/lang/String;)V"⟩
def dkwJ14_init_0 : List UInt8 := [42, 43, 183, 0, 7, 177]
abbrev dktJ14_init_0 : List UInt8 := dkwJ14_init_0 ++ []
theorem dksJ14_init_0 : cJ14_init.data.toList.drop 0 = dktJ14_init_0 := by decide +kernel
theorem dJ14_init_0 : decode cJ14_init 0 = .ok (.aload_n 0, 1) := dk_42 (dk_at dksJ14_init_0 0 rfl rfl)
theorem dJ14_init_1 : decode cJ14_init 1 = .ok (.aload_n 1, 1) := dk_43 (dk_at dksJ14_init_0 1 rfl rfl)
theorem dJ14_init_2 : decode cJ14_init 2 = .ok (.invokespecial 7, 3) := dk_183 0 7 (dk_at dksJ14_init_0 2 rfl rfl)
theorem dJ14_init_5 : decode cJ14_init 5 = .ok (.return_, 1) := dk_177 (dk_at dksJ14_init_0 5 rfl rfl)
abbrev cJ14_init_2 : ByteArray := prog_36_method_1_code
def yJ14_init_2 : MethodName := ⟨RJ14, "<init>", "()V"⟩
theorem dJ14_init_2_0 : decode cJ14_init_2 0 = .ok (.aload_n 0, 1) := by decide +kernel
theorem dJ14_init_2_1 : decode cJ14_init_2 1 = .ok (.invokespecial 1, 3) := by decide +kernel
theorem dJ14_init_2_4 : decode cJ14_init_2 4 = .ok (.return_, 1) := by decide +kernel
theorem q134 : (Jvm.Cond.initialized "java/lang/RuntimeException") ∈ lw_all := lw_g (lw_at lw_m1 22 rfl) rfl
theorem q914 : (Jvm.Cond.declares ({ cls := "java/lang/RuntimeException", name := "<init>", desc := "()V" } : Jvm.MethodName)) ∈ lw_tbl := lw_at lw_m4 82 rfl
theorem q915 : (Jvm.Cond.declares ({ cls := "java/lang/RuntimeException", name := "<init>", desc := "(Ljava/lang/String;)V" } : Jvm.MethodName)) ∈ lw_tbl := lw_at lw_m4 83 rfl
theorem q1036 : (Jvm.Cond.instanceMethod ({ cls := "java/lang/RuntimeException", name := "<init>", desc := "(Ljava/lang/String;)V" } : Jvm.MethodName)) ∈ lw_all := lw_g (lw_at lw_m4 204 rfl) rfl
theorem q1037 : (Jvm.Cond.code ({ cls := "java/lang/RuntimeException", name := "<init>", desc := "(Ljava/lang/String;)V" } : Jvm.MethodName) prog_36_method_2_code (2 : Nat) (Option.none : Option Jvm.ClassFile.FieldType)) ∈ lw_all := lw_g (lw_at lw_m4 205 rfl) rfl
theorem q1038 : (Jvm.Cond.methodLink "java/lang/RuntimeException" (7 : Nat) ({ cls := "java/lang/Exception", name := "<init>", desc := "(Ljava/lang/String;)V" } : Jvm.MethodName)) ∈ lw_all := lw_g (lw_at lw_m4 206 rfl) rfl
theorem q1249 : (Jvm.Cond.instanceMethod ({ cls := "java/lang/RuntimeException", name := "<init>", desc := "()V" } : Jvm.MethodName)) ∈ lw_all := lw_g (lw_at lw_m5 177 rfl) rfl
theorem q1250 : (Jvm.Cond.code ({ cls := "java/lang/RuntimeException", name := "<init>", desc := "()V" } : Jvm.MethodName) prog_36_method_1_code (1 : Nat) (Option.none : Option Jvm.ClassFile.FieldType)) ∈ lw_all := lw_g (lw_at lw_m5 178 rfl) rfl
theorem q1251 : (Jvm.Cond.methodLink "java/lang/RuntimeException" (1 : Nat) ({ cls := "java/lang/Exception", name := "<init>", desc := "()V" } : Jvm.MethodName)) ∈ lw_all := lw_g (lw_at lw_m5 179 rfl) rfl

/-! java/lang/IllegalArgumentException -/
set_option maxRecDepth 100000
def RJ15 : String := "java/lang/IllegalArgumentException"
def TJ15 : u_T := fun k => match k with
  | 0 => ("java/lang/Throwable", "cause", "Ljava/lang/Throwable;", false)
  | 1 => ("java/lang/Throwable", "stackTrace", "[Ljava/lang/StackTraceElement;", false)
  | 2 => ("java/lang/Throwable", "suppressedExceptions", "Ljava/util/List;", false)
  | 3 => ("java/lang/Throwable", "detailMessage", "Ljava/lang/String;", false)
  | 4 => ("java/lang/Throwable", "backtrace", "Ljava/lang/Object;", false)
  | _ => ("java/lang/Throwable", "depth", "I", false)
def tyJ15 : Nat → FieldType := fun k => match k with
  | 0 => .object "java/lang/Throwable"
  | 1 => .array (.object "java/lang/StackTraceElement")
  | 2 => .object "java/util/List"
  | 3 => .object "java/lang/String"
  | 4 => .object "java/lang/Object"
  | _ => .int
abbrev wsJ150 : List Cond := u_ws RJ15 TJ15 6
theorem nmJ15 : ∀ a, a < 6 → ∀ b, b < 6 → a ≠ b → (TJ15 a).2.1 ≠ (TJ15 b).2.1 := by decide +kernel
theorem tyJ15_ok : ∀ k, k < 6 → parseFieldDescriptor (TJ15 k).2.2.1 = some (tyJ15 k) := by decide +kernel
abbrev cJ15_init : ByteArray := prog_29_method_2_code
def yJ15_init : MethodName := ⟨RJ15, "<init>", "(Ljava/lang/String;)V"⟩
def dkwJ15_init_0 : List UInt8 := [42, 43, 183, 0, 7, 177]
abbrev dktJ15_init_0 : List UInt8 := dkwJ15_init_0 ++ []
theorem dksJ15_init_0 : cJ15_init.data.toList.drop 0 = dktJ15_init_0 := by decide +kernel
theorem dJ15_init_0 : decode cJ15_init 0 = .ok (.aload_n 0, 1) := dk_42 (dk_at dksJ15_init_0 0 rfl rfl)
theorem dJ15_init_1 : decode cJ15_init 1 = .ok (.aload_n 1, 1) := dk_43 (dk_at dksJ15_init_0 1 rfl rfl)
theorem dJ15_init_2 : decode cJ15_init 2 = .ok (.invokespecial 7, 3) := dk_183 0 7 (dk_at dksJ15_init_0 2 rfl rfl)
theorem dJ15_init_5 : decode cJ15_init 5 = .ok (.return_, 1) := dk_177 (dk_at dksJ15_init_0 5 rfl rfl)
abbrev cJ15_init_2 : ByteArray := prog_29_method_1_code
def yJ15_init_2 : MethodName := ⟨RJ15, "<init>", "()V"⟩
theorem dJ15_init_2_0 : decode cJ15_init_2 0 = .ok (.aload_n 0, 1) := by decide +kernel
theorem dJ15_init_2_1 : decode cJ15_init_2 1 = .ok (.invokespecial 1, 3) := by decide +kernel
theorem dJ15_init_2_4 : decode cJ15_init_2 4 = .ok (.return_, 1) := by decide +kernel
theorem q135 : (Jvm.Cond.initialized "java/lang/IllegalArgumentException") ∈ lw_all := lw_g (lw_at lw_m1 23 rfl) rfl
theorem q912 : (Jvm.Cond.instantiable "java/lang/IllegalArgumentException" (6 : Nat)) ∈ lw_all := lw_g (lw_at lw_m4 80 rfl) rfl
theorem q913 : (Jvm.Cond.castable "java/lang/IllegalArgumentException" "java/lang/IllegalArgumentException") ∈ lw_tbl := lw_at lw_m4 81 rfl
theorem q920 : (Jvm.Cond.selects "java/lang/IllegalArgumentException" ({ cls := "java/lang/Throwable", name := "fillInStackTrace", desc := "(I)Ljava/lang/Throwable;" } : Jvm.MethodName) ({ cls := "java/lang/Throwable", name := "fillInStackTrace", desc := "(I)Ljava/lang/Throwable;" } : Jvm.MethodName)) ∈ lw_all := lw_g (lw_at lw_m4 88 rfl) rfl
theorem q921 : (Jvm.Cond.selects "java/lang/IllegalArgumentException" ({ cls := "java/lang/Throwable", name := "fillInStackTrace", desc := "()Ljava/lang/Throwable;" } : Jvm.MethodName) ({ cls := "java/lang/Throwable", name := "fillInStackTrace", desc := "()Ljava/lang/Throwable;" } : Jvm.MethodName)) ∈ lw_all := lw_g (lw_at lw_m4 89 rfl) rfl
theorem q922 : (Jvm.Cond.lays "java/lang/IllegalArgumentException" "java/lang/Throwable" "cause" "Ljava/lang/Throwable;") ∈ lw_all := lw_g (lw_at lw_m4 90 rfl) rfl
theorem q924 : (Jvm.Cond.lays "java/lang/IllegalArgumentException" "java/lang/Throwable" "stackTrace" "[Ljava/lang/StackTraceElement;") ∈ lw_all := lw_g (lw_at lw_m4 92 rfl) rfl
theorem q926 : (Jvm.Cond.lays "java/lang/IllegalArgumentException" "java/lang/Throwable" "suppressedExceptions" "Ljava/util/List;") ∈ lw_all := lw_g (lw_at lw_m4 94 rfl) rfl
theorem q928 : (Jvm.Cond.lays "java/lang/IllegalArgumentException" "java/lang/Throwable" "detailMessage" "Ljava/lang/String;") ∈ lw_all := lw_g (lw_at lw_m4 96 rfl) rfl
theorem q930 : (Jvm.Cond.lays "java/lang/IllegalArgumentException" "java/lang/Throwable" "backtrace" "Ljava/lang/Object;") ∈ lw_all := lw_g (lw_at lw_m4 98 rfl) rfl
theorem q1033 : (Jvm.Cond.instanceMethod ({ cls := "java/lang/IllegalArgumentException", name := "<init>", desc := "(Ljava/lang/String;)V" } : Jvm.MethodName)) ∈ lw_all := lw_g (lw_at lw_m4 201 rfl) rfl
theorem q1034 : (Jvm.Cond.code ({ cls := "java/lang/IllegalArgumentException", name := "<init>", desc := "(Ljava/lang/String;)V" } : Jvm.MethodName) prog_29_method_2_code (2 : Nat) (Option.none : Option Jvm.ClassFile.FieldType)) ∈ lw_all := lw_g (lw_at lw_m4 202 rfl) rfl
theorem q1035 : (Jvm.Cond.methodLink "java/lang/IllegalArgumentException" (7 : Nat) ({ cls := "java/lang/RuntimeException", name := "<init>", desc := "(Ljava/lang/String;)V" } : Jvm.MethodName)) ∈ lw_all := lw_g (lw_at lw_m4 203 rfl) rfl
theorem q1053 : (Jvm.Cond.lays "java/lang/IllegalArgumentException" "java/lang/Throwable" "depth" "I") ∈ lw_all := lw_g (lw_at lw_m4 221 rfl) rfl
theorem q1056 : (Jvm.Cond.superclass "java/lang/IllegalArgumentException" "java/lang/RuntimeException") ∈ lw_all := lw_g (lw_at lw_m4 224 rfl) rfl
theorem q1246 : (Jvm.Cond.instanceMethod ({ cls := "java/lang/IllegalArgumentException", name := "<init>", desc := "()V" } : Jvm.MethodName)) ∈ lw_all := lw_g (lw_at lw_m5 174 rfl) rfl
theorem q1247 : (Jvm.Cond.code ({ cls := "java/lang/IllegalArgumentException", name := "<init>", desc := "()V" } : Jvm.MethodName) prog_29_method_1_code (1 : Nat) (Option.none : Option Jvm.ClassFile.FieldType)) ∈ lw_all := lw_g (lw_at lw_m5 175 rfl) rfl
theorem q1248 : (Jvm.Cond.methodLink "java/lang/IllegalArgumentException" (1 : Nat) ({ cls := "java/lang/RuntimeException", name := "<init>", desc := "()V" } : Jvm.MethodName)) ∈ lw_all := lw_g (lw_at lw_m5 176 rfl) rfl
theorem q1469 : (Jvm.Cond.selects "java/lang/IllegalArgumentException" ({ cls := "java/lang/Object", name := "getClass", desc := "()Ljava/lang/Class;" } : Jvm.MethodName) ({ cls := "java/lang/Object", name := "getClass", desc := "()Ljava/lang/Class;" } : Jvm.MethodName)) ∈ lw_all := lw_g (lw_at lw_m6 157 rfl) rfl
theorem q2540 : (Jvm.Cond.castable "java/lang/IllegalArgumentException" "java/lang/Object") ∈ lw_tbl := lw_at lw_m11 28 rfl
theorem in_J15 : ∀ w ∈ wsJ150, w ∈ lw_all := lw_in wsJ150 [922, 924, 926, 928, 930, 1053] (by decide +kernel) (by decide +kernel)

/-! java/lang/Integer -/
set_option maxRecDepth 100000
def RJ16 : String := "java/lang/Integer"
abbrev cJ16_stringSize : ByteArray := prog_32_method_13_code
def yJ16_stringSize : MethodName := ⟨RJ16, "stringSize", "(I)I"⟩
def dkwJ16_stringSize_1 : List UInt8 := [164, 0, 7, 29, 27, 96, 172, 16, 10, 28, 104, 61, 132, 3, 1, 167, 255, 233, 16, 10, 27, 96, 172]
abbrev dktJ16_stringSize_1 : List UInt8 := dkwJ16_stringSize_1 ++ []
def dkwJ16_stringSize_0 : List UInt8 := [4, 60, 26, 155, 0, 8, 3, 60, 26, 116, 59, 16, 246, 61, 4, 62, 29, 16, 10, 162, 0, 23, 26, 28]
abbrev dktJ16_stringSize_0 : List UInt8 := dkwJ16_stringSize_0 ++ dktJ16_stringSize_1
theorem dksJ16_stringSize_0 : cJ16_stringSize.data.toList.drop 0 = dktJ16_stringSize_0 := by decide +kernel
theorem dksJ16_stringSize_1 : cJ16_stringSize.data.toList.drop 24 = dktJ16_stringSize_1 := dk_seg dksJ16_stringSize_0 24 rfl rfl
theorem dJ16_stringSize_0 : decode cJ16_stringSize 0 = .ok (.iconst 1, 1) := dk_4 (dk_at dksJ16_stringSize_0 0 rfl rfl)
theorem dJ16_stringSize_1 : decode cJ16_stringSize 1 = .ok (.istore_n 1, 1) := dk_60 (dk_at dksJ16_stringSize_0 1 rfl rfl)
theorem dJ16_stringSize_2 : decode cJ16_stringSize 2 = .ok (.iload_n 0, 1) := dk_26 (dk_at dksJ16_stringSize_0 2 rfl rfl)
theorem dJ16_stringSize_3 : decode cJ16_stringSize 3 = .ok (.ifCond .lt 8, 3) := dk_155 0 8 (dk_at dksJ16_stringSize_0 3 rfl rfl)
theorem dJ16_stringSize_6 : decode cJ16_stringSize 6 = .ok (.iconst 0, 1) := dk_3 (dk_at dksJ16_stringSize_0 6 rfl rfl)
theorem dJ16_stringSize_7 : decode cJ16_stringSize 7 = .ok (.istore_n 1, 1) := dk_60 (dk_at dksJ16_stringSize_0 7 rfl rfl)
theorem dJ16_stringSize_8 : decode cJ16_stringSize 8 = .ok (.iload_n 0, 1) := dk_26 (dk_at dksJ16_stringSize_0 8 rfl rfl)
theorem dJ16_stringSize_9 : decode cJ16_stringSize 9 = .ok (.ineg, 1) := dk_116 (dk_at dksJ16_stringSize_0 9 rfl rfl)
theorem dJ16_stringSize_10 : decode cJ16_stringSize 10 = .ok (.istore_n 0, 1) := dk_59 (dk_at dksJ16_stringSize_0 10 rfl rfl)
theorem dJ16_stringSize_11 : decode cJ16_stringSize 11 = .ok (.bipush (-10), 2) := dk_16 246 (dk_at dksJ16_stringSize_0 11 rfl rfl)
theorem dJ16_stringSize_13 : decode cJ16_stringSize 13 = .ok (.istore_n 2, 1) := dk_61 (dk_at dksJ16_stringSize_0 13 rfl rfl)
theorem dJ16_stringSize_14 : decode cJ16_stringSize 14 = .ok (.iconst 1, 1) := dk_4 (dk_at dksJ16_stringSize_0 14 rfl rfl)
theorem dJ16_stringSize_15 : decode cJ16_stringSize 15 = .ok (.istore_n 3, 1) := dk_62 (dk_at dksJ16_stringSize_0 15 rfl rfl)
theorem dJ16_stringSize_16 : decode cJ16_stringSize 16 = .ok (.iload_n 3, 1) := dk_29 (dk_at dksJ16_stringSize_0 16 rfl rfl)
theorem dJ16_stringSize_17 : decode cJ16_stringSize 17 = .ok (.bipush 10, 2) := dk_16 10 (dk_at dksJ16_stringSize_0 17 rfl rfl)
theorem dJ16_stringSize_19 : decode cJ16_stringSize 19 = .ok (.if_icmp .ge 23, 3) := dk_162 0 23 (dk_at dksJ16_stringSize_0 19 rfl rfl)
theorem dJ16_stringSize_22 : decode cJ16_stringSize 22 = .ok (.iload_n 0, 1) := dk_26 (dk_at dksJ16_stringSize_0 22 rfl rfl)
theorem dJ16_stringSize_23 : decode cJ16_stringSize 23 = .ok (.iload_n 2, 1) := dk_28 (dk_at dksJ16_stringSize_0 23 rfl rfl)
theorem dJ16_stringSize_24 : decode cJ16_stringSize 24 = .ok (.if_icmp .le 7, 3) := dk_164 0 7 (dk_at dksJ16_stringSize_1 0 rfl rfl)
theorem dJ16_stringSize_27 : decode cJ16_stringSize 27 = .ok (.iload_n 3, 1) := dk_29 (dk_at dksJ16_stringSize_1 3 rfl rfl)
theorem dJ16_stringSize_28 : decode cJ16_stringSize 28 = .ok (.iload_n 1, 1) := dk_27 (dk_at dksJ16_stringSize_1 4 rfl rfl)
theorem dJ16_stringSize_29 : decode cJ16_stringSize 29 = .ok (.iadd, 1) := dk_96 (dk_at dksJ16_stringSize_1 5 rfl rfl)
theorem dJ16_stringSize_30 : decode cJ16_stringSize 30 = .ok (.ireturn, 1) := dk_172 (dk_at dksJ16_stringSize_1 6 rfl rfl)
theorem dJ16_stringSize_31 : decode cJ16_stringSize 31 = .ok (.bipush 10, 2) := dk_16 10 (dk_at dksJ16_stringSize_1 7 rfl rfl)
theorem dJ16_stringSize_33 : decode cJ16_stringSize 33 = .ok (.iload_n 2, 1) := dk_28 (dk_at dksJ16_stringSize_1 9 rfl rfl)
theorem dJ16_stringSize_34 : decode cJ16_stringSize 34 = .ok (.imul, 1) := dk_104 (dk_at dksJ16_stringSize_1 10 rfl rfl)
theorem dJ16_stringSize_35 : decode cJ16_stringSize 35 = .ok (.istore_n 2, 1) := dk_61 (dk_at dksJ16_stringSize_1 11 rfl rfl)
theorem dJ16_stringSize_36 : decode cJ16_stringSize 36 = .ok (.iinc 3 1, 3) := dk_132 3 1 (dk_at dksJ16_stringSize_1 12 rfl rfl)
theorem dJ16_stringSize_39 : decode cJ16_stringSize 39 = .ok (.goto (-23), 3) := dk_167 255 233 (dk_at dksJ16_stringSize_1 15 rfl rfl)
theorem dJ16_stringSize_42 : decode cJ16_stringSize 42 = .ok (.bipush 10, 2) := dk_16 10 (dk_at dksJ16_stringSize_1 18 rfl rfl)
theorem dJ16_stringSize_44 : decode cJ16_stringSize 44 = .ok (.iload_n 1, 1) := dk_27 (dk_at dksJ16_stringSize_1 20 rfl rfl)
theorem dJ16_stringSize_45 : decode cJ16_stringSize 45 = .ok (.iadd, 1) := dk_96 (dk_at dksJ16_stringSize_1 21 rfl rfl)
theorem dJ16_stringSize_46 : decode cJ16_stringSize 46 = .ok (.ireturn, 1) := dk_172 (dk_at dksJ16_stringSize_1 22 rfl rfl)
abbrev cJ16_getChars : ByteArray := prog_32_method_12_code
def yJ16_getChars : MethodName := ⟨RJ16, "getChars", "(II[B)I"⟩
def dkwJ16_getChars_5 : List UInt8 := [16, 45, 84, 21, 5, 172]
abbrev dktJ16_getChars_5 : List UInt8 := dkwJ16_getChars_5 ++ []
def dkwJ16_getChars_4 : List UInt8 := [132, 5, 255, 21, 5, 178, 0, 87, 26, 116, 51, 84, 21, 6, 153, 0, 12, 44, 132, 5, 255, 21, 5]
abbrev dktJ16_getChars_4 : List UInt8 := dkwJ16_getChars_4 ++ dktJ16_getChars_5
def dkwJ16_getChars_3 : List UInt8 := [167, 255, 209, 44, 132, 5, 255, 21, 5, 178, 0, 83, 26, 116, 51, 84, 26, 16, 247, 162, 0, 16, 44]
abbrev dktJ16_getChars_3 : List UInt8 := dkwJ16_getChars_3 ++ dktJ16_getChars_4
def dkwJ16_getChars_2 : List UInt8 := [21, 5, 178, 0, 83, 21, 4, 51, 84, 44, 132, 5, 255, 21, 5, 178, 0, 87, 21, 4, 51, 84]
abbrev dktJ16_getChars_2 : List UInt8 := dkwJ16_getChars_2 ++ dktJ16_getChars_3
def dkwJ16_getChars_1 : List UInt8 := [16, 156, 163, 0, 47, 26, 16, 100, 108, 62, 29, 16, 100, 104, 26, 100, 54, 4, 29, 59, 44, 132, 5, 255]
abbrev dktJ16_getChars_1 : List UInt8 := dkwJ16_getChars_1 ++ dktJ16_getChars_2
def dkwJ16_getChars_0 : List UInt8 := [27, 54, 5, 26, 156, 0, 7, 4, 167, 0, 4, 3, 54, 6, 21, 6, 154, 0, 6, 26, 116, 59, 26]
abbrev dktJ16_getChars_0 : List UInt8 := dkwJ16_getChars_0 ++ dktJ16_getChars_1
theorem dksJ16_getChars_0 : cJ16_getChars.data.toList.drop 0 = dktJ16_getChars_0 := by decide +kernel
theorem dksJ16_getChars_1 : cJ16_getChars.data.toList.drop 23 = dktJ16_getChars_1 := dk_seg dksJ16_getChars_0 23 rfl rfl
theorem dksJ16_getChars_2 : cJ16_getChars.data.toList.drop 47 = dktJ16_getChars_2 := dk_seg dksJ16_getChars_1 24 rfl rfl
theorem dksJ16_getChars_3 : cJ16_getChars.data.toList.drop 69 = dktJ16_getChars_3 := dk_seg dksJ16_getChars_2 22 rfl rfl
theorem dksJ16_getChars_4 : cJ16_getChars.data.toList.drop 92 = dktJ16_getChars_4 := dk_seg dksJ16_getChars_3 23 rfl rfl
theorem dksJ16_getChars_5 : cJ16_getChars.data.toList.drop 115 = dktJ16_getChars_5 := dk_seg dksJ16_getChars_4 23 rfl rfl
theorem dJ16_getChars_0 : decode cJ16_getChars 0 = .ok (.iload_n 1, 1) := dk_27 (dk_at dksJ16_getChars_0 0 rfl rfl)
theorem dJ16_getChars_1 : decode cJ16_getChars 1 = .ok (.istore 5, 2) := dk_54 5 (dk_at dksJ16_getChars_0 1 rfl rfl)
theorem dJ16_getChars_3 : decode cJ16_getChars 3 = .ok (.iload_n 0, 1) := dk_26 (dk_at dksJ16_getChars_0 3 rfl rfl)
theorem dJ16_getChars_4 : decode cJ16_getChars 4 = .ok (.ifCond .ge 7, 3) := dk_156 0 7 (dk_at dksJ16_getChars_0 4 rfl rfl)
theorem dJ16_getChars_7 : decode cJ16_getChars 7 = .ok (.iconst 1, 1) := dk_4 (dk_at dksJ16_getChars_0 7 rfl rfl)
theorem dJ16_getChars_8 : decode cJ16_getChars 8 = .ok (.goto 4, 3) := dk_167 0 4 (dk_at dksJ16_getChars_0 8 rfl rfl)
theorem dJ16_getChars_11 : decode cJ16_getChars 11 = .ok (.iconst 0, 1) := dk_3 (dk_at dksJ16_getChars_0 11 rfl rfl)
theorem dJ16_getChars_12 : decode cJ16_getChars 12 = .ok (.istore 6, 2) := dk_54 6 (dk_at dksJ16_getChars_0 12 rfl rfl)
theorem dJ16_getChars_14 : decode cJ16_getChars 14 = .ok (.iload 6, 2) := dk_21 6 (dk_at dksJ16_getChars_0 14 rfl rfl)
theorem dJ16_getChars_16 : decode cJ16_getChars 16 = .ok (.ifCond .ne 6, 3) := dk_154 0 6 (dk_at dksJ16_getChars_0 16 rfl rfl)
theorem dJ16_getChars_19 : decode cJ16_getChars 19 = .ok (.iload_n 0, 1) := dk_26 (dk_at dksJ16_getChars_0 19 rfl rfl)
theorem dJ16_getChars_20 : decode cJ16_getChars 20 = .ok (.ineg, 1) := dk_116 (dk_at dksJ16_getChars_0 20 rfl rfl)
theorem dJ16_getChars_21 : decode cJ16_getChars 21 = .ok (.istore_n 0, 1) := dk_59 (dk_at dksJ16_getChars_0 21 rfl rfl)
theorem dJ16_getChars_22 : decode cJ16_getChars 22 = .ok (.iload_n 0, 1) := dk_26 (dk_at dksJ16_getChars_0 22 rfl rfl)
theorem dJ16_getChars_23 : decode cJ16_getChars 23 = .ok (.bipush (-100), 2) := dk_16 156 (dk_at dksJ16_getChars_1 0 rfl rfl)
theorem dJ16_getChars_25 : decode cJ16_getChars 25 = .ok (.if_icmp .gt 47, 3) := dk_163 0 47 (dk_at dksJ16_getChars_1 2 rfl rfl)
theorem dJ16_getChars_28 : decode cJ16_getChars 28 = .ok (.iload_n 0, 1) := dk_26 (dk_at dksJ16_getChars_1 5 rfl rfl)
theorem dJ16_getChars_29 : decode cJ16_getChars 29 = .ok (.bipush 100, 2) := dk_16 100 (dk_at dksJ16_getChars_1 6 rfl rfl)
theorem dJ16_getChars_31 : decode cJ16_getChars 31 = .ok (.idiv, 1) := dk_108 (dk_at dksJ16_getChars_1 8 rfl rfl)
theorem dJ16_getChars_32 : decode cJ16_getChars 32 = .ok (.istore_n 3, 1) := dk_62 (dk_at dksJ16_getChars_1 9 rfl rfl)
theorem dJ16_getChars_33 : decode cJ16_getChars 33 = .ok (.iload_n 3, 1) := dk_29 (dk_at dksJ16_getChars_1 10 rfl rfl)
theorem dJ16_getChars_34 : decode cJ16_getChars 34 = .ok (.bipush 100, 2) := dk_16 100 (dk_at dksJ16_getChars_1 11 rfl rfl)
theorem dJ16_getChars_36 : decode cJ16_getChars 36 = .ok (.imul, 1) := dk_104 (dk_at dksJ16_getChars_1 13 rfl rfl)
theorem dJ16_getChars_37 : decode cJ16_getChars 37 = .ok (.iload_n 0, 1) := dk_26 (dk_at dksJ16_getChars_1 14 rfl rfl)
theorem dJ16_getChars_38 : decode cJ16_getChars 38 = .ok (.isub, 1) := dk_100 (dk_at dksJ16_getChars_1 15 rfl rfl)
theorem dJ16_getChars_39 : decode cJ16_getChars 39 = .ok (.istore 4, 2) := dk_54 4 (dk_at dksJ16_getChars_1 16 rfl rfl)
theorem dJ16_getChars_41 : decode cJ16_getChars 41 = .ok (.iload_n 3, 1) := dk_29 (dk_at dksJ16_getChars_1 18 rfl rfl)
theorem dJ16_getChars_42 : decode cJ16_getChars 42 = .ok (.istore_n 0, 1) := dk_59 (dk_at dksJ16_getChars_1 19 rfl rfl)
theorem dJ16_getChars_43 : decode cJ16_getChars 43 = .ok (.aload_n 2, 1) := dk_44 (dk_at dksJ16_getChars_1 20 rfl rfl)
theorem dJ16_getChars_44 : decode cJ16_getChars 44 = .ok (.iinc 5 (-1), 3) := dk_132 5 255 (dk_at dksJ16_getChars_1 21 rfl rfl)
theorem dJ16_getChars_47 : decode cJ16_getChars 47 = .ok (.iload 5, 2) := dk_21 5 (dk_at dksJ16_getChars_2 0 rfl rfl)
theorem dJ16_getChars_49 : decode cJ16_getChars 49 = .ok (.getstatic 83, 3) := dk_178 0 83 (dk_at dksJ16_getChars_2 2 rfl rfl)
theorem dJ16_getChars_52 : decode cJ16_getChars 52 = .ok (.iload 4, 2) := dk_21 4 (dk_at dksJ16_getChars_2 5 rfl rfl)
theorem dJ16_getChars_54 : decode cJ16_getChars 54 = .ok (.baload, 1) := dk_51 (dk_at dksJ16_getChars_2 7 rfl rfl)
theorem dJ16_getChars_55 : decode cJ16_getChars 55 = .ok (.bastore, 1) := dk_84 (dk_at dksJ16_getChars_2 8 rfl rfl)
theorem dJ16_getChars_56 : decode cJ16_getChars 56 = .ok (.aload_n 2, 1) := dk_44 (dk_at dksJ16_getChars_2 9 rfl rfl)
theorem dJ16_getChars_57 : decode cJ16_getChars 57 = .ok (.iinc 5 (-1), 3) := dk_132 5 255 (dk_at dksJ16_getChars_2 10 rfl rfl)
theorem dJ16_getChars_60 : decode cJ16_getChars 60 = .ok (.iload 5, 2) := dk_21 5 (dk_at dksJ16_getChars_2 13 rfl rfl)
theorem dJ16_getChars_62 : decode cJ16_getChars 62 = .ok (.getstatic 87, 3) := dk_178 0 87 (dk_at dksJ16_getChars_2 15 rfl rfl)
theorem dJ16_getChars_65 : decode cJ16_getChars 65 = .ok (.iload 4, 2) := dk_21 4 (dk_at dksJ16_getChars_2 18 rfl rfl)
theorem dJ16_getChars_67 : decode cJ16_getChars 67 = .ok (.baload, 1) := dk_51 (dk_at dksJ16_getChars_2 20 rfl rfl)
theorem dJ16_getChars_68 : decode cJ16_getChars 68 = .ok (.bastore, 1) := dk_84 (dk_at dksJ16_getChars_2 21 rfl rfl)
theorem dJ16_getChars_69 : decode cJ16_getChars 69 = .ok (.goto (-47), 3) := dk_167 255 209 (dk_at dksJ16_getChars_3 0 rfl rfl)
theorem dJ16_getChars_72 : decode cJ16_getChars 72 = .ok (.aload_n 2, 1) := dk_44 (dk_at dksJ16_getChars_3 3 rfl rfl)
theorem dJ16_getChars_73 : decode cJ16_getChars 73 = .ok (.iinc 5 (-1), 3) := dk_132 5 255 (dk_at dksJ16_getChars_3 4 rfl rfl)
theorem dJ16_getChars_76 : decode cJ16_getChars 76 = .ok (.iload 5, 2) := dk_21 5 (dk_at dksJ16_getChars_3 7 rfl rfl)
theorem dJ16_getChars_78 : decode cJ16_getChars 78 = .ok (.getstatic 83, 3) := dk_178 0 83 (dk_at dksJ16_getChars_3 9 rfl rfl)
theorem dJ16_getChars_81 : decode cJ16_getChars 81 = .ok (.iload_n 0, 1) := dk_26 (dk_at dksJ16_getChars_3 12 rfl rfl)
theorem dJ16_getChars_82 : decode cJ16_getChars 82 = .ok (.ineg, 1) := dk_116 (dk_at dksJ16_getChars_3 13 rfl rfl)
theorem dJ16_getChars_83 : decode cJ16_getChars 83 = .ok (.baload, 1) := dk_51 (dk_at dksJ16_getChars_3 14 rfl rfl)
theorem dJ16_getChars_84 : decode cJ16_getChars 84 = .ok (.bastore, 1) := dk_84 (dk_at dksJ16_getChars_3 15 rfl rfl)
theorem dJ16_getChars_85 : decode cJ16_getChars 85 = .ok (.iload_n 0, 1) := dk_26 (dk_at dksJ16_getChars_3 16 rfl rfl)
theorem dJ16_getChars_86 : decode cJ16_getChars 86 = .ok (.bipush (-9), 2) := dk_16 247 (dk_at dksJ16_getChars_3 17 rfl rfl)
theorem dJ16_getChars_88 : decode cJ16_getChars 88 = .ok (.if_icmp .ge 16, 3) := dk_162 0 16 (dk_at dksJ16_getChars_3 19 rfl rfl)
theorem dJ16_getChars_91 : decode cJ16_getChars 91 = .ok (.aload_n 2, 1) := dk_44 (dk_at dksJ16_getChars_3 22 rfl rfl)
theorem dJ16_getChars_92 : decode cJ16_getChars 92 = .ok (.iinc 5 (-1), 3) := dk_132 5 255 (dk_at dksJ16_getChars_4 0 rfl rfl)
theorem dJ16_getChars_95 : decode cJ16_getChars 95 = .ok (.iload 5, 2) := dk_21 5 (dk_at dksJ16_getChars_4 3 rfl rfl)
theorem dJ16_getChars_97 : decode cJ16_getChars 97 = .ok (.getstatic 87, 3) := dk_178 0 87 (dk_at dksJ16_getChars_4 5 rfl rfl)
theorem dJ16_getChars_100 : decode cJ16_getChars 100 = .ok (.iload_n 0, 1) := dk_26 (dk_at dksJ16_getChars_4 8 rfl rfl)
theorem dJ16_getChars_101 : decode cJ16_getChars 101 = .ok (.ineg, 1) := dk_116 (dk_at dksJ16_getChars_4 9 rfl rfl)
theorem dJ16_getChars_102 : decode cJ16_getChars 102 = .ok (.baload, 1) := dk_51 (dk_at dksJ16_getChars_4 10 rfl rfl)
theorem dJ16_getChars_103 : decode cJ16_getChars 103 = .ok (.bastore, 1) := dk_84 (dk_at dksJ16_getChars_4 11 rfl rfl)
theorem dJ16_getChars_104 : decode cJ16_getChars 104 = .ok (.iload 6, 2) := dk_21 6 (dk_at dksJ16_getChars_4 12 rfl rfl)
theorem dJ16_getChars_106 : decode cJ16_getChars 106 = .ok (.ifCond .eq 12, 3) := dk_153 0 12 (dk_at dksJ16_getChars_4 14 rfl rfl)
theorem dJ16_getChars_109 : decode cJ16_getChars 109 = .ok (.aload_n 2, 1) := dk_44 (dk_at dksJ16_getChars_4 17 rfl rfl)
theorem dJ16_getChars_110 : decode cJ16_getChars 110 = .ok (.iinc 5 (-1), 3) := dk_132 5 255 (dk_at dksJ16_getChars_4 18 rfl rfl)
theorem dJ16_getChars_113 : decode cJ16_getChars 113 = .ok (.iload 5, 2) := dk_21 5 (dk_at dksJ16_getChars_4 21 rfl rfl)
theorem dJ16_getChars_115 : decode cJ16_getChars 115 = .ok (.bipush 45, 2) := dk_16 45 (dk_at dksJ16_getChars_5 0 rfl rfl)
theorem dJ16_getChars_117 : decode cJ16_getChars 117 = .ok (.bastore, 1) := dk_84 (dk_at dksJ16_getChars_5 2 rfl rfl)
theorem dJ16_getChars_118 : decode cJ16_getChars 118 = .ok (.iload 5, 2) := dk_21 5 (dk_at dksJ16_getChars_5 3 rfl rfl)
theorem dJ16_getChars_120 : decode cJ16_getChars 120 = .ok (.ireturn, 1) := dk_172 (dk_at dksJ16_getChars_5 5 rfl rfl)
abbrev cJ16_bitCount : ByteArray := prog_32_method_49_code
def yJ16_bitCount : MethodName := ⟨RJ16, "bitCount", "(I)I"⟩
def dkwJ16_bitCount_2 : List UInt8 := [26, 16, 63, 126, 172]
abbrev dktJ16_bitCount_2 : List UInt8 := dkwJ16_bitCount_2 ++ []
def dkwJ16_bitCount_1 : List UInt8 := [26, 26, 7, 124, 96, 19, 1, 11, 126, 59, 26, 26, 16, 8, 124, 96, 59, 26, 26, 16, 16, 124, 96, 59]
abbrev dktJ16_bitCount_1 : List UInt8 := dkwJ16_bitCount_1 ++ dktJ16_bitCount_2
def dkwJ16_bitCount_0 : List UInt8 := [26, 26, 4, 124, 19, 1, 9, 126, 100, 59, 26, 19, 1, 10, 126, 26, 5, 124, 19, 1, 10, 126, 96, 59]
abbrev dktJ16_bitCount_0 : List UInt8 := dkwJ16_bitCount_0 ++ dktJ16_bitCount_1
theorem dksJ16_bitCount_0 : cJ16_bitCount.data.toList.drop 0 = dktJ16_bitCount_0 := by decide +kernel
theorem dksJ16_bitCount_1 : cJ16_bitCount.data.toList.drop 24 = dktJ16_bitCount_1 := dk_seg dksJ16_bitCount_0 24 rfl rfl
theorem dksJ16_bitCount_2 : cJ16_bitCount.data.toList.drop 48 = dktJ16_bitCount_2 := dk_seg dksJ16_bitCount_1 24 rfl rfl
theorem dJ16_bitCount_0 : decode cJ16_bitCount 0 = .ok (.iload_n 0, 1) := dk_26 (dk_at dksJ16_bitCount_0 0 rfl rfl)
theorem dJ16_bitCount_1 : decode cJ16_bitCount 1 = .ok (.iload_n 0, 1) := dk_26 (dk_at dksJ16_bitCount_0 1 rfl rfl)
theorem dJ16_bitCount_2 : decode cJ16_bitCount 2 = .ok (.iconst 1, 1) := dk_4 (dk_at dksJ16_bitCount_0 2 rfl rfl)
theorem dJ16_bitCount_3 : decode cJ16_bitCount 3 = .ok (.iushr, 1) := dk_124 (dk_at dksJ16_bitCount_0 3 rfl rfl)
theorem dJ16_bitCount_4 : decode cJ16_bitCount 4 = .ok (.ldc_w 265, 3) := dk_19 1 9 (dk_at dksJ16_bitCount_0 4 rfl rfl)
theorem dJ16_bitCount_7 : decode cJ16_bitCount 7 = .ok (.iand, 1) := dk_126 (dk_at dksJ16_bitCount_0 7 rfl rfl)
theorem dJ16_bitCount_8 : decode cJ16_bitCount 8 = .ok (.isub, 1) := dk_100 (dk_at dksJ16_bitCount_0 8 rfl rfl)
theorem dJ16_bitCount_9 : decode cJ16_bitCount 9 = .ok (.istore_n 0, 1) := dk_59 (dk_at dksJ16_bitCount_0 9 rfl rfl)
theorem dJ16_bitCount_10 : decode cJ16_bitCount 10 = .ok (.iload_n 0, 1) := dk_26 (dk_at dksJ16_bitCount_0 10 rfl rfl)
theorem dJ16_bitCount_11 : decode cJ16_bitCount 11 = .ok (.ldc_w 266, 3) := dk_19 1 10 (dk_at dksJ16_bitCount_0 11 rfl rfl)
theorem dJ16_bitCount_14 : decode cJ16_bitCount 14 = .ok (.iand, 1) := dk_126 (dk_at dksJ16_bitCount_0 14 rfl rfl)
theorem dJ16_bitCount_15 : decode cJ16_bitCount 15 = .ok (.iload_n 0, 1) := dk_26 (dk_at dksJ16_bitCount_0 15 rfl rfl)
theorem dJ16_bitCount_16 : decode cJ16_bitCount 16 = .ok (.iconst 2, 1) := dk_5 (dk_at dksJ16_bitCount_0 16 rfl rfl)
theorem dJ16_bitCount_17 : decode cJ16_bitCount 17 = .ok (.iushr, 1) := dk_124 (dk_at dksJ16_bitCount_0 17 rfl rfl)
theorem dJ16_bitCount_18 : decode cJ16_bitCount 18 = .ok (.ldc_w 266, 3) := dk_19 1 10 (dk_at dksJ16_bitCount_0 18 rfl rfl)
theorem dJ16_bitCount_21 : decode cJ16_bitCount 21 = .ok (.iand, 1) := dk_126 (dk_at dksJ16_bitCount_0 21 rfl rfl)
theorem dJ16_bitCount_22 : decode cJ16_bitCount 22 = .ok (.iadd, 1) := dk_96 (dk_at dksJ16_bitCount_0 22 rfl rfl)
theorem dJ16_bitCount_23 : decode cJ16_bitCount 23 = .ok (.istore_n 0, 1) := dk_59 (dk_at dksJ16_bitCount_0 23 rfl rfl)
theorem dJ16_bitCount_24 : decode cJ16_bitCount 24 = .ok (.iload_n 0, 1) := dk_26 (dk_at dksJ16_bitCount_1 0 rfl rfl)
theorem dJ16_bitCount_25 : decode cJ16_bitCount 25 = .ok (.iload_n 0, 1) := dk_26 (dk_at dksJ16_bitCount_1 1 rfl rfl)
theorem dJ16_bitCount_26 : decode cJ16_bitCount 26 = .ok (.iconst 4, 1) := dk_7 (dk_at dksJ16_bitCount_1 2 rfl rfl)
theorem dJ16_bitCount_27 : decode cJ16_bitCount 27 = .ok (.iushr, 1) := dk_124 (dk_at dksJ16_bitCount_1 3 rfl rfl)
theorem dJ16_bitCount_28 : decode cJ16_bitCount 28 = .ok (.iadd, 1) := dk_96 (dk_at dksJ16_bitCount_1 4 rfl rfl)
theorem dJ16_bitCount_29 : decode cJ16_bitCount 29 = .ok (.ldc_w 267, 3) := dk_19 1 11 (dk_at dksJ16_bitCount_1 5 rfl rfl)
theorem dJ16_bitCount_32 : decode cJ16_bitCount 32 = .ok (.iand, 1) := dk_126 (dk_at dksJ16_bitCount_1 8 rfl rfl)
theorem dJ16_bitCount_33 : decode cJ16_bitCount 33 = .ok (.istore_n 0, 1) := dk_59 (dk_at dksJ16_bitCount_1 9 rfl rfl)
theorem dJ16_bitCount_34 : decode cJ16_bitCount 34 = .ok (.iload_n 0, 1) := dk_26 (dk_at dksJ16_bitCount_1 10 rfl rfl)
theorem dJ16_bitCount_35 : decode cJ16_bitCount 35 = .ok (.iload_n 0, 1) := dk_26 (dk_at dksJ16_bitCount_1 11 rfl rfl)
theorem dJ16_bitCount_36 : decode cJ16_bitCount 36 = .ok (.bipush 8, 2) := dk_16 8 (dk_at dksJ16_bitCount_1 12 rfl rfl)
theorem dJ16_bitCount_38 : decode cJ16_bitCount 38 = .ok (.iushr, 1) := dk_124 (dk_at dksJ16_bitCount_1 14 rfl rfl)
theorem dJ16_bitCount_39 : decode cJ16_bitCount 39 = .ok (.iadd, 1) := dk_96 (dk_at dksJ16_bitCount_1 15 rfl rfl)
theorem dJ16_bitCount_40 : decode cJ16_bitCount 40 = .ok (.istore_n 0, 1) := dk_59 (dk_at dksJ16_bitCount_1 16 rfl rfl)
theorem dJ16_bitCount_41 : decode cJ16_bitCount 41 = .ok (.iload_n 0, 1) := dk_26 (dk_at dksJ16_bitCount_1 17 rfl rfl)
theorem dJ16_bitCount_42 : decode cJ16_bitCount 42 = .ok (.iload_n 0, 1) := dk_26 (dk_at dksJ16_bitCount_1 18 rfl rfl)
theorem dJ16_bitCount_43 : decode cJ16_bitCount 43 = .ok (.bipush 16, 2) := dk_16 16 (dk_at dksJ16_bitCount_1 19 rfl rfl)
theorem dJ16_bitCount_45 : decode cJ16_bitCount 45 = .ok (.iushr, 1) := dk_124 (dk_at dksJ16_bitCount_1 21 rfl rfl)
theorem dJ16_bitCount_46 : decode cJ16_bitCount 46 = .ok (.iadd, 1) := dk_96 (dk_at dksJ16_bitCount_1 22 rfl rfl)
theorem dJ16_bitCount_47 : decode cJ16_bitCount 47 = .ok (.istore_n 0, 1) := dk_59 (dk_at dksJ16_bitCount_1 23 rfl rfl)
theorem dJ16_bitCount_48 : decode cJ16_bitCount 48 = .ok (.iload_n 0, 1) := dk_26 (dk_at dksJ16_bitCount_2 0 rfl rfl)
theorem dJ16_bitCount_49 : decode cJ16_bitCount 49 = .ok (.bipush 63, 2) := dk_16 63 (dk_at dksJ16_bitCount_2 1 rfl rfl)
theorem dJ16_bitCount_51 : decode cJ16_bitCount 51 = .ok (.iand, 1) := dk_126 (dk_at dksJ16_bitCount_2 3 rfl rfl)
theorem dJ16_bitCount_52 : decode cJ16_bitCount 52 = .ok (.ireturn, 1) := dk_172 (dk_at dksJ16_bitCount_2 4 rfl rfl)
abbrev cJ16_numberOfTrailingZeros : ByteArray := prog_32_method_48_code
def yJ16_numberOfTrailingZeros : MethodName := ⟨RJ16, "numberOfTrailingZeros", "(I)I"⟩
def dkwJ16_numberOfTrailingZeros_3 : List UInt8 := [5, 124, 59, 27, 26, 4, 124, 96, 172]
abbrev dktJ16_numberOfTrailingZeros_3 : List UInt8 := dkwJ16_numberOfTrailingZeros_3 ++ []
def dkwJ16_numberOfTrailingZeros_2 : List UInt8 := [124, 59, 26, 16, 16, 164, 0, 10, 132, 1, 4, 26, 7, 124, 59, 26, 7, 164, 0, 10, 132, 1, 2, 26]
abbrev dktJ16_numberOfTrailingZeros_2 : List UInt8 := dkwJ16_numberOfTrailingZeros_2 ++ dktJ16_numberOfTrailingZeros_3
def dkwJ16_numberOfTrailingZeros_1 : List UInt8 := [164, 0, 11, 132, 1, 16, 26, 16, 16, 124, 59, 26, 17, 1, 0, 164, 0, 11, 132, 1, 8, 26, 16, 8]
abbrev dktJ16_numberOfTrailingZeros_1 : List UInt8 := dkwJ16_numberOfTrailingZeros_1 ++ dktJ16_numberOfTrailingZeros_2
def dkwJ16_numberOfTrailingZeros_0 : List UInt8 := [26, 2, 130, 26, 4, 100, 126, 59, 26, 157, 0, 8, 26, 16, 32, 126, 172, 4, 60, 26, 19, 1, 8]
abbrev dktJ16_numberOfTrailingZeros_0 : List UInt8 := dkwJ16_numberOfTrailingZeros_0 ++ dktJ16_numberOfTrailingZeros_1
theorem dksJ16_numberOfTrailingZeros_0 : cJ16_numberOfTrailingZeros.data.toList.drop 0 = dktJ16_numberOfTrailingZeros_0 := by decide +kernel
theorem dksJ16_numberOfTrailingZeros_1 : cJ16_numberOfTrailingZeros.data.toList.drop 23 = dktJ16_numberOfTrailingZeros_1 := dk_seg dksJ16_numberOfTrailingZeros_0 23 rfl rfl
theorem dksJ16_numberOfTrailingZeros_2 : cJ16_numberOfTrailingZeros.data.toList.drop 47 = dktJ16_numberOfTrailingZeros_2 := dk_seg dksJ16_numberOfTrailingZeros_1 24 rfl rfl
theorem dksJ16_numberOfTrailingZeros_3 : cJ16_numberOfTrailingZeros.data.toList.drop 71 = dktJ16_numberOfTrailingZeros_3 := dk_seg dksJ16_numberOfTrailingZeros_2 24 rfl rfl
theorem dJ16_numberOfTrailingZeros_0 : decode cJ16_numberOfTrailingZeros 0 = .ok (.iload_n 0, 1) := dk_26 (dk_at dksJ16_numberOfTrailingZeros_0 0 rfl rfl)
theorem dJ16_numberOfTrailingZeros_1 : decode cJ16_numberOfTrailingZeros 1 = .ok (.iconst (-1), 1) := dk_2 (dk_at dksJ16_numberOfTrailingZeros_0 1 rfl rfl)
theorem dJ16_numberOfTrailingZeros_2 : decode cJ16_numberOfTrailingZeros 2 = .ok (.ixor, 1) := dk_130 (dk_at dksJ16_numberOfTrailingZeros_0 2 rfl rfl)
theorem dJ16_numberOfTrailingZeros_3 : decode cJ16_numberOfTrailingZeros 3 = .ok (.iload_n 0, 1) := dk_26 (dk_at dksJ16_numberOfTrailingZeros_0 3 rfl rfl)
theorem dJ16_numberOfTrailingZeros_4 : decode cJ16_numberOfTrailingZeros 4 = .ok (.iconst 1, 1) := dk_4 (dk_at dksJ16_numberOfTrailingZeros_0 4 rfl rfl)
theorem dJ16_numberOfTrailingZeros_5 : decode cJ16_numberOfTrailingZeros 5 = .ok (.isub, 1) := dk_100 (dk_at dksJ16_numberOfTrailingZeros_0 5 rfl rfl)
theorem dJ16_numberOfTrailingZeros_6 : decode cJ16_numberOfTrailingZeros 6 = .ok (.iand, 1) := dk_126 (dk_at dksJ16_numberOfTrailingZeros_0 6 rfl rfl)
theorem dJ16_numberOfTrailingZeros_7 : decode cJ16_numberOfTrailingZeros 7 = .ok (.istore_n 0, 1) := dk_59 (dk_at dksJ16_numberOfTrailingZeros_0 7 rfl rfl)
theorem dJ16_numberOfTrailingZeros_8 : decode cJ16_numberOfTrailingZeros 8 = .ok (.iload_n 0, 1) := dk_26 (dk_at dksJ16_numberOfTrailingZeros_0 8 rfl rfl)
theorem dJ16_numberOfTrailingZeros_9 : decode cJ16_numberOfTrailingZeros 9 = .ok (.ifCond .gt 8, 3) := dk_157 0 8 (dk_at dksJ16_numberOfTrailingZeros_0 9 rfl rfl)
theorem dJ16_numberOfTrailingZeros_12 : decode cJ16_numberOfTrailingZeros 12 = .ok (.iload_n 0, 1) := dk_26 (dk_at dksJ16_numberOfTrailingZeros_0 12 rfl rfl)
theorem dJ16_numberOfTrailingZeros_13 : decode cJ16_numberOfTrailingZeros 13 = .ok (.bipush 32, 2) := dk_16 32 (dk_at dksJ16_numberOfTrailingZeros_0 13 rfl rfl)
theorem dJ16_numberOfTrailingZeros_15 : decode cJ16_numberOfTrailingZeros 15 = .ok (.iand, 1) := dk_126 (dk_at dksJ16_numberOfTrailingZeros_0 15 rfl rfl)
theorem dJ16_numberOfTrailingZeros_16 : decode cJ16_numberOfTrailingZeros 16 = .ok (.ireturn, 1) := dk_172 (dk_at dksJ16_numberOfTrailingZeros_0 16 rfl rfl)
theorem dJ16_numberOfTrailingZeros_17 : decode cJ16_numberOfTrailingZeros 17 = .ok (.iconst 1, 1) := dk_4 (dk_at dksJ16_numberOfTrailingZeros_0 17 rfl rfl)
theorem dJ16_numberOfTrailingZeros_18 : decode cJ16_numberOfTrailingZeros 18 = .ok (.istore_n 1, 1) := dk_60 (dk_at dksJ16_numberOfTrailingZeros_0 18 rfl rfl)
theorem dJ16_numberOfTrailingZeros_19 : decode cJ16_numberOfTrailingZeros 19 = .ok (.iload_n 0, 1) := dk_26 (dk_at dksJ16_numberOfTrailingZeros_0 19 rfl rfl)
theorem dJ16_numberOfTrailingZeros_20 : decode cJ16_numberOfTrailingZeros 20 = .ok (.ldc_w 264, 3) := dk_19 1 8 (dk_at dksJ16_numberOfTrailingZeros_0 20 rfl rfl)
theorem dJ16_numberOfTrailingZeros_23 : decode cJ16_numberOfTrailingZeros 23 = .ok (.if_icmp .le 11, 3) := dk_164 0 11 (dk_at dksJ16_numberOfTrailingZeros_1 0 rfl rfl)
theorem dJ16_numberOfTrailingZeros_26 : decode cJ16_numberOfTrailingZeros 26 = .ok (.iinc 1 16, 3) := dk_132 1 16 (dk_at dksJ16_numberOfTrailingZeros_1 3 rfl rfl)
theorem dJ16_numberOfTrailingZeros_29 : decode cJ16_numberOfTrailingZeros 29 = .ok (.iload_n 0, 1) := dk_26 (dk_at dksJ16_numberOfTrailingZeros_1 6 rfl rfl)
theorem dJ16_numberOfTrailingZeros_30 : decode cJ16_numberOfTrailingZeros 30 = .ok (.bipush 16, 2) := dk_16 16 (dk_at dksJ16_numberOfTrailingZeros_1 7 rfl rfl)
theorem dJ16_numberOfTrailingZeros_32 : decode cJ16_numberOfTrailingZeros 32 = .ok (.iushr, 1) := dk_124 (dk_at dksJ16_numberOfTrailingZeros_1 9 rfl rfl)
theorem dJ16_numberOfTrailingZeros_33 : decode cJ16_numberOfTrailingZeros 33 = .ok (.istore_n 0, 1) := dk_59 (dk_at dksJ16_numberOfTrailingZeros_1 10 rfl rfl)
theorem dJ16_numberOfTrailingZeros_34 : decode cJ16_numberOfTrailingZeros 34 = .ok (.iload_n 0, 1) := dk_26 (dk_at dksJ16_numberOfTrailingZeros_1 11 rfl rfl)
theorem dJ16_numberOfTrailingZeros_35 : decode cJ16_numberOfTrailingZeros 35 = .ok (.sipush 256, 3) := dk_17 1 0 (dk_at dksJ16_numberOfTrailingZeros_1 12 rfl rfl)
theorem dJ16_numberOfTrailingZeros_38 : decode cJ16_numberOfTrailingZeros 38 = .ok (.if_icmp .le 11, 3) := dk_164 0 11 (dk_at dksJ16_numberOfTrailingZeros_1 15 rfl rfl)
theorem dJ16_numberOfTrailingZeros_41 : decode cJ16_numberOfTrailingZeros 41 = .ok (.iinc 1 8, 3) := dk_132 1 8 (dk_at dksJ16_numberOfTrailingZeros_1 18 rfl rfl)
theorem dJ16_numberOfTrailingZeros_44 : decode cJ16_numberOfTrailingZeros 44 = .ok (.iload_n 0, 1) := dk_26 (dk_at dksJ16_numberOfTrailingZeros_1 21 rfl rfl)
theorem dJ16_numberOfTrailingZeros_45 : decode cJ16_numberOfTrailingZeros 45 = .ok (.bipush 8, 2) := dk_16 8 (dk_at dksJ16_numberOfTrailingZeros_1 22 rfl rfl)
theorem dJ16_numberOfTrailingZeros_47 : decode cJ16_numberOfTrailingZeros 47 = .ok (.iushr, 1) := dk_124 (dk_at dksJ16_numberOfTrailingZeros_2 0 rfl rfl)
theorem dJ16_numberOfTrailingZeros_48 : decode cJ16_numberOfTrailingZeros 48 = .ok (.istore_n 0, 1) := dk_59 (dk_at dksJ16_numberOfTrailingZeros_2 1 rfl rfl)
theorem dJ16_numberOfTrailingZeros_49 : decode cJ16_numberOfTrailingZeros 49 = .ok (.iload_n 0, 1) := dk_26 (dk_at dksJ16_numberOfTrailingZeros_2 2 rfl rfl)
theorem dJ16_numberOfTrailingZeros_50 : decode cJ16_numberOfTrailingZeros 50 = .ok (.bipush 16, 2) := dk_16 16 (dk_at dksJ16_numberOfTrailingZeros_2 3 rfl rfl)
theorem dJ16_numberOfTrailingZeros_52 : decode cJ16_numberOfTrailingZeros 52 = .ok (.if_icmp .le 10, 3) := dk_164 0 10 (dk_at dksJ16_numberOfTrailingZeros_2 5 rfl rfl)
theorem dJ16_numberOfTrailingZeros_55 : decode cJ16_numberOfTrailingZeros 55 = .ok (.iinc 1 4, 3) := dk_132 1 4 (dk_at dksJ16_numberOfTrailingZeros_2 8 rfl rfl)
theorem dJ16_numberOfTrailingZeros_58 : decode cJ16_numberOfTrailingZeros 58 = .ok (.iload_n 0, 1) := dk_26 (dk_at dksJ16_numberOfTrailingZeros_2 11 rfl rfl)
theorem dJ16_numberOfTrailingZeros_59 : decode cJ16_numberOfTrailingZeros 59 = .ok (.iconst 4, 1) := dk_7 (dk_at dksJ16_numberOfTrailingZeros_2 12 rfl rfl)
theorem dJ16_numberOfTrailingZeros_60 : decode cJ16_numberOfTrailingZeros 60 = .ok (.iushr, 1) := dk_124 (dk_at dksJ16_numberOfTrailingZeros_2 13 rfl rfl)
theorem dJ16_numberOfTrailingZeros_61 : decode cJ16_numberOfTrailingZeros 61 = .ok (.istore_n 0, 1) := dk_59 (dk_at dksJ16_numberOfTrailingZeros_2 14 rfl rfl)
theorem dJ16_numberOfTrailingZeros_62 : decode cJ16_numberOfTrailingZeros 62 = .ok (.iload_n 0, 1) := dk_26 (dk_at dksJ16_numberOfTrailingZeros_2 15 rfl rfl)
theorem dJ16_numberOfTrailingZeros_63 : decode cJ16_numberOfTrailingZeros 63 = .ok (.iconst 4, 1) := dk_7 (dk_at dksJ16_numberOfTrailingZeros_2 16 rfl rfl)
theorem dJ16_numberOfTrailingZeros_64 : decode cJ16_numberOfTrailingZeros 64 = .ok (.if_icmp .le 10, 3) := dk_164 0 10 (dk_at dksJ16_numberOfTrailingZeros_2 17 rfl rfl)
theorem dJ16_numberOfTrailingZeros_67 : decode cJ16_numberOfTrailingZeros 67 = .ok (.iinc 1 2, 3) := dk_132 1 2 (dk_at dksJ16_numberOfTrailingZeros_2 20 rfl rfl)
theorem dJ16_numberOfTrailingZeros_70 : decode cJ16_numberOfTrailingZeros 70 = .ok (.iload_n 0, 1) := dk_26 (dk_at dksJ16_numberOfTrailingZeros_2 23 rfl rfl)
theorem dJ16_numberOfTrailingZeros_71 : decode cJ16_numberOfTrailingZeros 71 = .ok (.iconst 2, 1) := dk_5 (dk_at dksJ16_numberOfTrailingZeros_3 0 rfl rfl)
theorem dJ16_numberOfTrailingZeros_72 : decode cJ16_numberOfTrailingZeros 72 = .ok (.iushr, 1) := dk_124 (dk_at dksJ16_numberOfTrailingZeros_3 1 rfl rfl)
theorem dJ16_numberOfTrailingZeros_73 : decode cJ16_numberOfTrailingZeros 73 = .ok (.istore_n 0, 1) := dk_59 (dk_at dksJ16_numberOfTrailingZeros_3 2 rfl rfl)
theorem dJ16_numberOfTrailingZeros_74 : decode cJ16_numberOfTrailingZeros 74 = .ok (.iload_n 1, 1) := dk_27 (dk_at dksJ16_numberOfTrailingZeros_3 3 rfl rfl)
theorem dJ16_numberOfTrailingZeros_75 : decode cJ16_numberOfTrailingZeros 75 = .ok (.iload_n 0, 1) := dk_26 (dk_at dksJ16_numberOfTrailingZeros_3 4 rfl rfl)
theorem dJ16_numberOfTrailingZeros_76 : decode cJ16_numberOfTrailingZeros 76 = .ok (.iconst 1, 1) := dk_4 (dk_at dksJ16_numberOfTrailingZeros_3 5 rfl rfl)
theorem dJ16_numberOfTrailingZeros_77 : decode cJ16_numberOfTrailingZeros 77 = .ok (.iushr, 1) := dk_124 (dk_at dksJ16_numberOfTrailingZeros_3 6 rfl rfl)
theorem dJ16_numberOfTrailingZeros_78 : decode cJ16_numberOfTrailingZeros 78 = .ok (.iadd, 1) := dk_96 (dk_at dksJ16_numberOfTrailingZeros_3 7 rfl rfl)
theorem dJ16_numberOfTrailingZeros_79 : decode cJ16_numberOfTrailingZeros 79 = .ok (.ireturn, 1) := dk_172 (dk_at dksJ16_numberOfTrailingZeros_3 8 rfl rfl)
abbrev cJ16_compare : ByteArray := prog_32_method_40_code
def yJ16_compare : MethodName := ⟨RJ16, "compare", "(II)I"⟩
def dkwJ16_compare_0 : List UInt8 := [26, 27, 162, 0, 7, 2, 167, 0, 13, 26, 27, 160, 0, 7, 3, 167, 0, 4, 4, 172]
abbrev dktJ16_compare_0 : List UInt8 := dkwJ16_compare_0 ++ []
theorem dksJ16_compare_0 : cJ16_compare.data.toList.drop 0 = dktJ16_compare_0 := by decide +kernel
theorem dJ16_compare_0 : decode cJ16_compare 0 = .ok (.iload_n 0, 1) := dk_26 (dk_at dksJ16_compare_0 0 rfl rfl)
theorem dJ16_compare_1 : decode cJ16_compare 1 = .ok (.iload_n 1, 1) := dk_27 (dk_at dksJ16_compare_0 1 rfl rfl)
theorem dJ16_compare_2 : decode cJ16_compare 2 = .ok (.if_icmp .ge 7, 3) := dk_162 0 7 (dk_at dksJ16_compare_0 2 rfl rfl)
theorem dJ16_compare_5 : decode cJ16_compare 5 = .ok (.iconst (-1), 1) := dk_2 (dk_at dksJ16_compare_0 5 rfl rfl)
theorem dJ16_compare_6 : decode cJ16_compare 6 = .ok (.goto 13, 3) := dk_167 0 13 (dk_at dksJ16_compare_0 6 rfl rfl)
theorem dJ16_compare_9 : decode cJ16_compare 9 = .ok (.iload_n 0, 1) := dk_26 (dk_at dksJ16_compare_0 9 rfl rfl)
theorem dJ16_compare_10 : decode cJ16_compare 10 = .ok (.iload_n 1, 1) := dk_27 (dk_at dksJ16_compare_0 10 rfl rfl)
theorem dJ16_compare_11 : decode cJ16_compare 11 = .ok (.if_icmp .ne 7, 3) := dk_160 0 7 (dk_at dksJ16_compare_0 11 rfl rfl)
theorem dJ16_compare_14 : decode cJ16_compare 14 = .ok (.iconst 0, 1) := dk_3 (dk_at dksJ16_compare_0 14 rfl rfl)
theorem dJ16_compare_15 : decode cJ16_compare 15 = .ok (.goto 4, 3) := dk_167 0 4 (dk_at dksJ16_compare_0 15 rfl rfl)
theorem dJ16_compare_18 : decode cJ16_compare 18 = .ok (.iconst 1, 1) := dk_4 (dk_at dksJ16_compare_0 18 rfl rfl)
theorem dJ16_compare_19 : decode cJ16_compare 19 = .ok (.ireturn, 1) := dk_172 (dk_at dksJ16_compare_0 19 rfl rfl)
theorem q137 : (Jvm.Cond.initialized "java/lang/Integer") ∈ lw_all := lw_g (lw_at lw_m1 25 rfl) rfl
theorem q966 : (Jvm.Cond.static ({ cls := "java/lang/Integer", name := "stringSize", desc := "(I)I" } : Jvm.MethodName)) ∈ lw_all := lw_g (lw_at lw_m4 134 rfl) rfl
theorem q967 : (Jvm.Cond.code ({ cls := "java/lang/Integer", name := "stringSize", desc := "(I)I" } : Jvm.MethodName) prog_32_method_13_code (4 : Nat) (Option.some Jvm.ClassFile.FieldType.int)) ∈ lw_all := lw_g (lw_at lw_m4 135 rfl) rfl
theorem q969 : (Jvm.Cond.static ({ cls := "java/lang/Integer", name := "getChars", desc := "(II[B)I" } : Jvm.MethodName)) ∈ lw_all := lw_g (lw_at lw_m4 137 rfl) rfl
theorem q970 : (Jvm.Cond.code ({ cls := "java/lang/Integer", name := "getChars", desc := "(II[B)I" } : Jvm.MethodName) prog_32_method_12_code (7 : Nat) (Option.some Jvm.ClassFile.FieldType.int)) ∈ lw_all := lw_g (lw_at lw_m4 138 rfl) rfl
theorem q971 : (Jvm.Cond.fieldLink "java/lang/Integer" (83 : Nat) "java/lang/Integer" "DigitOnes" "[B") ∈ lw_all := lw_g (lw_at lw_m4 139 rfl) rfl
theorem q972 : (Jvm.Cond.laysStatic "java/lang/Integer" "DigitOnes" "[B") ∈ lw_tbl := lw_at lw_m4 140 rfl
theorem q973 : (Jvm.Cond.fieldLink "java/lang/Integer" (87 : Nat) "java/lang/Integer" "DigitTens" "[B") ∈ lw_all := lw_g (lw_at lw_m4 141 rfl) rfl
theorem q974 : (Jvm.Cond.laysStatic "java/lang/Integer" "DigitTens" "[B") ∈ lw_tbl := lw_at lw_m4 142 rfl
theorem q1758 : (Jvm.Cond.static ({ cls := "java/lang/Integer", name := "bitCount", desc := "(I)I" } : Jvm.MethodName)) ∈ lw_all := lw_g (lw_at lw_m7 206 rfl) rfl
theorem q1759 : (Jvm.Cond.code ({ cls := "java/lang/Integer", name := "bitCount", desc := "(I)I" } : Jvm.MethodName) prog_32_method_49_code (1 : Nat) (Option.some Jvm.ClassFile.FieldType.int)) ∈ lw_all := lw_g (lw_at lw_m7 207 rfl) rfl
theorem q1760 : (Jvm.Cond.constant "java/lang/Integer" (265 : Nat) (1431655765 : Int32)) ∈ lw_all := lw_g (lw_at lw_m7 208 rfl) rfl
theorem q1761 : (Jvm.Cond.constant "java/lang/Integer" (266 : Nat) (858993459 : Int32)) ∈ lw_all := lw_g (lw_at lw_m7 209 rfl) rfl
theorem q1762 : (Jvm.Cond.constant "java/lang/Integer" (267 : Nat) (252645135 : Int32)) ∈ lw_all := lw_g (lw_at lw_m7 210 rfl) rfl
theorem q1776 : (Jvm.Cond.static ({ cls := "java/lang/Integer", name := "numberOfTrailingZeros", desc := "(I)I" } : Jvm.MethodName)) ∈ lw_all := lw_g (lw_at lw_m7 224 rfl) rfl
theorem q1777 : (Jvm.Cond.code ({ cls := "java/lang/Integer", name := "numberOfTrailingZeros", desc := "(I)I" } : Jvm.MethodName) prog_32_method_48_code (2 : Nat) (Option.some Jvm.ClassFile.FieldType.int)) ∈ lw_all := lw_g (lw_at lw_m7 225 rfl) rfl
theorem q1778 : (Jvm.Cond.constant "java/lang/Integer" (264 : Nat) (65536 : Int32)) ∈ lw_all := lw_g (lw_at lw_m7 226 rfl) rfl
theorem q1881 : (Jvm.Cond.static ({ cls := "java/lang/Integer", name := "compare", desc := "(II)I" } : Jvm.MethodName)) ∈ lw_all := lw_g (lw_at lw_m8 89 rfl) rfl
theorem q1882 : (Jvm.Cond.code ({ cls := "java/lang/Integer", name := "compare", desc := "(II)I" } : Jvm.MethodName) prog_32_method_40_code (2 : Nat) (Option.some Jvm.ClassFile.FieldType.int)) ∈ lw_all := lw_g (lw_at lw_m8 90 rfl) rfl

/-! java/lang/UnsupportedOperationException -/
set_option maxRecDepth 100000
def RJ17 : String := "java/lang/UnsupportedOperationException"
def TJ17 : u_T := fun k => match k with
  | 0 => ("java/lang/Throwable", "cause", "Ljava/lang/Throwable;", false)
  | 1 => ("java/lang/Throwable", "stackTrace", "[Ljava/lang/StackTraceElement;", false)
  | 2 => ("java/lang/Throwable", "suppressedExceptions", "Ljava/util/List;", false)
  | 3 => ("java/lang/Throwable", "detailMessage", "Ljava/lang/String;", false)
  | 4 => ("java/lang/Throwable", "backtrace", "Ljava/lang/Object;", false)
  | _ => ("java/lang/Throwable", "depth", "I", false)
def tyJ17 : Nat → FieldType := fun k => match k with
  | 0 => .object "java/lang/Throwable"
  | 1 => .array (.object "java/lang/StackTraceElement")
  | 2 => .object "java/util/List"
  | 3 => .object "java/lang/String"
  | 4 => .object "java/lang/Object"
  | _ => .int
abbrev wsJ170 : List Cond := u_ws RJ17 TJ17 6
theorem nmJ17 : ∀ a, a < 6 → ∀ b, b < 6 → a ≠ b → (TJ17 a).2.1 ≠ (TJ17 b).2.1 := by decide +kernel
theorem tyJ17_ok : ∀ k, k < 6 → parseFieldDescriptor (TJ17 k).2.2.1 = some (tyJ17 k) := by decide +kernel
abbrev cJ17_init : ByteArray := prog_44_method_1_code
def yJ17_init : MethodName := ⟨RJ17, "<init>", "()V"⟩
theorem dJ17_init_0 : decode cJ17_init 0 = .ok (.aload_n 0, 1) := by decide +kernel
theorem dJ17_init_1 : decode cJ17_init 1 = .ok (.invokespecial 1, 3) := by decide +kernel
theorem dJ17_init_4 : decode cJ17_init 4 = .ok (.return_, 1) := by decide +kernel
theorem q139 : (Jvm.Cond.initialized "java/lang/UnsupportedOperationException") ∈ lw_all := lw_g (lw_at lw_m1 27 rfl) rfl
theorem q948 : (Jvm.Cond.selects "java/lang/UnsupportedOperationException" ({ cls := "java/lang/Throwable", name := "fillInStackTrace", desc := "()Ljava/lang/Throwable;" } : Jvm.MethodName) ({ cls := "java/lang/Throwable", name := "fillInStackTrace", desc := "()Ljava/lang/Throwable;" } : Jvm.MethodName)) ∈ lw_all := lw_g (lw_at lw_m4 116 rfl) rfl
theorem q1256 : (Jvm.Cond.instantiable "java/lang/UnsupportedOperationException" (6 : Nat)) ∈ lw_all := lw_g (lw_at lw_m5 184 rfl) rfl
theorem q1257 : (Jvm.Cond.castable "java/lang/UnsupportedOperationException" "java/lang/UnsupportedOperationException") ∈ lw_tbl := lw_at lw_m5 185 rfl
theorem q1258 : (Jvm.Cond.selects "java/lang/UnsupportedOperationException" ({ cls := "java/lang/Throwable", name := "fillInStackTrace", desc := "(I)Ljava/lang/Throwable;" } : Jvm.MethodName) ({ cls := "java/lang/Throwable", name := "fillInStackTrace", desc := "(I)Ljava/lang/Throwable;" } : Jvm.MethodName)) ∈ lw_all := lw_g (lw_at lw_m5 186 rfl) rfl
theorem q1259 : (Jvm.Cond.lays "java/lang/UnsupportedOperationException" "java/lang/Throwable" "cause" "Ljava/lang/Throwable;") ∈ lw_all := lw_g (lw_at lw_m5 187 rfl) rfl
theorem q1260 : (Jvm.Cond.lays "java/lang/UnsupportedOperationException" "java/lang/Throwable" "stackTrace" "[Ljava/lang/StackTraceElement;") ∈ lw_all := lw_g (lw_at lw_m5 188 rfl) rfl
theorem q1261 : (Jvm.Cond.lays "java/lang/UnsupportedOperationException" "java/lang/Throwable" "suppressedExceptions" "Ljava/util/List;") ∈ lw_all := lw_g (lw_at lw_m5 189 rfl) rfl
theorem q1262 : (Jvm.Cond.lays "java/lang/UnsupportedOperationException" "java/lang/Throwable" "detailMessage" "Ljava/lang/String;") ∈ lw_all := lw_g (lw_at lw_m5 190 rfl) rfl
theorem q1263 : (Jvm.Cond.lays "java/lang/UnsupportedOperationException" "java/lang/Throwable" "backtrace" "Ljava/lang/Object;") ∈ lw_all := lw_g (lw_at lw_m5 191 rfl) rfl
theorem q1265 : (Jvm.Cond.instanceMethod ({ cls := "java/lang/UnsupportedOperationException", name := "<init>", desc := "()V" } : Jvm.MethodName)) ∈ lw_all := lw_g (lw_at lw_m5 193 rfl) rfl
theorem q1266 : (Jvm.Cond.code ({ cls := "java/lang/UnsupportedOperationException", name := "<init>", desc := "()V" } : Jvm.MethodName) prog_44_method_1_code (1 : Nat) (Option.none : Option Jvm.ClassFile.FieldType)) ∈ lw_all := lw_g (lw_at lw_m5 194 rfl) rfl
theorem q1267 : (Jvm.Cond.methodLink "java/lang/UnsupportedOperationException" (1 : Nat) ({ cls := "java/lang/RuntimeException", name := "<init>", desc := "()V" } : Jvm.MethodName)) ∈ lw_all := lw_g (lw_at lw_m5 195 rfl) rfl
theorem q1268 : (Jvm.Cond.lays "java/lang/UnsupportedOperationException" "java/lang/Throwable" "depth" "I") ∈ lw_all := lw_g (lw_at lw_m5 196 rfl) rfl
theorem q1269 : (Jvm.Cond.superclass "java/lang/UnsupportedOperationException" "java/lang/RuntimeException") ∈ lw_all := lw_g (lw_at lw_m5 197 rfl) rfl
theorem q1475 : (Jvm.Cond.selects "java/lang/UnsupportedOperationException" ({ cls := "java/lang/Object", name := "getClass", desc := "()Ljava/lang/Class;" } : Jvm.MethodName) ({ cls := "java/lang/Object", name := "getClass", desc := "()Ljava/lang/Class;" } : Jvm.MethodName)) ∈ lw_all := lw_g (lw_at lw_m6 163 rfl) rfl
theorem q2543 : (Jvm.Cond.castable "java/lang/UnsupportedOperationException" "java/lang/Object") ∈ lw_tbl := lw_at lw_m11 31 rfl
theorem in_J17 : ∀ w ∈ wsJ170, w ∈ lw_all := lw_in wsJ170 [1259, 1260, 1261, 1262, 1263, 1268] (by decide +kernel) (by decide +kernel)

/-! java/lang/Enum -/
set_option maxRecDepth 100000
def RJ18 : String := "java/lang/Enum"
abbrev cJ18_ordinal : ByteArray := prog_27_method_2_code
def yJ18_ordinal : MethodName := ⟨RJ18, "ordinal", "()I"⟩
theorem dJ18_ordinal_0 : decode cJ18_ordinal 0 = .ok (.aload_n 0, 1) := by decide +kernel
theorem dJ18_ordinal_1 : decode cJ18_ordinal 1 = .ok (.getfield 7, 3) := by decide +kernel
theorem dJ18_ordinal_4 : decode cJ18_ordinal 4 = .ok (.ireturn, 1) := by decide +kernel
theorem q141 : (Jvm.Cond.initialized "java/lang/Enum") ∈ lw_all := lw_g (lw_at lw_m1 29 rfl) rfl
theorem q580 : (Jvm.Cond.declares ({ cls := "java/lang/Enum", name := "ordinal", desc := "()I" } : Jvm.MethodName)) ∈ lw_tbl := lw_at lw_m2 228 rfl
theorem q582 : (Jvm.Cond.instanceMethod ({ cls := "java/lang/Enum", name := "ordinal", desc := "()I" } : Jvm.MethodName)) ∈ lw_all := lw_g (lw_at lw_m2 230 rfl) rfl
theorem q583 : (Jvm.Cond.code ({ cls := "java/lang/Enum", name := "ordinal", desc := "()I" } : Jvm.MethodName) prog_27_method_2_code (1 : Nat) (Option.some Jvm.ClassFile.FieldType.int)) ∈ lw_all := lw_g (lw_at lw_m2 231 rfl) rfl
theorem q2571 : (Jvm.Cond.fieldLink "java/lang/Enum" (7 : Nat) "java/lang/Enum" "ordinal" "I") ∈ lw_all := lw_g (lw_at lw_m11 59 rfl) rfl

/-! java/lang/IndexOutOfBoundsException -/
set_option maxRecDepth 100000
def RJ19 : String := "java/lang/IndexOutOfBoundsException"
def TJ19 : u_T := fun k => match k with
  | 0 => ("java/lang/Throwable", "cause", "Ljava/lang/Throwable;", false)
  | 1 => ("java/lang/Throwable", "stackTrace", "[Ljava/lang/StackTraceElement;", false)
  | 2 => ("java/lang/Throwable", "suppressedExceptions", "Ljava/util/List;", false)
  | 3 => ("java/lang/Throwable", "detailMessage", "Ljava/lang/String;", false)
  | 4 => ("java/lang/Throwable", "backtrace", "Ljava/lang/Object;", false)
  | _ => ("java/lang/Throwable", "depth", "I", false)
def tyJ19 : Nat → FieldType := fun k => match k with
  | 0 => .object "java/lang/Throwable"
  | 1 => .array (.object "java/lang/StackTraceElement")
  | 2 => .object "java/util/List"
  | 3 => .object "java/lang/String"
  | 4 => .object "java/lang/Object"
  | _ => .int
abbrev wsJ190 : List Cond := u_ws RJ19 TJ19 6
theorem nmJ19 : ∀ a, a < 6 → ∀ b, b < 6 → a ≠ b → (TJ19 a).2.1 ≠ (TJ19 b).2.1 := by decide +kernel
theorem tyJ19_ok : ∀ k, k < 6 → parseFieldDescriptor (TJ19 k).2.2.1 = some (tyJ19 k) := by decide +kernel
abbrev cJ19_init : ByteArray := prog_31_method_2_code
def yJ19_init : MethodName := ⟨RJ19, "<init>", "(Ljava/lang/String;)V"⟩
def dkwJ19_init_0 : List UInt8 := [42, 43, 183, 0, 7, 177]
abbrev dktJ19_init_0 : List UInt8 := dkwJ19_init_0 ++ []
theorem dksJ19_init_0 : cJ19_init.data.toList.drop 0 = dktJ19_init_0 := by decide +kernel
theorem dJ19_init_0 : decode cJ19_init 0 = .ok (.aload_n 0, 1) := dk_42 (dk_at dksJ19_init_0 0 rfl rfl)
theorem dJ19_init_1 : decode cJ19_init 1 = .ok (.aload_n 1, 1) := dk_43 (dk_at dksJ19_init_0 1 rfl rfl)
theorem dJ19_init_2 : decode cJ19_init 2 = .ok (.invokespecial 7, 3) := dk_183 0 7 (dk_at dksJ19_init_0 2 rfl rfl)
theorem dJ19_init_5 : decode cJ19_init 5 = .ok (.return_, 1) := dk_177 (dk_at dksJ19_init_0 5 rfl rfl)
abbrev cJ19_init_2 : ByteArray := prog_31_method_1_code
def yJ19_init_2 : MethodName := ⟨RJ19, "<init>", "()V"⟩
theorem dJ19_init_2_0 : decode cJ19_init_2 0 = .ok (.aload_n 0, 1) := by decide +kernel
theorem dJ19_init_2_1 : decode cJ19_init_2 1 = .ok (.invokespecial 1, 3) := by decide +kernel
theorem dJ19_init_2_4 : decode cJ19_init_2 4 = .ok (.return_, 1) := by decide +kernel
theorem q151 : (Jvm.Cond.initialized "java/lang/IndexOutOfBoundsException") ∈ lw_all := lw_g (lw_at lw_m1 39 rfl) rfl
theorem q947 : (Jvm.Cond.selects "java/lang/IndexOutOfBoundsException" ({ cls := "java/lang/Throwable", name := "fillInStackTrace", desc := "()Ljava/lang/Throwable;" } : Jvm.MethodName) ({ cls := "java/lang/Throwable", name := "fillInStackTrace", desc := "()Ljava/lang/Throwable;" } : Jvm.MethodName)) ∈ lw_all := lw_g (lw_at lw_m4 115 rfl) rfl
theorem q1471 : (Jvm.Cond.selects "java/lang/IndexOutOfBoundsException" ({ cls := "java/lang/Object", name := "getClass", desc := "()Ljava/lang/Class;" } : Jvm.MethodName) ({ cls := "java/lang/Object", name := "getClass", desc := "()Ljava/lang/Class;" } : Jvm.MethodName)) ∈ lw_all := lw_g (lw_at lw_m6 159 rfl) rfl
theorem q1527 : (Jvm.Cond.instanceMethod ({ cls := "java/lang/IndexOutOfBoundsException", name := "<init>", desc := "(Ljava/lang/String;)V" } : Jvm.MethodName)) ∈ lw_all := lw_g (lw_at lw_m6 215 rfl) rfl
theorem q1528 : (Jvm.Cond.code ({ cls := "java/lang/IndexOutOfBoundsException", name := "<init>", desc := "(Ljava/lang/String;)V" } : Jvm.MethodName) prog_31_method_2_code (2 : Nat) (Option.none : Option Jvm.ClassFile.FieldType)) ∈ lw_all := lw_g (lw_at lw_m6 216 rfl) rfl
theorem q1529 : (Jvm.Cond.methodLink "java/lang/IndexOutOfBoundsException" (7 : Nat) ({ cls := "java/lang/RuntimeException", name := "<init>", desc := "(Ljava/lang/String;)V" } : Jvm.MethodName)) ∈ lw_all := lw_g (lw_at lw_m6 217 rfl) rfl
theorem q1538 : (Jvm.Cond.declares ({ cls := "java/lang/IndexOutOfBoundsException", name := "<init>", desc := "()V" } : Jvm.MethodName)) ∈ lw_tbl := lw_at lw_m6 226 rfl
theorem q1539 : (Jvm.Cond.declares ({ cls := "java/lang/IndexOutOfBoundsException", name := "<init>", desc := "(Ljava/lang/String;)V" } : Jvm.MethodName)) ∈ lw_tbl := lw_at lw_m6 227 rfl
theorem q1555 : (Jvm.Cond.instantiable "java/lang/IndexOutOfBoundsException" (6 : Nat)) ∈ lw_all := lw_g (lw_at lw_m7 3 rfl) rfl
theorem q1556 : (Jvm.Cond.castable "java/lang/IndexOutOfBoundsException" "java/lang/IndexOutOfBoundsException") ∈ lw_tbl := lw_at lw_m7 4 rfl
theorem q1557 : (Jvm.Cond.selects "java/lang/IndexOutOfBoundsException" ({ cls := "java/lang/Throwable", name := "fillInStackTrace", desc := "(I)Ljava/lang/Throwable;" } : Jvm.MethodName) ({ cls := "java/lang/Throwable", name := "fillInStackTrace", desc := "(I)Ljava/lang/Throwable;" } : Jvm.MethodName)) ∈ lw_all := lw_g (lw_at lw_m7 5 rfl) rfl
theorem q1558 : (Jvm.Cond.lays "java/lang/IndexOutOfBoundsException" "java/lang/Throwable" "cause" "Ljava/lang/Throwable;") ∈ lw_all := lw_g (lw_at lw_m7 6 rfl) rfl
theorem q1559 : (Jvm.Cond.lays "java/lang/IndexOutOfBoundsException" "java/lang/Throwable" "stackTrace" "[Ljava/lang/StackTraceElement;") ∈ lw_all := lw_g (lw_at lw_m7 7 rfl) rfl
theorem q1560 : (Jvm.Cond.lays "java/lang/IndexOutOfBoundsException" "java/lang/Throwable" "suppressedExceptions" "Ljava/util/List;") ∈ lw_all := lw_g (lw_at lw_m7 8 rfl) rfl
theorem q1561 : (Jvm.Cond.lays "java/lang/IndexOutOfBoundsException" "java/lang/Throwable" "detailMessage" "Ljava/lang/String;") ∈ lw_all := lw_g (lw_at lw_m7 9 rfl) rfl
theorem q1562 : (Jvm.Cond.lays "java/lang/IndexOutOfBoundsException" "java/lang/Throwable" "backtrace" "Ljava/lang/Object;") ∈ lw_all := lw_g (lw_at lw_m7 10 rfl) rfl
theorem q1564 : (Jvm.Cond.instanceMethod ({ cls := "java/lang/IndexOutOfBoundsException", name := "<init>", desc := "()V" } : Jvm.MethodName)) ∈ lw_all := lw_g (lw_at lw_m7 12 rfl) rfl
theorem q1565 : (Jvm.Cond.code ({ cls := "java/lang/IndexOutOfBoundsException", name := "<init>", desc := "()V" } : Jvm.MethodName) prog_31_method_1_code (1 : Nat) (Option.none : Option Jvm.ClassFile.FieldType)) ∈ lw_all := lw_g (lw_at lw_m7 13 rfl) rfl
theorem q1566 : (Jvm.Cond.methodLink "java/lang/IndexOutOfBoundsException" (1 : Nat) ({ cls := "java/lang/RuntimeException", name := "<init>", desc := "()V" } : Jvm.MethodName)) ∈ lw_all := lw_g (lw_at lw_m7 14 rfl) rfl
theorem q1567 : (Jvm.Cond.lays "java/lang/IndexOutOfBoundsException" "java/lang/Throwable" "depth" "I") ∈ lw_all := lw_g (lw_at lw_m7 15 rfl) rfl
theorem q1568 : (Jvm.Cond.superclass "java/lang/IndexOutOfBoundsException" "java/lang/RuntimeException") ∈ lw_all := lw_g (lw_at lw_m7 16 rfl) rfl
theorem q2553 : (Jvm.Cond.castable "java/lang/IndexOutOfBoundsException" "java/lang/Object") ∈ lw_tbl := lw_at lw_m11 41 rfl
theorem in_J19 : ∀ w ∈ wsJ190, w ∈ lw_all := lw_in wsJ190 [1558, 1559, 1560, 1561, 1562, 1567] (by decide +kernel) (by decide +kernel)

/-! java/util/ArrayList -/
set_option maxRecDepth 100000
def RJ2 : String := "java/util/ArrayList"
def TJ2 : u_T := fun k => match k with
  | 0 => ("java/util/AbstractList", "modCount", "I", false)
  | 1 => ("java/util/ArrayList", "elementData", "[Ljava/lang/Object;", false)
  | _ => ("java/util/ArrayList", "size", "I", false)
def tyJ2 : Nat → FieldType := fun k => match k with
  | 0 => .int
  | 1 => .array (.object "java/lang/Object")
  | _ => .int
abbrev wsJ20 : List Cond := u_ws RJ2 TJ2 3
theorem nmJ2 : ∀ a, a < 3 → ∀ b, b < 3 → a ≠ b → (TJ2 a).2.1 ≠ (TJ2 b).2.1 := by decide +kernel
theorem tyJ2_ok : ∀ k, k < 3 → parseFieldDescriptor (TJ2 k).2.2.1 = some (tyJ2 k) := by decide +kernel
abbrev cJ2_init : ByteArray := prog_49_method_2_code
def yJ2_init : MethodName := ⟨RJ2, "<init>", "()V"⟩
def dkwJ2_init_0 : List UInt8 := [42, 183, 0, 1, 42, 178, 0, 39, 181, 0, 9, 177]
abbrev dktJ2_init_0 : List UInt8 := dkwJ2_init_0 ++ []
theorem dksJ2_init_0 : cJ2_init.data.toList.drop 0 = dktJ2_init_0 := by decide +kernel
theorem dJ2_init_0 : decode cJ2_init 0 = .ok (.aload_n 0, 1) := dk_42 (dk_at dksJ2_init_0 0 rfl rfl)
theorem dJ2_init_1 : decode cJ2_init 1 = .ok (.invokespecial 1, 3) := dk_183 0 1 (dk_at dksJ2_init_0 1 rfl rfl)
theorem dJ2_init_4 : decode cJ2_init 4 = .ok (.aload_n 0, 1) := dk_42 (dk_at dksJ2_init_0 4 rfl rfl)
theorem dJ2_init_5 : decode cJ2_init 5 = .ok (.getstatic 39, 3) := dk_178 0 39 (dk_at dksJ2_init_0 5 rfl rfl)
theorem dJ2_init_8 : decode cJ2_init 8 = .ok (.putfield 9, 3) := dk_181 0 9 (dk_at dksJ2_init_0 8 rfl rfl)
theorem dJ2_init_11 : decode cJ2_init 11 = .ok (.return_, 1) := dk_177 (dk_at dksJ2_init_0 11 rfl rfl)
abbrev cJ2_size : ByteArray := prog_49_method_8_code
def yJ2_size : MethodName := ⟨RJ2, "size", "()I"⟩
theorem dJ2_size_0 : decode cJ2_size 0 = .ok (.aload_n 0, 1) := by decide +kernel
theorem dJ2_size_1 : decode cJ2_size 1 = .ok (.getfield 48, 3) := by decide +kernel
theorem dJ2_size_4 : decode cJ2_size 4 = .ok (.ireturn, 1) := by decide +kernel
abbrev cJ2_get : ByteArray := prog_49_method_20_code
def yJ2_get : MethodName := ⟨RJ2, "get", "(I)Ljava/lang/Object;"⟩
def dkwJ2_get_0 : List UInt8 := [27, 42, 180, 0, 48, 184, 0, 118, 87, 42, 27, 182, 0, 123, 176]
abbrev dktJ2_get_0 : List UInt8 := dkwJ2_get_0 ++ []
theorem dksJ2_get_0 : cJ2_get.data.toList.drop 0 = dktJ2_get_0 := by decide +kernel
theorem dJ2_get_0 : decode cJ2_get 0 = .ok (.iload_n 1, 1) := dk_27 (dk_at dksJ2_get_0 0 rfl rfl)
theorem dJ2_get_1 : decode cJ2_get 1 = .ok (.aload_n 0, 1) := dk_42 (dk_at dksJ2_get_0 1 rfl rfl)
theorem dJ2_get_2 : decode cJ2_get 2 = .ok (.getfield 48, 3) := dk_180 0 48 (dk_at dksJ2_get_0 2 rfl rfl)
theorem dJ2_get_5 : decode cJ2_get 5 = .ok (.invokestatic 118, 3) := dk_184 0 118 (dk_at dksJ2_get_0 5 rfl rfl)
theorem dJ2_get_8 : decode cJ2_get 8 = .ok (.pop, 1) := dk_87 (dk_at dksJ2_get_0 8 rfl rfl)
theorem dJ2_get_9 : decode cJ2_get 9 = .ok (.aload_n 0, 1) := dk_42 (dk_at dksJ2_get_0 9 rfl rfl)
theorem dJ2_get_10 : decode cJ2_get 10 = .ok (.iload_n 1, 1) := dk_27 (dk_at dksJ2_get_0 10 rfl rfl)
theorem dJ2_get_11 : decode cJ2_get 11 = .ok (.invokevirtual 123, 3) := dk_182 0 123 (dk_at dksJ2_get_0 11 rfl rfl)
theorem dJ2_get_14 : decode cJ2_get 14 = .ok (.areturn, 1) := dk_176 (dk_at dksJ2_get_0 14 rfl rfl)
abbrev cJ2_elementData : ByteArray := prog_49_method_18_code
def yJ2_elementData : MethodName := ⟨RJ2, "elementData", "(I)Ljava/lang/Object;"⟩
def dkwJ2_elementData_0 : List UInt8 := [42, 180, 0, 9, 27, 50, 176]
abbrev dktJ2_elementData_0 : List UInt8 := dkwJ2_elementData_0 ++ []
theorem dksJ2_elementData_0 : cJ2_elementData.data.toList.drop 0 = dktJ2_elementData_0 := by decide +kernel
theorem dJ2_elementData_0 : decode cJ2_elementData 0 = .ok (.aload_n 0, 1) := dk_42 (dk_at dksJ2_elementData_0 0 rfl rfl)
theorem dJ2_elementData_1 : decode cJ2_elementData 1 = .ok (.getfield 9, 3) := dk_180 0 9 (dk_at dksJ2_elementData_0 1 rfl rfl)
theorem dJ2_elementData_4 : decode cJ2_elementData 4 = .ok (.iload_n 1, 1) := dk_27 (dk_at dksJ2_elementData_0 4 rfl rfl)
theorem dJ2_elementData_5 : decode cJ2_elementData 5 = .ok (.aaload, 1) := dk_50 (dk_at dksJ2_elementData_0 5 rfl rfl)
theorem dJ2_elementData_6 : decode cJ2_elementData 6 = .ok (.areturn, 1) := dk_176 (dk_at dksJ2_elementData_0 6 rfl rfl)
abbrev cJ2_isEmpty : ByteArray := prog_49_method_9_code
def yJ2_isEmpty : MethodName := ⟨RJ2, "isEmpty", "()Z"⟩
def dkwJ2_isEmpty_0 : List UInt8 := [42, 180, 0, 48, 154, 0, 7, 4, 167, 0, 4, 3, 172]
abbrev dktJ2_isEmpty_0 : List UInt8 := dkwJ2_isEmpty_0 ++ []
theorem dksJ2_isEmpty_0 : cJ2_isEmpty.data.toList.drop 0 = dktJ2_isEmpty_0 := by decide +kernel
theorem dJ2_isEmpty_0 : decode cJ2_isEmpty 0 = .ok (.aload_n 0, 1) := dk_42 (dk_at dksJ2_isEmpty_0 0 rfl rfl)
theorem dJ2_isEmpty_1 : decode cJ2_isEmpty 1 = .ok (.getfield 48, 3) := dk_180 0 48 (dk_at dksJ2_isEmpty_0 1 rfl rfl)
theorem dJ2_isEmpty_4 : decode cJ2_isEmpty 4 = .ok (.ifCond .ne 7, 3) := dk_154 0 7 (dk_at dksJ2_isEmpty_0 4 rfl rfl)
theorem dJ2_isEmpty_7 : decode cJ2_isEmpty 7 = .ok (.iconst 1, 1) := dk_4 (dk_at dksJ2_isEmpty_0 7 rfl rfl)
theorem dJ2_isEmpty_8 : decode cJ2_isEmpty 8 = .ok (.goto 4, 3) := dk_167 0 4 (dk_at dksJ2_isEmpty_0 8 rfl rfl)
theorem dJ2_isEmpty_11 : decode cJ2_isEmpty 11 = .ok (.iconst 0, 1) := dk_3 (dk_at dksJ2_isEmpty_0 11 rfl rfl)
theorem dJ2_isEmpty_12 : decode cJ2_isEmpty 12 = .ok (.ireturn, 1) := dk_172 (dk_at dksJ2_isEmpty_0 12 rfl rfl)
abbrev cJ2_remove : ByteArray := prog_49_method_29_code
def yJ2_remove : MethodName := ⟨RJ2, "remove", "(I)Ljava/lang/Object;"⟩
def dkwJ2_remove_1 : List UInt8 := [45, 176]
abbrev dktJ2_remove_1 : List UInt8 := dkwJ2_remove_1 ++ []
def dkwJ2_remove_0 : List UInt8 := [27, 42, 180, 0, 48, 184, 0, 118, 87, 42, 180, 0, 9, 77, 44, 27, 50, 78, 42, 44, 27, 182, 0, 144]
abbrev dktJ2_remove_0 : List UInt8 := dkwJ2_remove_0 ++ dktJ2_remove_1
theorem dksJ2_remove_0 : cJ2_remove.data.toList.drop 0 = dktJ2_remove_0 := by decide +kernel
theorem dksJ2_remove_1 : cJ2_remove.data.toList.drop 24 = dktJ2_remove_1 := dk_seg dksJ2_remove_0 24 rfl rfl
theorem dJ2_remove_0 : decode cJ2_remove 0 = .ok (.iload_n 1, 1) := dk_27 (dk_at dksJ2_remove_0 0 rfl rfl)
theorem dJ2_remove_1 : decode cJ2_remove 1 = .ok (.aload_n 0, 1) := dk_42 (dk_at dksJ2_remove_0 1 rfl rfl)
theorem dJ2_remove_2 : decode cJ2_remove 2 = .ok (.getfield 48, 3) := dk_180 0 48 (dk_at dksJ2_remove_0 2 rfl rfl)
theorem dJ2_remove_5 : decode cJ2_remove 5 = .ok (.invokestatic 118, 3) := dk_184 0 118 (dk_at dksJ2_remove_0 5 rfl rfl)
theorem dJ2_remove_8 : decode cJ2_remove 8 = .ok (.pop, 1) := dk_87 (dk_at dksJ2_remove_0 8 rfl rfl)
theorem dJ2_remove_9 : decode cJ2_remove 9 = .ok (.aload_n 0, 1) := dk_42 (dk_at dksJ2_remove_0 9 rfl rfl)
theorem dJ2_remove_10 : decode cJ2_remove 10 = .ok (.getfield 9, 3) := dk_180 0 9 (dk_at dksJ2_remove_0 10 rfl rfl)
theorem dJ2_remove_13 : decode cJ2_remove 13 = .ok (.astore_n 2, 1) := dk_77 (dk_at dksJ2_remove_0 13 rfl rfl)
theorem dJ2_remove_14 : decode cJ2_remove 14 = .ok (.aload_n 2, 1) := dk_44 (dk_at dksJ2_remove_0 14 rfl rfl)
theorem dJ2_remove_15 : decode cJ2_remove 15 = .ok (.iload_n 1, 1) := dk_27 (dk_at dksJ2_remove_0 15 rfl rfl)
theorem dJ2_remove_16 : decode cJ2_remove 16 = .ok (.aaload, 1) := dk_50 (dk_at dksJ2_remove_0 16 rfl rfl)
theorem dJ2_remove_17 : decode cJ2_remove 17 = .ok (.astore_n 3, 1) := dk_78 (dk_at dksJ2_remove_0 17 rfl rfl)
theorem dJ2_remove_18 : decode cJ2_remove 18 = .ok (.aload_n 0, 1) := dk_42 (dk_at dksJ2_remove_0 18 rfl rfl)
theorem dJ2_remove_19 : decode cJ2_remove 19 = .ok (.aload_n 2, 1) := dk_44 (dk_at dksJ2_remove_0 19 rfl rfl)
theorem dJ2_remove_20 : decode cJ2_remove 20 = .ok (.iload_n 1, 1) := dk_27 (dk_at dksJ2_remove_0 20 rfl rfl)
theorem dJ2_remove_21 : decode cJ2_remove 21 = .ok (.invokevirtual 144, 3) := dk_182 0 144 (dk_at dksJ2_remove_0 21 rfl rfl)
theorem dJ2_remove_24 : decode cJ2_remove 24 = .ok (.aload_n 3, 1) := dk_45 (dk_at dksJ2_remove_1 0 rfl rfl)
theorem dJ2_remove_25 : decode cJ2_remove 25 = .ok (.areturn, 1) := dk_176 (dk_at dksJ2_remove_1 1 rfl rfl)
abbrev cJ2_fastRemove : ByteArray := prog_49_method_39_code
def yJ2_fastRemove : MethodName := ⟨RJ2, "fastRemove", "([Ljava/lang/Object;I)V"⟩
def dkwJ2_fastRemove_1 : List UInt8 := [4, 96, 43, 28, 29, 28, 100, 184, 0, 112, 43, 42, 29, 90, 181, 0, 48, 1, 83, 177]
abbrev dktJ2_fastRemove_1 : List UInt8 := dkwJ2_fastRemove_1 ++ []
def dkwJ2_fastRemove_0 : List UInt8 := [42, 89, 180, 0, 63, 4, 96, 181, 0, 63, 42, 180, 0, 48, 4, 100, 89, 62, 28, 164, 0, 15, 43, 28]
abbrev dktJ2_fastRemove_0 : List UInt8 := dkwJ2_fastRemove_0 ++ dktJ2_fastRemove_1
theorem dksJ2_fastRemove_0 : cJ2_fastRemove.data.toList.drop 0 = dktJ2_fastRemove_0 := by decide +kernel
theorem dksJ2_fastRemove_1 : cJ2_fastRemove.data.toList.drop 24 = dktJ2_fastRemove_1 := dk_seg dksJ2_fastRemove_0 24 rfl rfl
theorem dJ2_fastRemove_0 : decode cJ2_fastRemove 0 = .ok (.aload_n 0, 1) := dk_42 (dk_at dksJ2_fastRemove_0 0 rfl rfl)
theorem dJ2_fastRemove_1 : decode cJ2_fastRemove 1 = .ok (.dup, 1) := dk_89 (dk_at dksJ2_fastRemove_0 1 rfl rfl)
theorem dJ2_fastRemove_2 : decode cJ2_fastRemove 2 = .ok (.getfield 63, 3) := dk_180 0 63 (dk_at dksJ2_fastRemove_0 2 rfl rfl)
theorem dJ2_fastRemove_5 : decode cJ2_fastRemove 5 = .ok (.iconst 1, 1) := dk_4 (dk_at dksJ2_fastRemove_0 5 rfl rfl)
theorem dJ2_fastRemove_6 : decode cJ2_fastRemove 6 = .ok (.iadd, 1) := dk_96 (dk_at dksJ2_fastRemove_0 6 rfl rfl)
theorem dJ2_fastRemove_7 : decode cJ2_fastRemove 7 = .ok (.putfield 63, 3) := dk_181 0 63 (dk_at dksJ2_fastRemove_0 7 rfl rfl)
theorem dJ2_fastRemove_10 : decode cJ2_fastRemove 10 = .ok (.aload_n 0, 1) := dk_42 (dk_at dksJ2_fastRemove_0 10 rfl rfl)
theorem dJ2_fastRemove_11 : decode cJ2_fastRemove 11 = .ok (.getfield 48, 3) := dk_180 0 48 (dk_at dksJ2_fastRemove_0 11 rfl rfl)
theorem dJ2_fastRemove_14 : decode cJ2_fastRemove 14 = .ok (.iconst 1, 1) := dk_4 (dk_at dksJ2_fastRemove_0 14 rfl rfl)
theorem dJ2_fastRemove_15 : decode cJ2_fastRemove 15 = .ok (.isub, 1) := dk_100 (dk_at dksJ2_fastRemove_0 15 rfl rfl)
theorem dJ2_fastRemove_16 : decode cJ2_fastRemove 16 = .ok (.dup, 1) := dk_89 (dk_at dksJ2_fastRemove_0 16 rfl rfl)
theorem dJ2_fastRemove_17 : decode cJ2_fastRemove 17 = .ok (.istore_n 3, 1) := dk_62 (dk_at dksJ2_fastRemove_0 17 rfl rfl)
theorem dJ2_fastRemove_18 : decode cJ2_fastRemove 18 = .ok (.iload_n 2, 1) := dk_28 (dk_at dksJ2_fastRemove_0 18 rfl rfl)
theorem dJ2_fastRemove_19 : decode cJ2_fastRemove 19 = .ok (.if_icmp .le 15, 3) := dk_164 0 15 (dk_at dksJ2_fastRemove_0 19 rfl rfl)
theorem dJ2_fastRemove_22 : decode cJ2_fastRemove 22 = .ok (.aload_n 1, 1) := dk_43 (dk_at dksJ2_fastRemove_0 22 rfl rfl)
theorem dJ2_fastRemove_23 : decode cJ2_fastRemove 23 = .ok (.iload_n 2, 1) := dk_28 (dk_at dksJ2_fastRemove_0 23 rfl rfl)
theorem dJ2_fastRemove_24 : decode cJ2_fastRemove 24 = .ok (.iconst 1, 1) := dk_4 (dk_at dksJ2_fastRemove_1 0 rfl rfl)
theorem dJ2_fastRemove_25 : decode cJ2_fastRemove 25 = .ok (.iadd, 1) := dk_96 (dk_at dksJ2_fastRemove_1 1 rfl rfl)
theorem dJ2_fastRemove_26 : decode cJ2_fastRemove 26 = .ok (.aload_n 1, 1) := dk_43 (dk_at dksJ2_fastRemove_1 2 rfl rfl)
theorem dJ2_fastRemove_27 : decode cJ2_fastRemove 27 = .ok (.iload_n 2, 1) := dk_28 (dk_at dksJ2_fastRemove_1 3 rfl rfl)
theorem dJ2_fastRemove_28 : decode cJ2_fastRemove 28 = .ok (.iload_n 3, 1) := dk_29 (dk_at dksJ2_fastRemove_1 4 rfl rfl)
theorem dJ2_fastRemove_29 : decode cJ2_fastRemove 29 = .ok (.iload_n 2, 1) := dk_28 (dk_at dksJ2_fastRemove_1 5 rfl rfl)
theorem dJ2_fastRemove_30 : decode cJ2_fastRemove 30 = .ok (.isub, 1) := dk_100 (dk_at dksJ2_fastRemove_1 6 rfl rfl)
theorem dJ2_fastRemove_31 : decode cJ2_fastRemove 31 = .ok (.invokestatic 112, 3) := dk_184 0 112 (dk_at dksJ2_fastRemove_1 7 rfl rfl)
theorem dJ2_fastRemove_34 : decode cJ2_fastRemove 34 = .ok (.aload_n 1, 1) := dk_43 (dk_at dksJ2_fastRemove_1 10 rfl rfl)
theorem dJ2_fastRemove_35 : decode cJ2_fastRemove 35 = .ok (.aload_n 0, 1) := dk_42 (dk_at dksJ2_fastRemove_1 11 rfl rfl)
theorem dJ2_fastRemove_36 : decode cJ2_fastRemove 36 = .ok (.iload_n 3, 1) := dk_29 (dk_at dksJ2_fastRemove_1 12 rfl rfl)
theorem dJ2_fastRemove_37 : decode cJ2_fastRemove 37 = .ok (.dup_x1, 1) := dk_90 (dk_at dksJ2_fastRemove_1 13 rfl rfl)
theorem dJ2_fastRemove_38 : decode cJ2_fastRemove 38 = .ok (.putfield 48, 3) := dk_181 0 48 (dk_at dksJ2_fastRemove_1 14 rfl rfl)
theorem dJ2_fastRemove_41 : decode cJ2_fastRemove 41 = .ok (.aconst_null, 1) := dk_1 (dk_at dksJ2_fastRemove_1 17 rfl rfl)
theorem dJ2_fastRemove_42 : decode cJ2_fastRemove 42 = .ok (.aastore, 1) := dk_83 (dk_at dksJ2_fastRemove_1 18 rfl rfl)
theorem dJ2_fastRemove_43 : decode cJ2_fastRemove 43 = .ok (.return_, 1) := dk_177 (dk_at dksJ2_fastRemove_1 19 rfl rfl)
abbrev cJ2_clear : ByteArray := prog_49_method_40_code
def yJ2_clear : MethodName := ⟨RJ2, "clear", "()V"⟩
def dkwJ2_clear_1 : List UInt8 := [181, 0, 48, 62, 29, 28, 162, 0, 13, 43, 29, 1, 83, 132, 3, 1, 167, 255, 244, 177]
abbrev dktJ2_clear_1 : List UInt8 := dkwJ2_clear_1 ++ []
def dkwJ2_clear_0 : List UInt8 := [42, 89, 180, 0, 63, 4, 96, 181, 0, 63, 42, 180, 0, 9, 76, 42, 180, 0, 48, 61, 42, 3, 90]
abbrev dktJ2_clear_0 : List UInt8 := dkwJ2_clear_0 ++ dktJ2_clear_1
theorem dksJ2_clear_0 : cJ2_clear.data.toList.drop 0 = dktJ2_clear_0 := by decide +kernel
theorem dksJ2_clear_1 : cJ2_clear.data.toList.drop 23 = dktJ2_clear_1 := dk_seg dksJ2_clear_0 23 rfl rfl
theorem dJ2_clear_0 : decode cJ2_clear 0 = .ok (.aload_n 0, 1) := dk_42 (dk_at dksJ2_clear_0 0 rfl rfl)
theorem dJ2_clear_1 : decode cJ2_clear 1 = .ok (.dup, 1) := dk_89 (dk_at dksJ2_clear_0 1 rfl rfl)
theorem dJ2_clear_2 : decode cJ2_clear 2 = .ok (.getfield 63, 3) := dk_180 0 63 (dk_at dksJ2_clear_0 2 rfl rfl)
theorem dJ2_clear_5 : decode cJ2_clear 5 = .ok (.iconst 1, 1) := dk_4 (dk_at dksJ2_clear_0 5 rfl rfl)
theorem dJ2_clear_6 : decode cJ2_clear 6 = .ok (.iadd, 1) := dk_96 (dk_at dksJ2_clear_0 6 rfl rfl)
theorem dJ2_clear_7 : decode cJ2_clear 7 = .ok (.putfield 63, 3) := dk_181 0 63 (dk_at dksJ2_clear_0 7 rfl rfl)
theorem dJ2_clear_10 : decode cJ2_clear 10 = .ok (.aload_n 0, 1) := dk_42 (dk_at dksJ2_clear_0 10 rfl rfl)
theorem dJ2_clear_11 : decode cJ2_clear 11 = .ok (.getfield 9, 3) := dk_180 0 9 (dk_at dksJ2_clear_0 11 rfl rfl)
theorem dJ2_clear_14 : decode cJ2_clear 14 = .ok (.astore_n 1, 1) := dk_76 (dk_at dksJ2_clear_0 14 rfl rfl)
theorem dJ2_clear_15 : decode cJ2_clear 15 = .ok (.aload_n 0, 1) := dk_42 (dk_at dksJ2_clear_0 15 rfl rfl)
theorem dJ2_clear_16 : decode cJ2_clear 16 = .ok (.getfield 48, 3) := dk_180 0 48 (dk_at dksJ2_clear_0 16 rfl rfl)
theorem dJ2_clear_19 : decode cJ2_clear 19 = .ok (.istore_n 2, 1) := dk_61 (dk_at dksJ2_clear_0 19 rfl rfl)
theorem dJ2_clear_20 : decode cJ2_clear 20 = .ok (.aload_n 0, 1) := dk_42 (dk_at dksJ2_clear_0 20 rfl rfl)
theorem dJ2_clear_21 : decode cJ2_clear 21 = .ok (.iconst 0, 1) := dk_3 (dk_at dksJ2_clear_0 21 rfl rfl)
theorem dJ2_clear_22 : decode cJ2_clear 22 = .ok (.dup_x1, 1) := dk_90 (dk_at dksJ2_clear_0 22 rfl rfl)
theorem dJ2_clear_23 : decode cJ2_clear 23 = .ok (.putfield 48, 3) := dk_181 0 48 (dk_at dksJ2_clear_1 0 rfl rfl)
theorem dJ2_clear_26 : decode cJ2_clear 26 = .ok (.istore_n 3, 1) := dk_62 (dk_at dksJ2_clear_1 3 rfl rfl)
theorem dJ2_clear_27 : decode cJ2_clear 27 = .ok (.iload_n 3, 1) := dk_29 (dk_at dksJ2_clear_1 4 rfl rfl)
theorem dJ2_clear_28 : decode cJ2_clear 28 = .ok (.iload_n 2, 1) := dk_28 (dk_at dksJ2_clear_1 5 rfl rfl)
theorem dJ2_clear_29 : decode cJ2_clear 29 = .ok (.if_icmp .ge 13, 3) := dk_162 0 13 (dk_at dksJ2_clear_1 6 rfl rfl)
theorem dJ2_clear_32 : decode cJ2_clear 32 = .ok (.aload_n 1, 1) := dk_43 (dk_at dksJ2_clear_1 9 rfl rfl)
theorem dJ2_clear_33 : decode cJ2_clear 33 = .ok (.iload_n 3, 1) := dk_29 (dk_at dksJ2_clear_1 10 rfl rfl)
theorem dJ2_clear_34 : decode cJ2_clear 34 = .ok (.aconst_null, 1) := dk_1 (dk_at dksJ2_clear_1 11 rfl rfl)
theorem dJ2_clear_35 : decode cJ2_clear 35 = .ok (.aastore, 1) := dk_83 (dk_at dksJ2_clear_1 12 rfl rfl)
theorem dJ2_clear_36 : decode cJ2_clear 36 = .ok (.iinc 3 1, 3) := dk_132 3 1 (dk_at dksJ2_clear_1 13 rfl rfl)
theorem dJ2_clear_39 : decode cJ2_clear 39 = .ok (.goto (-12), 3) := dk_167 255 244 (dk_at dksJ2_clear_1 16 rfl rfl)
theorem dJ2_clear_42 : decode cJ2_clear 42 = .ok (.return_, 1) := dk_177 (dk_at dksJ2_clear_1 19 rfl rfl)
abbrev cJ2_add : ByteArray := prog_49_method_25_code
def yJ2_add : MethodName := ⟨RJ2, "add", "(Ljava/lang/Object;)Z"⟩
def dkwJ2_add_1 : List UInt8 := [172]
abbrev dktJ2_add_1 : List UInt8 := dkwJ2_add_1 ++ []
def dkwJ2_add_0 : List UInt8 := [42, 89, 180, 0, 63, 4, 96, 181, 0, 63, 42, 43, 42, 180, 0, 9, 42, 180, 0, 48, 182, 0, 131, 4]
abbrev dktJ2_add_0 : List UInt8 := dkwJ2_add_0 ++ dktJ2_add_1
theorem dksJ2_add_0 : cJ2_add.data.toList.drop 0 = dktJ2_add_0 := by decide +kernel
theorem dksJ2_add_1 : cJ2_add.data.toList.drop 24 = dktJ2_add_1 := dk_seg dksJ2_add_0 24 rfl rfl
theorem dJ2_add_0 : decode cJ2_add 0 = .ok (.aload_n 0, 1) := dk_42 (dk_at dksJ2_add_0 0 rfl rfl)
theorem dJ2_add_1 : decode cJ2_add 1 = .ok (.dup, 1) := dk_89 (dk_at dksJ2_add_0 1 rfl rfl)
theorem dJ2_add_2 : decode cJ2_add 2 = .ok (.getfield 63, 3) := dk_180 0 63 (dk_at dksJ2_add_0 2 rfl rfl)
theorem dJ2_add_5 : decode cJ2_add 5 = .ok (.iconst 1, 1) := dk_4 (dk_at dksJ2_add_0 5 rfl rfl)
theorem dJ2_add_6 : decode cJ2_add 6 = .ok (.iadd, 1) := dk_96 (dk_at dksJ2_add_0 6 rfl rfl)
theorem dJ2_add_7 : decode cJ2_add 7 = .ok (.putfield 63, 3) := dk_181 0 63 (dk_at dksJ2_add_0 7 rfl rfl)
theorem dJ2_add_10 : decode cJ2_add 10 = .ok (.aload_n 0, 1) := dk_42 (dk_at dksJ2_add_0 10 rfl rfl)
theorem dJ2_add_11 : decode cJ2_add 11 = .ok (.aload_n 1, 1) := dk_43 (dk_at dksJ2_add_0 11 rfl rfl)
theorem dJ2_add_12 : decode cJ2_add 12 = .ok (.aload_n 0, 1) := dk_42 (dk_at dksJ2_add_0 12 rfl rfl)
theorem dJ2_add_13 : decode cJ2_add 13 = .ok (.getfield 9, 3) := dk_180 0 9 (dk_at dksJ2_add_0 13 rfl rfl)
theorem dJ2_add_16 : decode cJ2_add 16 = .ok (.aload_n 0, 1) := dk_42 (dk_at dksJ2_add_0 16 rfl rfl)
theorem dJ2_add_17 : decode cJ2_add 17 = .ok (.getfield 48, 3) := dk_180 0 48 (dk_at dksJ2_add_0 17 rfl rfl)
theorem dJ2_add_20 : decode cJ2_add 20 = .ok (.invokevirtual 131, 3) := dk_182 0 131 (dk_at dksJ2_add_0 20 rfl rfl)
theorem dJ2_add_23 : decode cJ2_add 23 = .ok (.iconst 1, 1) := dk_4 (dk_at dksJ2_add_0 23 rfl rfl)
theorem dJ2_add_24 : decode cJ2_add 24 = .ok (.ireturn, 1) := dk_172 (dk_at dksJ2_add_1 0 rfl rfl)
abbrev cJ2_add_2 : ByteArray := prog_49_method_24_code
def yJ2_add_2 : MethodName := ⟨RJ2, "add", "(Ljava/lang/Object;[Ljava/lang/Object;I)V"⟩
def dkwJ2_add_2_0 : List UInt8 := [29, 44, 190, 160, 0, 8, 42, 182, 0, 129, 77, 44, 29, 43, 83, 42, 29, 4, 96, 181, 0, 48, 177]
abbrev dktJ2_add_2_0 : List UInt8 := dkwJ2_add_2_0 ++ []
theorem dksJ2_add_2_0 : cJ2_add_2.data.toList.drop 0 = dktJ2_add_2_0 := by decide +kernel
theorem dJ2_add_2_0 : decode cJ2_add_2 0 = .ok (.iload_n 3, 1) := dk_29 (dk_at dksJ2_add_2_0 0 rfl rfl)
theorem dJ2_add_2_1 : decode cJ2_add_2 1 = .ok (.aload_n 2, 1) := dk_44 (dk_at dksJ2_add_2_0 1 rfl rfl)
theorem dJ2_add_2_2 : decode cJ2_add_2 2 = .ok (.arraylength, 1) := dk_190 (dk_at dksJ2_add_2_0 2 rfl rfl)
theorem dJ2_add_2_3 : decode cJ2_add_2 3 = .ok (.if_icmp .ne 8, 3) := dk_160 0 8 (dk_at dksJ2_add_2_0 3 rfl rfl)
theorem dJ2_add_2_6 : decode cJ2_add_2 6 = .ok (.aload_n 0, 1) := dk_42 (dk_at dksJ2_add_2_0 6 rfl rfl)
theorem dJ2_add_2_7 : decode cJ2_add_2 7 = .ok (.invokevirtual 129, 3) := dk_182 0 129 (dk_at dksJ2_add_2_0 7 rfl rfl)
theorem dJ2_add_2_10 : decode cJ2_add_2 10 = .ok (.astore_n 2, 1) := dk_77 (dk_at dksJ2_add_2_0 10 rfl rfl)
theorem dJ2_add_2_11 : decode cJ2_add_2 11 = .ok (.aload_n 2, 1) := dk_44 (dk_at dksJ2_add_2_0 11 rfl rfl)
theorem dJ2_add_2_12 : decode cJ2_add_2 12 = .ok (.iload_n 3, 1) := dk_29 (dk_at dksJ2_add_2_0 12 rfl rfl)
theorem dJ2_add_2_13 : decode cJ2_add_2 13 = .ok (.aload_n 1, 1) := dk_43 (dk_at dksJ2_add_2_0 13 rfl rfl)
theorem dJ2_add_2_14 : decode cJ2_add_2 14 = .ok (.aastore, 1) := dk_83 (dk_at dksJ2_add_2_0 14 rfl rfl)
theorem dJ2_add_2_15 : decode cJ2_add_2 15 = .ok (.aload_n 0, 1) := dk_42 (dk_at dksJ2_add_2_0 15 rfl rfl)
theorem dJ2_add_2_16 : decode cJ2_add_2 16 = .ok (.iload_n 3, 1) := dk_29 (dk_at dksJ2_add_2_0 16 rfl rfl)
theorem dJ2_add_2_17 : decode cJ2_add_2 17 = .ok (.iconst 1, 1) := dk_4 (dk_at dksJ2_add_2_0 17 rfl rfl)
theorem dJ2_add_2_18 : decode cJ2_add_2 18 = .ok (.iadd, 1) := dk_96 (dk_at dksJ2_add_2_0 18 rfl rfl)
theorem dJ2_add_2_19 : decode cJ2_add_2 19 = .ok (.putfield 48, 3) := dk_181 0 48 (dk_at dksJ2_add_2_0 19 rfl rfl)
theorem dJ2_add_2_22 : decode cJ2_add_2 22 = .ok (.return_, 1) := dk_177 (dk_at dksJ2_add_2_0 22 rfl rfl)
abbrev cJ2_grow : ByteArray := prog_49_method_7_code
def yJ2_grow : MethodName := ⟨RJ2, "grow", "()[Ljava/lang/Object;"⟩
def dkwJ2_grow_0 : List UInt8 := [42, 42, 180, 0, 48, 4, 96, 182, 0, 69, 176]
abbrev dktJ2_grow_0 : List UInt8 := dkwJ2_grow_0 ++ []
theorem dksJ2_grow_0 : cJ2_grow.data.toList.drop 0 = dktJ2_grow_0 := by decide +kernel
theorem dJ2_grow_0 : decode cJ2_grow 0 = .ok (.aload_n 0, 1) := dk_42 (dk_at dksJ2_grow_0 0 rfl rfl)
theorem dJ2_grow_1 : decode cJ2_grow 1 = .ok (.aload_n 0, 1) := dk_42 (dk_at dksJ2_grow_0 1 rfl rfl)
theorem dJ2_grow_2 : decode cJ2_grow 2 = .ok (.getfield 48, 3) := dk_180 0 48 (dk_at dksJ2_grow_0 2 rfl rfl)
theorem dJ2_grow_5 : decode cJ2_grow 5 = .ok (.iconst 1, 1) := dk_4 (dk_at dksJ2_grow_0 5 rfl rfl)
theorem dJ2_grow_6 : decode cJ2_grow 6 = .ok (.iadd, 1) := dk_96 (dk_at dksJ2_grow_0 6 rfl rfl)
theorem dJ2_grow_7 : decode cJ2_grow 7 = .ok (.invokevirtual 69, 3) := dk_182 0 69 (dk_at dksJ2_grow_0 7 rfl rfl)
theorem dJ2_grow_10 : decode cJ2_grow 10 = .ok (.areturn, 1) := dk_176 (dk_at dksJ2_grow_0 10 rfl rfl)
abbrev cJ2_grow_2 : ByteArray := prog_49_method_6_code
def yJ2_grow_2 : MethodName := ⟨RJ2, "grow", "(I)[Ljava/lang/Object;"⟩
def dkwJ2_grow_2_2 : List UInt8 := [27, 184, 0, 79, 189, 0, 7, 90, 181, 0, 9, 176]
abbrev dktJ2_grow_2_2 : List UInt8 := dkwJ2_grow_2_2 ++ []
def dkwJ2_grow_2_1 : List UInt8 := [28, 4, 122, 184, 0, 73, 62, 42, 42, 180, 0, 9, 29, 184, 0, 66, 90, 181, 0, 9, 176, 42, 16, 10]
abbrev dktJ2_grow_2_1 : List UInt8 := dkwJ2_grow_2_1 ++ dktJ2_grow_2_2
def dkwJ2_grow_2_0 : List UInt8 := [42, 180, 0, 9, 190, 61, 28, 157, 0, 13, 42, 180, 0, 9, 178, 0, 39, 165, 0, 28, 28, 27, 28, 100]
abbrev dktJ2_grow_2_0 : List UInt8 := dkwJ2_grow_2_0 ++ dktJ2_grow_2_1
theorem dksJ2_grow_2_0 : cJ2_grow_2.data.toList.drop 0 = dktJ2_grow_2_0 := by decide +kernel
theorem dksJ2_grow_2_1 : cJ2_grow_2.data.toList.drop 24 = dktJ2_grow_2_1 := dk_seg dksJ2_grow_2_0 24 rfl rfl
theorem dksJ2_grow_2_2 : cJ2_grow_2.data.toList.drop 48 = dktJ2_grow_2_2 := dk_seg dksJ2_grow_2_1 24 rfl rfl
theorem dJ2_grow_2_0 : decode cJ2_grow_2 0 = .ok (.aload_n 0, 1) := dk_42 (dk_at dksJ2_grow_2_0 0 rfl rfl)
theorem dJ2_grow_2_1 : decode cJ2_grow_2 1 = .ok (.getfield 9, 3) := dk_180 0 9 (dk_at dksJ2_grow_2_0 1 rfl rfl)
theorem dJ2_grow_2_4 : decode cJ2_grow_2 4 = .ok (.arraylength, 1) := dk_190 (dk_at dksJ2_grow_2_0 4 rfl rfl)
theorem dJ2_grow_2_5 : decode cJ2_grow_2 5 = .ok (.istore_n 2, 1) := dk_61 (dk_at dksJ2_grow_2_0 5 rfl rfl)
theorem dJ2_grow_2_6 : decode cJ2_grow_2 6 = .ok (.iload_n 2, 1) := dk_28 (dk_at dksJ2_grow_2_0 6 rfl rfl)
theorem dJ2_grow_2_7 : decode cJ2_grow_2 7 = .ok (.ifCond .gt 13, 3) := dk_157 0 13 (dk_at dksJ2_grow_2_0 7 rfl rfl)
theorem dJ2_grow_2_10 : decode cJ2_grow_2 10 = .ok (.aload_n 0, 1) := dk_42 (dk_at dksJ2_grow_2_0 10 rfl rfl)
theorem dJ2_grow_2_11 : decode cJ2_grow_2 11 = .ok (.getfield 9, 3) := dk_180 0 9 (dk_at dksJ2_grow_2_0 11 rfl rfl)
theorem dJ2_grow_2_14 : decode cJ2_grow_2 14 = .ok (.getstatic 39, 3) := dk_178 0 39 (dk_at dksJ2_grow_2_0 14 rfl rfl)
theorem dJ2_grow_2_17 : decode cJ2_grow_2 17 = .ok (.if_acmp .eq 28, 3) := dk_165 0 28 (dk_at dksJ2_grow_2_0 17 rfl rfl)
theorem dJ2_grow_2_20 : decode cJ2_grow_2 20 = .ok (.iload_n 2, 1) := dk_28 (dk_at dksJ2_grow_2_0 20 rfl rfl)
theorem dJ2_grow_2_21 : decode cJ2_grow_2 21 = .ok (.iload_n 1, 1) := dk_27 (dk_at dksJ2_grow_2_0 21 rfl rfl)
theorem dJ2_grow_2_22 : decode cJ2_grow_2 22 = .ok (.iload_n 2, 1) := dk_28 (dk_at dksJ2_grow_2_0 22 rfl rfl)
theorem dJ2_grow_2_23 : decode cJ2_grow_2 23 = .ok (.isub, 1) := dk_100 (dk_at dksJ2_grow_2_0 23 rfl rfl)
theorem dJ2_grow_2_24 : decode cJ2_grow_2 24 = .ok (.iload_n 2, 1) := dk_28 (dk_at dksJ2_grow_2_1 0 rfl rfl)
theorem dJ2_grow_2_25 : decode cJ2_grow_2 25 = .ok (.iconst 1, 1) := dk_4 (dk_at dksJ2_grow_2_1 1 rfl rfl)
theorem dJ2_grow_2_26 : decode cJ2_grow_2 26 = .ok (.ishr, 1) := dk_122 (dk_at dksJ2_grow_2_1 2 rfl rfl)
theorem dJ2_grow_2_27 : decode cJ2_grow_2 27 = .ok (.invokestatic 73, 3) := dk_184 0 73 (dk_at dksJ2_grow_2_1 3 rfl rfl)
theorem dJ2_grow_2_30 : decode cJ2_grow_2 30 = .ok (.istore_n 3, 1) := dk_62 (dk_at dksJ2_grow_2_1 6 rfl rfl)
theorem dJ2_grow_2_31 : decode cJ2_grow_2 31 = .ok (.aload_n 0, 1) := dk_42 (dk_at dksJ2_grow_2_1 7 rfl rfl)
theorem dJ2_grow_2_32 : decode cJ2_grow_2 32 = .ok (.aload_n 0, 1) := dk_42 (dk_at dksJ2_grow_2_1 8 rfl rfl)
theorem dJ2_grow_2_33 : decode cJ2_grow_2 33 = .ok (.getfield 9, 3) := dk_180 0 9 (dk_at dksJ2_grow_2_1 9 rfl rfl)
theorem dJ2_grow_2_36 : decode cJ2_grow_2 36 = .ok (.iload_n 3, 1) := dk_29 (dk_at dksJ2_grow_2_1 12 rfl rfl)
theorem dJ2_grow_2_37 : decode cJ2_grow_2 37 = .ok (.invokestatic 66, 3) := dk_184 0 66 (dk_at dksJ2_grow_2_1 13 rfl rfl)
theorem dJ2_grow_2_40 : decode cJ2_grow_2 40 = .ok (.dup_x1, 1) := dk_90 (dk_at dksJ2_grow_2_1 16 rfl rfl)
theorem dJ2_grow_2_41 : decode cJ2_grow_2 41 = .ok (.putfield 9, 3) := dk_181 0 9 (dk_at dksJ2_grow_2_1 17 rfl rfl)
theorem dJ2_grow_2_44 : decode cJ2_grow_2 44 = .ok (.areturn, 1) := dk_176 (dk_at dksJ2_grow_2_1 20 rfl rfl)
theorem dJ2_grow_2_45 : decode cJ2_grow_2 45 = .ok (.aload_n 0, 1) := dk_42 (dk_at dksJ2_grow_2_1 21 rfl rfl)
theorem dJ2_grow_2_46 : decode cJ2_grow_2 46 = .ok (.bipush 10, 2) := dk_16 10 (dk_at dksJ2_grow_2_1 22 rfl rfl)
theorem dJ2_grow_2_48 : decode cJ2_grow_2 48 = .ok (.iload_n 1, 1) := dk_27 (dk_at dksJ2_grow_2_2 0 rfl rfl)
theorem dJ2_grow_2_49 : decode cJ2_grow_2 49 = .ok (.invokestatic 79, 3) := dk_184 0 79 (dk_at dksJ2_grow_2_2 1 rfl rfl)
theorem dJ2_grow_2_52 : decode cJ2_grow_2 52 = .ok (.anewarray 7, 3) := dk_189 0 7 (dk_at dksJ2_grow_2_2 4 rfl rfl)
theorem dJ2_grow_2_55 : decode cJ2_grow_2 55 = .ok (.dup_x1, 1) := dk_90 (dk_at dksJ2_grow_2_2 7 rfl rfl)
theorem dJ2_grow_2_56 : decode cJ2_grow_2 56 = .ok (.putfield 9, 3) := dk_181 0 9 (dk_at dksJ2_grow_2_2 8 rfl rfl)
theorem dJ2_grow_2_59 : decode cJ2_grow_2 59 = .ok (.areturn, 1) := dk_176 (dk_at dksJ2_grow_2_2 11 rfl rfl)
theorem q119 : (Jvm.Cond.initialized "java/util/ArrayList") ∈ lw_all := lw_g (lw_at lw_m1 7 rfl) rfl
theorem q338 : (Jvm.Cond.instantiable "java/util/ArrayList" (3 : Nat)) ∈ lw_all := lw_g (lw_at lw_m1 226 rfl) rfl
theorem q340 : (Jvm.Cond.instanceMethod ({ cls := "java/util/ArrayList", name := "<init>", desc := "()V" } : Jvm.MethodName)) ∈ lw_all := lw_g (lw_at lw_m1 228 rfl) rfl
theorem q341 : (Jvm.Cond.code ({ cls := "java/util/ArrayList", name := "<init>", desc := "()V" } : Jvm.MethodName) prog_49_method_2_code (1 : Nat) (Option.none : Option Jvm.ClassFile.FieldType)) ∈ lw_all := lw_g (lw_at lw_m1 229 rfl) rfl
theorem q342 : (Jvm.Cond.methodLink "java/util/ArrayList" (1 : Nat) ({ cls := "java/util/AbstractList", name := "<init>", desc := "()V" } : Jvm.MethodName)) ∈ lw_all := lw_g (lw_at lw_m1 230 rfl) rfl
theorem q349 : (Jvm.Cond.fieldLink "java/util/ArrayList" (39 : Nat) "java/util/ArrayList" "DEFAULTCAPACITY_EMPTY_ELEMENTDATA" "[Ljava/lang/Object;") ∈ lw_all := lw_g (lw_at lw_m1 237 rfl) rfl
theorem q350 : (Jvm.Cond.laysStatic "java/util/ArrayList" "DEFAULTCAPACITY_EMPTY_ELEMENTDATA" "[Ljava/lang/Object;") ∈ lw_tbl := lw_at lw_m1 238 rfl
theorem q351 : (Jvm.Cond.fieldLink "java/util/ArrayList" (9 : Nat) "java/util/ArrayList" "elementData" "[Ljava/lang/Object;") ∈ lw_all := lw_g (lw_at lw_m1 239 rfl) rfl
theorem q352 : (Jvm.Cond.fieldLink "java/util/ArrayList" (48 : Nat) "java/util/ArrayList" "size" "I") ∈ lw_all := lw_g (lw_at lw_m2 0 rfl) rfl
theorem q354 : (Jvm.Cond.fieldLink "java/util/ArrayList" (63 : Nat) "java/util/ArrayList" "modCount" "I") ∈ lw_all := lw_g (lw_at lw_m2 2 rfl) rfl
theorem q355 : (Jvm.Cond.sameField "java/util/ArrayList" "java/util/AbstractList" "modCount" "I") ∈ lw_all := lw_g (lw_at lw_m2 3 rfl) rfl
theorem q356 : (Jvm.Cond.lays "java/util/ArrayList" "java/util/ArrayList" "elementData" "[Ljava/lang/Object;") ∈ lw_all := lw_g (lw_at lw_m2 4 rfl) rfl
theorem q357 : (Jvm.Cond.soleField "java/util/ArrayList" "elementData") ∈ lw_all := lw_g (lw_at lw_m2 5 rfl) rfl
theorem q358 : (Jvm.Cond.lays "java/util/ArrayList" "java/util/ArrayList" "size" "I") ∈ lw_all := lw_g (lw_at lw_m2 6 rfl) rfl
theorem q359 : (Jvm.Cond.soleField "java/util/ArrayList" "size") ∈ lw_all := lw_g (lw_at lw_m2 7 rfl) rfl
theorem q360 : (Jvm.Cond.lays "java/util/ArrayList" "java/util/AbstractList" "modCount" "I") ∈ lw_all := lw_g (lw_at lw_m2 8 rfl) rfl
theorem q362 : (Jvm.Cond.superclass "java/util/ArrayList" "java/util/AbstractList") ∈ lw_all := lw_g (lw_at lw_m2 10 rfl) rfl
theorem q535 : (Jvm.Cond.instanceMethod ({ cls := "java/util/ArrayList", name := "size", desc := "()I" } : Jvm.MethodName)) ∈ lw_all := lw_g (lw_at lw_m2 183 rfl) rfl
theorem q536 : (Jvm.Cond.selects "java/util/ArrayList" ({ cls := "java/util/ArrayList", name := "size", desc := "()I" } : Jvm.MethodName) ({ cls := "java/util/ArrayList", name := "size", desc := "()I" } : Jvm.MethodName)) ∈ lw_all := lw_g (lw_at lw_m2 184 rfl) rfl
theorem q537 : (Jvm.Cond.code ({ cls := "java/util/ArrayList", name := "size", desc := "()I" } : Jvm.MethodName) prog_49_method_8_code (1 : Nat) (Option.some Jvm.ClassFile.FieldType.int)) ∈ lw_all := lw_g (lw_at lw_m2 185 rfl) rfl
theorem q539 : (Jvm.Cond.instanceMethod ({ cls := "java/util/ArrayList", name := "get", desc := "(I)Ljava/lang/Object;" } : Jvm.MethodName)) ∈ lw_all := lw_g (lw_at lw_m2 187 rfl) rfl
theorem q540 : (Jvm.Cond.selects "java/util/ArrayList" ({ cls := "java/util/ArrayList", name := "get", desc := "(I)Ljava/lang/Object;" } : Jvm.MethodName) ({ cls := "java/util/ArrayList", name := "get", desc := "(I)Ljava/lang/Object;" } : Jvm.MethodName)) ∈ lw_all := lw_g (lw_at lw_m2 188 rfl) rfl
theorem q541 : (Jvm.Cond.code ({ cls := "java/util/ArrayList", name := "get", desc := "(I)Ljava/lang/Object;" } : Jvm.MethodName) prog_49_method_20_code (2 : Nat) (Option.some (Jvm.ClassFile.FieldType.object "java/lang/Object"))) ∈ lw_all := lw_g (lw_at lw_m2 189 rfl) rfl
theorem q542 : (Jvm.Cond.methodLink "java/util/ArrayList" (118 : Nat) ({ cls := "java/util/Objects", name := "checkIndex", desc := "(II)I" } : Jvm.MethodName)) ∈ lw_all := lw_g (lw_at lw_m2 190 rfl) rfl
theorem q548 : (Jvm.Cond.methodLink "java/util/ArrayList" (123 : Nat) ({ cls := "java/util/ArrayList", name := "elementData", desc := "(I)Ljava/lang/Object;" } : Jvm.MethodName)) ∈ lw_all := lw_g (lw_at lw_m2 196 rfl) rfl
theorem q549 : (Jvm.Cond.instanceMethod ({ cls := "java/util/ArrayList", name := "elementData", desc := "(I)Ljava/lang/Object;" } : Jvm.MethodName)) ∈ lw_all := lw_g (lw_at lw_m2 197 rfl) rfl
theorem q550 : (Jvm.Cond.selects "java/util/ArrayList" ({ cls := "java/util/ArrayList", name := "elementData", desc := "(I)Ljava/lang/Object;" } : Jvm.MethodName) ({ cls := "java/util/ArrayList", name := "elementData", desc := "(I)Ljava/lang/Object;" } : Jvm.MethodName)) ∈ lw_all := lw_g (lw_at lw_m2 198 rfl) rfl
theorem q551 : (Jvm.Cond.code ({ cls := "java/util/ArrayList", name := "elementData", desc := "(I)Ljava/lang/Object;" } : Jvm.MethodName) prog_49_method_18_code (2 : Nat) (Option.some (Jvm.ClassFile.FieldType.object "java/lang/Object"))) ∈ lw_all := lw_g (lw_at lw_m2 199 rfl) rfl
theorem q670 : (Jvm.Cond.instanceMethod ({ cls := "java/util/ArrayList", name := "isEmpty", desc := "()Z" } : Jvm.MethodName)) ∈ lw_all := lw_g (lw_at lw_m3 78 rfl) rfl
theorem q671 : (Jvm.Cond.selects "java/util/ArrayList" ({ cls := "java/util/ArrayList", name := "isEmpty", desc := "()Z" } : Jvm.MethodName) ({ cls := "java/util/ArrayList", name := "isEmpty", desc := "()Z" } : Jvm.MethodName)) ∈ lw_all := lw_g (lw_at lw_m3 79 rfl) rfl
theorem q672 : (Jvm.Cond.code ({ cls := "java/util/ArrayList", name := "isEmpty", desc := "()Z" } : Jvm.MethodName) prog_49_method_9_code (1 : Nat) (Option.some Jvm.ClassFile.FieldType.boolean)) ∈ lw_all := lw_g (lw_at lw_m3 80 rfl) rfl
theorem q675 : (Jvm.Cond.instanceMethod ({ cls := "java/util/ArrayList", name := "remove", desc := "(I)Ljava/lang/Object;" } : Jvm.MethodName)) ∈ lw_all := lw_g (lw_at lw_m3 83 rfl) rfl
theorem q676 : (Jvm.Cond.selects "java/util/ArrayList" ({ cls := "java/util/ArrayList", name := "remove", desc := "(I)Ljava/lang/Object;" } : Jvm.MethodName) ({ cls := "java/util/ArrayList", name := "remove", desc := "(I)Ljava/lang/Object;" } : Jvm.MethodName)) ∈ lw_all := lw_g (lw_at lw_m3 84 rfl) rfl
theorem q677 : (Jvm.Cond.code ({ cls := "java/util/ArrayList", name := "remove", desc := "(I)Ljava/lang/Object;" } : Jvm.MethodName) prog_49_method_29_code (4 : Nat) (Option.some (Jvm.ClassFile.FieldType.object "java/lang/Object"))) ∈ lw_all := lw_g (lw_at lw_m3 85 rfl) rfl
theorem q678 : (Jvm.Cond.methodLink "java/util/ArrayList" (144 : Nat) ({ cls := "java/util/ArrayList", name := "fastRemove", desc := "([Ljava/lang/Object;I)V" } : Jvm.MethodName)) ∈ lw_all := lw_g (lw_at lw_m3 86 rfl) rfl
theorem q679 : (Jvm.Cond.privateMethod ({ cls := "java/util/ArrayList", name := "fastRemove", desc := "([Ljava/lang/Object;I)V" } : Jvm.MethodName)) ∈ lw_tbl := lw_at lw_m3 87 rfl
theorem q680 : (Jvm.Cond.instanceMethod ({ cls := "java/util/ArrayList", name := "fastRemove", desc := "([Ljava/lang/Object;I)V" } : Jvm.MethodName)) ∈ lw_all := lw_g (lw_at lw_m3 88 rfl) rfl
theorem q681 : (Jvm.Cond.code ({ cls := "java/util/ArrayList", name := "fastRemove", desc := "([Ljava/lang/Object;I)V" } : Jvm.MethodName) prog_49_method_39_code (4 : Nat) (Option.none : Option Jvm.ClassFile.FieldType)) ∈ lw_all := lw_g (lw_at lw_m3 89 rfl) rfl
theorem q682 : (Jvm.Cond.methodLink "java/util/ArrayList" (112 : Nat) ({ cls := "java/lang/System", name := "arraycopy", desc := "(Ljava/lang/Object;ILjava/lang/Object;II)V" } : Jvm.MethodName)) ∈ lw_all := lw_g (lw_at lw_m3 90 rfl) rfl
theorem q692 : (Jvm.Cond.instanceMethod ({ cls := "java/util/ArrayList", name := "clear", desc := "()V" } : Jvm.MethodName)) ∈ lw_all := lw_g (lw_at lw_m3 100 rfl) rfl
theorem q693 : (Jvm.Cond.selects "java/util/ArrayList" ({ cls := "java/util/ArrayList", name := "clear", desc := "()V" } : Jvm.MethodName) ({ cls := "java/util/ArrayList", name := "clear", desc := "()V" } : Jvm.MethodName)) ∈ lw_all := lw_g (lw_at lw_m3 101 rfl) rfl
theorem q694 : (Jvm.Cond.code ({ cls := "java/util/ArrayList", name := "clear", desc := "()V" } : Jvm.MethodName) prog_49_method_40_code (4 : Nat) (Option.none : Option Jvm.ClassFile.FieldType)) ∈ lw_all := lw_g (lw_at lw_m3 102 rfl) rfl
theorem q1429 : (Jvm.Cond.instanceMethod ({ cls := "java/util/ArrayList", name := "add", desc := "(Ljava/lang/Object;)Z" } : Jvm.MethodName)) ∈ lw_all := lw_g (lw_at lw_m6 117 rfl) rfl
theorem q1430 : (Jvm.Cond.selects "java/util/ArrayList" ({ cls := "java/util/ArrayList", name := "add", desc := "(Ljava/lang/Object;)Z" } : Jvm.MethodName) ({ cls := "java/util/ArrayList", name := "add", desc := "(Ljava/lang/Object;)Z" } : Jvm.MethodName)) ∈ lw_all := lw_g (lw_at lw_m6 118 rfl) rfl
theorem q1431 : (Jvm.Cond.code ({ cls := "java/util/ArrayList", name := "add", desc := "(Ljava/lang/Object;)Z" } : Jvm.MethodName) prog_49_method_25_code (2 : Nat) (Option.some Jvm.ClassFile.FieldType.boolean)) ∈ lw_all := lw_g (lw_at lw_m6 119 rfl) rfl
theorem q1432 : (Jvm.Cond.methodLink "java/util/ArrayList" (131 : Nat) ({ cls := "java/util/ArrayList", name := "add", desc := "(Ljava/lang/Object;[Ljava/lang/Object;I)V" } : Jvm.MethodName)) ∈ lw_all := lw_g (lw_at lw_m6 120 rfl) rfl
theorem q1433 : (Jvm.Cond.privateMethod ({ cls := "java/util/ArrayList", name := "add", desc := "(Ljava/lang/Object;[Ljava/lang/Object;I)V" } : Jvm.MethodName)) ∈ lw_tbl := lw_at lw_m6 121 rfl
theorem q1434 : (Jvm.Cond.instanceMethod ({ cls := "java/util/ArrayList", name := "add", desc := "(Ljava/lang/Object;[Ljava/lang/Object;I)V" } : Jvm.MethodName)) ∈ lw_all := lw_g (lw_at lw_m6 122 rfl) rfl
theorem q1435 : (Jvm.Cond.code ({ cls := "java/util/ArrayList", name := "add", desc := "(Ljava/lang/Object;[Ljava/lang/Object;I)V" } : Jvm.MethodName) prog_49_method_24_code (4 : Nat) (Option.none : Option Jvm.ClassFile.FieldType)) ∈ lw_all := lw_g (lw_at lw_m6 123 rfl) rfl
theorem q1436 : (Jvm.Cond.methodLink "java/util/ArrayList" (129 : Nat) ({ cls := "java/util/ArrayList", name := "grow", desc := "()[Ljava/lang/Object;" } : Jvm.MethodName)) ∈ lw_all := lw_g (lw_at lw_m6 124 rfl) rfl
theorem q1437 : (Jvm.Cond.privateMethod ({ cls := "java/util/ArrayList", name := "grow", desc := "()[Ljava/lang/Object;" } : Jvm.MethodName)) ∈ lw_tbl := lw_at lw_m6 125 rfl
theorem q1438 : (Jvm.Cond.instanceMethod ({ cls := "java/util/ArrayList", name := "grow", desc := "()[Ljava/lang/Object;" } : Jvm.MethodName)) ∈ lw_all := lw_g (lw_at lw_m6 126 rfl) rfl
theorem q1439 : (Jvm.Cond.code ({ cls := "java/util/ArrayList", name := "grow", desc := "()[Ljava/lang/Object;" } : Jvm.MethodName) prog_49_method_7_code (1 : Nat) (Option.some (Jvm.ClassFile.FieldType.array (Jvm.ClassFile.FieldType.object "java/lang/Object")))) ∈ lw_all := lw_g (lw_at lw_m6 127 rfl) rfl
theorem q1440 : (Jvm.Cond.methodLink "java/util/ArrayList" (69 : Nat) ({ cls := "java/util/ArrayList", name := "grow", desc := "(I)[Ljava/lang/Object;" } : Jvm.MethodName)) ∈ lw_all := lw_g (lw_at lw_m6 128 rfl) rfl
theorem q1441 : (Jvm.Cond.privateMethod ({ cls := "java/util/ArrayList", name := "grow", desc := "(I)[Ljava/lang/Object;" } : Jvm.MethodName)) ∈ lw_tbl := lw_at lw_m6 129 rfl
theorem q1442 : (Jvm.Cond.instanceMethod ({ cls := "java/util/ArrayList", name := "grow", desc := "(I)[Ljava/lang/Object;" } : Jvm.MethodName)) ∈ lw_all := lw_g (lw_at lw_m6 130 rfl) rfl
theorem q1443 : (Jvm.Cond.code ({ cls := "java/util/ArrayList", name := "grow", desc := "(I)[Ljava/lang/Object;" } : Jvm.MethodName) prog_49_method_6_code (4 : Nat) (Option.some (Jvm.ClassFile.FieldType.array (Jvm.ClassFile.FieldType.object "java/lang/Object")))) ∈ lw_all := lw_g (lw_at lw_m6 131 rfl) rfl
theorem q1444 : (Jvm.Cond.methodLink "java/util/ArrayList" (73 : Nat) ({ cls := "jdk/internal/util/ArraysSupport", name := "newLength", desc := "(III)I" } : Jvm.MethodName)) ∈ lw_all := lw_g (lw_at lw_m6 132 rfl) rfl
theorem q1445 : (Jvm.Cond.methodLink "java/util/ArrayList" (66 : Nat) ({ cls := "java/util/Arrays", name := "copyOf", desc := "([Ljava/lang/Object;I)[Ljava/lang/Object;" } : Jvm.MethodName)) ∈ lw_all := lw_g (lw_at lw_m6 133 rfl) rfl
theorem q1476 : (Jvm.Cond.selects "java/util/ArrayList" ({ cls := "java/lang/Object", name := "getClass", desc := "()Ljava/lang/Class;" } : Jvm.MethodName) ({ cls := "java/lang/Object", name := "getClass", desc := "()Ljava/lang/Class;" } : Jvm.MethodName)) ∈ lw_all := lw_g (lw_at lw_m6 164 rfl) rfl
theorem q1485 : (Jvm.Cond.methodLink "java/util/ArrayList" (79 : Nat) ({ cls := "java/lang/Math", name := "max", desc := "(II)I" } : Jvm.MethodName)) ∈ lw_all := lw_g (lw_at lw_m6 173 rfl) rfl
theorem q1486 : (Jvm.Cond.classLink "java/util/ArrayList" (7 : Nat) "java/lang/Object") ∈ lw_all := lw_g (lw_at lw_m6 174 rfl) rfl
theorem q2535 : (Jvm.Cond.castable "java/util/ArrayList" "java/lang/Object") ∈ lw_tbl := lw_at lw_m11 23 rfl
theorem in_J2 : ∀ w ∈ wsJ20, w ∈ lw_all := lw_in wsJ20 [360, 356, 358] (by decide +kernel) (by decide +kernel)

/-! java/lang/ArrayIndexOutOfBoundsException -/
set_option maxRecDepth 100000
def RJ20 : String := "java/lang/ArrayIndexOutOfBoundsException"
def TJ20 : u_T := fun k => match k with
  | 0 => ("java/lang/Throwable", "backtrace", "Ljava/lang/Object;", false)
  | 1 => ("java/lang/Throwable", "detailMessage", "Ljava/lang/String;", false)
  | 2 => ("java/lang/Throwable", "cause", "Ljava/lang/Throwable;", false)
  | 3 => ("java/lang/Throwable", "stackTrace", "[Ljava/lang/StackTraceElement;", false)
  | 4 => ("java/lang/Throwable", "depth", "I", false)
  | _ => ("java/lang/Throwable", "suppressedExceptions", "Ljava/util/List;", false)
def tyJ20 : Nat → FieldType := fun k => match k with
  | 0 => .object "java/lang/Object"
  | 1 => .object "java/lang/String"
  | 2 => .object "java/lang/Throwable"
  | 3 => .array (.object "java/lang/StackTraceElement")
  | 4 => .int
  | _ => .object "java/util/List"
abbrev wsJ200 : List Cond := u_ws RJ20 TJ20 6
theorem nmJ20 : ∀ a, a < 6 → ∀ b, b < 6 → a ≠ b → (TJ20 a).2.1 ≠ (TJ20 b).2.1 := by decide +kernel
theorem tyJ20_ok : ∀ k, k < 6 → parseFieldDescriptor (TJ20 k).2.2.1 = some (tyJ20 k) := by decide +kernel
abbrev cJ20_init : ByteArray := prog_23_method_2_code
def yJ20_init : MethodName := ⟨RJ20, "<init>", "(Ljava/lang/String;)V"⟩
def dkwJ20_init_0 : List UInt8 := [42, 43, 183, 0, 7, 177]
abbrev dktJ20_init_0 : List UInt8 := dkwJ20_init_0 ++ []
theorem dksJ20_init_0 : cJ20_init.data.toList.drop 0 = dktJ20_init_0 := by decide +kernel
theorem dJ20_init_0 : decode cJ20_init 0 = .ok (.aload_n 0, 1) := dk_42 (dk_at dksJ20_init_0 0 rfl rfl)
theorem dJ20_init_1 : decode cJ20_init 1 = .ok (.aload_n 1, 1) := dk_43 (dk_at dksJ20_init_0 1 rfl rfl)
theorem dJ20_init_2 : decode cJ20_init 2 = .ok (.invokespecial 7, 3) := dk_183 0 7 (dk_at dksJ20_init_0 2 rfl rfl)
theorem dJ20_init_5 : decode cJ20_init 5 = .ok (.return_, 1) := dk_177 (dk_at dksJ20_init_0 5 rfl rfl)
theorem q152 : (Jvm.Cond.initialized "java/lang/ArrayIndexOutOfBoundsException") ∈ lw_all := lw_g (lw_at lw_m1 40 rfl) rfl
theorem q945 : (Jvm.Cond.selects "java/lang/ArrayIndexOutOfBoundsException" ({ cls := "java/lang/Throwable", name := "fillInStackTrace", desc := "()Ljava/lang/Throwable;" } : Jvm.MethodName) ({ cls := "java/lang/Throwable", name := "fillInStackTrace", desc := "()Ljava/lang/Throwable;" } : Jvm.MethodName)) ∈ lw_all := lw_g (lw_at lw_m4 113 rfl) rfl
theorem q1468 : (Jvm.Cond.selects "java/lang/ArrayIndexOutOfBoundsException" ({ cls := "java/lang/Object", name := "getClass", desc := "()Ljava/lang/Class;" } : Jvm.MethodName) ({ cls := "java/lang/Object", name := "getClass", desc := "()Ljava/lang/Class;" } : Jvm.MethodName)) ∈ lw_all := lw_g (lw_at lw_m6 156 rfl) rfl
theorem q1523 : (Jvm.Cond.instantiable "java/lang/ArrayIndexOutOfBoundsException" (6 : Nat)) ∈ lw_all := lw_g (lw_at lw_m6 211 rfl) rfl
theorem q1524 : (Jvm.Cond.instanceMethod ({ cls := "java/lang/ArrayIndexOutOfBoundsException", name := "<init>", desc := "(Ljava/lang/String;)V" } : Jvm.MethodName)) ∈ lw_all := lw_g (lw_at lw_m6 212 rfl) rfl
theorem q1525 : (Jvm.Cond.code ({ cls := "java/lang/ArrayIndexOutOfBoundsException", name := "<init>", desc := "(Ljava/lang/String;)V" } : Jvm.MethodName) prog_23_method_2_code (2 : Nat) (Option.none : Option Jvm.ClassFile.FieldType)) ∈ lw_all := lw_g (lw_at lw_m6 213 rfl) rfl
theorem q1526 : (Jvm.Cond.methodLink "java/lang/ArrayIndexOutOfBoundsException" (7 : Nat) ({ cls := "java/lang/IndexOutOfBoundsException", name := "<init>", desc := "(Ljava/lang/String;)V" } : Jvm.MethodName)) ∈ lw_all := lw_g (lw_at lw_m6 214 rfl) rfl
theorem q1530 : (Jvm.Cond.lays "java/lang/ArrayIndexOutOfBoundsException" "java/lang/Throwable" "backtrace" "Ljava/lang/Object;") ∈ lw_all := lw_g (lw_at lw_m6 218 rfl) rfl
theorem q1531 : (Jvm.Cond.lays "java/lang/ArrayIndexOutOfBoundsException" "java/lang/Throwable" "detailMessage" "Ljava/lang/String;") ∈ lw_all := lw_g (lw_at lw_m6 219 rfl) rfl
theorem q1532 : (Jvm.Cond.lays "java/lang/ArrayIndexOutOfBoundsException" "java/lang/Throwable" "cause" "Ljava/lang/Throwable;") ∈ lw_all := lw_g (lw_at lw_m6 220 rfl) rfl
theorem q1533 : (Jvm.Cond.lays "java/lang/ArrayIndexOutOfBoundsException" "java/lang/Throwable" "stackTrace" "[Ljava/lang/StackTraceElement;") ∈ lw_all := lw_g (lw_at lw_m6 221 rfl) rfl
theorem q1534 : (Jvm.Cond.lays "java/lang/ArrayIndexOutOfBoundsException" "java/lang/Throwable" "depth" "I") ∈ lw_all := lw_g (lw_at lw_m6 222 rfl) rfl
theorem q1535 : (Jvm.Cond.lays "java/lang/ArrayIndexOutOfBoundsException" "java/lang/Throwable" "suppressedExceptions" "Ljava/util/List;") ∈ lw_all := lw_g (lw_at lw_m6 223 rfl) rfl
theorem q1536 : (Jvm.Cond.superclass "java/lang/ArrayIndexOutOfBoundsException" "java/lang/IndexOutOfBoundsException") ∈ lw_all := lw_g (lw_at lw_m6 224 rfl) rfl
theorem q1537 : (Jvm.Cond.castable "java/lang/ArrayIndexOutOfBoundsException" "java/lang/ArrayIndexOutOfBoundsException") ∈ lw_tbl := lw_at lw_m6 225 rfl
theorem q1540 : (Jvm.Cond.selects "java/lang/ArrayIndexOutOfBoundsException" ({ cls := "java/lang/Throwable", name := "fillInStackTrace", desc := "(I)Ljava/lang/Throwable;" } : Jvm.MethodName) ({ cls := "java/lang/Throwable", name := "fillInStackTrace", desc := "(I)Ljava/lang/Throwable;" } : Jvm.MethodName)) ∈ lw_all := lw_g (lw_at lw_m6 228 rfl) rfl
theorem q2528 : (Jvm.Cond.castable "java/lang/ArrayIndexOutOfBoundsException" "java/lang/IndexOutOfBoundsException") ∈ lw_tbl := lw_at lw_m11 16 rfl
theorem q2552 : (Jvm.Cond.castable "java/lang/ArrayIndexOutOfBoundsException" "java/lang/Object") ∈ lw_tbl := lw_at lw_m11 40 rfl
theorem in_J20 : ∀ w ∈ wsJ200, w ∈ lw_all := lw_in wsJ200 [1530, 1531, 1532, 1533, 1534, 1535] (by decide +kernel) (by decide +kernel)

/-! java/util/NoSuchElementException -/
set_option maxRecDepth 100000
def RJ21 : String := "java/util/NoSuchElementException"
def TJ21 : u_T := fun k => match k with
  | 0 => ("java/lang/Throwable", "cause", "Ljava/lang/Throwable;", false)
  | 1 => ("java/lang/Throwable", "stackTrace", "[Ljava/lang/StackTraceElement;", false)
  | 2 => ("java/lang/Throwable", "suppressedExceptions", "Ljava/util/List;", false)
  | 3 => ("java/lang/Throwable", "detailMessage", "Ljava/lang/String;", false)
  | 4 => ("java/lang/Throwable", "backtrace", "Ljava/lang/Object;", false)
  | _ => ("java/lang/Throwable", "depth", "I", false)
def tyJ21 : Nat → FieldType := fun k => match k with
  | 0 => .object "java/lang/Throwable"
  | 1 => .array (.object "java/lang/StackTraceElement")
  | 2 => .object "java/util/List"
  | 3 => .object "java/lang/String"
  | 4 => .object "java/lang/Object"
  | _ => .int
abbrev wsJ210 : List Cond := u_ws RJ21 TJ21 6
theorem nmJ21 : ∀ a, a < 6 → ∀ b, b < 6 → a ≠ b → (TJ21 a).2.1 ≠ (TJ21 b).2.1 := by decide +kernel
theorem tyJ21_ok : ∀ k, k < 6 → parseFieldDescriptor (TJ21 k).2.2.1 = some (tyJ21 k) := by decide +kernel
abbrev cJ21_init : ByteArray := prog_53_method_1_code
def yJ21_init : MethodName := ⟨RJ21, "<init>", "()V"⟩
theorem dJ21_init_0 : decode cJ21_init 0 = .ok (.aload_n 0, 1) := by decide +kernel
theorem dJ21_init_1 : decode cJ21_init 1 = .ok (.invokespecial 1, 3) := by decide +kernel
theorem dJ21_init_4 : decode cJ21_init 4 = .ok (.return_, 1) := by decide +kernel
theorem q153 : (Jvm.Cond.initialized "java/util/NoSuchElementException") ∈ lw_all := lw_g (lw_at lw_m1 41 rfl) rfl
theorem q949 : (Jvm.Cond.selects "java/util/NoSuchElementException" ({ cls := "java/lang/Throwable", name := "fillInStackTrace", desc := "()Ljava/lang/Throwable;" } : Jvm.MethodName) ({ cls := "java/lang/Throwable", name := "fillInStackTrace", desc := "()Ljava/lang/Throwable;" } : Jvm.MethodName)) ∈ lw_all := lw_g (lw_at lw_m4 117 rfl) rfl
theorem q1477 : (Jvm.Cond.selects "java/util/NoSuchElementException" ({ cls := "java/lang/Object", name := "getClass", desc := "()Ljava/lang/Class;" } : Jvm.MethodName) ({ cls := "java/lang/Object", name := "getClass", desc := "()Ljava/lang/Class;" } : Jvm.MethodName)) ∈ lw_all := lw_g (lw_at lw_m6 165 rfl) rfl
theorem q1573 : (Jvm.Cond.instantiable "java/util/NoSuchElementException" (6 : Nat)) ∈ lw_all := lw_g (lw_at lw_m7 21 rfl) rfl
theorem q1574 : (Jvm.Cond.castable "java/util/NoSuchElementException" "java/util/NoSuchElementException") ∈ lw_tbl := lw_at lw_m7 22 rfl
theorem q1575 : (Jvm.Cond.selects "java/util/NoSuchElementException" ({ cls := "java/lang/Throwable", name := "fillInStackTrace", desc := "(I)Ljava/lang/Throwable;" } : Jvm.MethodName) ({ cls := "java/lang/Throwable", name := "fillInStackTrace", desc := "(I)Ljava/lang/Throwable;" } : Jvm.MethodName)) ∈ lw_all := lw_g (lw_at lw_m7 23 rfl) rfl
theorem q1576 : (Jvm.Cond.lays "java/util/NoSuchElementException" "java/lang/Throwable" "cause" "Ljava/lang/Throwable;") ∈ lw_all := lw_g (lw_at lw_m7 24 rfl) rfl
theorem q1577 : (Jvm.Cond.lays "java/util/NoSuchElementException" "java/lang/Throwable" "stackTrace" "[Ljava/lang/StackTraceElement;") ∈ lw_all := lw_g (lw_at lw_m7 25 rfl) rfl
theorem q1578 : (Jvm.Cond.lays "java/util/NoSuchElementException" "java/lang/Throwable" "suppressedExceptions" "Ljava/util/List;") ∈ lw_all := lw_g (lw_at lw_m7 26 rfl) rfl
theorem q1579 : (Jvm.Cond.lays "java/util/NoSuchElementException" "java/lang/Throwable" "detailMessage" "Ljava/lang/String;") ∈ lw_all := lw_g (lw_at lw_m7 27 rfl) rfl
theorem q1580 : (Jvm.Cond.lays "java/util/NoSuchElementException" "java/lang/Throwable" "backtrace" "Ljava/lang/Object;") ∈ lw_all := lw_g (lw_at lw_m7 28 rfl) rfl
theorem q1582 : (Jvm.Cond.instanceMethod ({ cls := "java/util/NoSuchElementException", name := "<init>", desc := "()V" } : Jvm.MethodName)) ∈ lw_all := lw_g (lw_at lw_m7 30 rfl) rfl
theorem q1583 : (Jvm.Cond.code ({ cls := "java/util/NoSuchElementException", name := "<init>", desc := "()V" } : Jvm.MethodName) prog_53_method_1_code (1 : Nat) (Option.none : Option Jvm.ClassFile.FieldType)) ∈ lw_all := lw_g (lw_at lw_m7 31 rfl) rfl
theorem q1584 : (Jvm.Cond.methodLink "java/util/NoSuchElementException" (1 : Nat) ({ cls := "java/lang/RuntimeException", name := "<init>", desc := "()V" } : Jvm.MethodName)) ∈ lw_all := lw_g (lw_at lw_m7 32 rfl) rfl
theorem q1585 : (Jvm.Cond.lays "java/util/NoSuchElementException" "java/lang/Throwable" "depth" "I") ∈ lw_all := lw_g (lw_at lw_m7 33 rfl) rfl
theorem q1586 : (Jvm.Cond.superclass "java/util/NoSuchElementException" "java/lang/RuntimeException") ∈ lw_all := lw_g (lw_at lw_m7 34 rfl) rfl
theorem q2554 : (Jvm.Cond.castable "java/util/NoSuchElementException" "java/lang/Object") ∈ lw_tbl := lw_at lw_m11 42 rfl
theorem in_J21 : ∀ w ∈ wsJ210, w ∈ lw_all := lw_in wsJ210 [1576, 1577, 1578, 1579, 1580, 1585] (by decide +kernel) (by decide +kernel)

/-! java/util/Objects -/
set_option maxRecDepth 100000
def RJ22 : String := "java/util/Objects"
abbrev cJ22_checkIndex : ByteArray := prog_54_method_17_code
def yJ22_checkIndex : MethodName := ⟨RJ22, "checkIndex", "(II)I"⟩
def dkwJ22_checkIndex_0 : List UInt8 := [26, 27, 1, 184, 0, 105, 172]
abbrev dktJ22_checkIndex_0 : List UInt8 := dkwJ22_checkIndex_0 ++ []
theorem dksJ22_checkIndex_0 : cJ22_checkIndex.data.toList.drop 0 = dktJ22_checkIndex_0 := by decide +kernel
theorem dJ22_checkIndex_0 : decode cJ22_checkIndex 0 = .ok (.iload_n 0, 1) := dk_26 (dk_at dksJ22_checkIndex_0 0 rfl rfl)
theorem dJ22_checkIndex_1 : decode cJ22_checkIndex 1 = .ok (.iload_n 1, 1) := dk_27 (dk_at dksJ22_checkIndex_0 1 rfl rfl)
theorem dJ22_checkIndex_2 : decode cJ22_checkIndex 2 = .ok (.aconst_null, 1) := dk_1 (dk_at dksJ22_checkIndex_0 2 rfl rfl)
theorem dJ22_checkIndex_3 : decode cJ22_checkIndex 3 = .ok (.invokestatic 105, 3) := dk_184 0 105 (dk_at dksJ22_checkIndex_0 3 rfl rfl)
theorem dJ22_checkIndex_6 : decode cJ22_checkIndex 6 = .ok (.ireturn, 1) := dk_172 (dk_at dksJ22_checkIndex_0 6 rfl rfl)
theorem q154 : (Jvm.Cond.initialized "java/util/Objects") ∈ lw_all := lw_g (lw_at lw_m1 42 rfl) rfl
theorem q543 : (Jvm.Cond.static ({ cls := "java/util/Objects", name := "checkIndex", desc := "(II)I" } : Jvm.MethodName)) ∈ lw_all := lw_g (lw_at lw_m2 191 rfl) rfl
theorem q544 : (Jvm.Cond.code ({ cls := "java/util/Objects", name := "checkIndex", desc := "(II)I" } : Jvm.MethodName) prog_54_method_17_code (2 : Nat) (Option.some Jvm.ClassFile.FieldType.int)) ∈ lw_all := lw_g (lw_at lw_m2 192 rfl) rfl
theorem q545 : (Jvm.Cond.methodLink "java/util/Objects" (105 : Nat) ({ cls := "jdk/internal/util/Preconditions", name := "checkIndex", desc := "(IILjava/util/function/BiFunction;)I" } : Jvm.MethodName)) ∈ lw_all := lw_g (lw_at lw_m2 193 rfl) rfl

/-! java/lang/IllegalStateException -/
set_option maxRecDepth 100000
def RJ23 : String := "java/lang/IllegalStateException"
def TJ23 : u_T := fun k => match k with
  | 0 => ("java/lang/Throwable", "cause", "Ljava/lang/Throwable;", false)
  | 1 => ("java/lang/Throwable", "stackTrace", "[Ljava/lang/StackTraceElement;", false)
  | 2 => ("java/lang/Throwable", "suppressedExceptions", "Ljava/util/List;", false)
  | 3 => ("java/lang/Throwable", "detailMessage", "Ljava/lang/String;", false)
  | 4 => ("java/lang/Throwable", "backtrace", "Ljava/lang/Object;", false)
  | _ => ("java/lang/Throwable", "depth", "I", false)
def tyJ23 : Nat → FieldType := fun k => match k with
  | 0 => .object "java/lang/Throwable"
  | 1 => .array (.object "java/lang/StackTraceElement")
  | 2 => .object "java/util/List"
  | 3 => .object "java/lang/String"
  | 4 => .object "java/lang/Object"
  | _ => .int
abbrev wsJ230 : List Cond := u_ws RJ23 TJ23 6
theorem nmJ23 : ∀ a, a < 6 → ∀ b, b < 6 → a ≠ b → (TJ23 a).2.1 ≠ (TJ23 b).2.1 := by decide +kernel
theorem tyJ23_ok : ∀ k, k < 6 → parseFieldDescriptor (TJ23 k).2.2.1 = some (tyJ23 k) := by decide +kernel
abbrev cJ23_init : ByteArray := prog_30_method_1_code
def yJ23_init : MethodName := ⟨RJ23, "<init>", "()V"⟩
theorem dJ23_init_0 : decode cJ23_init 0 = .ok (.aload_n 0, 1) := by decide +kernel
theorem dJ23_init_1 : decode cJ23_init 1 = .ok (.invokespecial 1, 3) := by decide +kernel
theorem dJ23_init_4 : decode cJ23_init 4 = .ok (.return_, 1) := by decide +kernel
theorem q155 : (Jvm.Cond.initialized "java/lang/IllegalStateException") ∈ lw_all := lw_g (lw_at lw_m1 43 rfl) rfl
theorem q946 : (Jvm.Cond.selects "java/lang/IllegalStateException" ({ cls := "java/lang/Throwable", name := "fillInStackTrace", desc := "()Ljava/lang/Throwable;" } : Jvm.MethodName) ({ cls := "java/lang/Throwable", name := "fillInStackTrace", desc := "()Ljava/lang/Throwable;" } : Jvm.MethodName)) ∈ lw_all := lw_g (lw_at lw_m4 114 rfl) rfl
theorem q1470 : (Jvm.Cond.selects "java/lang/IllegalStateException" ({ cls := "java/lang/Object", name := "getClass", desc := "()Ljava/lang/Class;" } : Jvm.MethodName) ({ cls := "java/lang/Object", name := "getClass", desc := "()Ljava/lang/Class;" } : Jvm.MethodName)) ∈ lw_all := lw_g (lw_at lw_m6 158 rfl) rfl
theorem q1651 : (Jvm.Cond.instantiable "java/lang/IllegalStateException" (6 : Nat)) ∈ lw_all := lw_g (lw_at lw_m7 99 rfl) rfl
theorem q1652 : (Jvm.Cond.castable "java/lang/IllegalStateException" "java/lang/IllegalStateException") ∈ lw_tbl := lw_at lw_m7 100 rfl
theorem q1653 : (Jvm.Cond.selects "java/lang/IllegalStateException" ({ cls := "java/lang/Throwable", name := "fillInStackTrace", desc := "(I)Ljava/lang/Throwable;" } : Jvm.MethodName) ({ cls := "java/lang/Throwable", name := "fillInStackTrace", desc := "(I)Ljava/lang/Throwable;" } : Jvm.MethodName)) ∈ lw_all := lw_g (lw_at lw_m7 101 rfl) rfl
theorem q1654 : (Jvm.Cond.lays "java/lang/IllegalStateException" "java/lang/Throwable" "cause" "Ljava/lang/Throwable;") ∈ lw_all := lw_g (lw_at lw_m7 102 rfl) rfl
theorem q1655 : (Jvm.Cond.lays "java/lang/IllegalStateException" "java/lang/Throwable" "stackTrace" "[Ljava/lang/StackTraceElement;") ∈ lw_all := lw_g (lw_at lw_m7 103 rfl) rfl
theorem q1656 : (Jvm.Cond.lays "java/lang/IllegalStateException" "java/lang/Throwable" "suppressedExceptions" "Ljava/util/List;") ∈ lw_all := lw_g (lw_at lw_m7 104 rfl) rfl
theorem q1657 : (Jvm.Cond.lays "java/lang/IllegalStateException" "java/lang/Throwable" "detailMessage" "Ljava/lang/String;") ∈ lw_all := lw_g (lw_at lw_m7 105 rfl) rfl
theorem q1658 : (Jvm.Cond.lays "java/lang/IllegalStateException" "java/lang/Throwable" "backtrace" "Ljava/lang/Object;") ∈ lw_all := lw_g (lw_at lw_m7 106 rfl) rfl
theorem q1660 : (Jvm.Cond.instanceMethod ({ cls := "java/lang/IllegalStateException", name := "<init>", desc := "()V" } : Jvm.MethodName)) ∈ lw_all := lw_g (lw_at lw_m7 108 rfl) rfl
theorem q1661 : (Jvm.Cond.code ({ cls := "java/lang/IllegalStateException", name := "<init>", desc := "()V" } : Jvm.MethodName) prog_30_method_1_code (1 : Nat) (Option.none : Option Jvm.ClassFile.FieldType)) ∈ lw_all := lw_g (lw_at lw_m7 109 rfl) rfl
theorem q1662 : (Jvm.Cond.methodLink "java/lang/IllegalStateException" (1 : Nat) ({ cls := "java/lang/RuntimeException", name := "<init>", desc := "()V" } : Jvm.MethodName)) ∈ lw_all := lw_g (lw_at lw_m7 110 rfl) rfl
theorem q1663 : (Jvm.Cond.lays "java/lang/IllegalStateException" "java/lang/Throwable" "depth" "I") ∈ lw_all := lw_g (lw_at lw_m7 111 rfl) rfl
theorem q1664 : (Jvm.Cond.superclass "java/lang/IllegalStateException" "java/lang/RuntimeException") ∈ lw_all := lw_g (lw_at lw_m7 112 rfl) rfl
theorem q2555 : (Jvm.Cond.castable "java/lang/IllegalStateException" "java/lang/Object") ∈ lw_tbl := lw_at lw_m11 43 rfl
theorem in_J23 : ∀ w ∈ wsJ230, w ∈ lw_all := lw_in wsJ230 [1654, 1655, 1656, 1657, 1658, 1663] (by decide +kernel) (by decide +kernel)

/-! java/lang/Object -/
set_option maxRecDepth 100000
def RJ24 : String := "java/lang/Object"
abbrev cJ24_init : ByteArray := object_method_1_code
def yJ24_init : MethodName := ⟨RJ24, "<init>", "()V"⟩
theorem dJ24_init_0 : decode cJ24_init 0 = .ok (.return_, 1) := by decide +kernel
theorem q162 : (Jvm.Cond.instanceMethod ({ cls := "java/lang/Object", name := "<init>", desc := "()V" } : Jvm.MethodName)) ∈ lw_all := lw_g (lw_at lw_m1 50 rfl) rfl
theorem q163 : (Jvm.Cond.code ({ cls := "java/lang/Object", name := "<init>", desc := "()V" } : Jvm.MethodName) object_method_1_code (1 : Nat) (Option.none : Option Jvm.ClassFile.FieldType)) ∈ lw_all := lw_g (lw_at lw_m1 51 rfl) rfl
theorem q817 : (Jvm.Cond.native ({ cls := "java/lang/Object", name := "clone", desc := "()Ljava/lang/Object;" } : Jvm.MethodName)) ∈ lw_all := lw_g (lw_at lw_m3 225 rfl) rfl
theorem q818 : (Jvm.Cond.instanceMethod ({ cls := "java/lang/Object", name := "clone", desc := "()Ljava/lang/Object;" } : Jvm.MethodName)) ∈ lw_all := lw_g (lw_at lw_m3 226 rfl) rfl
theorem q1449 : (Jvm.Cond.instanceMethod ({ cls := "java/lang/Object", name := "getClass", desc := "()Ljava/lang/Class;" } : Jvm.MethodName)) ∈ lw_all := lw_g (lw_at lw_m6 137 rfl) rfl
theorem q1450 : (Jvm.Cond.sameMethod "java/lang/Object" "java/lang/Object" "getClass" "()Ljava/lang/Class;") ∈ lw_all := lw_g (lw_at lw_m6 138 rfl) rfl
theorem q1478 : (Jvm.Cond.native ({ cls := "java/lang/Object", name := "getClass", desc := "()Ljava/lang/Class;" } : Jvm.MethodName)) ∈ lw_all := lw_g (lw_at lw_m6 166 rfl) rfl
theorem q2527 : (Jvm.Cond.initialized "java/lang/Object") ∈ lw_all := lw_g (lw_at lw_m11 15 rfl) rfl
theorem q2559 : (Jvm.Cond.declares ({ cls := "java/lang/Object", name := "getClass", desc := "()Ljava/lang/Class;" } : Jvm.MethodName)) ∈ lw_tbl := lw_at lw_m11 47 rfl

/-! java/lang/System$2 -/
set_option maxRecDepth 100000
def RJ25 : String := "java/lang/System$2"
abbrev cJ25_getUTF16Char : ByteArray := prog_42_method_45_code
def yJ25_getUTF16Char : MethodName := ⟨RJ25, "getUTF16Char", "([BI)C"⟩
def dkwJ25_getUTF16Char_0 : List UInt8 := [43, 28, 184, 0, 185, 172]
abbrev dktJ25_getUTF16Char_0 : List UInt8 := dkwJ25_getUTF16Char_0 ++ []
theorem dksJ25_getUTF16Char_0 : cJ25_getUTF16Char.data.toList.drop 0 = dktJ25_getUTF16Char_0 := by decide +kernel
theorem dJ25_getUTF16Char_0 : decode cJ25_getUTF16Char 0 = .ok (.aload_n 1, 1) := dk_43 (dk_at dksJ25_getUTF16Char_0 0 rfl rfl)
theorem dJ25_getUTF16Char_1 : decode cJ25_getUTF16Char 1 = .ok (.iload_n 2, 1) := dk_28 (dk_at dksJ25_getUTF16Char_0 1 rfl rfl)
theorem dJ25_getUTF16Char_2 : decode cJ25_getUTF16Char 2 = .ok (.invokestatic 185, 3) := dk_184 0 185 (dk_at dksJ25_getUTF16Char_0 2 rfl rfl)
theorem dJ25_getUTF16Char_5 : decode cJ25_getUTF16Char 5 = .ok (.ireturn, 1) := dk_172 (dk_at dksJ25_getUTF16Char_0 5 rfl rfl)
theorem q1138 : (Jvm.Cond.castable "java/lang/System$2" "jdk/internal/access/JavaLangAccess") ∈ lw_tbl := lw_at lw_m5 66 rfl
theorem q1139 : (Jvm.Cond.selects "java/lang/System$2" ({ cls := "jdk/internal/access/JavaLangAccess", name := "getUTF16Char", desc := "([BI)C" } : Jvm.MethodName) ({ cls := "java/lang/System$2", name := "getUTF16Char", desc := "([BI)C" } : Jvm.MethodName)) ∈ lw_all := lw_g (lw_at lw_m5 67 rfl) rfl
theorem q1140 : (Jvm.Cond.unhidden "java/lang/System$2" "getUTF16Char" "([BI)C") ∈ lw_tbl := lw_at lw_m5 68 rfl
theorem q1141 : (Jvm.Cond.instanceMethod ({ cls := "java/lang/System$2", name := "getUTF16Char", desc := "([BI)C" } : Jvm.MethodName)) ∈ lw_all := lw_g (lw_at lw_m5 69 rfl) rfl
theorem q1142 : (Jvm.Cond.publicMethod ({ cls := "java/lang/System$2", name := "getUTF16Char", desc := "([BI)C" } : Jvm.MethodName)) ∈ lw_tbl := lw_at lw_m5 70 rfl
theorem q1143 : (Jvm.Cond.code ({ cls := "java/lang/System$2", name := "getUTF16Char", desc := "([BI)C" } : Jvm.MethodName) prog_42_method_45_code (3 : Nat) (Option.some Jvm.ClassFile.FieldType.char)) ∈ lw_all := lw_g (lw_at lw_m5 71 rfl) rfl
theorem q1144 : (Jvm.Cond.methodLink "java/lang/System$2" (185 : Nat) ({ cls := "java/lang/StringUTF16", name := "getChar", desc := "([BI)C" } : Jvm.MethodName)) ∈ lw_all := lw_g (lw_at lw_m5 72 rfl) rfl
theorem q1474 : (Jvm.Cond.selects "java/lang/System$2" ({ cls := "java/lang/Object", name := "getClass", desc := "()Ljava/lang/Class;" } : Jvm.MethodName) ({ cls := "java/lang/Object", name := "getClass", desc := "()Ljava/lang/Class;" } : Jvm.MethodName)) ∈ lw_all := lw_g (lw_at lw_m6 162 rfl) rfl
theorem q2542 : (Jvm.Cond.castable "java/lang/System$2" "java/lang/Object") ∈ lw_tbl := lw_at lw_m11 30 rfl

/-! java/lang/AbstractStringBuilder -/
set_option maxRecDepth 100000
def RJ3 : String := "java/lang/AbstractStringBuilder"
abbrev cJ3_init : ByteArray := prog_21_method_2_code
def yJ3_init : MethodName := ⟨RJ3, "<init>", "(I)V"⟩
def dkwJ3_init_1 : List UInt8 := [167, 0, 16, 42, 27, 184, 0, 26, 181, 0, 15, 42, 4, 181, 0, 22, 177]
abbrev dktJ3_init_1 : List UInt8 := dkwJ3_init_1 ++ []
def dkwJ3_init_0 : List UInt8 := [42, 183, 0, 3, 178, 0, 18, 153, 0, 18, 42, 27, 188, 8, 181, 0, 15, 42, 3, 181, 0, 22]
abbrev dktJ3_init_0 : List UInt8 := dkwJ3_init_0 ++ dktJ3_init_1
theorem dksJ3_init_0 : cJ3_init.data.toList.drop 0 = dktJ3_init_0 := by decide +kernel
theorem dksJ3_init_1 : cJ3_init.data.toList.drop 22 = dktJ3_init_1 := dk_seg dksJ3_init_0 22 rfl rfl
theorem dJ3_init_0 : decode cJ3_init 0 = .ok (.aload_n 0, 1) := dk_42 (dk_at dksJ3_init_0 0 rfl rfl)
theorem dJ3_init_1 : decode cJ3_init 1 = .ok (.invokespecial 3, 3) := dk_183 0 3 (dk_at dksJ3_init_0 1 rfl rfl)
theorem dJ3_init_4 : decode cJ3_init 4 = .ok (.getstatic 18, 3) := dk_178 0 18 (dk_at dksJ3_init_0 4 rfl rfl)
theorem dJ3_init_7 : decode cJ3_init 7 = .ok (.ifCond .eq 18, 3) := dk_153 0 18 (dk_at dksJ3_init_0 7 rfl rfl)
theorem dJ3_init_10 : decode cJ3_init 10 = .ok (.aload_n 0, 1) := dk_42 (dk_at dksJ3_init_0 10 rfl rfl)
theorem dJ3_init_11 : decode cJ3_init 11 = .ok (.iload_n 1, 1) := dk_27 (dk_at dksJ3_init_0 11 rfl rfl)
theorem dJ3_init_12 : decode cJ3_init 12 = .ok (.newarray .byte, 2) := dk_188_8 (dk_at dksJ3_init_0 12 rfl rfl)
theorem dJ3_init_14 : decode cJ3_init 14 = .ok (.putfield 15, 3) := dk_181 0 15 (dk_at dksJ3_init_0 14 rfl rfl)
theorem dJ3_init_17 : decode cJ3_init 17 = .ok (.aload_n 0, 1) := dk_42 (dk_at dksJ3_init_0 17 rfl rfl)
theorem dJ3_init_18 : decode cJ3_init 18 = .ok (.iconst 0, 1) := dk_3 (dk_at dksJ3_init_0 18 rfl rfl)
theorem dJ3_init_19 : decode cJ3_init 19 = .ok (.putfield 22, 3) := dk_181 0 22 (dk_at dksJ3_init_0 19 rfl rfl)
theorem dJ3_init_22 : decode cJ3_init 22 = .ok (.goto 16, 3) := dk_167 0 16 (dk_at dksJ3_init_1 0 rfl rfl)
theorem dJ3_init_25 : decode cJ3_init 25 = .ok (.aload_n 0, 1) := dk_42 (dk_at dksJ3_init_1 3 rfl rfl)
theorem dJ3_init_26 : decode cJ3_init 26 = .ok (.iload_n 1, 1) := dk_27 (dk_at dksJ3_init_1 4 rfl rfl)
theorem dJ3_init_27 : decode cJ3_init 27 = .ok (.invokestatic 26, 3) := dk_184 0 26 (dk_at dksJ3_init_1 5 rfl rfl)
theorem dJ3_init_30 : decode cJ3_init 30 = .ok (.putfield 15, 3) := dk_181 0 15 (dk_at dksJ3_init_1 8 rfl rfl)
theorem dJ3_init_33 : decode cJ3_init 33 = .ok (.aload_n 0, 1) := dk_42 (dk_at dksJ3_init_1 11 rfl rfl)
theorem dJ3_init_34 : decode cJ3_init 34 = .ok (.iconst 1, 1) := dk_4 (dk_at dksJ3_init_1 12 rfl rfl)
theorem dJ3_init_35 : decode cJ3_init 35 = .ok (.putfield 22, 3) := dk_181 0 22 (dk_at dksJ3_init_1 13 rfl rfl)
theorem dJ3_init_38 : decode cJ3_init 38 = .ok (.return_, 1) := dk_177 (dk_at dksJ3_init_1 16 rfl rfl)
abbrev cJ3_append : ByteArray := prog_21_method_31_code
def yJ3_append : MethodName := ⟨RJ3, "append", "(C)Ljava/lang/AbstractStringBuilder;"⟩
def dkwJ3_append_3 : List UInt8 := [181, 0, 79, 27, 184, 0, 197, 42, 176]
abbrev dktJ3_append_3 : List UInt8 := dkwJ3_append_3 ++ []
def dkwJ3_append_2 : List UInt8 := [182, 0, 83, 153, 0, 7, 42, 182, 0, 195, 42, 180, 0, 15, 42, 89, 180, 0, 79, 90, 4, 96]
abbrev dktJ3_append_2 : List UInt8 := dkwJ3_append_2 ++ dktJ3_append_3
def dkwJ3_append_1 : List UInt8 := [42, 180, 0, 15, 42, 89, 180, 0, 79, 90, 4, 96, 181, 0, 79, 27, 145, 84, 167, 0, 33, 42]
abbrev dktJ3_append_1 : List UInt8 := dkwJ3_append_1 ++ dktJ3_append_2
def dkwJ3_append_0 : List UInt8 := [42, 42, 180, 0, 79, 4, 96, 182, 0, 100, 42, 182, 0, 83, 153, 0, 31, 27, 184, 0, 191, 153, 0, 24]
abbrev dktJ3_append_0 : List UInt8 := dkwJ3_append_0 ++ dktJ3_append_1
theorem dksJ3_append_0 : cJ3_append.data.toList.drop 0 = dktJ3_append_0 := by decide +kernel
theorem dksJ3_append_1 : cJ3_append.data.toList.drop 24 = dktJ3_append_1 := dk_seg dksJ3_append_0 24 rfl rfl
theorem dksJ3_append_2 : cJ3_append.data.toList.drop 46 = dktJ3_append_2 := dk_seg dksJ3_append_1 22 rfl rfl
theorem dksJ3_append_3 : cJ3_append.data.toList.drop 68 = dktJ3_append_3 := dk_seg dksJ3_append_2 22 rfl rfl
theorem dJ3_append_0 : decode cJ3_append 0 = .ok (.aload_n 0, 1) := dk_42 (dk_at dksJ3_append_0 0 rfl rfl)
theorem dJ3_append_1 : decode cJ3_append 1 = .ok (.aload_n 0, 1) := dk_42 (dk_at dksJ3_append_0 1 rfl rfl)
theorem dJ3_append_2 : decode cJ3_append 2 = .ok (.getfield 79, 3) := dk_180 0 79 (dk_at dksJ3_append_0 2 rfl rfl)
theorem dJ3_append_5 : decode cJ3_append 5 = .ok (.iconst 1, 1) := dk_4 (dk_at dksJ3_append_0 5 rfl rfl)
theorem dJ3_append_6 : decode cJ3_append 6 = .ok (.iadd, 1) := dk_96 (dk_at dksJ3_append_0 6 rfl rfl)
theorem dJ3_append_7 : decode cJ3_append 7 = .ok (.invokevirtual 100, 3) := dk_182 0 100 (dk_at dksJ3_append_0 7 rfl rfl)
theorem dJ3_append_10 : decode cJ3_append 10 = .ok (.aload_n 0, 1) := dk_42 (dk_at dksJ3_append_0 10 rfl rfl)
theorem dJ3_append_11 : decode cJ3_append 11 = .ok (.invokevirtual 83, 3) := dk_182 0 83 (dk_at dksJ3_append_0 11 rfl rfl)
theorem dJ3_append_14 : decode cJ3_append 14 = .ok (.ifCond .eq 31, 3) := dk_153 0 31 (dk_at dksJ3_append_0 14 rfl rfl)
theorem dJ3_append_17 : decode cJ3_append 17 = .ok (.iload_n 1, 1) := dk_27 (dk_at dksJ3_append_0 17 rfl rfl)
theorem dJ3_append_18 : decode cJ3_append 18 = .ok (.invokestatic 191, 3) := dk_184 0 191 (dk_at dksJ3_append_0 18 rfl rfl)
theorem dJ3_append_21 : decode cJ3_append 21 = .ok (.ifCond .eq 24, 3) := dk_153 0 24 (dk_at dksJ3_append_0 21 rfl rfl)
theorem dJ3_append_24 : decode cJ3_append 24 = .ok (.aload_n 0, 1) := dk_42 (dk_at dksJ3_append_1 0 rfl rfl)
theorem dJ3_append_25 : decode cJ3_append 25 = .ok (.getfield 15, 3) := dk_180 0 15 (dk_at dksJ3_append_1 1 rfl rfl)
theorem dJ3_append_28 : decode cJ3_append 28 = .ok (.aload_n 0, 1) := dk_42 (dk_at dksJ3_append_1 4 rfl rfl)
theorem dJ3_append_29 : decode cJ3_append 29 = .ok (.dup, 1) := dk_89 (dk_at dksJ3_append_1 5 rfl rfl)
theorem dJ3_append_30 : decode cJ3_append 30 = .ok (.getfield 79, 3) := dk_180 0 79 (dk_at dksJ3_append_1 6 rfl rfl)
theorem dJ3_append_33 : decode cJ3_append 33 = .ok (.dup_x1, 1) := dk_90 (dk_at dksJ3_append_1 9 rfl rfl)
theorem dJ3_append_34 : decode cJ3_append 34 = .ok (.iconst 1, 1) := dk_4 (dk_at dksJ3_append_1 10 rfl rfl)
theorem dJ3_append_35 : decode cJ3_append 35 = .ok (.iadd, 1) := dk_96 (dk_at dksJ3_append_1 11 rfl rfl)
theorem dJ3_append_36 : decode cJ3_append 36 = .ok (.putfield 79, 3) := dk_181 0 79 (dk_at dksJ3_append_1 12 rfl rfl)
theorem dJ3_append_39 : decode cJ3_append 39 = .ok (.iload_n 1, 1) := dk_27 (dk_at dksJ3_append_1 15 rfl rfl)
theorem dJ3_append_40 : decode cJ3_append 40 = .ok (.i2b, 1) := dk_145 (dk_at dksJ3_append_1 16 rfl rfl)
theorem dJ3_append_41 : decode cJ3_append 41 = .ok (.bastore, 1) := dk_84 (dk_at dksJ3_append_1 17 rfl rfl)
theorem dJ3_append_42 : decode cJ3_append 42 = .ok (.goto 33, 3) := dk_167 0 33 (dk_at dksJ3_append_1 18 rfl rfl)
theorem dJ3_append_45 : decode cJ3_append 45 = .ok (.aload_n 0, 1) := dk_42 (dk_at dksJ3_append_1 21 rfl rfl)
theorem dJ3_append_46 : decode cJ3_append 46 = .ok (.invokevirtual 83, 3) := dk_182 0 83 (dk_at dksJ3_append_2 0 rfl rfl)
theorem dJ3_append_49 : decode cJ3_append 49 = .ok (.ifCond .eq 7, 3) := dk_153 0 7 (dk_at dksJ3_append_2 3 rfl rfl)
theorem dJ3_append_52 : decode cJ3_append 52 = .ok (.aload_n 0, 1) := dk_42 (dk_at dksJ3_append_2 6 rfl rfl)
theorem dJ3_append_53 : decode cJ3_append 53 = .ok (.invokevirtual 195, 3) := dk_182 0 195 (dk_at dksJ3_append_2 7 rfl rfl)
theorem dJ3_append_56 : decode cJ3_append 56 = .ok (.aload_n 0, 1) := dk_42 (dk_at dksJ3_append_2 10 rfl rfl)
theorem dJ3_append_57 : decode cJ3_append 57 = .ok (.getfield 15, 3) := dk_180 0 15 (dk_at dksJ3_append_2 11 rfl rfl)
theorem dJ3_append_60 : decode cJ3_append 60 = .ok (.aload_n 0, 1) := dk_42 (dk_at dksJ3_append_2 14 rfl rfl)
theorem dJ3_append_61 : decode cJ3_append 61 = .ok (.dup, 1) := dk_89 (dk_at dksJ3_append_2 15 rfl rfl)
theorem dJ3_append_62 : decode cJ3_append 62 = .ok (.getfield 79, 3) := dk_180 0 79 (dk_at dksJ3_append_2 16 rfl rfl)
theorem dJ3_append_65 : decode cJ3_append 65 = .ok (.dup_x1, 1) := dk_90 (dk_at dksJ3_append_2 19 rfl rfl)
theorem dJ3_append_66 : decode cJ3_append 66 = .ok (.iconst 1, 1) := dk_4 (dk_at dksJ3_append_2 20 rfl rfl)
theorem dJ3_append_67 : decode cJ3_append 67 = .ok (.iadd, 1) := dk_96 (dk_at dksJ3_append_2 21 rfl rfl)
theorem dJ3_append_68 : decode cJ3_append 68 = .ok (.putfield 79, 3) := dk_181 0 79 (dk_at dksJ3_append_3 0 rfl rfl)
theorem dJ3_append_71 : decode cJ3_append 71 = .ok (.iload_n 1, 1) := dk_27 (dk_at dksJ3_append_3 3 rfl rfl)
theorem dJ3_append_72 : decode cJ3_append 72 = .ok (.invokestatic 197, 3) := dk_184 0 197 (dk_at dksJ3_append_3 4 rfl rfl)
theorem dJ3_append_75 : decode cJ3_append 75 = .ok (.aload_n 0, 1) := dk_42 (dk_at dksJ3_append_3 7 rfl rfl)
theorem dJ3_append_76 : decode cJ3_append 76 = .ok (.areturn, 1) := dk_176 (dk_at dksJ3_append_3 8 rfl rfl)
abbrev cJ3_ensureCapacityInternal : ByteArray := prog_21_method_9_code
def yJ3_ensureCapacityInternal : MethodName := ⟨RJ3, "ensureCapacityInternal", "(I)V"⟩
def dkwJ3_ensureCapacityInternal_1 : List UInt8 := [182, 0, 104, 42, 180, 0, 22, 120, 184, 0, 108, 181, 0, 15, 177]
abbrev dktJ3_ensureCapacityInternal_1 : List UInt8 := dkwJ3_ensureCapacityInternal_1 ++ []
def dkwJ3_ensureCapacityInternal_0 : List UInt8 := [42, 180, 0, 15, 190, 42, 180, 0, 22, 122, 61, 27, 28, 100, 158, 0, 24, 42, 42, 180, 0, 15, 42, 27]
abbrev dktJ3_ensureCapacityInternal_0 : List UInt8 := dkwJ3_ensureCapacityInternal_0 ++ dktJ3_ensureCapacityInternal_1
theorem dksJ3_ensureCapacityInternal_0 : cJ3_ensureCapacityInternal.data.toList.drop 0 = dktJ3_ensureCapacityInternal_0 := by decide +kernel
theorem dksJ3_ensureCapacityInternal_1 : cJ3_ensureCapacityInternal.data.toList.drop 24 = dktJ3_ensureCapacityInternal_1 := dk_seg dksJ3_ensureCapacityInternal_0 24 rfl rfl
theorem dJ3_ensureCapacityInternal_0 : decode cJ3_ensureCapacityInternal 0 = .ok (.aload_n 0, 1) := dk_42 (dk_at dksJ3_ensureCapacityInternal_0 0 rfl rfl)
theorem dJ3_ensureCapacityInternal_1 : decode cJ3_ensureCapacityInternal 1 = .ok (.getfield 15, 3) := dk_180 0 15 (dk_at dksJ3_ensureCapacityInternal_0 1 rfl rfl)
theorem dJ3_ensureCapacityInternal_4 : decode cJ3_ensureCapacityInternal 4 = .ok (.arraylength, 1) := dk_190 (dk_at dksJ3_ensureCapacityInternal_0 4 rfl rfl)
theorem dJ3_ensureCapacityInternal_5 : decode cJ3_ensureCapacityInternal 5 = .ok (.aload_n 0, 1) := dk_42 (dk_at dksJ3_ensureCapacityInternal_0 5 rfl rfl)
theorem dJ3_ensureCapacityInternal_6 : decode cJ3_ensureCapacityInternal 6 = .ok (.getfield 22, 3) := dk_180 0 22 (dk_at dksJ3_ensureCapacityInternal_0 6 rfl rfl)
theorem dJ3_ensureCapacityInternal_9 : decode cJ3_ensureCapacityInternal 9 = .ok (.ishr, 1) := dk_122 (dk_at dksJ3_ensureCapacityInternal_0 9 rfl rfl)
theorem dJ3_ensureCapacityInternal_10 : decode cJ3_ensureCapacityInternal 10 = .ok (.istore_n 2, 1) := dk_61 (dk_at dksJ3_ensureCapacityInternal_0 10 rfl rfl)
theorem dJ3_ensureCapacityInternal_11 : decode cJ3_ensureCapacityInternal 11 = .ok (.iload_n 1, 1) := dk_27 (dk_at dksJ3_ensureCapacityInternal_0 11 rfl rfl)
theorem dJ3_ensureCapacityInternal_12 : decode cJ3_ensureCapacityInternal 12 = .ok (.iload_n 2, 1) := dk_28 (dk_at dksJ3_ensureCapacityInternal_0 12 rfl rfl)
theorem dJ3_ensureCapacityInternal_13 : decode cJ3_ensureCapacityInternal 13 = .ok (.isub, 1) := dk_100 (dk_at dksJ3_ensureCapacityInternal_0 13 rfl rfl)
theorem dJ3_ensureCapacityInternal_14 : decode cJ3_ensureCapacityInternal 14 = .ok (.ifCond .le 24, 3) := dk_158 0 24 (dk_at dksJ3_ensureCapacityInternal_0 14 rfl rfl)
theorem dJ3_ensureCapacityInternal_17 : decode cJ3_ensureCapacityInternal 17 = .ok (.aload_n 0, 1) := dk_42 (dk_at dksJ3_ensureCapacityInternal_0 17 rfl rfl)
theorem dJ3_ensureCapacityInternal_18 : decode cJ3_ensureCapacityInternal 18 = .ok (.aload_n 0, 1) := dk_42 (dk_at dksJ3_ensureCapacityInternal_0 18 rfl rfl)
theorem dJ3_ensureCapacityInternal_19 : decode cJ3_ensureCapacityInternal 19 = .ok (.getfield 15, 3) := dk_180 0 15 (dk_at dksJ3_ensureCapacityInternal_0 19 rfl rfl)
theorem dJ3_ensureCapacityInternal_22 : decode cJ3_ensureCapacityInternal 22 = .ok (.aload_n 0, 1) := dk_42 (dk_at dksJ3_ensureCapacityInternal_0 22 rfl rfl)
theorem dJ3_ensureCapacityInternal_23 : decode cJ3_ensureCapacityInternal 23 = .ok (.iload_n 1, 1) := dk_27 (dk_at dksJ3_ensureCapacityInternal_0 23 rfl rfl)
theorem dJ3_ensureCapacityInternal_24 : decode cJ3_ensureCapacityInternal 24 = .ok (.invokevirtual 104, 3) := dk_182 0 104 (dk_at dksJ3_ensureCapacityInternal_1 0 rfl rfl)
theorem dJ3_ensureCapacityInternal_27 : decode cJ3_ensureCapacityInternal 27 = .ok (.aload_n 0, 1) := dk_42 (dk_at dksJ3_ensureCapacityInternal_1 3 rfl rfl)
theorem dJ3_ensureCapacityInternal_28 : decode cJ3_ensureCapacityInternal 28 = .ok (.getfield 22, 3) := dk_180 0 22 (dk_at dksJ3_ensureCapacityInternal_1 4 rfl rfl)
theorem dJ3_ensureCapacityInternal_31 : decode cJ3_ensureCapacityInternal 31 = .ok (.ishl, 1) := dk_120 (dk_at dksJ3_ensureCapacityInternal_1 7 rfl rfl)
theorem dJ3_ensureCapacityInternal_32 : decode cJ3_ensureCapacityInternal 32 = .ok (.invokestatic 108, 3) := dk_184 0 108 (dk_at dksJ3_ensureCapacityInternal_1 8 rfl rfl)
theorem dJ3_ensureCapacityInternal_35 : decode cJ3_ensureCapacityInternal 35 = .ok (.putfield 15, 3) := dk_181 0 15 (dk_at dksJ3_ensureCapacityInternal_1 11 rfl rfl)
theorem dJ3_ensureCapacityInternal_38 : decode cJ3_ensureCapacityInternal 38 = .ok (.return_, 1) := dk_177 (dk_at dksJ3_ensureCapacityInternal_1 14 rfl rfl)
abbrev cJ3_newCapacity : ByteArray := prog_21_method_10_code
def yJ3_newCapacity : MethodName := ⟨RJ3, "newCapacity", "(I)I"⟩
def dkwJ3_newCapacity_2 : List UInt8 := [183, 0, 124, 191, 21, 5, 42, 180, 0, 22, 122, 172]
abbrev dktJ3_newCapacity_2 : List UInt8 := dkwJ3_newCapacity_2 ++ []
def dkwJ3_newCapacity_1 : List UInt8 := [180, 0, 22, 120, 96, 184, 0, 114, 54, 5, 21, 5, 18, 39, 160, 0, 13, 187, 0, 120, 89, 18, 122]
abbrev dktJ3_newCapacity_1 : List UInt8 := dkwJ3_newCapacity_1 ++ dktJ3_newCapacity_2
def dkwJ3_newCapacity_0 : List UInt8 := [42, 180, 0, 15, 190, 61, 27, 42, 180, 0, 22, 120, 62, 29, 28, 100, 54, 4, 28, 21, 4, 28, 5, 42]
abbrev dktJ3_newCapacity_0 : List UInt8 := dkwJ3_newCapacity_0 ++ dktJ3_newCapacity_1
theorem dksJ3_newCapacity_0 : cJ3_newCapacity.data.toList.drop 0 = dktJ3_newCapacity_0 := by decide +kernel
theorem dksJ3_newCapacity_1 : cJ3_newCapacity.data.toList.drop 24 = dktJ3_newCapacity_1 := dk_seg dksJ3_newCapacity_0 24 rfl rfl
theorem dksJ3_newCapacity_2 : cJ3_newCapacity.data.toList.drop 47 = dktJ3_newCapacity_2 := dk_seg dksJ3_newCapacity_1 23 rfl rfl
theorem dJ3_newCapacity_0 : decode cJ3_newCapacity 0 = .ok (.aload_n 0, 1) := dk_42 (dk_at dksJ3_newCapacity_0 0 rfl rfl)
theorem dJ3_newCapacity_1 : decode cJ3_newCapacity 1 = .ok (.getfield 15, 3) := dk_180 0 15 (dk_at dksJ3_newCapacity_0 1 rfl rfl)
theorem dJ3_newCapacity_4 : decode cJ3_newCapacity 4 = .ok (.arraylength, 1) := dk_190 (dk_at dksJ3_newCapacity_0 4 rfl rfl)
theorem dJ3_newCapacity_5 : decode cJ3_newCapacity 5 = .ok (.istore_n 2, 1) := dk_61 (dk_at dksJ3_newCapacity_0 5 rfl rfl)
theorem dJ3_newCapacity_6 : decode cJ3_newCapacity 6 = .ok (.iload_n 1, 1) := dk_27 (dk_at dksJ3_newCapacity_0 6 rfl rfl)
theorem dJ3_newCapacity_7 : decode cJ3_newCapacity 7 = .ok (.aload_n 0, 1) := dk_42 (dk_at dksJ3_newCapacity_0 7 rfl rfl)
theorem dJ3_newCapacity_8 : decode cJ3_newCapacity 8 = .ok (.getfield 22, 3) := dk_180 0 22 (dk_at dksJ3_newCapacity_0 8 rfl rfl)
theorem dJ3_newCapacity_11 : decode cJ3_newCapacity 11 = .ok (.ishl, 1) := dk_120 (dk_at dksJ3_newCapacity_0 11 rfl rfl)
theorem dJ3_newCapacity_12 : decode cJ3_newCapacity 12 = .ok (.istore_n 3, 1) := dk_62 (dk_at dksJ3_newCapacity_0 12 rfl rfl)
theorem dJ3_newCapacity_13 : decode cJ3_newCapacity 13 = .ok (.iload_n 3, 1) := dk_29 (dk_at dksJ3_newCapacity_0 13 rfl rfl)
theorem dJ3_newCapacity_14 : decode cJ3_newCapacity 14 = .ok (.iload_n 2, 1) := dk_28 (dk_at dksJ3_newCapacity_0 14 rfl rfl)
theorem dJ3_newCapacity_15 : decode cJ3_newCapacity 15 = .ok (.isub, 1) := dk_100 (dk_at dksJ3_newCapacity_0 15 rfl rfl)
theorem dJ3_newCapacity_16 : decode cJ3_newCapacity 16 = .ok (.istore 4, 2) := dk_54 4 (dk_at dksJ3_newCapacity_0 16 rfl rfl)
theorem dJ3_newCapacity_18 : decode cJ3_newCapacity 18 = .ok (.iload_n 2, 1) := dk_28 (dk_at dksJ3_newCapacity_0 18 rfl rfl)
theorem dJ3_newCapacity_19 : decode cJ3_newCapacity 19 = .ok (.iload 4, 2) := dk_21 4 (dk_at dksJ3_newCapacity_0 19 rfl rfl)
theorem dJ3_newCapacity_21 : decode cJ3_newCapacity 21 = .ok (.iload_n 2, 1) := dk_28 (dk_at dksJ3_newCapacity_0 21 rfl rfl)
theorem dJ3_newCapacity_22 : decode cJ3_newCapacity 22 = .ok (.iconst 2, 1) := dk_5 (dk_at dksJ3_newCapacity_0 22 rfl rfl)
theorem dJ3_newCapacity_23 : decode cJ3_newCapacity 23 = .ok (.aload_n 0, 1) := dk_42 (dk_at dksJ3_newCapacity_0 23 rfl rfl)
theorem dJ3_newCapacity_24 : decode cJ3_newCapacity 24 = .ok (.getfield 22, 3) := dk_180 0 22 (dk_at dksJ3_newCapacity_1 0 rfl rfl)
theorem dJ3_newCapacity_27 : decode cJ3_newCapacity 27 = .ok (.ishl, 1) := dk_120 (dk_at dksJ3_newCapacity_1 3 rfl rfl)
theorem dJ3_newCapacity_28 : decode cJ3_newCapacity 28 = .ok (.iadd, 1) := dk_96 (dk_at dksJ3_newCapacity_1 4 rfl rfl)
theorem dJ3_newCapacity_29 : decode cJ3_newCapacity 29 = .ok (.invokestatic 114, 3) := dk_184 0 114 (dk_at dksJ3_newCapacity_1 5 rfl rfl)
theorem dJ3_newCapacity_32 : decode cJ3_newCapacity 32 = .ok (.istore 5, 2) := dk_54 5 (dk_at dksJ3_newCapacity_1 8 rfl rfl)
theorem dJ3_newCapacity_34 : decode cJ3_newCapacity 34 = .ok (.iload 5, 2) := dk_21 5 (dk_at dksJ3_newCapacity_1 10 rfl rfl)
theorem dJ3_newCapacity_36 : decode cJ3_newCapacity 36 = .ok (.ldc 39, 2) := dk_18 39 (dk_at dksJ3_newCapacity_1 12 rfl rfl)
theorem dJ3_newCapacity_38 : decode cJ3_newCapacity 38 = .ok (.if_icmp .ne 13, 3) := dk_160 0 13 (dk_at dksJ3_newCapacity_1 14 rfl rfl)
theorem dJ3_newCapacity_41 : decode cJ3_newCapacity 41 = .ok (.new 120, 3) := dk_187 0 120 (dk_at dksJ3_newCapacity_1 17 rfl rfl)
theorem dJ3_newCapacity_44 : decode cJ3_newCapacity 44 = .ok (.dup, 1) := dk_89 (dk_at dksJ3_newCapacity_1 20 rfl rfl)
theorem dJ3_newCapacity_45 : decode cJ3_newCapacity 45 = .ok (.ldc 122, 2) := dk_18 122 (dk_at dksJ3_newCapacity_1 21 rfl rfl)
theorem dJ3_newCapacity_47 : decode cJ3_newCapacity 47 = .ok (.invokespecial 124, 3) := dk_183 0 124 (dk_at dksJ3_newCapacity_2 0 rfl rfl)
theorem dJ3_newCapacity_50 : decode cJ3_newCapacity 50 = .ok (.athrow, 1) := dk_191 (dk_at dksJ3_newCapacity_2 3 rfl rfl)
theorem dJ3_newCapacity_51 : decode cJ3_newCapacity 51 = .ok (.iload 5, 2) := dk_21 5 (dk_at dksJ3_newCapacity_2 4 rfl rfl)
theorem dJ3_newCapacity_53 : decode cJ3_newCapacity 53 = .ok (.aload_n 0, 1) := dk_42 (dk_at dksJ3_newCapacity_2 6 rfl rfl)
theorem dJ3_newCapacity_54 : decode cJ3_newCapacity 54 = .ok (.getfield 22, 3) := dk_180 0 22 (dk_at dksJ3_newCapacity_2 7 rfl rfl)
theorem dJ3_newCapacity_57 : decode cJ3_newCapacity 57 = .ok (.ishr, 1) := dk_122 (dk_at dksJ3_newCapacity_2 10 rfl rfl)
theorem dJ3_newCapacity_58 : decode cJ3_newCapacity 58 = .ok (.ireturn, 1) := dk_172 (dk_at dksJ3_newCapacity_2 11 rfl rfl)
abbrev cJ3_isLatin1 : ByteArray := prog_21_method_68_code
def yJ3_isLatin1 : MethodName := ⟨RJ3, "isLatin1", "()Z"⟩
def dkwJ3_isLatin1_0 : List UInt8 := [178, 0, 18, 153, 0, 14, 42, 180, 0, 22, 154, 0, 7, 4, 167, 0, 4, 3, 172]
abbrev dktJ3_isLatin1_0 : List UInt8 := dkwJ3_isLatin1_0 ++ []
theorem dksJ3_isLatin1_0 : cJ3_isLatin1.data.toList.drop 0 = dktJ3_isLatin1_0 := by decide +kernel
theorem dJ3_isLatin1_0 : decode cJ3_isLatin1 0 = .ok (.getstatic 18, 3) := dk_178 0 18 (dk_at dksJ3_isLatin1_0 0 rfl rfl)
theorem dJ3_isLatin1_3 : decode cJ3_isLatin1 3 = .ok (.ifCond .eq 14, 3) := dk_153 0 14 (dk_at dksJ3_isLatin1_0 3 rfl rfl)
theorem dJ3_isLatin1_6 : decode cJ3_isLatin1 6 = .ok (.aload_n 0, 1) := dk_42 (dk_at dksJ3_isLatin1_0 6 rfl rfl)
theorem dJ3_isLatin1_7 : decode cJ3_isLatin1 7 = .ok (.getfield 22, 3) := dk_180 0 22 (dk_at dksJ3_isLatin1_0 7 rfl rfl)
theorem dJ3_isLatin1_10 : decode cJ3_isLatin1 10 = .ok (.ifCond .ne 7, 3) := dk_154 0 7 (dk_at dksJ3_isLatin1_0 10 rfl rfl)
theorem dJ3_isLatin1_13 : decode cJ3_isLatin1 13 = .ok (.iconst 1, 1) := dk_4 (dk_at dksJ3_isLatin1_0 13 rfl rfl)
theorem dJ3_isLatin1_14 : decode cJ3_isLatin1 14 = .ok (.goto 4, 3) := dk_167 0 4 (dk_at dksJ3_isLatin1_0 14 rfl rfl)
theorem dJ3_isLatin1_17 : decode cJ3_isLatin1 17 = .ok (.iconst 0, 1) := dk_3 (dk_at dksJ3_isLatin1_0 17 rfl rfl)
theorem dJ3_isLatin1_18 : decode cJ3_isLatin1 18 = .ok (.ireturn, 1) := dk_172 (dk_at dksJ3_isLatin1_0 18 rfl rfl)
abbrev cJ3_inflate : ByteArray := prog_21_method_11_code
def yJ3_inflate : MethodName := ⟨RJ3, "inflate", "()V"⟩
def dkwJ3_inflate_1 : List UInt8 := [42, 180, 0, 79, 184, 0, 125, 42, 43, 181, 0, 15, 42, 4, 181, 0, 22, 177]
abbrev dktJ3_inflate_1 : List UInt8 := dkwJ3_inflate_1 ++ []
def dkwJ3_inflate_0 : List UInt8 := [42, 182, 0, 83, 154, 0, 4, 177, 42, 180, 0, 15, 190, 184, 0, 26, 76, 42, 180, 0, 15, 3, 43, 3]
abbrev dktJ3_inflate_0 : List UInt8 := dkwJ3_inflate_0 ++ dktJ3_inflate_1
theorem dksJ3_inflate_0 : cJ3_inflate.data.toList.drop 0 = dktJ3_inflate_0 := by decide +kernel
theorem dksJ3_inflate_1 : cJ3_inflate.data.toList.drop 24 = dktJ3_inflate_1 := dk_seg dksJ3_inflate_0 24 rfl rfl
theorem dJ3_inflate_0 : decode cJ3_inflate 0 = .ok (.aload_n 0, 1) := dk_42 (dk_at dksJ3_inflate_0 0 rfl rfl)
theorem dJ3_inflate_1 : decode cJ3_inflate 1 = .ok (.invokevirtual 83, 3) := dk_182 0 83 (dk_at dksJ3_inflate_0 1 rfl rfl)
theorem dJ3_inflate_4 : decode cJ3_inflate 4 = .ok (.ifCond .ne 4, 3) := dk_154 0 4 (dk_at dksJ3_inflate_0 4 rfl rfl)
theorem dJ3_inflate_7 : decode cJ3_inflate 7 = .ok (.return_, 1) := dk_177 (dk_at dksJ3_inflate_0 7 rfl rfl)
theorem dJ3_inflate_8 : decode cJ3_inflate 8 = .ok (.aload_n 0, 1) := dk_42 (dk_at dksJ3_inflate_0 8 rfl rfl)
theorem dJ3_inflate_9 : decode cJ3_inflate 9 = .ok (.getfield 15, 3) := dk_180 0 15 (dk_at dksJ3_inflate_0 9 rfl rfl)
theorem dJ3_inflate_12 : decode cJ3_inflate 12 = .ok (.arraylength, 1) := dk_190 (dk_at dksJ3_inflate_0 12 rfl rfl)
theorem dJ3_inflate_13 : decode cJ3_inflate 13 = .ok (.invokestatic 26, 3) := dk_184 0 26 (dk_at dksJ3_inflate_0 13 rfl rfl)
theorem dJ3_inflate_16 : decode cJ3_inflate 16 = .ok (.astore_n 1, 1) := dk_76 (dk_at dksJ3_inflate_0 16 rfl rfl)
theorem dJ3_inflate_17 : decode cJ3_inflate 17 = .ok (.aload_n 0, 1) := dk_42 (dk_at dksJ3_inflate_0 17 rfl rfl)
theorem dJ3_inflate_18 : decode cJ3_inflate 18 = .ok (.getfield 15, 3) := dk_180 0 15 (dk_at dksJ3_inflate_0 18 rfl rfl)
theorem dJ3_inflate_21 : decode cJ3_inflate 21 = .ok (.iconst 0, 1) := dk_3 (dk_at dksJ3_inflate_0 21 rfl rfl)
theorem dJ3_inflate_22 : decode cJ3_inflate 22 = .ok (.aload_n 1, 1) := dk_43 (dk_at dksJ3_inflate_0 22 rfl rfl)
theorem dJ3_inflate_23 : decode cJ3_inflate 23 = .ok (.iconst 0, 1) := dk_3 (dk_at dksJ3_inflate_0 23 rfl rfl)
theorem dJ3_inflate_24 : decode cJ3_inflate 24 = .ok (.aload_n 0, 1) := dk_42 (dk_at dksJ3_inflate_1 0 rfl rfl)
theorem dJ3_inflate_25 : decode cJ3_inflate 25 = .ok (.getfield 79, 3) := dk_180 0 79 (dk_at dksJ3_inflate_1 1 rfl rfl)
theorem dJ3_inflate_28 : decode cJ3_inflate 28 = .ok (.invokestatic 125, 3) := dk_184 0 125 (dk_at dksJ3_inflate_1 4 rfl rfl)
theorem dJ3_inflate_31 : decode cJ3_inflate 31 = .ok (.aload_n 0, 1) := dk_42 (dk_at dksJ3_inflate_1 7 rfl rfl)
theorem dJ3_inflate_32 : decode cJ3_inflate 32 = .ok (.aload_n 1, 1) := dk_43 (dk_at dksJ3_inflate_1 8 rfl rfl)
theorem dJ3_inflate_33 : decode cJ3_inflate 33 = .ok (.putfield 15, 3) := dk_181 0 15 (dk_at dksJ3_inflate_1 9 rfl rfl)
theorem dJ3_inflate_36 : decode cJ3_inflate 36 = .ok (.aload_n 0, 1) := dk_42 (dk_at dksJ3_inflate_1 12 rfl rfl)
theorem dJ3_inflate_37 : decode cJ3_inflate 37 = .ok (.iconst 1, 1) := dk_4 (dk_at dksJ3_inflate_1 13 rfl rfl)
theorem dJ3_inflate_38 : decode cJ3_inflate 38 = .ok (.putfield 22, 3) := dk_181 0 22 (dk_at dksJ3_inflate_1 14 rfl rfl)
theorem dJ3_inflate_41 : decode cJ3_inflate 41 = .ok (.return_, 1) := dk_177 (dk_at dksJ3_inflate_1 17 rfl rfl)
abbrev cJ3_getValue : ByteArray := prog_21_method_64_code
def yJ3_getValue : MethodName := ⟨RJ3, "getValue", "()[B"⟩
theorem dJ3_getValue_0 : decode cJ3_getValue 0 = .ok (.aload_n 0, 1) := by decide +kernel
theorem dJ3_getValue_1 : decode cJ3_getValue 1 = .ok (.getfield 15, 3) := by decide +kernel
theorem dJ3_getValue_4 : decode cJ3_getValue 4 = .ok (.areturn, 1) := by decide +kernel
abbrev cJ3_length : ByteArray := prog_21_method_6_code
def yJ3_length : MethodName := ⟨RJ3, "length", "()I"⟩
theorem dJ3_length_0 : decode cJ3_length 0 = .ok (.aload_n 0, 1) := by decide +kernel
theorem dJ3_length_1 : decode cJ3_length 1 = .ok (.getfield 79, 3) := by decide +kernel
theorem dJ3_length_4 : decode cJ3_length 4 = .ok (.ireturn, 1) := by decide +kernel
abbrev cJ3_append_2 : ByteArray := prog_21_method_32_code
def yJ3_append_2 : MethodName := ⟨RJ3, "append", "(I)Ljava/lang/AbstractStringBuilder;"⟩
def dkwJ3_append_2_2 : List UInt8 := [42, 29, 181, 0, 79, 42, 176]
abbrev dktJ3_append_2_2 : List UInt8 := dkwJ3_append_2_2 ++ []
def dkwJ3_append_2_1 : List UInt8 := [27, 29, 42, 180, 0, 15, 184, 0, 248, 87, 167, 0, 14, 27, 28, 29, 42, 180, 0, 15, 184, 0, 251, 87]
abbrev dktJ3_append_2_1 : List UInt8 := dkwJ3_append_2_1 ++ dktJ3_append_2_2
def dkwJ3_append_2_0 : List UInt8 := [42, 180, 0, 79, 61, 28, 27, 184, 0, 245, 96, 62, 42, 29, 182, 0, 100, 42, 182, 0, 83, 153, 0, 16]
abbrev dktJ3_append_2_0 : List UInt8 := dkwJ3_append_2_0 ++ dktJ3_append_2_1
theorem dksJ3_append_2_0 : cJ3_append_2.data.toList.drop 0 = dktJ3_append_2_0 := by decide +kernel
theorem dksJ3_append_2_1 : cJ3_append_2.data.toList.drop 24 = dktJ3_append_2_1 := dk_seg dksJ3_append_2_0 24 rfl rfl
theorem dksJ3_append_2_2 : cJ3_append_2.data.toList.drop 48 = dktJ3_append_2_2 := dk_seg dksJ3_append_2_1 24 rfl rfl
theorem dJ3_append_2_0 : decode cJ3_append_2 0 = .ok (.aload_n 0, 1) := dk_42 (dk_at dksJ3_append_2_0 0 rfl rfl)
theorem dJ3_append_2_1 : decode cJ3_append_2 1 = .ok (.getfield 79, 3) := dk_180 0 79 (dk_at dksJ3_append_2_0 1 rfl rfl)
theorem dJ3_append_2_4 : decode cJ3_append_2 4 = .ok (.istore_n 2, 1) := dk_61 (dk_at dksJ3_append_2_0 4 rfl rfl)
theorem dJ3_append_2_5 : decode cJ3_append_2 5 = .ok (.iload_n 2, 1) := dk_28 (dk_at dksJ3_append_2_0 5 rfl rfl)
theorem dJ3_append_2_6 : decode cJ3_append_2 6 = .ok (.iload_n 1, 1) := dk_27 (dk_at dksJ3_append_2_0 6 rfl rfl)
theorem dJ3_append_2_7 : decode cJ3_append_2 7 = .ok (.invokestatic 245, 3) := dk_184 0 245 (dk_at dksJ3_append_2_0 7 rfl rfl)
theorem dJ3_append_2_10 : decode cJ3_append_2 10 = .ok (.iadd, 1) := dk_96 (dk_at dksJ3_append_2_0 10 rfl rfl)
theorem dJ3_append_2_11 : decode cJ3_append_2 11 = .ok (.istore_n 3, 1) := dk_62 (dk_at dksJ3_append_2_0 11 rfl rfl)
theorem dJ3_append_2_12 : decode cJ3_append_2 12 = .ok (.aload_n 0, 1) := dk_42 (dk_at dksJ3_append_2_0 12 rfl rfl)
theorem dJ3_append_2_13 : decode cJ3_append_2 13 = .ok (.iload_n 3, 1) := dk_29 (dk_at dksJ3_append_2_0 13 rfl rfl)
theorem dJ3_append_2_14 : decode cJ3_append_2 14 = .ok (.invokevirtual 100, 3) := dk_182 0 100 (dk_at dksJ3_append_2_0 14 rfl rfl)
theorem dJ3_append_2_17 : decode cJ3_append_2 17 = .ok (.aload_n 0, 1) := dk_42 (dk_at dksJ3_append_2_0 17 rfl rfl)
theorem dJ3_append_2_18 : decode cJ3_append_2 18 = .ok (.invokevirtual 83, 3) := dk_182 0 83 (dk_at dksJ3_append_2_0 18 rfl rfl)
theorem dJ3_append_2_21 : decode cJ3_append_2 21 = .ok (.ifCond .eq 16, 3) := dk_153 0 16 (dk_at dksJ3_append_2_0 21 rfl rfl)
theorem dJ3_append_2_24 : decode cJ3_append_2 24 = .ok (.iload_n 1, 1) := dk_27 (dk_at dksJ3_append_2_1 0 rfl rfl)
theorem dJ3_append_2_25 : decode cJ3_append_2 25 = .ok (.iload_n 3, 1) := dk_29 (dk_at dksJ3_append_2_1 1 rfl rfl)
theorem dJ3_append_2_26 : decode cJ3_append_2 26 = .ok (.aload_n 0, 1) := dk_42 (dk_at dksJ3_append_2_1 2 rfl rfl)
theorem dJ3_append_2_27 : decode cJ3_append_2 27 = .ok (.getfield 15, 3) := dk_180 0 15 (dk_at dksJ3_append_2_1 3 rfl rfl)
theorem dJ3_append_2_30 : decode cJ3_append_2 30 = .ok (.invokestatic 248, 3) := dk_184 0 248 (dk_at dksJ3_append_2_1 6 rfl rfl)
theorem dJ3_append_2_33 : decode cJ3_append_2 33 = .ok (.pop, 1) := dk_87 (dk_at dksJ3_append_2_1 9 rfl rfl)
theorem dJ3_append_2_34 : decode cJ3_append_2 34 = .ok (.goto 14, 3) := dk_167 0 14 (dk_at dksJ3_append_2_1 10 rfl rfl)
theorem dJ3_append_2_37 : decode cJ3_append_2 37 = .ok (.iload_n 1, 1) := dk_27 (dk_at dksJ3_append_2_1 13 rfl rfl)
theorem dJ3_append_2_38 : decode cJ3_append_2 38 = .ok (.iload_n 2, 1) := dk_28 (dk_at dksJ3_append_2_1 14 rfl rfl)
theorem dJ3_append_2_39 : decode cJ3_append_2 39 = .ok (.iload_n 3, 1) := dk_29 (dk_at dksJ3_append_2_1 15 rfl rfl)
theorem dJ3_append_2_40 : decode cJ3_append_2 40 = .ok (.aload_n 0, 1) := dk_42 (dk_at dksJ3_append_2_1 16 rfl rfl)
theorem dJ3_append_2_41 : decode cJ3_append_2 41 = .ok (.getfield 15, 3) := dk_180 0 15 (dk_at dksJ3_append_2_1 17 rfl rfl)
theorem dJ3_append_2_44 : decode cJ3_append_2 44 = .ok (.invokestatic 251, 3) := dk_184 0 251 (dk_at dksJ3_append_2_1 20 rfl rfl)
theorem dJ3_append_2_47 : decode cJ3_append_2 47 = .ok (.pop, 1) := dk_87 (dk_at dksJ3_append_2_1 23 rfl rfl)
theorem dJ3_append_2_48 : decode cJ3_append_2 48 = .ok (.aload_n 0, 1) := dk_42 (dk_at dksJ3_append_2_2 0 rfl rfl)
theorem dJ3_append_2_49 : decode cJ3_append_2 49 = .ok (.iload_n 3, 1) := dk_29 (dk_at dksJ3_append_2_2 1 rfl rfl)
theorem dJ3_append_2_50 : decode cJ3_append_2 50 = .ok (.putfield 79, 3) := dk_181 0 79 (dk_at dksJ3_append_2_2 2 rfl rfl)
theorem dJ3_append_2_53 : decode cJ3_append_2 53 = .ok (.aload_n 0, 1) := dk_42 (dk_at dksJ3_append_2_2 5 rfl rfl)
theorem dJ3_append_2_54 : decode cJ3_append_2 54 = .ok (.areturn, 1) := dk_176 (dk_at dksJ3_append_2_2 6 rfl rfl)
abbrev cJ3_append_3 : ByteArray := prog_21_method_22_code
def yJ3_append_3 : MethodName := ⟨RJ3, "append", "(Ljava/lang/String;)Ljava/lang/AbstractStringBuilder;"⟩
def dkwJ3_append_3_1 : List UInt8 := [42, 42, 180, 0, 79, 43, 182, 0, 208, 42, 89, 180, 0, 79, 28, 96, 181, 0, 79, 42, 176]
abbrev dktJ3_append_3_1 : List UInt8 := dkwJ3_append_3_1 ++ []
def dkwJ3_append_3_0 : List UInt8 := [43, 199, 0, 8, 42, 182, 0, 204, 176, 43, 182, 0, 32, 61, 42, 42, 180, 0, 79, 28, 96, 182, 0, 100]
abbrev dktJ3_append_3_0 : List UInt8 := dkwJ3_append_3_0 ++ dktJ3_append_3_1
theorem dksJ3_append_3_0 : cJ3_append_3.data.toList.drop 0 = dktJ3_append_3_0 := by decide +kernel
theorem dksJ3_append_3_1 : cJ3_append_3.data.toList.drop 24 = dktJ3_append_3_1 := dk_seg dksJ3_append_3_0 24 rfl rfl
theorem dJ3_append_3_0 : decode cJ3_append_3 0 = .ok (.aload_n 1, 1) := dk_43 (dk_at dksJ3_append_3_0 0 rfl rfl)
theorem dJ3_append_3_1 : decode cJ3_append_3 1 = .ok (.ifnonnull 8, 3) := dk_199 0 8 (dk_at dksJ3_append_3_0 1 rfl rfl)
theorem dJ3_append_3_4 : decode cJ3_append_3 4 = .ok (.aload_n 0, 1) := dk_42 (dk_at dksJ3_append_3_0 4 rfl rfl)
theorem dJ3_append_3_5 : decode cJ3_append_3 5 = .ok (.invokevirtual 204, 3) := dk_182 0 204 (dk_at dksJ3_append_3_0 5 rfl rfl)
theorem dJ3_append_3_8 : decode cJ3_append_3 8 = .ok (.areturn, 1) := dk_176 (dk_at dksJ3_append_3_0 8 rfl rfl)
theorem dJ3_append_3_9 : decode cJ3_append_3 9 = .ok (.aload_n 1, 1) := dk_43 (dk_at dksJ3_append_3_0 9 rfl rfl)
theorem dJ3_append_3_10 : decode cJ3_append_3 10 = .ok (.invokevirtual 32, 3) := dk_182 0 32 (dk_at dksJ3_append_3_0 10 rfl rfl)
theorem dJ3_append_3_13 : decode cJ3_append_3 13 = .ok (.istore_n 2, 1) := dk_61 (dk_at dksJ3_append_3_0 13 rfl rfl)
theorem dJ3_append_3_14 : decode cJ3_append_3 14 = .ok (.aload_n 0, 1) := dk_42 (dk_at dksJ3_append_3_0 14 rfl rfl)
theorem dJ3_append_3_15 : decode cJ3_append_3 15 = .ok (.aload_n 0, 1) := dk_42 (dk_at dksJ3_append_3_0 15 rfl rfl)
theorem dJ3_append_3_16 : decode cJ3_append_3 16 = .ok (.getfield 79, 3) := dk_180 0 79 (dk_at dksJ3_append_3_0 16 rfl rfl)
theorem dJ3_append_3_19 : decode cJ3_append_3 19 = .ok (.iload_n 2, 1) := dk_28 (dk_at dksJ3_append_3_0 19 rfl rfl)
theorem dJ3_append_3_20 : decode cJ3_append_3 20 = .ok (.iadd, 1) := dk_96 (dk_at dksJ3_append_3_0 20 rfl rfl)
theorem dJ3_append_3_21 : decode cJ3_append_3 21 = .ok (.invokevirtual 100, 3) := dk_182 0 100 (dk_at dksJ3_append_3_0 21 rfl rfl)
theorem dJ3_append_3_24 : decode cJ3_append_3 24 = .ok (.aload_n 0, 1) := dk_42 (dk_at dksJ3_append_3_1 0 rfl rfl)
theorem dJ3_append_3_25 : decode cJ3_append_3 25 = .ok (.aload_n 0, 1) := dk_42 (dk_at dksJ3_append_3_1 1 rfl rfl)
theorem dJ3_append_3_26 : decode cJ3_append_3 26 = .ok (.getfield 79, 3) := dk_180 0 79 (dk_at dksJ3_append_3_1 2 rfl rfl)
theorem dJ3_append_3_29 : decode cJ3_append_3 29 = .ok (.aload_n 1, 1) := dk_43 (dk_at dksJ3_append_3_1 5 rfl rfl)
theorem dJ3_append_3_30 : decode cJ3_append_3 30 = .ok (.invokevirtual 208, 3) := dk_182 0 208 (dk_at dksJ3_append_3_1 6 rfl rfl)
theorem dJ3_append_3_33 : decode cJ3_append_3 33 = .ok (.aload_n 0, 1) := dk_42 (dk_at dksJ3_append_3_1 9 rfl rfl)
theorem dJ3_append_3_34 : decode cJ3_append_3 34 = .ok (.dup, 1) := dk_89 (dk_at dksJ3_append_3_1 10 rfl rfl)
theorem dJ3_append_3_35 : decode cJ3_append_3 35 = .ok (.getfield 79, 3) := dk_180 0 79 (dk_at dksJ3_append_3_1 11 rfl rfl)
theorem dJ3_append_3_38 : decode cJ3_append_3 38 = .ok (.iload_n 2, 1) := dk_28 (dk_at dksJ3_append_3_1 14 rfl rfl)
theorem dJ3_append_3_39 : decode cJ3_append_3 39 = .ok (.iadd, 1) := dk_96 (dk_at dksJ3_append_3_1 15 rfl rfl)
theorem dJ3_append_3_40 : decode cJ3_append_3 40 = .ok (.putfield 79, 3) := dk_181 0 79 (dk_at dksJ3_append_3_1 16 rfl rfl)
theorem dJ3_append_3_43 : decode cJ3_append_3 43 = .ok (.aload_n 0, 1) := dk_42 (dk_at dksJ3_append_3_1 19 rfl rfl)
theorem dJ3_append_3_44 : decode cJ3_append_3 44 = .ok (.areturn, 1) := dk_176 (dk_at dksJ3_append_3_1 20 rfl rfl)
abbrev cJ3_appendNull : ByteArray := prog_21_method_26_code
def yJ3_appendNull : MethodName := ⟨RJ3, "appendNull", "()Ljava/lang/AbstractStringBuilder;"⟩
def dkwJ3_appendNull_3 : List UInt8 := [184, 0, 226, 60, 42, 27, 181, 0, 79, 42, 176]
abbrev dktJ3_appendNull_3 : List UInt8 := dkwJ3_appendNull_3 ++ []
def dkwJ3_appendNull_2 : List UInt8 := [16, 108, 84, 44, 27, 132, 1, 1, 16, 108, 84, 167, 0, 17, 44, 27, 16, 110, 16, 117, 16, 108, 16, 108]
abbrev dktJ3_appendNull_2 : List UInt8 := dkwJ3_appendNull_2 ++ dktJ3_appendNull_3
def dkwJ3_appendNull_1 : List UInt8 := [153, 0, 38, 44, 27, 132, 1, 1, 16, 110, 84, 44, 27, 132, 1, 1, 16, 117, 84, 44, 27, 132, 1, 1]
abbrev dktJ3_appendNull_1 : List UInt8 := dkwJ3_appendNull_1 ++ dktJ3_appendNull_2
def dkwJ3_appendNull_0 : List UInt8 := [42, 42, 180, 0, 79, 7, 96, 182, 0, 100, 42, 180, 0, 79, 60, 42, 180, 0, 15, 77, 42, 182, 0, 83]
abbrev dktJ3_appendNull_0 : List UInt8 := dkwJ3_appendNull_0 ++ dktJ3_appendNull_1
theorem dksJ3_appendNull_0 : cJ3_appendNull.data.toList.drop 0 = dktJ3_appendNull_0 := by decide +kernel
theorem dksJ3_appendNull_1 : cJ3_appendNull.data.toList.drop 24 = dktJ3_appendNull_1 := dk_seg dksJ3_appendNull_0 24 rfl rfl
theorem dksJ3_appendNull_2 : cJ3_appendNull.data.toList.drop 48 = dktJ3_appendNull_2 := dk_seg dksJ3_appendNull_1 24 rfl rfl
theorem dksJ3_appendNull_3 : cJ3_appendNull.data.toList.drop 72 = dktJ3_appendNull_3 := dk_seg dksJ3_appendNull_2 24 rfl rfl
theorem dJ3_appendNull_0 : decode cJ3_appendNull 0 = .ok (.aload_n 0, 1) := dk_42 (dk_at dksJ3_appendNull_0 0 rfl rfl)
theorem dJ3_appendNull_1 : decode cJ3_appendNull 1 = .ok (.aload_n 0, 1) := dk_42 (dk_at dksJ3_appendNull_0 1 rfl rfl)
theorem dJ3_appendNull_2 : decode cJ3_appendNull 2 = .ok (.getfield 79, 3) := dk_180 0 79 (dk_at dksJ3_appendNull_0 2 rfl rfl)
theorem dJ3_appendNull_5 : decode cJ3_appendNull 5 = .ok (.iconst 4, 1) := dk_7 (dk_at dksJ3_appendNull_0 5 rfl rfl)
theorem dJ3_appendNull_6 : decode cJ3_appendNull 6 = .ok (.iadd, 1) := dk_96 (dk_at dksJ3_appendNull_0 6 rfl rfl)
theorem dJ3_appendNull_7 : decode cJ3_appendNull 7 = .ok (.invokevirtual 100, 3) := dk_182 0 100 (dk_at dksJ3_appendNull_0 7 rfl rfl)
theorem dJ3_appendNull_10 : decode cJ3_appendNull 10 = .ok (.aload_n 0, 1) := dk_42 (dk_at dksJ3_appendNull_0 10 rfl rfl)
theorem dJ3_appendNull_11 : decode cJ3_appendNull 11 = .ok (.getfield 79, 3) := dk_180 0 79 (dk_at dksJ3_appendNull_0 11 rfl rfl)
theorem dJ3_appendNull_14 : decode cJ3_appendNull 14 = .ok (.istore_n 1, 1) := dk_60 (dk_at dksJ3_appendNull_0 14 rfl rfl)
theorem dJ3_appendNull_15 : decode cJ3_appendNull 15 = .ok (.aload_n 0, 1) := dk_42 (dk_at dksJ3_appendNull_0 15 rfl rfl)
theorem dJ3_appendNull_16 : decode cJ3_appendNull 16 = .ok (.getfield 15, 3) := dk_180 0 15 (dk_at dksJ3_appendNull_0 16 rfl rfl)
theorem dJ3_appendNull_19 : decode cJ3_appendNull 19 = .ok (.astore_n 2, 1) := dk_77 (dk_at dksJ3_appendNull_0 19 rfl rfl)
theorem dJ3_appendNull_20 : decode cJ3_appendNull 20 = .ok (.aload_n 0, 1) := dk_42 (dk_at dksJ3_appendNull_0 20 rfl rfl)
theorem dJ3_appendNull_21 : decode cJ3_appendNull 21 = .ok (.invokevirtual 83, 3) := dk_182 0 83 (dk_at dksJ3_appendNull_0 21 rfl rfl)
theorem dJ3_appendNull_24 : decode cJ3_appendNull 24 = .ok (.ifCond .eq 38, 3) := dk_153 0 38 (dk_at dksJ3_appendNull_1 0 rfl rfl)
theorem dJ3_appendNull_27 : decode cJ3_appendNull 27 = .ok (.aload_n 2, 1) := dk_44 (dk_at dksJ3_appendNull_1 3 rfl rfl)
theorem dJ3_appendNull_28 : decode cJ3_appendNull 28 = .ok (.iload_n 1, 1) := dk_27 (dk_at dksJ3_appendNull_1 4 rfl rfl)
theorem dJ3_appendNull_29 : decode cJ3_appendNull 29 = .ok (.iinc 1 1, 3) := dk_132 1 1 (dk_at dksJ3_appendNull_1 5 rfl rfl)
theorem dJ3_appendNull_32 : decode cJ3_appendNull 32 = .ok (.bipush 110, 2) := dk_16 110 (dk_at dksJ3_appendNull_1 8 rfl rfl)
theorem dJ3_appendNull_34 : decode cJ3_appendNull 34 = .ok (.bastore, 1) := dk_84 (dk_at dksJ3_appendNull_1 10 rfl rfl)
theorem dJ3_appendNull_35 : decode cJ3_appendNull 35 = .ok (.aload_n 2, 1) := dk_44 (dk_at dksJ3_appendNull_1 11 rfl rfl)
theorem dJ3_appendNull_36 : decode cJ3_appendNull 36 = .ok (.iload_n 1, 1) := dk_27 (dk_at dksJ3_appendNull_1 12 rfl rfl)
theorem dJ3_appendNull_37 : decode cJ3_appendNull 37 = .ok (.iinc 1 1, 3) := dk_132 1 1 (dk_at dksJ3_appendNull_1 13 rfl rfl)
theorem dJ3_appendNull_40 : decode cJ3_appendNull 40 = .ok (.bipush 117, 2) := dk_16 117 (dk_at dksJ3_appendNull_1 16 rfl rfl)
theorem dJ3_appendNull_42 : decode cJ3_appendNull 42 = .ok (.bastore, 1) := dk_84 (dk_at dksJ3_appendNull_1 18 rfl rfl)
theorem dJ3_appendNull_43 : decode cJ3_appendNull 43 = .ok (.aload_n 2, 1) := dk_44 (dk_at dksJ3_appendNull_1 19 rfl rfl)
theorem dJ3_appendNull_44 : decode cJ3_appendNull 44 = .ok (.iload_n 1, 1) := dk_27 (dk_at dksJ3_appendNull_1 20 rfl rfl)
theorem dJ3_appendNull_45 : decode cJ3_appendNull 45 = .ok (.iinc 1 1, 3) := dk_132 1 1 (dk_at dksJ3_appendNull_1 21 rfl rfl)
theorem dJ3_appendNull_48 : decode cJ3_appendNull 48 = .ok (.bipush 108, 2) := dk_16 108 (dk_at dksJ3_appendNull_2 0 rfl rfl)
theorem dJ3_appendNull_50 : decode cJ3_appendNull 50 = .ok (.bastore, 1) := dk_84 (dk_at dksJ3_appendNull_2 2 rfl rfl)
theorem dJ3_appendNull_51 : decode cJ3_appendNull 51 = .ok (.aload_n 2, 1) := dk_44 (dk_at dksJ3_appendNull_2 3 rfl rfl)
theorem dJ3_appendNull_52 : decode cJ3_appendNull 52 = .ok (.iload_n 1, 1) := dk_27 (dk_at dksJ3_appendNull_2 4 rfl rfl)
theorem dJ3_appendNull_53 : decode cJ3_appendNull 53 = .ok (.iinc 1 1, 3) := dk_132 1 1 (dk_at dksJ3_appendNull_2 5 rfl rfl)
theorem dJ3_appendNull_56 : decode cJ3_appendNull 56 = .ok (.bipush 108, 2) := dk_16 108 (dk_at dksJ3_appendNull_2 8 rfl rfl)
theorem dJ3_appendNull_58 : decode cJ3_appendNull 58 = .ok (.bastore, 1) := dk_84 (dk_at dksJ3_appendNull_2 10 rfl rfl)
theorem dJ3_appendNull_59 : decode cJ3_appendNull 59 = .ok (.goto 17, 3) := dk_167 0 17 (dk_at dksJ3_appendNull_2 11 rfl rfl)
theorem dJ3_appendNull_62 : decode cJ3_appendNull 62 = .ok (.aload_n 2, 1) := dk_44 (dk_at dksJ3_appendNull_2 14 rfl rfl)
theorem dJ3_appendNull_63 : decode cJ3_appendNull 63 = .ok (.iload_n 1, 1) := dk_27 (dk_at dksJ3_appendNull_2 15 rfl rfl)
theorem dJ3_appendNull_64 : decode cJ3_appendNull 64 = .ok (.bipush 110, 2) := dk_16 110 (dk_at dksJ3_appendNull_2 16 rfl rfl)
theorem dJ3_appendNull_66 : decode cJ3_appendNull 66 = .ok (.bipush 117, 2) := dk_16 117 (dk_at dksJ3_appendNull_2 18 rfl rfl)
theorem dJ3_appendNull_68 : decode cJ3_appendNull 68 = .ok (.bipush 108, 2) := dk_16 108 (dk_at dksJ3_appendNull_2 20 rfl rfl)
theorem dJ3_appendNull_70 : decode cJ3_appendNull 70 = .ok (.bipush 108, 2) := dk_16 108 (dk_at dksJ3_appendNull_2 22 rfl rfl)
theorem dJ3_appendNull_72 : decode cJ3_appendNull 72 = .ok (.invokestatic 226, 3) := dk_184 0 226 (dk_at dksJ3_appendNull_3 0 rfl rfl)
theorem dJ3_appendNull_75 : decode cJ3_appendNull 75 = .ok (.istore_n 1, 1) := dk_60 (dk_at dksJ3_appendNull_3 3 rfl rfl)
theorem dJ3_appendNull_76 : decode cJ3_appendNull 76 = .ok (.aload_n 0, 1) := dk_42 (dk_at dksJ3_appendNull_3 4 rfl rfl)
theorem dJ3_appendNull_77 : decode cJ3_appendNull 77 = .ok (.iload_n 1, 1) := dk_27 (dk_at dksJ3_appendNull_3 5 rfl rfl)
theorem dJ3_appendNull_78 : decode cJ3_appendNull 78 = .ok (.putfield 79, 3) := dk_181 0 79 (dk_at dksJ3_appendNull_3 6 rfl rfl)
theorem dJ3_appendNull_81 : decode cJ3_appendNull 81 = .ok (.aload_n 0, 1) := dk_42 (dk_at dksJ3_appendNull_3 9 rfl rfl)
theorem dJ3_appendNull_82 : decode cJ3_appendNull 82 = .ok (.areturn, 1) := dk_176 (dk_at dksJ3_appendNull_3 10 rfl rfl)
abbrev cJ3_putStringAt : ByteArray := prog_21_method_73_code
def yJ3_putStringAt : MethodName := ⟨RJ3, "putStringAt", "(ILjava/lang/String;)V"⟩
def dkwJ3_putStringAt_0 : List UInt8 := [42, 44, 182, 1, 141, 44, 42, 180, 0, 15, 27, 42, 180, 0, 22, 182, 1, 143, 177]
abbrev dktJ3_putStringAt_0 : List UInt8 := dkwJ3_putStringAt_0 ++ []
theorem dksJ3_putStringAt_0 : cJ3_putStringAt.data.toList.drop 0 = dktJ3_putStringAt_0 := by decide +kernel
theorem dJ3_putStringAt_0 : decode cJ3_putStringAt 0 = .ok (.aload_n 0, 1) := dk_42 (dk_at dksJ3_putStringAt_0 0 rfl rfl)
theorem dJ3_putStringAt_1 : decode cJ3_putStringAt 1 = .ok (.aload_n 2, 1) := dk_44 (dk_at dksJ3_putStringAt_0 1 rfl rfl)
theorem dJ3_putStringAt_2 : decode cJ3_putStringAt 2 = .ok (.invokevirtual 397, 3) := dk_182 1 141 (dk_at dksJ3_putStringAt_0 2 rfl rfl)
theorem dJ3_putStringAt_5 : decode cJ3_putStringAt 5 = .ok (.aload_n 2, 1) := dk_44 (dk_at dksJ3_putStringAt_0 5 rfl rfl)
theorem dJ3_putStringAt_6 : decode cJ3_putStringAt 6 = .ok (.aload_n 0, 1) := dk_42 (dk_at dksJ3_putStringAt_0 6 rfl rfl)
theorem dJ3_putStringAt_7 : decode cJ3_putStringAt 7 = .ok (.getfield 15, 3) := dk_180 0 15 (dk_at dksJ3_putStringAt_0 7 rfl rfl)
theorem dJ3_putStringAt_10 : decode cJ3_putStringAt 10 = .ok (.iload_n 1, 1) := dk_27 (dk_at dksJ3_putStringAt_0 10 rfl rfl)
theorem dJ3_putStringAt_11 : decode cJ3_putStringAt 11 = .ok (.aload_n 0, 1) := dk_42 (dk_at dksJ3_putStringAt_0 11 rfl rfl)
theorem dJ3_putStringAt_12 : decode cJ3_putStringAt 12 = .ok (.getfield 22, 3) := dk_180 0 22 (dk_at dksJ3_putStringAt_0 12 rfl rfl)
theorem dJ3_putStringAt_15 : decode cJ3_putStringAt 15 = .ok (.invokevirtual 399, 3) := dk_182 1 143 (dk_at dksJ3_putStringAt_0 15 rfl rfl)
theorem dJ3_putStringAt_18 : decode cJ3_putStringAt 18 = .ok (.return_, 1) := dk_177 (dk_at dksJ3_putStringAt_0 18 rfl rfl)
abbrev cJ3_inflateIfNeededFor : ByteArray := prog_21_method_71_code
def yJ3_inflateIfNeededFor : MethodName := ⟨RJ3, "inflateIfNeededFor", "(Ljava/lang/String;)V"⟩
def dkwJ3_inflateIfNeededFor_0 : List UInt8 := [178, 0, 18, 153, 0, 18, 42, 180, 0, 22, 43, 182, 0, 40, 159, 0, 7, 42, 182, 0, 195, 177]
abbrev dktJ3_inflateIfNeededFor_0 : List UInt8 := dkwJ3_inflateIfNeededFor_0 ++ []
theorem dksJ3_inflateIfNeededFor_0 : cJ3_inflateIfNeededFor.data.toList.drop 0 = dktJ3_inflateIfNeededFor_0 := by decide +kernel
theorem dJ3_inflateIfNeededFor_0 : decode cJ3_inflateIfNeededFor 0 = .ok (.getstatic 18, 3) := dk_178 0 18 (dk_at dksJ3_inflateIfNeededFor_0 0 rfl rfl)
theorem dJ3_inflateIfNeededFor_3 : decode cJ3_inflateIfNeededFor 3 = .ok (.ifCond .eq 18, 3) := dk_153 0 18 (dk_at dksJ3_inflateIfNeededFor_0 3 rfl rfl)
theorem dJ3_inflateIfNeededFor_6 : decode cJ3_inflateIfNeededFor 6 = .ok (.aload_n 0, 1) := dk_42 (dk_at dksJ3_inflateIfNeededFor_0 6 rfl rfl)
theorem dJ3_inflateIfNeededFor_7 : decode cJ3_inflateIfNeededFor 7 = .ok (.getfield 22, 3) := dk_180 0 22 (dk_at dksJ3_inflateIfNeededFor_0 7 rfl rfl)
theorem dJ3_inflateIfNeededFor_10 : decode cJ3_inflateIfNeededFor 10 = .ok (.aload_n 1, 1) := dk_43 (dk_at dksJ3_inflateIfNeededFor_0 10 rfl rfl)
theorem dJ3_inflateIfNeededFor_11 : decode cJ3_inflateIfNeededFor 11 = .ok (.invokevirtual 40, 3) := dk_182 0 40 (dk_at dksJ3_inflateIfNeededFor_0 11 rfl rfl)
theorem dJ3_inflateIfNeededFor_14 : decode cJ3_inflateIfNeededFor 14 = .ok (.if_icmp .eq 7, 3) := dk_159 0 7 (dk_at dksJ3_inflateIfNeededFor_0 14 rfl rfl)
theorem dJ3_inflateIfNeededFor_17 : decode cJ3_inflateIfNeededFor 17 = .ok (.aload_n 0, 1) := dk_42 (dk_at dksJ3_inflateIfNeededFor_0 17 rfl rfl)
theorem dJ3_inflateIfNeededFor_18 : decode cJ3_inflateIfNeededFor 18 = .ok (.invokevirtual 195, 3) := dk_182 0 195 (dk_at dksJ3_inflateIfNeededFor_0 18 rfl rfl)
theorem dJ3_inflateIfNeededFor_21 : decode cJ3_inflateIfNeededFor 21 = .ok (.return_, 1) := dk_177 (dk_at dksJ3_inflateIfNeededFor_0 21 rfl rfl)
theorem q123 : (Jvm.Cond.initialized "java/lang/AbstractStringBuilder") ∈ lw_all := lw_g (lw_at lw_m1 11 rfl) rfl
theorem q763 : (Jvm.Cond.instanceMethod ({ cls := "java/lang/AbstractStringBuilder", name := "<init>", desc := "(I)V" } : Jvm.MethodName)) ∈ lw_all := lw_g (lw_at lw_m3 171 rfl) rfl
theorem q764 : (Jvm.Cond.code ({ cls := "java/lang/AbstractStringBuilder", name := "<init>", desc := "(I)V" } : Jvm.MethodName) prog_21_method_2_code (2 : Nat) (Option.none : Option Jvm.ClassFile.FieldType)) ∈ lw_all := lw_g (lw_at lw_m3 172 rfl) rfl
theorem q765 : (Jvm.Cond.methodLink "java/lang/AbstractStringBuilder" (3 : Nat) ({ cls := "java/lang/Object", name := "<init>", desc := "()V" } : Jvm.MethodName)) ∈ lw_all := lw_g (lw_at lw_m3 173 rfl) rfl
theorem q766 : (Jvm.Cond.fieldLink "java/lang/AbstractStringBuilder" (18 : Nat) "java/lang/String" "COMPACT_STRINGS" "Z") ∈ lw_all := lw_g (lw_at lw_m3 174 rfl) rfl
theorem q768 : (Jvm.Cond.methodLink "java/lang/AbstractStringBuilder" (26 : Nat) ({ cls := "java/lang/StringUTF16", name := "newBytesFor", desc := "(I)[B" } : Jvm.MethodName)) ∈ lw_all := lw_g (lw_at lw_m3 176 rfl) rfl
theorem q775 : (Jvm.Cond.fieldLink "java/lang/AbstractStringBuilder" (15 : Nat) "java/lang/AbstractStringBuilder" "value" "[B") ∈ lw_all := lw_g (lw_at lw_m3 183 rfl) rfl
theorem q776 : (Jvm.Cond.fieldLink "java/lang/AbstractStringBuilder" (22 : Nat) "java/lang/AbstractStringBuilder" "coder" "B") ∈ lw_all := lw_g (lw_at lw_m3 184 rfl) rfl
theorem q778 : (Jvm.Cond.fieldLink "java/lang/AbstractStringBuilder" (79 : Nat) "java/lang/AbstractStringBuilder" "count" "I") ∈ lw_all := lw_g (lw_at lw_m3 186 rfl) rfl
theorem q780 : (Jvm.Cond.soleField "java/lang/AbstractStringBuilder" "value") ∈ lw_all := lw_g (lw_at lw_m3 188 rfl) rfl
theorem q782 : (Jvm.Cond.soleField "java/lang/AbstractStringBuilder" "coder") ∈ lw_all := lw_g (lw_at lw_m3 190 rfl) rfl
theorem q784 : (Jvm.Cond.soleField "java/lang/AbstractStringBuilder" "maybeLatin1") ∈ lw_all := lw_g (lw_at lw_m3 192 rfl) rfl
theorem q786 : (Jvm.Cond.soleField "java/lang/AbstractStringBuilder" "count") ∈ lw_all := lw_g (lw_at lw_m3 194 rfl) rfl
theorem q793 : (Jvm.Cond.instanceMethod ({ cls := "java/lang/AbstractStringBuilder", name := "append", desc := "(C)Ljava/lang/AbstractStringBuilder;" } : Jvm.MethodName)) ∈ lw_all := lw_g (lw_at lw_m3 201 rfl) rfl
theorem q794 : (Jvm.Cond.code ({ cls := "java/lang/AbstractStringBuilder", name := "append", desc := "(C)Ljava/lang/AbstractStringBuilder;" } : Jvm.MethodName) prog_21_method_31_code (2 : Nat) (Option.some (Jvm.ClassFile.FieldType.object "java/lang/AbstractStringBuilder"))) ∈ lw_all := lw_g (lw_at lw_m3 202 rfl) rfl
theorem q795 : (Jvm.Cond.methodLink "java/lang/AbstractStringBuilder" (100 : Nat) ({ cls := "java/lang/AbstractStringBuilder", name := "ensureCapacityInternal", desc := "(I)V" } : Jvm.MethodName)) ∈ lw_all := lw_g (lw_at lw_m3 203 rfl) rfl
theorem q796 : (Jvm.Cond.privateMethod ({ cls := "java/lang/AbstractStringBuilder", name := "ensureCapacityInternal", desc := "(I)V" } : Jvm.MethodName)) ∈ lw_tbl := lw_at lw_m3 204 rfl
theorem q797 : (Jvm.Cond.instanceMethod ({ cls := "java/lang/AbstractStringBuilder", name := "ensureCapacityInternal", desc := "(I)V" } : Jvm.MethodName)) ∈ lw_all := lw_g (lw_at lw_m3 205 rfl) rfl
theorem q798 : (Jvm.Cond.code ({ cls := "java/lang/AbstractStringBuilder", name := "ensureCapacityInternal", desc := "(I)V" } : Jvm.MethodName) prog_21_method_9_code (3 : Nat) (Option.none : Option Jvm.ClassFile.FieldType)) ∈ lw_all := lw_g (lw_at lw_m3 206 rfl) rfl
theorem q799 : (Jvm.Cond.methodLink "java/lang/AbstractStringBuilder" (104 : Nat) ({ cls := "java/lang/AbstractStringBuilder", name := "newCapacity", desc := "(I)I" } : Jvm.MethodName)) ∈ lw_all := lw_g (lw_at lw_m3 207 rfl) rfl
theorem q800 : (Jvm.Cond.privateMethod ({ cls := "java/lang/AbstractStringBuilder", name := "newCapacity", desc := "(I)I" } : Jvm.MethodName)) ∈ lw_tbl := lw_at lw_m3 208 rfl
theorem q801 : (Jvm.Cond.instanceMethod ({ cls := "java/lang/AbstractStringBuilder", name := "newCapacity", desc := "(I)I" } : Jvm.MethodName)) ∈ lw_all := lw_g (lw_at lw_m3 209 rfl) rfl
theorem q802 : (Jvm.Cond.code ({ cls := "java/lang/AbstractStringBuilder", name := "newCapacity", desc := "(I)I" } : Jvm.MethodName) prog_21_method_10_code (6 : Nat) (Option.some Jvm.ClassFile.FieldType.int)) ∈ lw_all := lw_g (lw_at lw_m3 210 rfl) rfl
theorem q803 : (Jvm.Cond.methodLink "java/lang/AbstractStringBuilder" (114 : Nat) ({ cls := "jdk/internal/util/ArraysSupport", name := "newLength", desc := "(III)I" } : Jvm.MethodName)) ∈ lw_all := lw_g (lw_at lw_m3 211 rfl) rfl
theorem q811 : (Jvm.Cond.constant "java/lang/AbstractStringBuilder" (39 : Nat) (2147483647 : Int32)) ∈ lw_all := lw_g (lw_at lw_m3 219 rfl) rfl
theorem q812 : (Jvm.Cond.methodLink "java/lang/AbstractStringBuilder" (108 : Nat) ({ cls := "java/util/Arrays", name := "copyOf", desc := "([BI)[B" } : Jvm.MethodName)) ∈ lw_all := lw_g (lw_at lw_m3 220 rfl) rfl
theorem q824 : (Jvm.Cond.methodLink "java/lang/AbstractStringBuilder" (83 : Nat) ({ cls := "java/lang/AbstractStringBuilder", name := "isLatin1", desc := "()Z" } : Jvm.MethodName)) ∈ lw_all := lw_g (lw_at lw_m3 232 rfl) rfl
theorem q825 : (Jvm.Cond.instanceMethod ({ cls := "java/lang/AbstractStringBuilder", name := "isLatin1", desc := "()Z" } : Jvm.MethodName)) ∈ lw_all := lw_g (lw_at lw_m3 233 rfl) rfl
theorem q826 : (Jvm.Cond.sameMethod "java/lang/AbstractStringBuilder" "java/lang/AbstractStringBuilder" "isLatin1" "()Z") ∈ lw_all := lw_g (lw_at lw_m3 234 rfl) rfl
theorem q828 : (Jvm.Cond.code ({ cls := "java/lang/AbstractStringBuilder", name := "isLatin1", desc := "()Z" } : Jvm.MethodName) prog_21_method_68_code (1 : Nat) (Option.some Jvm.ClassFile.FieldType.boolean)) ∈ lw_all := lw_g (lw_at lw_m3 236 rfl) rfl
theorem q829 : (Jvm.Cond.methodLink "java/lang/AbstractStringBuilder" (191 : Nat) ({ cls := "java/lang/StringLatin1", name := "canEncode", desc := "(C)Z" } : Jvm.MethodName)) ∈ lw_all := lw_g (lw_at lw_m3 237 rfl) rfl
theorem q832 : (Jvm.Cond.methodLink "java/lang/AbstractStringBuilder" (195 : Nat) ({ cls := "java/lang/AbstractStringBuilder", name := "inflate", desc := "()V" } : Jvm.MethodName)) ∈ lw_all := lw_g (lw_at lw_m4 0 rfl) rfl
theorem q833 : (Jvm.Cond.privateMethod ({ cls := "java/lang/AbstractStringBuilder", name := "inflate", desc := "()V" } : Jvm.MethodName)) ∈ lw_tbl := lw_at lw_m4 1 rfl
theorem q834 : (Jvm.Cond.instanceMethod ({ cls := "java/lang/AbstractStringBuilder", name := "inflate", desc := "()V" } : Jvm.MethodName)) ∈ lw_all := lw_g (lw_at lw_m4 2 rfl) rfl
theorem q835 : (Jvm.Cond.code ({ cls := "java/lang/AbstractStringBuilder", name := "inflate", desc := "()V" } : Jvm.MethodName) prog_21_method_11_code (2 : Nat) (Option.none : Option Jvm.ClassFile.FieldType)) ∈ lw_all := lw_g (lw_at lw_m4 3 rfl) rfl
theorem q836 : (Jvm.Cond.methodLink "java/lang/AbstractStringBuilder" (125 : Nat) ({ cls := "java/lang/StringLatin1", name := "inflate", desc := "([BI[BII)V" } : Jvm.MethodName)) ∈ lw_all := lw_g (lw_at lw_m4 4 rfl) rfl
theorem q865 : (Jvm.Cond.methodLink "java/lang/AbstractStringBuilder" (197 : Nat) ({ cls := "java/lang/StringUTF16", name := "putCharSB", desc := "([BII)V" } : Jvm.MethodName)) ∈ lw_all := lw_g (lw_at lw_m4 33 rfl) rfl
theorem q889 : (Jvm.Cond.instanceMethod ({ cls := "java/lang/AbstractStringBuilder", name := "getValue", desc := "()[B" } : Jvm.MethodName)) ∈ lw_all := lw_g (lw_at lw_m4 57 rfl) rfl
theorem q890 : (Jvm.Cond.sameMethod "java/lang/AbstractStringBuilder" "java/lang/AbstractStringBuilder" "getValue" "()[B") ∈ lw_all := lw_g (lw_at lw_m4 58 rfl) rfl
theorem q892 : (Jvm.Cond.code ({ cls := "java/lang/AbstractStringBuilder", name := "getValue", desc := "()[B" } : Jvm.MethodName) prog_21_method_64_code (1 : Nat) (Option.some (Jvm.ClassFile.FieldType.array Jvm.ClassFile.FieldType.byte))) ∈ lw_all := lw_g (lw_at lw_m4 60 rfl) rfl
theorem q894 : (Jvm.Cond.instanceMethod ({ cls := "java/lang/AbstractStringBuilder", name := "length", desc := "()I" } : Jvm.MethodName)) ∈ lw_all := lw_g (lw_at lw_m4 62 rfl) rfl
theorem q895 : (Jvm.Cond.sameMethod "java/lang/AbstractStringBuilder" "java/lang/AbstractStringBuilder" "length" "()I") ∈ lw_all := lw_g (lw_at lw_m4 63 rfl) rfl
theorem q900 : (Jvm.Cond.code ({ cls := "java/lang/AbstractStringBuilder", name := "length", desc := "()I" } : Jvm.MethodName) prog_21_method_6_code (1 : Nat) (Option.some Jvm.ClassFile.FieldType.int)) ∈ lw_all := lw_g (lw_at lw_m4 68 rfl) rfl
theorem q963 : (Jvm.Cond.instanceMethod ({ cls := "java/lang/AbstractStringBuilder", name := "append", desc := "(I)Ljava/lang/AbstractStringBuilder;" } : Jvm.MethodName)) ∈ lw_all := lw_g (lw_at lw_m4 131 rfl) rfl
theorem q964 : (Jvm.Cond.code ({ cls := "java/lang/AbstractStringBuilder", name := "append", desc := "(I)Ljava/lang/AbstractStringBuilder;" } : Jvm.MethodName) prog_21_method_32_code (4 : Nat) (Option.some (Jvm.ClassFile.FieldType.object "java/lang/AbstractStringBuilder"))) ∈ lw_all := lw_g (lw_at lw_m4 132 rfl) rfl
theorem q965 : (Jvm.Cond.methodLink "java/lang/AbstractStringBuilder" (245 : Nat) ({ cls := "java/lang/Integer", name := "stringSize", desc := "(I)I" } : Jvm.MethodName)) ∈ lw_all := lw_g (lw_at lw_m4 133 rfl) rfl
theorem q968 : (Jvm.Cond.methodLink "java/lang/AbstractStringBuilder" (248 : Nat) ({ cls := "java/lang/Integer", name := "getChars", desc := "(II[B)I" } : Jvm.MethodName)) ∈ lw_all := lw_g (lw_at lw_m4 136 rfl) rfl
theorem q975 : (Jvm.Cond.methodLink "java/lang/AbstractStringBuilder" (251 : Nat) ({ cls := "java/lang/StringUTF16", name := "getChars", desc := "(III[B)I" } : Jvm.MethodName)) ∈ lw_all := lw_g (lw_at lw_m4 143 rfl) rfl
theorem q998 : (Jvm.Cond.instanceMethod ({ cls := "java/lang/AbstractStringBuilder", name := "append", desc := "(Ljava/lang/String;)Ljava/lang/AbstractStringBuilder;" } : Jvm.MethodName)) ∈ lw_all := lw_g (lw_at lw_m4 166 rfl) rfl
theorem q999 : (Jvm.Cond.code ({ cls := "java/lang/AbstractStringBuilder", name := "append", desc := "(Ljava/lang/String;)Ljava/lang/AbstractStringBuilder;" } : Jvm.MethodName) prog_21_method_22_code (3 : Nat) (Option.some (Jvm.ClassFile.FieldType.object "java/lang/AbstractStringBuilder"))) ∈ lw_all := lw_g (lw_at lw_m4 167 rfl) rfl
theorem q1000 : (Jvm.Cond.methodLink "java/lang/AbstractStringBuilder" (204 : Nat) ({ cls := "java/lang/AbstractStringBuilder", name := "appendNull", desc := "()Ljava/lang/AbstractStringBuilder;" } : Jvm.MethodName)) ∈ lw_all := lw_g (lw_at lw_m4 168 rfl) rfl
theorem q1001 : (Jvm.Cond.privateMethod ({ cls := "java/lang/AbstractStringBuilder", name := "appendNull", desc := "()Ljava/lang/AbstractStringBuilder;" } : Jvm.MethodName)) ∈ lw_tbl := lw_at lw_m4 169 rfl
theorem q1002 : (Jvm.Cond.instanceMethod ({ cls := "java/lang/AbstractStringBuilder", name := "appendNull", desc := "()Ljava/lang/AbstractStringBuilder;" } : Jvm.MethodName)) ∈ lw_all := lw_g (lw_at lw_m4 170 rfl) rfl
theorem q1003 : (Jvm.Cond.code ({ cls := "java/lang/AbstractStringBuilder", name := "appendNull", desc := "()Ljava/lang/AbstractStringBuilder;" } : Jvm.MethodName) prog_21_method_26_code (3 : Nat) (Option.some (Jvm.ClassFile.FieldType.object "java/lang/AbstractStringBuilder"))) ∈ lw_all := lw_g (lw_at lw_m4 171 rfl) rfl
theorem q1004 : (Jvm.Cond.methodLink "java/lang/AbstractStringBuilder" (226 : Nat) ({ cls := "java/lang/StringUTF16", name := "putCharsAt", desc := "([BICCCC)I" } : Jvm.MethodName)) ∈ lw_all := lw_g (lw_at lw_m4 172 rfl) rfl
theorem q1007 : (Jvm.Cond.methodLink "java/lang/AbstractStringBuilder" (32 : Nat) ({ cls := "java/lang/String", name := "length", desc := "()I" } : Jvm.MethodName)) ∈ lw_all := lw_g (lw_at lw_m4 175 rfl) rfl
theorem q1016 : (Jvm.Cond.methodLink "java/lang/AbstractStringBuilder" (208 : Nat) ({ cls := "java/lang/AbstractStringBuilder", name := "putStringAt", desc := "(ILjava/lang/String;)V" } : Jvm.MethodName)) ∈ lw_all := lw_g (lw_at lw_m4 184 rfl) rfl
theorem q1017 : (Jvm.Cond.privateMethod ({ cls := "java/lang/AbstractStringBuilder", name := "putStringAt", desc := "(ILjava/lang/String;)V" } : Jvm.MethodName)) ∈ lw_tbl := lw_at lw_m4 185 rfl
theorem q1018 : (Jvm.Cond.instanceMethod ({ cls := "java/lang/AbstractStringBuilder", name := "putStringAt", desc := "(ILjava/lang/String;)V" } : Jvm.MethodName)) ∈ lw_all := lw_g (lw_at lw_m4 186 rfl) rfl
theorem q1019 : (Jvm.Cond.code ({ cls := "java/lang/AbstractStringBuilder", name := "putStringAt", desc := "(ILjava/lang/String;)V" } : Jvm.MethodName) prog_21_method_73_code (3 : Nat) (Option.none : Option Jvm.ClassFile.FieldType)) ∈ lw_all := lw_g (lw_at lw_m4 187 rfl) rfl
theorem q1020 : (Jvm.Cond.methodLink "java/lang/AbstractStringBuilder" (397 : Nat) ({ cls := "java/lang/AbstractStringBuilder", name := "inflateIfNeededFor", desc := "(Ljava/lang/String;)V" } : Jvm.MethodName)) ∈ lw_all := lw_g (lw_at lw_m4 188 rfl) rfl
theorem q1021 : (Jvm.Cond.privateMethod ({ cls := "java/lang/AbstractStringBuilder", name := "inflateIfNeededFor", desc := "(Ljava/lang/String;)V" } : Jvm.MethodName)) ∈ lw_tbl := lw_at lw_m4 189 rfl
theorem q1022 : (Jvm.Cond.instanceMethod ({ cls := "java/lang/AbstractStringBuilder", name := "inflateIfNeededFor", desc := "(Ljava/lang/String;)V" } : Jvm.MethodName)) ∈ lw_all := lw_g (lw_at lw_m4 190 rfl) rfl
theorem q1023 : (Jvm.Cond.code ({ cls := "java/lang/AbstractStringBuilder", name := "inflateIfNeededFor", desc := "(Ljava/lang/String;)V" } : Jvm.MethodName) prog_21_method_71_code (2 : Nat) (Option.none : Option Jvm.ClassFile.FieldType)) ∈ lw_all := lw_g (lw_at lw_m4 191 rfl) rfl
theorem q1024 : (Jvm.Cond.methodLink "java/lang/AbstractStringBuilder" (40 : Nat) ({ cls := "java/lang/String", name := "coder", desc := "()B" } : Jvm.MethodName)) ∈ lw_all := lw_g (lw_at lw_m4 192 rfl) rfl
theorem q1025 : (Jvm.Cond.methodLink "java/lang/AbstractStringBuilder" (399 : Nat) ({ cls := "java/lang/String", name := "getBytes", desc := "([BIB)V" } : Jvm.MethodName)) ∈ lw_all := lw_g (lw_at lw_m4 193 rfl) rfl
theorem q2517 : (Jvm.Cond.sameMethod "java/lang/AbstractStringBuilder" "java/lang/AbstractStringBuilder" "append" "(C)Ljava/lang/AbstractStringBuilder;") ∈ lw_all := lw_g (lw_at lw_m11 5 rfl) rfl
theorem q2518 : (Jvm.Cond.sameMethod "java/lang/AbstractStringBuilder" "java/lang/AbstractStringBuilder" "ensureCapacityInternal" "(I)V") ∈ lw_all := lw_g (lw_at lw_m11 6 rfl) rfl
theorem q2519 : (Jvm.Cond.sameMethod "java/lang/AbstractStringBuilder" "java/lang/AbstractStringBuilder" "newCapacity" "(I)I") ∈ lw_all := lw_g (lw_at lw_m11 7 rfl) rfl
theorem q2520 : (Jvm.Cond.sameMethod "java/lang/AbstractStringBuilder" "java/lang/AbstractStringBuilder" "inflate" "()V") ∈ lw_all := lw_g (lw_at lw_m11 8 rfl) rfl
theorem q2522 : (Jvm.Cond.sameMethod "java/lang/AbstractStringBuilder" "java/lang/AbstractStringBuilder" "append" "(I)Ljava/lang/AbstractStringBuilder;") ∈ lw_all := lw_g (lw_at lw_m11 10 rfl) rfl
theorem q2523 : (Jvm.Cond.sameMethod "java/lang/AbstractStringBuilder" "java/lang/AbstractStringBuilder" "append" "(Ljava/lang/String;)Ljava/lang/AbstractStringBuilder;") ∈ lw_all := lw_g (lw_at lw_m11 11 rfl) rfl
theorem q2524 : (Jvm.Cond.sameMethod "java/lang/AbstractStringBuilder" "java/lang/AbstractStringBuilder" "appendNull" "()Ljava/lang/AbstractStringBuilder;") ∈ lw_all := lw_g (lw_at lw_m11 12 rfl) rfl
theorem q2525 : (Jvm.Cond.sameMethod "java/lang/AbstractStringBuilder" "java/lang/AbstractStringBuilder" "putStringAt" "(ILjava/lang/String;)V") ∈ lw_all := lw_g (lw_at lw_m11 13 rfl) rfl
theorem q2526 : (Jvm.Cond.sameMethod "java/lang/AbstractStringBuilder" "java/lang/AbstractStringBuilder" "inflateIfNeededFor" "(Ljava/lang/String;)V") ∈ lw_all := lw_g (lw_at lw_m11 14 rfl) rfl

/-! java/lang/StringBuilder -/
set_option maxRecDepth 100000
def RJ4 : String := "java/lang/StringBuilder"
def TJ4 : u_T := fun k => match k with
  | 0 => ("java/lang/AbstractStringBuilder", "value", "[B", false)
  | 1 => ("java/lang/AbstractStringBuilder", "coder", "B", false)
  | 2 => ("java/lang/AbstractStringBuilder", "maybeLatin1", "Z", false)
  | _ => ("java/lang/AbstractStringBuilder", "count", "I", false)
def tyJ4 : Nat → FieldType := fun k => match k with
  | 0 => .array .byte
  | 1 => .byte
  | 2 => .boolean
  | _ => .int
abbrev wsJ40 : List Cond := u_ws RJ4 TJ4 4
theorem nmJ4 : ∀ a, a < 4 → ∀ b, b < 4 → a ≠ b → (TJ4 a).2.1 ≠ (TJ4 b).2.1 := by decide +kernel
theorem tyJ4_ok : ∀ k, k < 4 → parseFieldDescriptor (TJ4 k).2.2.1 = some (tyJ4 k) := by decide +kernel
abbrev cJ4_init : ByteArray := prog_38_method_1_code
def yJ4_init : MethodName := ⟨RJ4, "<init>", "()V"⟩
def dkwJ4_init_0 : List UInt8 := [42, 16, 16, 183, 0, 1, 177]
abbrev dktJ4_init_0 : List UInt8 := dkwJ4_init_0 ++ []
theorem dksJ4_init_0 : cJ4_init.data.toList.drop 0 = dktJ4_init_0 := by decide +kernel
theorem dJ4_init_0 : decode cJ4_init 0 = .ok (.aload_n 0, 1) := dk_42 (dk_at dksJ4_init_0 0 rfl rfl)
theorem dJ4_init_1 : decode cJ4_init 1 = .ok (.bipush 16, 2) := dk_16 16 (dk_at dksJ4_init_0 1 rfl rfl)
theorem dJ4_init_3 : decode cJ4_init 3 = .ok (.invokespecial 1, 3) := dk_183 0 1 (dk_at dksJ4_init_0 3 rfl rfl)
theorem dJ4_init_6 : decode cJ4_init 6 = .ok (.return_, 1) := dk_177 (dk_at dksJ4_init_0 6 rfl rfl)
abbrev cJ4_append : ByteArray := prog_38_method_14_code
def yJ4_append : MethodName := ⟨RJ4, "append", "(C)Ljava/lang/StringBuilder;"⟩
def dkwJ4_append_0 : List UInt8 := [42, 27, 183, 0, 50, 87, 42, 176]
abbrev dktJ4_append_0 : List UInt8 := dkwJ4_append_0 ++ []
theorem dksJ4_append_0 : cJ4_append.data.toList.drop 0 = dktJ4_append_0 := by decide +kernel
theorem dJ4_append_0 : decode cJ4_append 0 = .ok (.aload_n 0, 1) := dk_42 (dk_at dksJ4_append_0 0 rfl rfl)
theorem dJ4_append_1 : decode cJ4_append 1 = .ok (.iload_n 1, 1) := dk_27 (dk_at dksJ4_append_0 1 rfl rfl)
theorem dJ4_append_2 : decode cJ4_append 2 = .ok (.invokespecial 50, 3) := dk_183 0 50 (dk_at dksJ4_append_0 2 rfl rfl)
theorem dJ4_append_5 : decode cJ4_append 5 = .ok (.pop, 1) := dk_87 (dk_at dksJ4_append_0 5 rfl rfl)
theorem dJ4_append_6 : decode cJ4_append 6 = .ok (.aload_n 0, 1) := dk_42 (dk_at dksJ4_append_0 6 rfl rfl)
theorem dJ4_append_7 : decode cJ4_append 7 = .ok (.areturn, 1) := dk_176 (dk_at dksJ4_append_0 7 rfl rfl)
abbrev cJ4_toString : ByteArray := prog_38_method_42_code
def yJ4_toString : MethodName := ⟨RJ4, "toString", "()Ljava/lang/String;"⟩
def dkwJ4_toString_0 : List UInt8 := [187, 0, 18, 89, 42, 183, 0, 137, 176]
abbrev dktJ4_toString_0 : List UInt8 := dkwJ4_toString_0 ++ []
theorem dksJ4_toString_0 : cJ4_toString.data.toList.drop 0 = dktJ4_toString_0 := by decide +kernel
theorem dJ4_toString_0 : decode cJ4_toString 0 = .ok (.new 18, 3) := dk_187 0 18 (dk_at dksJ4_toString_0 0 rfl rfl)
theorem dJ4_toString_3 : decode cJ4_toString 3 = .ok (.dup, 1) := dk_89 (dk_at dksJ4_toString_0 3 rfl rfl)
theorem dJ4_toString_4 : decode cJ4_toString 4 = .ok (.aload_n 0, 1) := dk_42 (dk_at dksJ4_toString_0 4 rfl rfl)
theorem dJ4_toString_5 : decode cJ4_toString 5 = .ok (.invokespecial 137, 3) := dk_183 0 137 (dk_at dksJ4_toString_0 5 rfl rfl)
theorem dJ4_toString_8 : decode cJ4_toString 8 = .ok (.areturn, 1) := dk_176 (dk_at dksJ4_toString_0 8 rfl rfl)
abbrev cJ4_length : ByteArray := prog_38_method_93_code
def yJ4_length : MethodName := ⟨RJ4, "length", "()I"⟩
theorem dJ4_length_0 : decode cJ4_length 0 = .ok (.aload_n 0, 1) := by decide +kernel
theorem dJ4_length_1 : decode cJ4_length 1 = .ok (.invokespecial 343, 3) := by decide +kernel
theorem dJ4_length_4 : decode cJ4_length 4 = .ok (.ireturn, 1) := by decide +kernel
abbrev cJ4_append_2 : ByteArray := prog_38_method_15_code
def yJ4_append_2 : MethodName := ⟨RJ4, "append", "(I)Ljava/lang/StringBuilder;"⟩
def dkwJ4_append_2_0 : List UInt8 := [42, 27, 183, 0, 53, 87, 42, 176]
abbrev dktJ4_append_2_0 : List UInt8 := dkwJ4_append_2_0 ++ []
theorem dksJ4_append_2_0 : cJ4_append_2.data.toList.drop 0 = dktJ4_append_2_0 := by decide +kernel
theorem dJ4_append_2_0 : decode cJ4_append_2 0 = .ok (.aload_n 0, 1) := dk_42 (dk_at dksJ4_append_2_0 0 rfl rfl)
theorem dJ4_append_2_1 : decode cJ4_append_2 1 = .ok (.iload_n 1, 1) := dk_27 (dk_at dksJ4_append_2_0 1 rfl rfl)
theorem dJ4_append_2_2 : decode cJ4_append_2 2 = .ok (.invokespecial 53, 3) := dk_183 0 53 (dk_at dksJ4_append_2_0 2 rfl rfl)
theorem dJ4_append_2_5 : decode cJ4_append_2 5 = .ok (.pop, 1) := dk_87 (dk_at dksJ4_append_2_0 5 rfl rfl)
theorem dJ4_append_2_6 : decode cJ4_append_2 6 = .ok (.aload_n 0, 1) := dk_42 (dk_at dksJ4_append_2_0 6 rfl rfl)
theorem dJ4_append_2_7 : decode cJ4_append_2 7 = .ok (.areturn, 1) := dk_176 (dk_at dksJ4_append_2_0 7 rfl rfl)
abbrev cJ4_append_3 : ByteArray := prog_38_method_7_code
def yJ4_append_3 : MethodName := ⟨RJ4, "append", "(Ljava/lang/String;)Ljava/lang/StringBuilder;"⟩
def dkwJ4_append_3_0 : List UInt8 := [42, 43, 183, 0, 29, 87, 42, 176]
abbrev dktJ4_append_3_0 : List UInt8 := dkwJ4_append_3_0 ++ []
theorem dksJ4_append_3_0 : cJ4_append_3.data.toList.drop 0 = dktJ4_append_3_0 := by decide +kernel
theorem dJ4_append_3_0 : decode cJ4_append_3 0 = .ok (.aload_n 0, 1) := dk_42 (dk_at dksJ4_append_3_0 0 rfl rfl)
theorem dJ4_append_3_1 : decode cJ4_append_3 1 = .ok (.aload_n 1, 1) := dk_43 (dk_at dksJ4_append_3_0 1 rfl rfl)
theorem dJ4_append_3_2 : decode cJ4_append_3 2 = .ok (.invokespecial 29, 3) := dk_183 0 29 (dk_at dksJ4_append_3_0 2 rfl rfl)
theorem dJ4_append_3_5 : decode cJ4_append_3 5 = .ok (.pop, 1) := dk_87 (dk_at dksJ4_append_3_0 5 rfl rfl)
theorem dJ4_append_3_6 : decode cJ4_append_3 6 = .ok (.aload_n 0, 1) := dk_42 (dk_at dksJ4_append_3_0 6 rfl rfl)
theorem dJ4_append_3_7 : decode cJ4_append_3 7 = .ok (.areturn, 1) := dk_176 (dk_at dksJ4_append_3_0 7 rfl rfl)
theorem q124 : (Jvm.Cond.initialized "java/lang/StringBuilder") ∈ lw_all := lw_g (lw_at lw_m1 12 rfl) rfl
theorem q758 : (Jvm.Cond.instantiable "java/lang/StringBuilder" (4 : Nat)) ∈ lw_all := lw_g (lw_at lw_m3 166 rfl) rfl
theorem q760 : (Jvm.Cond.instanceMethod ({ cls := "java/lang/StringBuilder", name := "<init>", desc := "()V" } : Jvm.MethodName)) ∈ lw_all := lw_g (lw_at lw_m3 168 rfl) rfl
theorem q761 : (Jvm.Cond.code ({ cls := "java/lang/StringBuilder", name := "<init>", desc := "()V" } : Jvm.MethodName) prog_38_method_1_code (1 : Nat) (Option.none : Option Jvm.ClassFile.FieldType)) ∈ lw_all := lw_g (lw_at lw_m3 169 rfl) rfl
theorem q762 : (Jvm.Cond.methodLink "java/lang/StringBuilder" (1 : Nat) ({ cls := "java/lang/AbstractStringBuilder", name := "<init>", desc := "(I)V" } : Jvm.MethodName)) ∈ lw_all := lw_g (lw_at lw_m3 170 rfl) rfl
theorem q779 : (Jvm.Cond.lays "java/lang/StringBuilder" "java/lang/AbstractStringBuilder" "value" "[B") ∈ lw_all := lw_g (lw_at lw_m3 187 rfl) rfl
theorem q781 : (Jvm.Cond.lays "java/lang/StringBuilder" "java/lang/AbstractStringBuilder" "coder" "B") ∈ lw_all := lw_g (lw_at lw_m3 189 rfl) rfl
theorem q783 : (Jvm.Cond.lays "java/lang/StringBuilder" "java/lang/AbstractStringBuilder" "maybeLatin1" "Z") ∈ lw_all := lw_g (lw_at lw_m3 191 rfl) rfl
theorem q785 : (Jvm.Cond.lays "java/lang/StringBuilder" "java/lang/AbstractStringBuilder" "count" "I") ∈ lw_all := lw_g (lw_at lw_m3 193 rfl) rfl
theorem q787 : (Jvm.Cond.superclass "java/lang/StringBuilder" "java/lang/AbstractStringBuilder") ∈ lw_all := lw_g (lw_at lw_m3 195 rfl) rfl
theorem q789 : (Jvm.Cond.instanceMethod ({ cls := "java/lang/StringBuilder", name := "append", desc := "(C)Ljava/lang/StringBuilder;" } : Jvm.MethodName)) ∈ lw_all := lw_g (lw_at lw_m3 197 rfl) rfl
theorem q790 : (Jvm.Cond.selects "java/lang/StringBuilder" ({ cls := "java/lang/StringBuilder", name := "append", desc := "(C)Ljava/lang/StringBuilder;" } : Jvm.MethodName) ({ cls := "java/lang/StringBuilder", name := "append", desc := "(C)Ljava/lang/StringBuilder;" } : Jvm.MethodName)) ∈ lw_all := lw_g (lw_at lw_m3 198 rfl) rfl
theorem q791 : (Jvm.Cond.code ({ cls := "java/lang/StringBuilder", name := "append", desc := "(C)Ljava/lang/StringBuilder;" } : Jvm.MethodName) prog_38_method_14_code (2 : Nat) (Option.some (Jvm.ClassFile.FieldType.object "java/lang/StringBuilder"))) ∈ lw_all := lw_g (lw_at lw_m3 199 rfl) rfl
theorem q792 : (Jvm.Cond.methodLink "java/lang/StringBuilder" (50 : Nat) ({ cls := "java/lang/AbstractStringBuilder", name := "append", desc := "(C)Ljava/lang/AbstractStringBuilder;" } : Jvm.MethodName)) ∈ lw_all := lw_g (lw_at lw_m3 200 rfl) rfl
theorem q827 : (Jvm.Cond.selects "java/lang/StringBuilder" ({ cls := "java/lang/AbstractStringBuilder", name := "isLatin1", desc := "()Z" } : Jvm.MethodName) ({ cls := "java/lang/AbstractStringBuilder", name := "isLatin1", desc := "()Z" } : Jvm.MethodName)) ∈ lw_all := lw_g (lw_at lw_m3 235 rfl) rfl
theorem q876 : (Jvm.Cond.instanceMethod ({ cls := "java/lang/StringBuilder", name := "toString", desc := "()Ljava/lang/String;" } : Jvm.MethodName)) ∈ lw_all := lw_g (lw_at lw_m4 44 rfl) rfl
theorem q877 : (Jvm.Cond.selects "java/lang/StringBuilder" ({ cls := "java/lang/StringBuilder", name := "toString", desc := "()Ljava/lang/String;" } : Jvm.MethodName) ({ cls := "java/lang/StringBuilder", name := "toString", desc := "()Ljava/lang/String;" } : Jvm.MethodName)) ∈ lw_all := lw_g (lw_at lw_m4 45 rfl) rfl
theorem q878 : (Jvm.Cond.code ({ cls := "java/lang/StringBuilder", name := "toString", desc := "()Ljava/lang/String;" } : Jvm.MethodName) prog_38_method_42_code (1 : Nat) (Option.some (Jvm.ClassFile.FieldType.object "java/lang/String"))) ∈ lw_all := lw_g (lw_at lw_m4 46 rfl) rfl
theorem q879 : (Jvm.Cond.classLink "java/lang/StringBuilder" (18 : Nat) "java/lang/String") ∈ lw_all := lw_g (lw_at lw_m4 47 rfl) rfl
theorem q881 : (Jvm.Cond.methodLink "java/lang/StringBuilder" (137 : Nat) ({ cls := "java/lang/String", name := "<init>", desc := "(Ljava/lang/StringBuilder;)V" } : Jvm.MethodName)) ∈ lw_all := lw_g (lw_at lw_m4 49 rfl) rfl
theorem q891 : (Jvm.Cond.selects "java/lang/StringBuilder" ({ cls := "java/lang/AbstractStringBuilder", name := "getValue", desc := "()[B" } : Jvm.MethodName) ({ cls := "java/lang/AbstractStringBuilder", name := "getValue", desc := "()[B" } : Jvm.MethodName)) ∈ lw_all := lw_g (lw_at lw_m4 59 rfl) rfl
theorem q896 : (Jvm.Cond.selects "java/lang/StringBuilder" ({ cls := "java/lang/AbstractStringBuilder", name := "length", desc := "()I" } : Jvm.MethodName) ({ cls := "java/lang/StringBuilder", name := "length", desc := "()I" } : Jvm.MethodName)) ∈ lw_all := lw_g (lw_at lw_m4 64 rfl) rfl
theorem q897 : (Jvm.Cond.instanceMethod ({ cls := "java/lang/StringBuilder", name := "length", desc := "()I" } : Jvm.MethodName)) ∈ lw_all := lw_g (lw_at lw_m4 65 rfl) rfl
theorem q898 : (Jvm.Cond.code ({ cls := "java/lang/StringBuilder", name := "length", desc := "()I" } : Jvm.MethodName) prog_38_method_93_code (1 : Nat) (Option.some Jvm.ClassFile.FieldType.int)) ∈ lw_all := lw_g (lw_at lw_m4 66 rfl) rfl
theorem q899 : (Jvm.Cond.methodLink "java/lang/StringBuilder" (343 : Nat) ({ cls := "java/lang/AbstractStringBuilder", name := "length", desc := "()I" } : Jvm.MethodName)) ∈ lw_all := lw_g (lw_at lw_m4 67 rfl) rfl
theorem q959 : (Jvm.Cond.instanceMethod ({ cls := "java/lang/StringBuilder", name := "append", desc := "(I)Ljava/lang/StringBuilder;" } : Jvm.MethodName)) ∈ lw_all := lw_g (lw_at lw_m4 127 rfl) rfl
theorem q960 : (Jvm.Cond.selects "java/lang/StringBuilder" ({ cls := "java/lang/StringBuilder", name := "append", desc := "(I)Ljava/lang/StringBuilder;" } : Jvm.MethodName) ({ cls := "java/lang/StringBuilder", name := "append", desc := "(I)Ljava/lang/StringBuilder;" } : Jvm.MethodName)) ∈ lw_all := lw_g (lw_at lw_m4 128 rfl) rfl
theorem q961 : (Jvm.Cond.code ({ cls := "java/lang/StringBuilder", name := "append", desc := "(I)Ljava/lang/StringBuilder;" } : Jvm.MethodName) prog_38_method_15_code (2 : Nat) (Option.some (Jvm.ClassFile.FieldType.object "java/lang/StringBuilder"))) ∈ lw_all := lw_g (lw_at lw_m4 129 rfl) rfl
theorem q962 : (Jvm.Cond.methodLink "java/lang/StringBuilder" (53 : Nat) ({ cls := "java/lang/AbstractStringBuilder", name := "append", desc := "(I)Ljava/lang/AbstractStringBuilder;" } : Jvm.MethodName)) ∈ lw_all := lw_g (lw_at lw_m4 130 rfl) rfl
theorem q994 : (Jvm.Cond.instanceMethod ({ cls := "java/lang/StringBuilder", name := "append", desc := "(Ljava/lang/String;)Ljava/lang/StringBuilder;" } : Jvm.MethodName)) ∈ lw_all := lw_g (lw_at lw_m4 162 rfl) rfl
theorem q995 : (Jvm.Cond.selects "java/lang/StringBuilder" ({ cls := "java/lang/StringBuilder", name := "append", desc := "(Ljava/lang/String;)Ljava/lang/StringBuilder;" } : Jvm.MethodName) ({ cls := "java/lang/StringBuilder", name := "append", desc := "(Ljava/lang/String;)Ljava/lang/StringBuilder;" } : Jvm.MethodName)) ∈ lw_all := lw_g (lw_at lw_m4 163 rfl) rfl
theorem q996 : (Jvm.Cond.code ({ cls := "java/lang/StringBuilder", name := "append", desc := "(Ljava/lang/String;)Ljava/lang/StringBuilder;" } : Jvm.MethodName) prog_38_method_7_code (2 : Nat) (Option.some (Jvm.ClassFile.FieldType.object "java/lang/StringBuilder"))) ∈ lw_all := lw_g (lw_at lw_m4 164 rfl) rfl
theorem q997 : (Jvm.Cond.methodLink "java/lang/StringBuilder" (29 : Nat) ({ cls := "java/lang/AbstractStringBuilder", name := "append", desc := "(Ljava/lang/String;)Ljava/lang/AbstractStringBuilder;" } : Jvm.MethodName)) ∈ lw_all := lw_g (lw_at lw_m4 165 rfl) rfl
theorem q1473 : (Jvm.Cond.selects "java/lang/StringBuilder" ({ cls := "java/lang/Object", name := "getClass", desc := "()Ljava/lang/Class;" } : Jvm.MethodName) ({ cls := "java/lang/Object", name := "getClass", desc := "()Ljava/lang/Class;" } : Jvm.MethodName)) ∈ lw_all := lw_g (lw_at lw_m6 161 rfl) rfl
theorem q2538 : (Jvm.Cond.castable "java/lang/StringBuilder" "java/lang/Object") ∈ lw_tbl := lw_at lw_m11 26 rfl
theorem in_J4 : ∀ w ∈ wsJ40, w ∈ lw_all := lw_in wsJ40 [779, 781, 783, 785] (by decide +kernel) (by decide +kernel)

/-! java/lang/String -/
set_option maxRecDepth 100000
def RJ5 : String := "java/lang/String"
def TJ5 : u_T := fun k => match k with
  | 0 => ("java/lang/String", "value", "[B", true)
  | 1 => ("java/lang/String", "coder", "B", true)
  | 2 => ("java/lang/String", "hash", "I", false)
  | _ => ("java/lang/String", "hashIsZero", "Z", false)
def tyJ5 : Nat → FieldType := fun k => match k with
  | 0 => .array .byte
  | 1 => .byte
  | 2 => .int
  | _ => .boolean
abbrev wsJ50 : List Cond := u_ws RJ5 TJ5 4
theorem nmJ5 : ∀ a, a < 4 → ∀ b, b < 4 → a ≠ b → (TJ5 a).2.1 ≠ (TJ5 b).2.1 := by decide +kernel
theorem tyJ5_ok : ∀ k, k < 4 → parseFieldDescriptor (TJ5 k).2.2.1 = some (tyJ5 k) := by decide +kernel
abbrev cJ5_checkBoundsOffCount : ByteArray := prog_37_method_157_code
def yJ5_checkBoundsOffCount : MethodName := ⟨RJ5, "checkBoundsOffCount", "(III)I"⟩
def dkwJ5_checkBoundsOffCount_0 : List UInt8 := [26, 27, 28, 178, 4, 29, 184, 4, 41, 172]
abbrev dktJ5_checkBoundsOffCount_0 : List UInt8 := dkwJ5_checkBoundsOffCount_0 ++ []
theorem dksJ5_checkBoundsOffCount_0 : cJ5_checkBoundsOffCount.data.toList.drop 0 = dktJ5_checkBoundsOffCount_0 := by decide +kernel
theorem dJ5_checkBoundsOffCount_0 : decode cJ5_checkBoundsOffCount 0 = .ok (.iload_n 0, 1) := dk_26 (dk_at dksJ5_checkBoundsOffCount_0 0 rfl rfl)
theorem dJ5_checkBoundsOffCount_1 : decode cJ5_checkBoundsOffCount 1 = .ok (.iload_n 1, 1) := dk_27 (dk_at dksJ5_checkBoundsOffCount_0 1 rfl rfl)
theorem dJ5_checkBoundsOffCount_2 : decode cJ5_checkBoundsOffCount 2 = .ok (.iload_n 2, 1) := dk_28 (dk_at dksJ5_checkBoundsOffCount_0 2 rfl rfl)
theorem dJ5_checkBoundsOffCount_3 : decode cJ5_checkBoundsOffCount 3 = .ok (.getstatic 1053, 3) := dk_178 4 29 (dk_at dksJ5_checkBoundsOffCount_0 3 rfl rfl)
theorem dJ5_checkBoundsOffCount_6 : decode cJ5_checkBoundsOffCount 6 = .ok (.invokestatic 1065, 3) := dk_184 4 41 (dk_at dksJ5_checkBoundsOffCount_0 6 rfl rfl)
theorem dJ5_checkBoundsOffCount_9 : decode cJ5_checkBoundsOffCount 9 = .ok (.ireturn, 1) := dk_172 (dk_at dksJ5_checkBoundsOffCount_0 9 rfl rfl)
abbrev cJ5_checkIndex : ByteArray := prog_37_method_155_code
def yJ5_checkIndex : MethodName := ⟨RJ5, "checkIndex", "(II)V"⟩
def dkwJ5_checkIndex_0 : List UInt8 := [26, 27, 178, 4, 29, 184, 4, 35, 87, 177]
abbrev dktJ5_checkIndex_0 : List UInt8 := dkwJ5_checkIndex_0 ++ []
theorem dksJ5_checkIndex_0 : cJ5_checkIndex.data.toList.drop 0 = dktJ5_checkIndex_0 := by decide +kernel
theorem dJ5_checkIndex_0 : decode cJ5_checkIndex 0 = .ok (.iload_n 0, 1) := dk_26 (dk_at dksJ5_checkIndex_0 0 rfl rfl)
theorem dJ5_checkIndex_1 : decode cJ5_checkIndex 1 = .ok (.iload_n 1, 1) := dk_27 (dk_at dksJ5_checkIndex_0 1 rfl rfl)
theorem dJ5_checkIndex_2 : decode cJ5_checkIndex 2 = .ok (.getstatic 1053, 3) := dk_178 4 29 (dk_at dksJ5_checkIndex_0 2 rfl rfl)
theorem dJ5_checkIndex_5 : decode cJ5_checkIndex 5 = .ok (.invokestatic 1059, 3) := dk_184 4 35 (dk_at dksJ5_checkIndex_0 5 rfl rfl)
theorem dJ5_checkIndex_8 : decode cJ5_checkIndex 8 = .ok (.pop, 1) := dk_87 (dk_at dksJ5_checkIndex_0 8 rfl rfl)
theorem dJ5_checkIndex_9 : decode cJ5_checkIndex 9 = .ok (.return_, 1) := dk_177 (dk_at dksJ5_checkIndex_0 9 rfl rfl)
abbrev cJ5_init : ByteArray := prog_37_method_53_code
def yJ5_init : MethodName := ⟨RJ5, "<init>", "(Ljava/lang/StringBuilder;)V"⟩
def dkwJ5_init_0 : List UInt8 := [42, 43, 1, 183, 1, 233, 177]
abbrev dktJ5_init_0 : List UInt8 := dkwJ5_init_0 ++ []
theorem dksJ5_init_0 : cJ5_init.data.toList.drop 0 = dktJ5_init_0 := by decide +kernel
theorem dJ5_init_0 : decode cJ5_init 0 = .ok (.aload_n 0, 1) := dk_42 (dk_at dksJ5_init_0 0 rfl rfl)
theorem dJ5_init_1 : decode cJ5_init 1 = .ok (.aload_n 1, 1) := dk_43 (dk_at dksJ5_init_0 1 rfl rfl)
theorem dJ5_init_2 : decode cJ5_init 2 = .ok (.aconst_null, 1) := dk_1 (dk_at dksJ5_init_0 2 rfl rfl)
theorem dJ5_init_3 : decode cJ5_init 3 = .ok (.invokespecial 489, 3) := dk_183 1 233 (dk_at dksJ5_init_0 3 rfl rfl)
theorem dJ5_init_6 : decode cJ5_init 6 = .ok (.return_, 1) := dk_177 (dk_at dksJ5_init_0 6 rfl rfl)
abbrev cJ5_init_2 : ByteArray := prog_37_method_150_code
def yJ5_init_2 : MethodName := ⟨RJ5, "<init>", "(Ljava/lang/AbstractStringBuilder;Ljava/lang/Void;)V"⟩
def dkwJ5_init_2_4 : List UInt8 := [181, 0, 9, 177]
abbrev dktJ5_init_2_4 : List UInt8 := dkwJ5_init_2_4 ++ []
def dkwJ5_init_2_3 : List UInt8 := [184, 0, 47, 181, 0, 15, 177, 42, 4, 181, 0, 15, 42, 45, 3, 21, 4, 4, 120, 184, 0, 54]
abbrev dktJ5_init_2_3 : List UInt8 := dkwJ5_init_2_3 ++ dktJ5_init_2_4
def dkwJ5_init_2_2 : List UInt8 := [180, 4, 24, 153, 0, 28, 42, 45, 3, 21, 4, 184, 4, 27, 181, 0, 9, 42, 42, 180, 0, 9, 21, 4]
abbrev dktJ5_init_2_2 : List UInt8 := dkwJ5_init_2_2 ++ dktJ5_init_2_3
def dkwJ5_init_2_1 : List UInt8 := [181, 0, 15, 42, 45, 3, 21, 4, 184, 0, 54, 181, 0, 9, 167, 0, 59, 178, 0, 38, 153, 0, 35, 43]
abbrev dktJ5_init_2_1 : List UInt8 := dkwJ5_init_2_1 ++ dktJ5_init_2_2
def dkwJ5_init_2_0 : List UInt8 := [42, 183, 0, 1, 43, 182, 2, 40, 78, 43, 182, 2, 37, 54, 4, 43, 182, 4, 23, 153, 0, 22, 42, 3]
abbrev dktJ5_init_2_0 : List UInt8 := dkwJ5_init_2_0 ++ dktJ5_init_2_1
theorem dksJ5_init_2_0 : cJ5_init_2.data.toList.drop 0 = dktJ5_init_2_0 := by decide +kernel
theorem dksJ5_init_2_1 : cJ5_init_2.data.toList.drop 24 = dktJ5_init_2_1 := dk_seg dksJ5_init_2_0 24 rfl rfl
theorem dksJ5_init_2_2 : cJ5_init_2.data.toList.drop 48 = dktJ5_init_2_2 := dk_seg dksJ5_init_2_1 24 rfl rfl
theorem dksJ5_init_2_3 : cJ5_init_2.data.toList.drop 72 = dktJ5_init_2_3 := dk_seg dksJ5_init_2_2 24 rfl rfl
theorem dksJ5_init_2_4 : cJ5_init_2.data.toList.drop 94 = dktJ5_init_2_4 := dk_seg dksJ5_init_2_3 22 rfl rfl
theorem dJ5_init_2_0 : decode cJ5_init_2 0 = .ok (.aload_n 0, 1) := dk_42 (dk_at dksJ5_init_2_0 0 rfl rfl)
theorem dJ5_init_2_1 : decode cJ5_init_2 1 = .ok (.invokespecial 1, 3) := dk_183 0 1 (dk_at dksJ5_init_2_0 1 rfl rfl)
theorem dJ5_init_2_4 : decode cJ5_init_2 4 = .ok (.aload_n 1, 1) := dk_43 (dk_at dksJ5_init_2_0 4 rfl rfl)
theorem dJ5_init_2_5 : decode cJ5_init_2 5 = .ok (.invokevirtual 552, 3) := dk_182 2 40 (dk_at dksJ5_init_2_0 5 rfl rfl)
theorem dJ5_init_2_8 : decode cJ5_init_2 8 = .ok (.astore_n 3, 1) := dk_78 (dk_at dksJ5_init_2_0 8 rfl rfl)
theorem dJ5_init_2_9 : decode cJ5_init_2 9 = .ok (.aload_n 1, 1) := dk_43 (dk_at dksJ5_init_2_0 9 rfl rfl)
theorem dJ5_init_2_10 : decode cJ5_init_2 10 = .ok (.invokevirtual 549, 3) := dk_182 2 37 (dk_at dksJ5_init_2_0 10 rfl rfl)
theorem dJ5_init_2_13 : decode cJ5_init_2 13 = .ok (.istore 4, 2) := dk_54 4 (dk_at dksJ5_init_2_0 13 rfl rfl)
theorem dJ5_init_2_15 : decode cJ5_init_2 15 = .ok (.aload_n 1, 1) := dk_43 (dk_at dksJ5_init_2_0 15 rfl rfl)
theorem dJ5_init_2_16 : decode cJ5_init_2 16 = .ok (.invokevirtual 1047, 3) := dk_182 4 23 (dk_at dksJ5_init_2_0 16 rfl rfl)
theorem dJ5_init_2_19 : decode cJ5_init_2 19 = .ok (.ifCond .eq 22, 3) := dk_153 0 22 (dk_at dksJ5_init_2_0 19 rfl rfl)
theorem dJ5_init_2_22 : decode cJ5_init_2 22 = .ok (.aload_n 0, 1) := dk_42 (dk_at dksJ5_init_2_0 22 rfl rfl)
theorem dJ5_init_2_23 : decode cJ5_init_2 23 = .ok (.iconst 0, 1) := dk_3 (dk_at dksJ5_init_2_0 23 rfl rfl)
theorem dJ5_init_2_24 : decode cJ5_init_2 24 = .ok (.putfield 15, 3) := dk_181 0 15 (dk_at dksJ5_init_2_1 0 rfl rfl)
theorem dJ5_init_2_27 : decode cJ5_init_2 27 = .ok (.aload_n 0, 1) := dk_42 (dk_at dksJ5_init_2_1 3 rfl rfl)
theorem dJ5_init_2_28 : decode cJ5_init_2 28 = .ok (.aload_n 3, 1) := dk_45 (dk_at dksJ5_init_2_1 4 rfl rfl)
theorem dJ5_init_2_29 : decode cJ5_init_2 29 = .ok (.iconst 0, 1) := dk_3 (dk_at dksJ5_init_2_1 5 rfl rfl)
theorem dJ5_init_2_30 : decode cJ5_init_2 30 = .ok (.iload 4, 2) := dk_21 4 (dk_at dksJ5_init_2_1 6 rfl rfl)
theorem dJ5_init_2_32 : decode cJ5_init_2 32 = .ok (.invokestatic 54, 3) := dk_184 0 54 (dk_at dksJ5_init_2_1 8 rfl rfl)
theorem dJ5_init_2_35 : decode cJ5_init_2 35 = .ok (.putfield 9, 3) := dk_181 0 9 (dk_at dksJ5_init_2_1 11 rfl rfl)
theorem dJ5_init_2_38 : decode cJ5_init_2 38 = .ok (.goto 59, 3) := dk_167 0 59 (dk_at dksJ5_init_2_1 14 rfl rfl)
theorem dJ5_init_2_41 : decode cJ5_init_2 41 = .ok (.getstatic 38, 3) := dk_178 0 38 (dk_at dksJ5_init_2_1 17 rfl rfl)
theorem dJ5_init_2_44 : decode cJ5_init_2 44 = .ok (.ifCond .eq 35, 3) := dk_153 0 35 (dk_at dksJ5_init_2_1 20 rfl rfl)
theorem dJ5_init_2_47 : decode cJ5_init_2 47 = .ok (.aload_n 1, 1) := dk_43 (dk_at dksJ5_init_2_1 23 rfl rfl)
theorem dJ5_init_2_48 : decode cJ5_init_2 48 = .ok (.getfield 1048, 3) := dk_180 4 24 (dk_at dksJ5_init_2_2 0 rfl rfl)
theorem dJ5_init_2_51 : decode cJ5_init_2 51 = .ok (.ifCond .eq 28, 3) := dk_153 0 28 (dk_at dksJ5_init_2_2 3 rfl rfl)
theorem dJ5_init_2_54 : decode cJ5_init_2 54 = .ok (.aload_n 0, 1) := dk_42 (dk_at dksJ5_init_2_2 6 rfl rfl)
theorem dJ5_init_2_55 : decode cJ5_init_2 55 = .ok (.aload_n 3, 1) := dk_45 (dk_at dksJ5_init_2_2 7 rfl rfl)
theorem dJ5_init_2_56 : decode cJ5_init_2 56 = .ok (.iconst 0, 1) := dk_3 (dk_at dksJ5_init_2_2 8 rfl rfl)
theorem dJ5_init_2_57 : decode cJ5_init_2 57 = .ok (.iload 4, 2) := dk_21 4 (dk_at dksJ5_init_2_2 9 rfl rfl)
theorem dJ5_init_2_59 : decode cJ5_init_2 59 = .ok (.invokestatic 1051, 3) := dk_184 4 27 (dk_at dksJ5_init_2_2 11 rfl rfl)
theorem dJ5_init_2_62 : decode cJ5_init_2 62 = .ok (.putfield 9, 3) := dk_181 0 9 (dk_at dksJ5_init_2_2 14 rfl rfl)
theorem dJ5_init_2_65 : decode cJ5_init_2 65 = .ok (.aload_n 0, 1) := dk_42 (dk_at dksJ5_init_2_2 17 rfl rfl)
theorem dJ5_init_2_66 : decode cJ5_init_2 66 = .ok (.aload_n 0, 1) := dk_42 (dk_at dksJ5_init_2_2 18 rfl rfl)
theorem dJ5_init_2_67 : decode cJ5_init_2 67 = .ok (.getfield 9, 3) := dk_180 0 9 (dk_at dksJ5_init_2_2 19 rfl rfl)
theorem dJ5_init_2_70 : decode cJ5_init_2 70 = .ok (.iload 4, 2) := dk_21 4 (dk_at dksJ5_init_2_2 22 rfl rfl)
theorem dJ5_init_2_72 : decode cJ5_init_2 72 = .ok (.invokestatic 47, 3) := dk_184 0 47 (dk_at dksJ5_init_2_3 0 rfl rfl)
theorem dJ5_init_2_75 : decode cJ5_init_2 75 = .ok (.putfield 15, 3) := dk_181 0 15 (dk_at dksJ5_init_2_3 3 rfl rfl)
theorem dJ5_init_2_78 : decode cJ5_init_2 78 = .ok (.return_, 1) := dk_177 (dk_at dksJ5_init_2_3 6 rfl rfl)
theorem dJ5_init_2_79 : decode cJ5_init_2 79 = .ok (.aload_n 0, 1) := dk_42 (dk_at dksJ5_init_2_3 7 rfl rfl)
theorem dJ5_init_2_80 : decode cJ5_init_2 80 = .ok (.iconst 1, 1) := dk_4 (dk_at dksJ5_init_2_3 8 rfl rfl)
theorem dJ5_init_2_81 : decode cJ5_init_2 81 = .ok (.putfield 15, 3) := dk_181 0 15 (dk_at dksJ5_init_2_3 9 rfl rfl)
theorem dJ5_init_2_84 : decode cJ5_init_2 84 = .ok (.aload_n 0, 1) := dk_42 (dk_at dksJ5_init_2_3 12 rfl rfl)
theorem dJ5_init_2_85 : decode cJ5_init_2 85 = .ok (.aload_n 3, 1) := dk_45 (dk_at dksJ5_init_2_3 13 rfl rfl)
theorem dJ5_init_2_86 : decode cJ5_init_2 86 = .ok (.iconst 0, 1) := dk_3 (dk_at dksJ5_init_2_3 14 rfl rfl)
theorem dJ5_init_2_87 : decode cJ5_init_2 87 = .ok (.iload 4, 2) := dk_21 4 (dk_at dksJ5_init_2_3 15 rfl rfl)
theorem dJ5_init_2_89 : decode cJ5_init_2 89 = .ok (.iconst 1, 1) := dk_4 (dk_at dksJ5_init_2_3 17 rfl rfl)
theorem dJ5_init_2_90 : decode cJ5_init_2 90 = .ok (.ishl, 1) := dk_120 (dk_at dksJ5_init_2_3 18 rfl rfl)
theorem dJ5_init_2_91 : decode cJ5_init_2 91 = .ok (.invokestatic 54, 3) := dk_184 0 54 (dk_at dksJ5_init_2_3 19 rfl rfl)
theorem dJ5_init_2_94 : decode cJ5_init_2 94 = .ok (.putfield 9, 3) := dk_181 0 9 (dk_at dksJ5_init_2_4 0 rfl rfl)
theorem dJ5_init_2_97 : decode cJ5_init_2 97 = .ok (.return_, 1) := dk_177 (dk_at dksJ5_init_2_4 3 rfl rfl)
abbrev cJ5_checkBoundsBeginEnd : ByteArray := prog_37_method_158_code
def yJ5_checkBoundsBeginEnd : MethodName := ⟨RJ5, "checkBoundsBeginEnd", "(III)V"⟩
def dkwJ5_checkBoundsBeginEnd_0 : List UInt8 := [26, 27, 28, 178, 4, 29, 184, 4, 38, 87, 177]
abbrev dktJ5_checkBoundsBeginEnd_0 : List UInt8 := dkwJ5_checkBoundsBeginEnd_0 ++ []
theorem dksJ5_checkBoundsBeginEnd_0 : cJ5_checkBoundsBeginEnd.data.toList.drop 0 = dktJ5_checkBoundsBeginEnd_0 := by decide +kernel
theorem dJ5_checkBoundsBeginEnd_0 : decode cJ5_checkBoundsBeginEnd 0 = .ok (.iload_n 0, 1) := dk_26 (dk_at dksJ5_checkBoundsBeginEnd_0 0 rfl rfl)
theorem dJ5_checkBoundsBeginEnd_1 : decode cJ5_checkBoundsBeginEnd 1 = .ok (.iload_n 1, 1) := dk_27 (dk_at dksJ5_checkBoundsBeginEnd_0 1 rfl rfl)
theorem dJ5_checkBoundsBeginEnd_2 : decode cJ5_checkBoundsBeginEnd 2 = .ok (.iload_n 2, 1) := dk_28 (dk_at dksJ5_checkBoundsBeginEnd_0 2 rfl rfl)
theorem dJ5_checkBoundsBeginEnd_3 : decode cJ5_checkBoundsBeginEnd 3 = .ok (.getstatic 1053, 3) := dk_178 4 29 (dk_at dksJ5_checkBoundsBeginEnd_0 3 rfl rfl)
theorem dJ5_checkBoundsBeginEnd_6 : decode cJ5_checkBoundsBeginEnd 6 = .ok (.invokestatic 1062, 3) := dk_184 4 38 (dk_at dksJ5_checkBoundsBeginEnd_0 6 rfl rfl)
theorem dJ5_checkBoundsBeginEnd_9 : decode cJ5_checkBoundsBeginEnd 9 = .ok (.pop, 1) := dk_87 (dk_at dksJ5_checkBoundsBeginEnd_0 9 rfl rfl)
theorem dJ5_checkBoundsBeginEnd_10 : decode cJ5_checkBoundsBeginEnd 10 = .ok (.return_, 1) := dk_177 (dk_at dksJ5_checkBoundsBeginEnd_0 10 rfl rfl)
abbrev cJ5_length : ByteArray := prog_37_method_54_code
def yJ5_length : MethodName := ⟨RJ5, "length", "()I"⟩
def dkwJ5_length_0 : List UInt8 := [42, 180, 0, 9, 190, 42, 182, 1, 79, 122, 172]
abbrev dktJ5_length_0 : List UInt8 := dkwJ5_length_0 ++ []
theorem dksJ5_length_0 : cJ5_length.data.toList.drop 0 = dktJ5_length_0 := by decide +kernel
theorem dJ5_length_0 : decode cJ5_length 0 = .ok (.aload_n 0, 1) := dk_42 (dk_at dksJ5_length_0 0 rfl rfl)
theorem dJ5_length_1 : decode cJ5_length 1 = .ok (.getfield 9, 3) := dk_180 0 9 (dk_at dksJ5_length_0 1 rfl rfl)
theorem dJ5_length_4 : decode cJ5_length 4 = .ok (.arraylength, 1) := dk_190 (dk_at dksJ5_length_0 4 rfl rfl)
theorem dJ5_length_5 : decode cJ5_length 5 = .ok (.aload_n 0, 1) := dk_42 (dk_at dksJ5_length_0 5 rfl rfl)
theorem dJ5_length_6 : decode cJ5_length 6 = .ok (.invokevirtual 335, 3) := dk_182 1 79 (dk_at dksJ5_length_0 6 rfl rfl)
theorem dJ5_length_9 : decode cJ5_length 9 = .ok (.ishr, 1) := dk_122 (dk_at dksJ5_length_0 9 rfl rfl)
theorem dJ5_length_10 : decode cJ5_length 10 = .ok (.ireturn, 1) := dk_172 (dk_at dksJ5_length_0 10 rfl rfl)
abbrev cJ5_coder : ByteArray := prog_37_method_152_code
def yJ5_coder : MethodName := ⟨RJ5, "coder", "()B"⟩
def dkwJ5_coder_0 : List UInt8 := [178, 0, 38, 153, 0, 10, 42, 180, 0, 15, 167, 0, 4, 4, 172]
abbrev dktJ5_coder_0 : List UInt8 := dkwJ5_coder_0 ++ []
theorem dksJ5_coder_0 : cJ5_coder.data.toList.drop 0 = dktJ5_coder_0 := by decide +kernel
theorem dJ5_coder_0 : decode cJ5_coder 0 = .ok (.getstatic 38, 3) := dk_178 0 38 (dk_at dksJ5_coder_0 0 rfl rfl)
theorem dJ5_coder_3 : decode cJ5_coder 3 = .ok (.ifCond .eq 10, 3) := dk_153 0 10 (dk_at dksJ5_coder_0 3 rfl rfl)
theorem dJ5_coder_6 : decode cJ5_coder 6 = .ok (.aload_n 0, 1) := dk_42 (dk_at dksJ5_coder_0 6 rfl rfl)
theorem dJ5_coder_7 : decode cJ5_coder 7 = .ok (.getfield 15, 3) := dk_180 0 15 (dk_at dksJ5_coder_0 7 rfl rfl)
theorem dJ5_coder_10 : decode cJ5_coder 10 = .ok (.goto 4, 3) := dk_167 0 4 (dk_at dksJ5_coder_0 10 rfl rfl)
theorem dJ5_coder_13 : decode cJ5_coder 13 = .ok (.iconst 1, 1) := dk_4 (dk_at dksJ5_coder_0 13 rfl rfl)
theorem dJ5_coder_14 : decode cJ5_coder 14 = .ok (.ireturn, 1) := dk_172 (dk_at dksJ5_coder_0 14 rfl rfl)
abbrev cJ5_getBytes : ByteArray := prog_37_method_147_code
def yJ5_getBytes : MethodName := ⟨RJ5, "getBytes", "([BIB)V"⟩
def dkwJ5_getBytes_1 : List UInt8 := [184, 0, 212, 167, 0, 18, 42, 180, 0, 9, 3, 43, 28, 42, 180, 0, 9, 190, 184, 0, 106, 177]
abbrev dktJ5_getBytes_1 : List UInt8 := dkwJ5_getBytes_1 ++ []
def dkwJ5_getBytes_0 : List UInt8 := [42, 182, 1, 79, 29, 160, 0, 23, 42, 180, 0, 9, 3, 43, 28, 29, 120, 42, 180, 0, 9, 190]
abbrev dktJ5_getBytes_0 : List UInt8 := dkwJ5_getBytes_0 ++ dktJ5_getBytes_1
theorem dksJ5_getBytes_0 : cJ5_getBytes.data.toList.drop 0 = dktJ5_getBytes_0 := by decide +kernel
theorem dksJ5_getBytes_1 : cJ5_getBytes.data.toList.drop 22 = dktJ5_getBytes_1 := dk_seg dksJ5_getBytes_0 22 rfl rfl
theorem dJ5_getBytes_0 : decode cJ5_getBytes 0 = .ok (.aload_n 0, 1) := dk_42 (dk_at dksJ5_getBytes_0 0 rfl rfl)
theorem dJ5_getBytes_1 : decode cJ5_getBytes 1 = .ok (.invokevirtual 335, 3) := dk_182 1 79 (dk_at dksJ5_getBytes_0 1 rfl rfl)
theorem dJ5_getBytes_4 : decode cJ5_getBytes 4 = .ok (.iload_n 3, 1) := dk_29 (dk_at dksJ5_getBytes_0 4 rfl rfl)
theorem dJ5_getBytes_5 : decode cJ5_getBytes 5 = .ok (.if_icmp .ne 23, 3) := dk_160 0 23 (dk_at dksJ5_getBytes_0 5 rfl rfl)
theorem dJ5_getBytes_8 : decode cJ5_getBytes 8 = .ok (.aload_n 0, 1) := dk_42 (dk_at dksJ5_getBytes_0 8 rfl rfl)
theorem dJ5_getBytes_9 : decode cJ5_getBytes 9 = .ok (.getfield 9, 3) := dk_180 0 9 (dk_at dksJ5_getBytes_0 9 rfl rfl)
theorem dJ5_getBytes_12 : decode cJ5_getBytes 12 = .ok (.iconst 0, 1) := dk_3 (dk_at dksJ5_getBytes_0 12 rfl rfl)
theorem dJ5_getBytes_13 : decode cJ5_getBytes 13 = .ok (.aload_n 1, 1) := dk_43 (dk_at dksJ5_getBytes_0 13 rfl rfl)
theorem dJ5_getBytes_14 : decode cJ5_getBytes 14 = .ok (.iload_n 2, 1) := dk_28 (dk_at dksJ5_getBytes_0 14 rfl rfl)
theorem dJ5_getBytes_15 : decode cJ5_getBytes 15 = .ok (.iload_n 3, 1) := dk_29 (dk_at dksJ5_getBytes_0 15 rfl rfl)
theorem dJ5_getBytes_16 : decode cJ5_getBytes 16 = .ok (.ishl, 1) := dk_120 (dk_at dksJ5_getBytes_0 16 rfl rfl)
theorem dJ5_getBytes_17 : decode cJ5_getBytes 17 = .ok (.aload_n 0, 1) := dk_42 (dk_at dksJ5_getBytes_0 17 rfl rfl)
theorem dJ5_getBytes_18 : decode cJ5_getBytes 18 = .ok (.getfield 9, 3) := dk_180 0 9 (dk_at dksJ5_getBytes_0 18 rfl rfl)
theorem dJ5_getBytes_21 : decode cJ5_getBytes 21 = .ok (.arraylength, 1) := dk_190 (dk_at dksJ5_getBytes_0 21 rfl rfl)
theorem dJ5_getBytes_22 : decode cJ5_getBytes 22 = .ok (.invokestatic 212, 3) := dk_184 0 212 (dk_at dksJ5_getBytes_1 0 rfl rfl)
theorem dJ5_getBytes_25 : decode cJ5_getBytes 25 = .ok (.goto 18, 3) := dk_167 0 18 (dk_at dksJ5_getBytes_1 3 rfl rfl)
theorem dJ5_getBytes_28 : decode cJ5_getBytes 28 = .ok (.aload_n 0, 1) := dk_42 (dk_at dksJ5_getBytes_1 6 rfl rfl)
theorem dJ5_getBytes_29 : decode cJ5_getBytes 29 = .ok (.getfield 9, 3) := dk_180 0 9 (dk_at dksJ5_getBytes_1 7 rfl rfl)
theorem dJ5_getBytes_32 : decode cJ5_getBytes 32 = .ok (.iconst 0, 1) := dk_3 (dk_at dksJ5_getBytes_1 10 rfl rfl)
theorem dJ5_getBytes_33 : decode cJ5_getBytes 33 = .ok (.aload_n 1, 1) := dk_43 (dk_at dksJ5_getBytes_1 11 rfl rfl)
theorem dJ5_getBytes_34 : decode cJ5_getBytes 34 = .ok (.iload_n 2, 1) := dk_28 (dk_at dksJ5_getBytes_1 12 rfl rfl)
theorem dJ5_getBytes_35 : decode cJ5_getBytes 35 = .ok (.aload_n 0, 1) := dk_42 (dk_at dksJ5_getBytes_1 13 rfl rfl)
theorem dJ5_getBytes_36 : decode cJ5_getBytes 36 = .ok (.getfield 9, 3) := dk_180 0 9 (dk_at dksJ5_getBytes_1 14 rfl rfl)
theorem dJ5_getBytes_39 : decode cJ5_getBytes 39 = .ok (.arraylength, 1) := dk_190 (dk_at dksJ5_getBytes_1 17 rfl rfl)
theorem dJ5_getBytes_40 : decode cJ5_getBytes 40 = .ok (.invokestatic 106, 3) := dk_184 0 106 (dk_at dksJ5_getBytes_1 18 rfl rfl)
theorem dJ5_getBytes_43 : decode cJ5_getBytes 43 = .ok (.return_, 1) := dk_177 (dk_at dksJ5_getBytes_1 21 rfl rfl)
abbrev cJ5_hashCode : ByteArray := prog_37_method_78_code
def yJ5_hashCode : MethodName := ⟨RJ5, "hashCode", "()I"⟩
def dkwJ5_hashCode_2 : List UInt8 := [181, 0, 23, 167, 0, 8, 42, 27, 181, 0, 19, 27, 172]
abbrev dktJ5_hashCode_2 : List UInt8 := dkwJ5_hashCode_2 ++ []
def dkwJ5_hashCode_1 : List UInt8 := [180, 0, 9, 184, 2, 116, 167, 0, 10, 42, 180, 0, 9, 184, 2, 120, 60, 27, 154, 0, 11, 42, 4]
abbrev dktJ5_hashCode_1 : List UInt8 := dkwJ5_hashCode_1 ++ dktJ5_hashCode_2
def dkwJ5_hashCode_0 : List UInt8 := [42, 180, 0, 19, 60, 27, 154, 0, 52, 42, 180, 0, 23, 154, 0, 45, 42, 182, 1, 236, 153, 0, 13, 42]
abbrev dktJ5_hashCode_0 : List UInt8 := dkwJ5_hashCode_0 ++ dktJ5_hashCode_1
theorem dksJ5_hashCode_0 : cJ5_hashCode.data.toList.drop 0 = dktJ5_hashCode_0 := by decide +kernel
theorem dksJ5_hashCode_1 : cJ5_hashCode.data.toList.drop 24 = dktJ5_hashCode_1 := dk_seg dksJ5_hashCode_0 24 rfl rfl
theorem dksJ5_hashCode_2 : cJ5_hashCode.data.toList.drop 47 = dktJ5_hashCode_2 := dk_seg dksJ5_hashCode_1 23 rfl rfl
theorem dJ5_hashCode_0 : decode cJ5_hashCode 0 = .ok (.aload_n 0, 1) := dk_42 (dk_at dksJ5_hashCode_0 0 rfl rfl)
theorem dJ5_hashCode_1 : decode cJ5_hashCode 1 = .ok (.getfield 19, 3) := dk_180 0 19 (dk_at dksJ5_hashCode_0 1 rfl rfl)
theorem dJ5_hashCode_4 : decode cJ5_hashCode 4 = .ok (.istore_n 1, 1) := dk_60 (dk_at dksJ5_hashCode_0 4 rfl rfl)
theorem dJ5_hashCode_5 : decode cJ5_hashCode 5 = .ok (.iload_n 1, 1) := dk_27 (dk_at dksJ5_hashCode_0 5 rfl rfl)
theorem dJ5_hashCode_6 : decode cJ5_hashCode 6 = .ok (.ifCond .ne 52, 3) := dk_154 0 52 (dk_at dksJ5_hashCode_0 6 rfl rfl)
theorem dJ5_hashCode_9 : decode cJ5_hashCode 9 = .ok (.aload_n 0, 1) := dk_42 (dk_at dksJ5_hashCode_0 9 rfl rfl)
theorem dJ5_hashCode_10 : decode cJ5_hashCode 10 = .ok (.getfield 23, 3) := dk_180 0 23 (dk_at dksJ5_hashCode_0 10 rfl rfl)
theorem dJ5_hashCode_13 : decode cJ5_hashCode 13 = .ok (.ifCond .ne 45, 3) := dk_154 0 45 (dk_at dksJ5_hashCode_0 13 rfl rfl)
theorem dJ5_hashCode_16 : decode cJ5_hashCode 16 = .ok (.aload_n 0, 1) := dk_42 (dk_at dksJ5_hashCode_0 16 rfl rfl)
theorem dJ5_hashCode_17 : decode cJ5_hashCode 17 = .ok (.invokevirtual 492, 3) := dk_182 1 236 (dk_at dksJ5_hashCode_0 17 rfl rfl)
theorem dJ5_hashCode_20 : decode cJ5_hashCode 20 = .ok (.ifCond .eq 13, 3) := dk_153 0 13 (dk_at dksJ5_hashCode_0 20 rfl rfl)
theorem dJ5_hashCode_23 : decode cJ5_hashCode 23 = .ok (.aload_n 0, 1) := dk_42 (dk_at dksJ5_hashCode_0 23 rfl rfl)
theorem dJ5_hashCode_24 : decode cJ5_hashCode 24 = .ok (.getfield 9, 3) := dk_180 0 9 (dk_at dksJ5_hashCode_1 0 rfl rfl)
theorem dJ5_hashCode_27 : decode cJ5_hashCode 27 = .ok (.invokestatic 628, 3) := dk_184 2 116 (dk_at dksJ5_hashCode_1 3 rfl rfl)
theorem dJ5_hashCode_30 : decode cJ5_hashCode 30 = .ok (.goto 10, 3) := dk_167 0 10 (dk_at dksJ5_hashCode_1 6 rfl rfl)
theorem dJ5_hashCode_33 : decode cJ5_hashCode 33 = .ok (.aload_n 0, 1) := dk_42 (dk_at dksJ5_hashCode_1 9 rfl rfl)
theorem dJ5_hashCode_34 : decode cJ5_hashCode 34 = .ok (.getfield 9, 3) := dk_180 0 9 (dk_at dksJ5_hashCode_1 10 rfl rfl)
theorem dJ5_hashCode_37 : decode cJ5_hashCode 37 = .ok (.invokestatic 632, 3) := dk_184 2 120 (dk_at dksJ5_hashCode_1 13 rfl rfl)
theorem dJ5_hashCode_40 : decode cJ5_hashCode 40 = .ok (.istore_n 1, 1) := dk_60 (dk_at dksJ5_hashCode_1 16 rfl rfl)
theorem dJ5_hashCode_41 : decode cJ5_hashCode 41 = .ok (.iload_n 1, 1) := dk_27 (dk_at dksJ5_hashCode_1 17 rfl rfl)
theorem dJ5_hashCode_42 : decode cJ5_hashCode 42 = .ok (.ifCond .ne 11, 3) := dk_154 0 11 (dk_at dksJ5_hashCode_1 18 rfl rfl)
theorem dJ5_hashCode_45 : decode cJ5_hashCode 45 = .ok (.aload_n 0, 1) := dk_42 (dk_at dksJ5_hashCode_1 21 rfl rfl)
theorem dJ5_hashCode_46 : decode cJ5_hashCode 46 = .ok (.iconst 1, 1) := dk_4 (dk_at dksJ5_hashCode_1 22 rfl rfl)
theorem dJ5_hashCode_47 : decode cJ5_hashCode 47 = .ok (.putfield 23, 3) := dk_181 0 23 (dk_at dksJ5_hashCode_2 0 rfl rfl)
theorem dJ5_hashCode_50 : decode cJ5_hashCode 50 = .ok (.goto 8, 3) := dk_167 0 8 (dk_at dksJ5_hashCode_2 3 rfl rfl)
theorem dJ5_hashCode_53 : decode cJ5_hashCode 53 = .ok (.aload_n 0, 1) := dk_42 (dk_at dksJ5_hashCode_2 6 rfl rfl)
theorem dJ5_hashCode_54 : decode cJ5_hashCode 54 = .ok (.iload_n 1, 1) := dk_27 (dk_at dksJ5_hashCode_2 7 rfl rfl)
theorem dJ5_hashCode_55 : decode cJ5_hashCode 55 = .ok (.putfield 19, 3) := dk_181 0 19 (dk_at dksJ5_hashCode_2 8 rfl rfl)
theorem dJ5_hashCode_58 : decode cJ5_hashCode 58 = .ok (.iload_n 1, 1) := dk_27 (dk_at dksJ5_hashCode_2 11 rfl rfl)
theorem dJ5_hashCode_59 : decode cJ5_hashCode 59 = .ok (.ireturn, 1) := dk_172 (dk_at dksJ5_hashCode_2 12 rfl rfl)
abbrev cJ5_isLatin1 : ByteArray := prog_37_method_154_code
def yJ5_isLatin1 : MethodName := ⟨RJ5, "isLatin1", "()Z"⟩
def dkwJ5_isLatin1_0 : List UInt8 := [178, 0, 38, 153, 0, 14, 42, 180, 0, 15, 154, 0, 7, 4, 167, 0, 4, 3, 172]
abbrev dktJ5_isLatin1_0 : List UInt8 := dkwJ5_isLatin1_0 ++ []
theorem dksJ5_isLatin1_0 : cJ5_isLatin1.data.toList.drop 0 = dktJ5_isLatin1_0 := by decide +kernel
theorem dJ5_isLatin1_0 : decode cJ5_isLatin1 0 = .ok (.getstatic 38, 3) := dk_178 0 38 (dk_at dksJ5_isLatin1_0 0 rfl rfl)
theorem dJ5_isLatin1_3 : decode cJ5_isLatin1 3 = .ok (.ifCond .eq 14, 3) := dk_153 0 14 (dk_at dksJ5_isLatin1_0 3 rfl rfl)
theorem dJ5_isLatin1_6 : decode cJ5_isLatin1 6 = .ok (.aload_n 0, 1) := dk_42 (dk_at dksJ5_isLatin1_0 6 rfl rfl)
theorem dJ5_isLatin1_7 : decode cJ5_isLatin1 7 = .ok (.getfield 15, 3) := dk_180 0 15 (dk_at dksJ5_isLatin1_0 7 rfl rfl)
theorem dJ5_isLatin1_10 : decode cJ5_isLatin1 10 = .ok (.ifCond .ne 7, 3) := dk_154 0 7 (dk_at dksJ5_isLatin1_0 10 rfl rfl)
theorem dJ5_isLatin1_13 : decode cJ5_isLatin1 13 = .ok (.iconst 1, 1) := dk_4 (dk_at dksJ5_isLatin1_0 13 rfl rfl)
theorem dJ5_isLatin1_14 : decode cJ5_isLatin1 14 = .ok (.goto 4, 3) := dk_167 0 4 (dk_at dksJ5_isLatin1_0 14 rfl rfl)
theorem dJ5_isLatin1_17 : decode cJ5_isLatin1 17 = .ok (.iconst 0, 1) := dk_3 (dk_at dksJ5_isLatin1_0 17 rfl rfl)
theorem dJ5_isLatin1_18 : decode cJ5_isLatin1 18 = .ok (.ireturn, 1) := dk_172 (dk_at dksJ5_isLatin1_0 18 rfl rfl)
abbrev cJ5_equals : ByteArray := prog_37_method_66_code
def yJ5_equals : MethodName := ⟨RJ5, "equals", "(Ljava/lang/Object;)Z"⟩
def dkwJ5_equals_2 : List UInt8 := [184, 2, 29, 153, 0, 7, 4, 167, 0, 4, 3, 172]
abbrev dktJ5_equals_2 : List UInt8 := dkwJ5_equals_2 ++ []
def dkwJ5_equals_1 : List UInt8 := [153, 0, 14, 42, 180, 0, 15, 44, 180, 0, 15, 160, 0, 21, 42, 180, 0, 9, 44, 180, 0, 9]
abbrev dktJ5_equals_1 : List UInt8 := dkwJ5_equals_1 ++ dktJ5_equals_2
def dkwJ5_equals_0 : List UInt8 := [42, 43, 166, 0, 5, 4, 172, 43, 193, 0, 10, 153, 0, 43, 43, 192, 0, 10, 77, 178, 0, 38]
abbrev dktJ5_equals_0 : List UInt8 := dkwJ5_equals_0 ++ dktJ5_equals_1
theorem dksJ5_equals_0 : cJ5_equals.data.toList.drop 0 = dktJ5_equals_0 := by decide +kernel
theorem dksJ5_equals_1 : cJ5_equals.data.toList.drop 22 = dktJ5_equals_1 := dk_seg dksJ5_equals_0 22 rfl rfl
theorem dksJ5_equals_2 : cJ5_equals.data.toList.drop 44 = dktJ5_equals_2 := dk_seg dksJ5_equals_1 22 rfl rfl
theorem dJ5_equals_0 : decode cJ5_equals 0 = .ok (.aload_n 0, 1) := dk_42 (dk_at dksJ5_equals_0 0 rfl rfl)
theorem dJ5_equals_1 : decode cJ5_equals 1 = .ok (.aload_n 1, 1) := dk_43 (dk_at dksJ5_equals_0 1 rfl rfl)
theorem dJ5_equals_2 : decode cJ5_equals 2 = .ok (.if_acmp .ne 5, 3) := dk_166 0 5 (dk_at dksJ5_equals_0 2 rfl rfl)
theorem dJ5_equals_5 : decode cJ5_equals 5 = .ok (.iconst 1, 1) := dk_4 (dk_at dksJ5_equals_0 5 rfl rfl)
theorem dJ5_equals_6 : decode cJ5_equals 6 = .ok (.ireturn, 1) := dk_172 (dk_at dksJ5_equals_0 6 rfl rfl)
theorem dJ5_equals_7 : decode cJ5_equals 7 = .ok (.aload_n 1, 1) := dk_43 (dk_at dksJ5_equals_0 7 rfl rfl)
theorem dJ5_equals_8 : decode cJ5_equals 8 = .ok (.instanceof 10, 3) := dk_193 0 10 (dk_at dksJ5_equals_0 8 rfl rfl)
theorem dJ5_equals_11 : decode cJ5_equals 11 = .ok (.ifCond .eq 43, 3) := dk_153 0 43 (dk_at dksJ5_equals_0 11 rfl rfl)
theorem dJ5_equals_14 : decode cJ5_equals 14 = .ok (.aload_n 1, 1) := dk_43 (dk_at dksJ5_equals_0 14 rfl rfl)
theorem dJ5_equals_15 : decode cJ5_equals 15 = .ok (.checkcast 10, 3) := dk_192 0 10 (dk_at dksJ5_equals_0 15 rfl rfl)
theorem dJ5_equals_18 : decode cJ5_equals 18 = .ok (.astore_n 2, 1) := dk_77 (dk_at dksJ5_equals_0 18 rfl rfl)
theorem dJ5_equals_19 : decode cJ5_equals 19 = .ok (.getstatic 38, 3) := dk_178 0 38 (dk_at dksJ5_equals_0 19 rfl rfl)
theorem dJ5_equals_22 : decode cJ5_equals 22 = .ok (.ifCond .eq 14, 3) := dk_153 0 14 (dk_at dksJ5_equals_1 0 rfl rfl)
theorem dJ5_equals_25 : decode cJ5_equals 25 = .ok (.aload_n 0, 1) := dk_42 (dk_at dksJ5_equals_1 3 rfl rfl)
theorem dJ5_equals_26 : decode cJ5_equals 26 = .ok (.getfield 15, 3) := dk_180 0 15 (dk_at dksJ5_equals_1 4 rfl rfl)
theorem dJ5_equals_29 : decode cJ5_equals 29 = .ok (.aload_n 2, 1) := dk_44 (dk_at dksJ5_equals_1 7 rfl rfl)
theorem dJ5_equals_30 : decode cJ5_equals 30 = .ok (.getfield 15, 3) := dk_180 0 15 (dk_at dksJ5_equals_1 8 rfl rfl)
theorem dJ5_equals_33 : decode cJ5_equals 33 = .ok (.if_icmp .ne 21, 3) := dk_160 0 21 (dk_at dksJ5_equals_1 11 rfl rfl)
theorem dJ5_equals_36 : decode cJ5_equals 36 = .ok (.aload_n 0, 1) := dk_42 (dk_at dksJ5_equals_1 14 rfl rfl)
theorem dJ5_equals_37 : decode cJ5_equals 37 = .ok (.getfield 9, 3) := dk_180 0 9 (dk_at dksJ5_equals_1 15 rfl rfl)
theorem dJ5_equals_40 : decode cJ5_equals 40 = .ok (.aload_n 2, 1) := dk_44 (dk_at dksJ5_equals_1 18 rfl rfl)
theorem dJ5_equals_41 : decode cJ5_equals 41 = .ok (.getfield 9, 3) := dk_180 0 9 (dk_at dksJ5_equals_1 19 rfl rfl)
theorem dJ5_equals_44 : decode cJ5_equals 44 = .ok (.invokestatic 541, 3) := dk_184 2 29 (dk_at dksJ5_equals_2 0 rfl rfl)
theorem dJ5_equals_47 : decode cJ5_equals 47 = .ok (.ifCond .eq 7, 3) := dk_153 0 7 (dk_at dksJ5_equals_2 3 rfl rfl)
theorem dJ5_equals_50 : decode cJ5_equals 50 = .ok (.iconst 1, 1) := dk_4 (dk_at dksJ5_equals_2 6 rfl rfl)
theorem dJ5_equals_51 : decode cJ5_equals 51 = .ok (.goto 4, 3) := dk_167 0 4 (dk_at dksJ5_equals_2 7 rfl rfl)
theorem dJ5_equals_54 : decode cJ5_equals 54 = .ok (.iconst 0, 1) := dk_3 (dk_at dksJ5_equals_2 10 rfl rfl)
theorem dJ5_equals_55 : decode cJ5_equals 55 = .ok (.ireturn, 1) := dk_172 (dk_at dksJ5_equals_2 11 rfl rfl)
abbrev cJ5_charAt : ByteArray := prog_37_method_56_code
def yJ5_charAt : MethodName := ⟨RJ5, "charAt", "(I)C"⟩
def dkwJ5_charAt_1 : List UInt8 := [172]
abbrev dktJ5_charAt_1 : List UInt8 := dkwJ5_charAt_1 ++ []
def dkwJ5_charAt_0 : List UInt8 := [42, 182, 1, 236, 153, 0, 12, 42, 180, 0, 9, 27, 184, 1, 239, 172, 42, 180, 0, 9, 27, 184, 1, 242]
abbrev dktJ5_charAt_0 : List UInt8 := dkwJ5_charAt_0 ++ dktJ5_charAt_1
theorem dksJ5_charAt_0 : cJ5_charAt.data.toList.drop 0 = dktJ5_charAt_0 := by decide +kernel
theorem dksJ5_charAt_1 : cJ5_charAt.data.toList.drop 24 = dktJ5_charAt_1 := dk_seg dksJ5_charAt_0 24 rfl rfl
theorem dJ5_charAt_0 : decode cJ5_charAt 0 = .ok (.aload_n 0, 1) := dk_42 (dk_at dksJ5_charAt_0 0 rfl rfl)
theorem dJ5_charAt_1 : decode cJ5_charAt 1 = .ok (.invokevirtual 492, 3) := dk_182 1 236 (dk_at dksJ5_charAt_0 1 rfl rfl)
theorem dJ5_charAt_4 : decode cJ5_charAt 4 = .ok (.ifCond .eq 12, 3) := dk_153 0 12 (dk_at dksJ5_charAt_0 4 rfl rfl)
theorem dJ5_charAt_7 : decode cJ5_charAt 7 = .ok (.aload_n 0, 1) := dk_42 (dk_at dksJ5_charAt_0 7 rfl rfl)
theorem dJ5_charAt_8 : decode cJ5_charAt 8 = .ok (.getfield 9, 3) := dk_180 0 9 (dk_at dksJ5_charAt_0 8 rfl rfl)
theorem dJ5_charAt_11 : decode cJ5_charAt 11 = .ok (.iload_n 1, 1) := dk_27 (dk_at dksJ5_charAt_0 11 rfl rfl)
theorem dJ5_charAt_12 : decode cJ5_charAt 12 = .ok (.invokestatic 495, 3) := dk_184 1 239 (dk_at dksJ5_charAt_0 12 rfl rfl)
theorem dJ5_charAt_15 : decode cJ5_charAt 15 = .ok (.ireturn, 1) := dk_172 (dk_at dksJ5_charAt_0 15 rfl rfl)
theorem dJ5_charAt_16 : decode cJ5_charAt 16 = .ok (.aload_n 0, 1) := dk_42 (dk_at dksJ5_charAt_0 16 rfl rfl)
theorem dJ5_charAt_17 : decode cJ5_charAt 17 = .ok (.getfield 9, 3) := dk_180 0 9 (dk_at dksJ5_charAt_0 17 rfl rfl)
theorem dJ5_charAt_20 : decode cJ5_charAt 20 = .ok (.iload_n 1, 1) := dk_27 (dk_at dksJ5_charAt_0 20 rfl rfl)
theorem dJ5_charAt_21 : decode cJ5_charAt 21 = .ok (.invokestatic 498, 3) := dk_184 1 242 (dk_at dksJ5_charAt_0 21 rfl rfl)
theorem dJ5_charAt_24 : decode cJ5_charAt 24 = .ok (.ireturn, 1) := dk_172 (dk_at dksJ5_charAt_1 0 rfl rfl)
theorem q125 : (Jvm.Cond.initialized "java/lang/String") ∈ lw_all := lw_g (lw_at lw_m1 13 rfl) rfl
theorem q767 : (Jvm.Cond.laysStatic "java/lang/String" "COMPACT_STRINGS" "Z") ∈ lw_tbl := lw_at lw_m3 175 rfl
theorem q777 : (Jvm.Cond.fieldLink "java/lang/String" (1048 : Nat) "java/lang/AbstractStringBuilder" "maybeLatin1" "Z") ∈ lw_all := lw_g (lw_at lw_m3 185 rfl) rfl
theorem q849 : (Jvm.Cond.static ({ cls := "java/lang/String", name := "checkBoundsOffCount", desc := "(III)I" } : Jvm.MethodName)) ∈ lw_all := lw_g (lw_at lw_m4 17 rfl) rfl
theorem q850 : (Jvm.Cond.code ({ cls := "java/lang/String", name := "checkBoundsOffCount", desc := "(III)I" } : Jvm.MethodName) prog_37_method_157_code (3 : Nat) (Option.some Jvm.ClassFile.FieldType.int)) ∈ lw_all := lw_g (lw_at lw_m4 18 rfl) rfl
theorem q851 : (Jvm.Cond.fieldLink "java/lang/String" (1053 : Nat) "jdk/internal/util/Preconditions" "SIOOBE_FORMATTER" "Ljava/util/function/BiFunction;") ∈ lw_all := lw_g (lw_at lw_m4 19 rfl) rfl
theorem q853 : (Jvm.Cond.methodLink "java/lang/String" (1065 : Nat) ({ cls := "jdk/internal/util/Preconditions", name := "checkFromIndexSize", desc := "(IIILjava/util/function/BiFunction;)I" } : Jvm.MethodName)) ∈ lw_all := lw_g (lw_at lw_m4 21 rfl) rfl
theorem q872 : (Jvm.Cond.static ({ cls := "java/lang/String", name := "checkIndex", desc := "(II)V" } : Jvm.MethodName)) ∈ lw_all := lw_g (lw_at lw_m4 40 rfl) rfl
theorem q873 : (Jvm.Cond.code ({ cls := "java/lang/String", name := "checkIndex", desc := "(II)V" } : Jvm.MethodName) prog_37_method_155_code (2 : Nat) (Option.none : Option Jvm.ClassFile.FieldType)) ∈ lw_all := lw_g (lw_at lw_m4 41 rfl) rfl
theorem q874 : (Jvm.Cond.methodLink "java/lang/String" (1059 : Nat) ({ cls := "jdk/internal/util/Preconditions", name := "checkIndex", desc := "(IILjava/util/function/BiFunction;)I" } : Jvm.MethodName)) ∈ lw_all := lw_g (lw_at lw_m4 42 rfl) rfl
theorem q880 : (Jvm.Cond.instantiable "java/lang/String" (4 : Nat)) ∈ lw_all := lw_g (lw_at lw_m4 48 rfl) rfl
theorem q882 : (Jvm.Cond.instanceMethod ({ cls := "java/lang/String", name := "<init>", desc := "(Ljava/lang/StringBuilder;)V" } : Jvm.MethodName)) ∈ lw_all := lw_g (lw_at lw_m4 50 rfl) rfl
theorem q883 : (Jvm.Cond.code ({ cls := "java/lang/String", name := "<init>", desc := "(Ljava/lang/StringBuilder;)V" } : Jvm.MethodName) prog_37_method_53_code (2 : Nat) (Option.none : Option Jvm.ClassFile.FieldType)) ∈ lw_all := lw_g (lw_at lw_m4 51 rfl) rfl
theorem q884 : (Jvm.Cond.methodLink "java/lang/String" (489 : Nat) ({ cls := "java/lang/String", name := "<init>", desc := "(Ljava/lang/AbstractStringBuilder;Ljava/lang/Void;)V" } : Jvm.MethodName)) ∈ lw_all := lw_g (lw_at lw_m4 52 rfl) rfl
theorem q885 : (Jvm.Cond.instanceMethod ({ cls := "java/lang/String", name := "<init>", desc := "(Ljava/lang/AbstractStringBuilder;Ljava/lang/Void;)V" } : Jvm.MethodName)) ∈ lw_all := lw_g (lw_at lw_m4 53 rfl) rfl
theorem q886 : (Jvm.Cond.code ({ cls := "java/lang/String", name := "<init>", desc := "(Ljava/lang/AbstractStringBuilder;Ljava/lang/Void;)V" } : Jvm.MethodName) prog_37_method_150_code (5 : Nat) (Option.none : Option Jvm.ClassFile.FieldType)) ∈ lw_all := lw_g (lw_at lw_m4 54 rfl) rfl
theorem q887 : (Jvm.Cond.methodLink "java/lang/String" (1 : Nat) ({ cls := "java/lang/Object", name := "<init>", desc := "()V" } : Jvm.MethodName)) ∈ lw_all := lw_g (lw_at lw_m4 55 rfl) rfl
theorem q888 : (Jvm.Cond.methodLink "java/lang/String" (552 : Nat) ({ cls := "java/lang/AbstractStringBuilder", name := "getValue", desc := "()[B" } : Jvm.MethodName)) ∈ lw_all := lw_g (lw_at lw_m4 56 rfl) rfl
theorem q893 : (Jvm.Cond.methodLink "java/lang/String" (549 : Nat) ({ cls := "java/lang/AbstractStringBuilder", name := "length", desc := "()I" } : Jvm.MethodName)) ∈ lw_all := lw_g (lw_at lw_m4 61 rfl) rfl
theorem q901 : (Jvm.Cond.methodLink "java/lang/String" (1047 : Nat) ({ cls := "java/lang/AbstractStringBuilder", name := "isLatin1", desc := "()Z" } : Jvm.MethodName)) ∈ lw_all := lw_g (lw_at lw_m4 69 rfl) rfl
theorem q902 : (Jvm.Cond.methodLink "java/lang/String" (54 : Nat) ({ cls := "java/util/Arrays", name := "copyOfRange", desc := "([BII)[B" } : Jvm.MethodName)) ∈ lw_all := lw_g (lw_at lw_m4 70 rfl) rfl
theorem q982 : (Jvm.Cond.static ({ cls := "java/lang/String", name := "checkBoundsBeginEnd", desc := "(III)V" } : Jvm.MethodName)) ∈ lw_all := lw_g (lw_at lw_m4 150 rfl) rfl
theorem q983 : (Jvm.Cond.code ({ cls := "java/lang/String", name := "checkBoundsBeginEnd", desc := "(III)V" } : Jvm.MethodName) prog_37_method_158_code (3 : Nat) (Option.none : Option Jvm.ClassFile.FieldType)) ∈ lw_all := lw_g (lw_at lw_m4 151 rfl) rfl
theorem q984 : (Jvm.Cond.methodLink "java/lang/String" (1062 : Nat) ({ cls := "jdk/internal/util/Preconditions", name := "checkFromToIndex", desc := "(IIILjava/util/function/BiFunction;)I" } : Jvm.MethodName)) ∈ lw_all := lw_g (lw_at lw_m4 152 rfl) rfl
theorem q1008 : (Jvm.Cond.instanceMethod ({ cls := "java/lang/String", name := "length", desc := "()I" } : Jvm.MethodName)) ∈ lw_all := lw_g (lw_at lw_m4 176 rfl) rfl
theorem q1009 : (Jvm.Cond.selects "java/lang/String" ({ cls := "java/lang/String", name := "length", desc := "()I" } : Jvm.MethodName) ({ cls := "java/lang/String", name := "length", desc := "()I" } : Jvm.MethodName)) ∈ lw_all := lw_g (lw_at lw_m4 177 rfl) rfl
theorem q1010 : (Jvm.Cond.code ({ cls := "java/lang/String", name := "length", desc := "()I" } : Jvm.MethodName) prog_37_method_54_code (1 : Nat) (Option.some Jvm.ClassFile.FieldType.int)) ∈ lw_all := lw_g (lw_at lw_m4 178 rfl) rfl
theorem q1011 : (Jvm.Cond.methodLink "java/lang/String" (335 : Nat) ({ cls := "java/lang/String", name := "coder", desc := "()B" } : Jvm.MethodName)) ∈ lw_all := lw_g (lw_at lw_m4 179 rfl) rfl
theorem q1012 : (Jvm.Cond.instanceMethod ({ cls := "java/lang/String", name := "coder", desc := "()B" } : Jvm.MethodName)) ∈ lw_all := lw_g (lw_at lw_m4 180 rfl) rfl
theorem q1013 : (Jvm.Cond.selects "java/lang/String" ({ cls := "java/lang/String", name := "coder", desc := "()B" } : Jvm.MethodName) ({ cls := "java/lang/String", name := "coder", desc := "()B" } : Jvm.MethodName)) ∈ lw_all := lw_g (lw_at lw_m4 181 rfl) rfl
theorem q1014 : (Jvm.Cond.code ({ cls := "java/lang/String", name := "coder", desc := "()B" } : Jvm.MethodName) prog_37_method_152_code (1 : Nat) (Option.some Jvm.ClassFile.FieldType.byte)) ∈ lw_all := lw_g (lw_at lw_m4 182 rfl) rfl
theorem q1015 : (Jvm.Cond.fieldLink "java/lang/String" (38 : Nat) "java/lang/String" "COMPACT_STRINGS" "Z") ∈ lw_all := lw_g (lw_at lw_m4 183 rfl) rfl
theorem q1026 : (Jvm.Cond.instanceMethod ({ cls := "java/lang/String", name := "getBytes", desc := "([BIB)V" } : Jvm.MethodName)) ∈ lw_all := lw_g (lw_at lw_m4 194 rfl) rfl
theorem q1027 : (Jvm.Cond.selects "java/lang/String" ({ cls := "java/lang/String", name := "getBytes", desc := "([BIB)V" } : Jvm.MethodName) ({ cls := "java/lang/String", name := "getBytes", desc := "([BIB)V" } : Jvm.MethodName)) ∈ lw_all := lw_g (lw_at lw_m4 195 rfl) rfl
theorem q1028 : (Jvm.Cond.code ({ cls := "java/lang/String", name := "getBytes", desc := "([BIB)V" } : Jvm.MethodName) prog_37_method_147_code (4 : Nat) (Option.none : Option Jvm.ClassFile.FieldType)) ∈ lw_all := lw_g (lw_at lw_m4 196 rfl) rfl
theorem q1029 : (Jvm.Cond.methodLink "java/lang/String" (212 : Nat) ({ cls := "java/lang/System", name := "arraycopy", desc := "(Ljava/lang/Object;ILjava/lang/Object;II)V" } : Jvm.MethodName)) ∈ lw_all := lw_g (lw_at lw_m4 197 rfl) rfl
theorem q1030 : (Jvm.Cond.methodLink "java/lang/String" (106 : Nat) ({ cls := "java/lang/StringLatin1", name := "inflate", desc := "([BI[BII)V" } : Jvm.MethodName)) ∈ lw_all := lw_g (lw_at lw_m4 198 rfl) rfl
theorem q1057 : (Jvm.Cond.methodLink "java/lang/String" (1051 : Nat) ({ cls := "java/lang/StringUTF16", name := "compress", desc := "([BII)[B" } : Jvm.MethodName)) ∈ lw_all := lw_g (lw_at lw_m4 225 rfl) rfl
theorem q1067 : (Jvm.Cond.methodLink "java/lang/String" (47 : Nat) ({ cls := "java/lang/StringUTF16", name := "coderFromArrayLen", desc := "([BI)B" } : Jvm.MethodName)) ∈ lw_all := lw_g (lw_at lw_m4 235 rfl) rfl
theorem q1070 : (Jvm.Cond.fieldLink "java/lang/String" (9 : Nat) "java/lang/String" "value" "[B") ∈ lw_all := lw_g (lw_at lw_m4 238 rfl) rfl
theorem q1071 : (Jvm.Cond.fieldLink "java/lang/String" (15 : Nat) "java/lang/String" "coder" "B") ∈ lw_all := lw_g (lw_at lw_m4 239 rfl) rfl
theorem q1072 : (Jvm.Cond.fieldLink "java/lang/String" (19 : Nat) "java/lang/String" "hash" "I") ∈ lw_all := lw_g (lw_at lw_m5 0 rfl) rfl
theorem q1073 : (Jvm.Cond.fieldLink "java/lang/String" (23 : Nat) "java/lang/String" "hashIsZero" "Z") ∈ lw_all := lw_g (lw_at lw_m5 1 rfl) rfl
theorem q1074 : (Jvm.Cond.laysFinal "java/lang/String" "java/lang/String" "value" "[B") ∈ lw_all := lw_g (lw_at lw_m5 2 rfl) rfl
theorem q1075 : (Jvm.Cond.soleField "java/lang/String" "value") ∈ lw_all := lw_g (lw_at lw_m5 3 rfl) rfl
theorem q1076 : (Jvm.Cond.laysFinal "java/lang/String" "java/lang/String" "coder" "B") ∈ lw_all := lw_g (lw_at lw_m5 4 rfl) rfl
theorem q1077 : (Jvm.Cond.soleField "java/lang/String" "coder") ∈ lw_all := lw_g (lw_at lw_m5 5 rfl) rfl
theorem q1078 : (Jvm.Cond.lays "java/lang/String" "java/lang/String" "hash" "I") ∈ lw_all := lw_g (lw_at lw_m5 6 rfl) rfl
theorem q1079 : (Jvm.Cond.soleField "java/lang/String" "hash") ∈ lw_all := lw_g (lw_at lw_m5 7 rfl) rfl
theorem q1080 : (Jvm.Cond.lays "java/lang/String" "java/lang/String" "hashIsZero" "Z") ∈ lw_all := lw_g (lw_at lw_m5 8 rfl) rfl
theorem q1081 : (Jvm.Cond.soleField "java/lang/String" "hashIsZero") ∈ lw_all := lw_g (lw_at lw_m5 9 rfl) rfl
theorem q1082 : (Jvm.Cond.superclass "java/lang/String" "java/lang/Object") ∈ lw_all := lw_g (lw_at lw_m5 10 rfl) rfl
theorem q1112 : (Jvm.Cond.instanceMethod ({ cls := "java/lang/String", name := "hashCode", desc := "()I" } : Jvm.MethodName)) ∈ lw_all := lw_g (lw_at lw_m5 40 rfl) rfl
theorem q1113 : (Jvm.Cond.selects "java/lang/String" ({ cls := "java/lang/String", name := "hashCode", desc := "()I" } : Jvm.MethodName) ({ cls := "java/lang/String", name := "hashCode", desc := "()I" } : Jvm.MethodName)) ∈ lw_all := lw_g (lw_at lw_m5 41 rfl) rfl
theorem q1114 : (Jvm.Cond.code ({ cls := "java/lang/String", name := "hashCode", desc := "()I" } : Jvm.MethodName) prog_37_method_78_code (2 : Nat) (Option.some Jvm.ClassFile.FieldType.int)) ∈ lw_all := lw_g (lw_at lw_m5 42 rfl) rfl
theorem q1115 : (Jvm.Cond.methodLink "java/lang/String" (492 : Nat) ({ cls := "java/lang/String", name := "isLatin1", desc := "()Z" } : Jvm.MethodName)) ∈ lw_all := lw_g (lw_at lw_m5 43 rfl) rfl
theorem q1116 : (Jvm.Cond.instanceMethod ({ cls := "java/lang/String", name := "isLatin1", desc := "()Z" } : Jvm.MethodName)) ∈ lw_all := lw_g (lw_at lw_m5 44 rfl) rfl
theorem q1117 : (Jvm.Cond.selects "java/lang/String" ({ cls := "java/lang/String", name := "isLatin1", desc := "()Z" } : Jvm.MethodName) ({ cls := "java/lang/String", name := "isLatin1", desc := "()Z" } : Jvm.MethodName)) ∈ lw_all := lw_g (lw_at lw_m5 45 rfl) rfl
theorem q1118 : (Jvm.Cond.code ({ cls := "java/lang/String", name := "isLatin1", desc := "()Z" } : Jvm.MethodName) prog_37_method_154_code (1 : Nat) (Option.some Jvm.ClassFile.FieldType.boolean)) ∈ lw_all := lw_g (lw_at lw_m5 46 rfl) rfl
theorem q1119 : (Jvm.Cond.methodLink "java/lang/String" (628 : Nat) ({ cls := "java/lang/StringLatin1", name := "hashCode", desc := "([B)I" } : Jvm.MethodName)) ∈ lw_all := lw_g (lw_at lw_m5 47 rfl) rfl
theorem q1168 : (Jvm.Cond.methodLink "java/lang/String" (632 : Nat) ({ cls := "java/lang/StringUTF16", name := "hashCode", desc := "([B)I" } : Jvm.MethodName)) ∈ lw_all := lw_g (lw_at lw_m5 96 rfl) rfl
theorem q1174 : (Jvm.Cond.instanceMethod ({ cls := "java/lang/String", name := "equals", desc := "(Ljava/lang/Object;)Z" } : Jvm.MethodName)) ∈ lw_all := lw_g (lw_at lw_m5 102 rfl) rfl
theorem q1175 : (Jvm.Cond.selects "java/lang/String" ({ cls := "java/lang/String", name := "equals", desc := "(Ljava/lang/Object;)Z" } : Jvm.MethodName) ({ cls := "java/lang/String", name := "equals", desc := "(Ljava/lang/Object;)Z" } : Jvm.MethodName)) ∈ lw_all := lw_g (lw_at lw_m5 103 rfl) rfl
theorem q1176 : (Jvm.Cond.code ({ cls := "java/lang/String", name := "equals", desc := "(Ljava/lang/Object;)Z" } : Jvm.MethodName) prog_37_method_66_code (3 : Nat) (Option.some Jvm.ClassFile.FieldType.boolean)) ∈ lw_all := lw_g (lw_at lw_m5 104 rfl) rfl
theorem q1177 : (Jvm.Cond.classLink "java/lang/String" (10 : Nat) "java/lang/String") ∈ lw_all := lw_g (lw_at lw_m5 105 rfl) rfl
theorem q1178 : (Jvm.Cond.methodLink "java/lang/String" (541 : Nat) ({ cls := "java/lang/StringLatin1", name := "equals", desc := "([B[B)Z" } : Jvm.MethodName)) ∈ lw_all := lw_g (lw_at lw_m5 106 rfl) rfl
theorem q1472 : (Jvm.Cond.selects "java/lang/String" ({ cls := "java/lang/Object", name := "getClass", desc := "()Ljava/lang/Class;" } : Jvm.MethodName) ({ cls := "java/lang/Object", name := "getClass", desc := "()Ljava/lang/Class;" } : Jvm.MethodName)) ∈ lw_all := lw_g (lw_at lw_m6 160 rfl) rfl
theorem q2078 : (Jvm.Cond.instanceMethod ({ cls := "java/lang/String", name := "charAt", desc := "(I)C" } : Jvm.MethodName)) ∈ lw_all := lw_g (lw_at lw_m9 46 rfl) rfl
theorem q2079 : (Jvm.Cond.selects "java/lang/String" ({ cls := "java/lang/String", name := "charAt", desc := "(I)C" } : Jvm.MethodName) ({ cls := "java/lang/String", name := "charAt", desc := "(I)C" } : Jvm.MethodName)) ∈ lw_all := lw_g (lw_at lw_m9 47 rfl) rfl
theorem q2080 : (Jvm.Cond.code ({ cls := "java/lang/String", name := "charAt", desc := "(I)C" } : Jvm.MethodName) prog_37_method_56_code (2 : Nat) (Option.some Jvm.ClassFile.FieldType.char)) ∈ lw_all := lw_g (lw_at lw_m9 48 rfl) rfl
theorem q2081 : (Jvm.Cond.methodLink "java/lang/String" (495 : Nat) ({ cls := "java/lang/StringLatin1", name := "charAt", desc := "([BI)C" } : Jvm.MethodName)) ∈ lw_all := lw_g (lw_at lw_m9 49 rfl) rfl
theorem q2085 : (Jvm.Cond.methodLink "java/lang/String" (498 : Nat) ({ cls := "java/lang/StringUTF16", name := "charAt", desc := "([BI)C" } : Jvm.MethodName)) ∈ lw_all := lw_g (lw_at lw_m9 53 rfl) rfl
theorem q2539 : (Jvm.Cond.castable "java/lang/String" "java/lang/Object") ∈ lw_tbl := lw_at lw_m11 27 rfl
theorem in_J5 : ∀ w ∈ wsJ50, w ∈ lw_all := lw_in wsJ50 [1074, 1076, 1078, 1080] (by decide +kernel) (by decide +kernel)

/-! java/lang/StringUTF16 -/
set_option maxRecDepth 100000
def RJ6 : String := "java/lang/StringUTF16"
abbrev cJ6_newBytesFor : ByteArray := prog_40_method_2_code
def yJ6_newBytesFor : MethodName := ⟨RJ6, "newBytesFor", "(I)[B"⟩
def dkwJ6_newBytesFor_0 : List UInt8 := [26, 184, 0, 11, 188, 8, 176]
abbrev dktJ6_newBytesFor_0 : List UInt8 := dkwJ6_newBytesFor_0 ++ []
theorem dksJ6_newBytesFor_0 : cJ6_newBytesFor.data.toList.drop 0 = dktJ6_newBytesFor_0 := by decide +kernel
theorem dJ6_newBytesFor_0 : decode cJ6_newBytesFor 0 = .ok (.iload_n 0, 1) := dk_26 (dk_at dksJ6_newBytesFor_0 0 rfl rfl)
theorem dJ6_newBytesFor_1 : decode cJ6_newBytesFor 1 = .ok (.invokestatic 11, 3) := dk_184 0 11 (dk_at dksJ6_newBytesFor_0 1 rfl rfl)
theorem dJ6_newBytesFor_4 : decode cJ6_newBytesFor 4 = .ok (.newarray .byte, 2) := dk_188_8 (dk_at dksJ6_newBytesFor_0 4 rfl rfl)
theorem dJ6_newBytesFor_6 : decode cJ6_newBytesFor 6 = .ok (.areturn, 1) := dk_176 (dk_at dksJ6_newBytesFor_0 6 rfl rfl)
abbrev cJ6_newBytesLength : ByteArray := prog_40_method_3_code
def yJ6_newBytesLength : MethodName := ⟨RJ6, "newBytesLength", "(I)I"⟩
def dkwJ6_newBytesLength_2 : List UInt8 := [182, 0, 32, 182, 0, 37, 183, 0, 41, 191, 26, 4, 120, 172]
abbrev dktJ6_newBytesLength_2 : List UInt8 := dkwJ6_newBytesLength_2 ++ []
def dkwJ6_newBytesLength_1 : List UInt8 := [187, 0, 23, 89, 183, 0, 25, 18, 26, 182, 0, 28, 26, 182, 0, 32, 18, 35, 182, 0, 28, 18, 20]
abbrev dktJ6_newBytesLength_1 : List UInt8 := dkwJ6_newBytesLength_1 ++ dktJ6_newBytesLength_2
def dkwJ6_newBytesLength_0 : List UInt8 := [26, 156, 0, 11, 187, 0, 17, 89, 183, 0, 19, 191, 26, 18, 20, 161, 0, 40, 187, 0, 21, 89]
abbrev dktJ6_newBytesLength_0 : List UInt8 := dkwJ6_newBytesLength_0 ++ dktJ6_newBytesLength_1
theorem dksJ6_newBytesLength_0 : cJ6_newBytesLength.data.toList.drop 0 = dktJ6_newBytesLength_0 := by decide +kernel
theorem dksJ6_newBytesLength_1 : cJ6_newBytesLength.data.toList.drop 22 = dktJ6_newBytesLength_1 := dk_seg dksJ6_newBytesLength_0 22 rfl rfl
theorem dksJ6_newBytesLength_2 : cJ6_newBytesLength.data.toList.drop 45 = dktJ6_newBytesLength_2 := dk_seg dksJ6_newBytesLength_1 23 rfl rfl
theorem dJ6_newBytesLength_0 : decode cJ6_newBytesLength 0 = .ok (.iload_n 0, 1) := dk_26 (dk_at dksJ6_newBytesLength_0 0 rfl rfl)
theorem dJ6_newBytesLength_1 : decode cJ6_newBytesLength 1 = .ok (.ifCond .ge 11, 3) := dk_156 0 11 (dk_at dksJ6_newBytesLength_0 1 rfl rfl)
theorem dJ6_newBytesLength_4 : decode cJ6_newBytesLength 4 = .ok (.new 17, 3) := dk_187 0 17 (dk_at dksJ6_newBytesLength_0 4 rfl rfl)
theorem dJ6_newBytesLength_7 : decode cJ6_newBytesLength 7 = .ok (.dup, 1) := dk_89 (dk_at dksJ6_newBytesLength_0 7 rfl rfl)
theorem dJ6_newBytesLength_8 : decode cJ6_newBytesLength 8 = .ok (.invokespecial 19, 3) := dk_183 0 19 (dk_at dksJ6_newBytesLength_0 8 rfl rfl)
theorem dJ6_newBytesLength_11 : decode cJ6_newBytesLength 11 = .ok (.athrow, 1) := dk_191 (dk_at dksJ6_newBytesLength_0 11 rfl rfl)
theorem dJ6_newBytesLength_12 : decode cJ6_newBytesLength 12 = .ok (.iload_n 0, 1) := dk_26 (dk_at dksJ6_newBytesLength_0 12 rfl rfl)
theorem dJ6_newBytesLength_13 : decode cJ6_newBytesLength 13 = .ok (.ldc 20, 2) := dk_18 20 (dk_at dksJ6_newBytesLength_0 13 rfl rfl)
theorem dJ6_newBytesLength_15 : decode cJ6_newBytesLength 15 = .ok (.if_icmp .lt 40, 3) := dk_161 0 40 (dk_at dksJ6_newBytesLength_0 15 rfl rfl)
theorem dJ6_newBytesLength_18 : decode cJ6_newBytesLength 18 = .ok (.new 21, 3) := dk_187 0 21 (dk_at dksJ6_newBytesLength_0 18 rfl rfl)
theorem dJ6_newBytesLength_21 : decode cJ6_newBytesLength 21 = .ok (.dup, 1) := dk_89 (dk_at dksJ6_newBytesLength_0 21 rfl rfl)
theorem dJ6_newBytesLength_22 : decode cJ6_newBytesLength 22 = .ok (.new 23, 3) := dk_187 0 23 (dk_at dksJ6_newBytesLength_1 0 rfl rfl)
theorem dJ6_newBytesLength_25 : decode cJ6_newBytesLength 25 = .ok (.dup, 1) := dk_89 (dk_at dksJ6_newBytesLength_1 3 rfl rfl)
theorem dJ6_newBytesLength_26 : decode cJ6_newBytesLength 26 = .ok (.invokespecial 25, 3) := dk_183 0 25 (dk_at dksJ6_newBytesLength_1 4 rfl rfl)
theorem dJ6_newBytesLength_29 : decode cJ6_newBytesLength 29 = .ok (.ldc 26, 2) := dk_18 26 (dk_at dksJ6_newBytesLength_1 7 rfl rfl)
theorem dJ6_newBytesLength_31 : decode cJ6_newBytesLength 31 = .ok (.invokevirtual 28, 3) := dk_182 0 28 (dk_at dksJ6_newBytesLength_1 9 rfl rfl)
theorem dJ6_newBytesLength_34 : decode cJ6_newBytesLength 34 = .ok (.iload_n 0, 1) := dk_26 (dk_at dksJ6_newBytesLength_1 12 rfl rfl)
theorem dJ6_newBytesLength_35 : decode cJ6_newBytesLength 35 = .ok (.invokevirtual 32, 3) := dk_182 0 32 (dk_at dksJ6_newBytesLength_1 13 rfl rfl)
theorem dJ6_newBytesLength_38 : decode cJ6_newBytesLength 38 = .ok (.ldc 35, 2) := dk_18 35 (dk_at dksJ6_newBytesLength_1 16 rfl rfl)
theorem dJ6_newBytesLength_40 : decode cJ6_newBytesLength 40 = .ok (.invokevirtual 28, 3) := dk_182 0 28 (dk_at dksJ6_newBytesLength_1 18 rfl rfl)
theorem dJ6_newBytesLength_43 : decode cJ6_newBytesLength 43 = .ok (.ldc 20, 2) := dk_18 20 (dk_at dksJ6_newBytesLength_1 21 rfl rfl)
theorem dJ6_newBytesLength_45 : decode cJ6_newBytesLength 45 = .ok (.invokevirtual 32, 3) := dk_182 0 32 (dk_at dksJ6_newBytesLength_2 0 rfl rfl)
theorem dJ6_newBytesLength_48 : decode cJ6_newBytesLength 48 = .ok (.invokevirtual 37, 3) := dk_182 0 37 (dk_at dksJ6_newBytesLength_2 3 rfl rfl)
theorem dJ6_newBytesLength_51 : decode cJ6_newBytesLength 51 = .ok (.invokespecial 41, 3) := dk_183 0 41 (dk_at dksJ6_newBytesLength_2 6 rfl rfl)
theorem dJ6_newBytesLength_54 : decode cJ6_newBytesLength 54 = .ok (.athrow, 1) := dk_191 (dk_at dksJ6_newBytesLength_2 9 rfl rfl)
theorem dJ6_newBytesLength_55 : decode cJ6_newBytesLength 55 = .ok (.iload_n 0, 1) := dk_26 (dk_at dksJ6_newBytesLength_2 10 rfl rfl)
theorem dJ6_newBytesLength_56 : decode cJ6_newBytesLength 56 = .ok (.iconst 1, 1) := dk_4 (dk_at dksJ6_newBytesLength_2 11 rfl rfl)
theorem dJ6_newBytesLength_57 : decode cJ6_newBytesLength 57 = .ok (.ishl, 1) := dk_120 (dk_at dksJ6_newBytesLength_2 12 rfl rfl)
theorem dJ6_newBytesLength_58 : decode cJ6_newBytesLength 58 = .ok (.ireturn, 1) := dk_172 (dk_at dksJ6_newBytesLength_2 13 rfl rfl)
abbrev cJ6_inflate : ByteArray := prog_40_method_86_code
def yJ6_inflate : MethodName := ⟨RJ6, "inflate", "([BI[BII)V"⟩
def dkwJ6_inflate_1 : List UInt8 := [132, 1, 1, 51, 17, 0, 255, 126, 184, 0, 111, 132, 5, 1, 167, 255, 228, 177]
abbrev dktJ6_inflate_1 : List UInt8 := dkwJ6_inflate_1 ++ []
def dkwJ6_inflate_0 : List UInt8 := [29, 21, 4, 44, 184, 0, 173, 3, 54, 5, 21, 5, 21, 4, 162, 0, 27, 44, 29, 132, 3, 1, 42, 27]
abbrev dktJ6_inflate_0 : List UInt8 := dkwJ6_inflate_0 ++ dktJ6_inflate_1
theorem dksJ6_inflate_0 : cJ6_inflate.data.toList.drop 0 = dktJ6_inflate_0 := by decide +kernel
theorem dksJ6_inflate_1 : cJ6_inflate.data.toList.drop 24 = dktJ6_inflate_1 := dk_seg dksJ6_inflate_0 24 rfl rfl
theorem dJ6_inflate_0 : decode cJ6_inflate 0 = .ok (.iload_n 3, 1) := dk_29 (dk_at dksJ6_inflate_0 0 rfl rfl)
theorem dJ6_inflate_1 : decode cJ6_inflate 1 = .ok (.iload 4, 2) := dk_21 4 (dk_at dksJ6_inflate_0 1 rfl rfl)
theorem dJ6_inflate_3 : decode cJ6_inflate 3 = .ok (.aload_n 2, 1) := dk_44 (dk_at dksJ6_inflate_0 3 rfl rfl)
theorem dJ6_inflate_4 : decode cJ6_inflate 4 = .ok (.invokestatic 173, 3) := dk_184 0 173 (dk_at dksJ6_inflate_0 4 rfl rfl)
theorem dJ6_inflate_7 : decode cJ6_inflate 7 = .ok (.iconst 0, 1) := dk_3 (dk_at dksJ6_inflate_0 7 rfl rfl)
theorem dJ6_inflate_8 : decode cJ6_inflate 8 = .ok (.istore 5, 2) := dk_54 5 (dk_at dksJ6_inflate_0 8 rfl rfl)
theorem dJ6_inflate_10 : decode cJ6_inflate 10 = .ok (.iload 5, 2) := dk_21 5 (dk_at dksJ6_inflate_0 10 rfl rfl)
theorem dJ6_inflate_12 : decode cJ6_inflate 12 = .ok (.iload 4, 2) := dk_21 4 (dk_at dksJ6_inflate_0 12 rfl rfl)
theorem dJ6_inflate_14 : decode cJ6_inflate 14 = .ok (.if_icmp .ge 27, 3) := dk_162 0 27 (dk_at dksJ6_inflate_0 14 rfl rfl)
theorem dJ6_inflate_17 : decode cJ6_inflate 17 = .ok (.aload_n 2, 1) := dk_44 (dk_at dksJ6_inflate_0 17 rfl rfl)
theorem dJ6_inflate_18 : decode cJ6_inflate 18 = .ok (.iload_n 3, 1) := dk_29 (dk_at dksJ6_inflate_0 18 rfl rfl)
theorem dJ6_inflate_19 : decode cJ6_inflate 19 = .ok (.iinc 3 1, 3) := dk_132 3 1 (dk_at dksJ6_inflate_0 19 rfl rfl)
theorem dJ6_inflate_22 : decode cJ6_inflate 22 = .ok (.aload_n 0, 1) := dk_42 (dk_at dksJ6_inflate_0 22 rfl rfl)
theorem dJ6_inflate_23 : decode cJ6_inflate 23 = .ok (.iload_n 1, 1) := dk_27 (dk_at dksJ6_inflate_0 23 rfl rfl)
theorem dJ6_inflate_24 : decode cJ6_inflate 24 = .ok (.iinc 1 1, 3) := dk_132 1 1 (dk_at dksJ6_inflate_1 0 rfl rfl)
theorem dJ6_inflate_27 : decode cJ6_inflate 27 = .ok (.baload, 1) := dk_51 (dk_at dksJ6_inflate_1 3 rfl rfl)
theorem dJ6_inflate_28 : decode cJ6_inflate 28 = .ok (.sipush 255, 3) := dk_17 0 255 (dk_at dksJ6_inflate_1 4 rfl rfl)
theorem dJ6_inflate_31 : decode cJ6_inflate 31 = .ok (.iand, 1) := dk_126 (dk_at dksJ6_inflate_1 7 rfl rfl)
theorem dJ6_inflate_32 : decode cJ6_inflate 32 = .ok (.invokestatic 111, 3) := dk_184 0 111 (dk_at dksJ6_inflate_1 8 rfl rfl)
theorem dJ6_inflate_35 : decode cJ6_inflate 35 = .ok (.iinc 5 1, 3) := dk_132 5 1 (dk_at dksJ6_inflate_1 11 rfl rfl)
theorem dJ6_inflate_38 : decode cJ6_inflate 38 = .ok (.goto (-28), 3) := dk_167 255 228 (dk_at dksJ6_inflate_1 14 rfl rfl)
theorem dJ6_inflate_41 : decode cJ6_inflate 41 = .ok (.return_, 1) := dk_177 (dk_at dksJ6_inflate_1 17 rfl rfl)
abbrev cJ6_checkBoundsOffCount : ByteArray := prog_40_method_94_code
def yJ6_checkBoundsOffCount : MethodName := ⟨RJ6, "checkBoundsOffCount", "(II[B)V"⟩
def dkwJ6_checkBoundsOffCount_0 : List UInt8 := [26, 27, 44, 184, 0, 48, 184, 1, 163, 87, 177]
abbrev dktJ6_checkBoundsOffCount_0 : List UInt8 := dkwJ6_checkBoundsOffCount_0 ++ []
theorem dksJ6_checkBoundsOffCount_0 : cJ6_checkBoundsOffCount.data.toList.drop 0 = dktJ6_checkBoundsOffCount_0 := by decide +kernel
theorem dJ6_checkBoundsOffCount_0 : decode cJ6_checkBoundsOffCount 0 = .ok (.iload_n 0, 1) := dk_26 (dk_at dksJ6_checkBoundsOffCount_0 0 rfl rfl)
theorem dJ6_checkBoundsOffCount_1 : decode cJ6_checkBoundsOffCount 1 = .ok (.iload_n 1, 1) := dk_27 (dk_at dksJ6_checkBoundsOffCount_0 1 rfl rfl)
theorem dJ6_checkBoundsOffCount_2 : decode cJ6_checkBoundsOffCount 2 = .ok (.aload_n 2, 1) := dk_44 (dk_at dksJ6_checkBoundsOffCount_0 2 rfl rfl)
theorem dJ6_checkBoundsOffCount_3 : decode cJ6_checkBoundsOffCount 3 = .ok (.invokestatic 48, 3) := dk_184 0 48 (dk_at dksJ6_checkBoundsOffCount_0 3 rfl rfl)
theorem dJ6_checkBoundsOffCount_6 : decode cJ6_checkBoundsOffCount 6 = .ok (.invokestatic 419, 3) := dk_184 1 163 (dk_at dksJ6_checkBoundsOffCount_0 6 rfl rfl)
theorem dJ6_checkBoundsOffCount_9 : decode cJ6_checkBoundsOffCount 9 = .ok (.pop, 1) := dk_87 (dk_at dksJ6_checkBoundsOffCount_0 9 rfl rfl)
theorem dJ6_checkBoundsOffCount_10 : decode cJ6_checkBoundsOffCount 10 = .ok (.return_, 1) := dk_177 (dk_at dksJ6_checkBoundsOffCount_0 10 rfl rfl)
abbrev cJ6_length : ByteArray := prog_40_method_6_code
def yJ6_length : MethodName := ⟨RJ6, "length", "([B)I"⟩
def dkwJ6_length_0 : List UInt8 := [42, 190, 4, 122, 172]
abbrev dktJ6_length_0 : List UInt8 := dkwJ6_length_0 ++ []
theorem dksJ6_length_0 : cJ6_length.data.toList.drop 0 = dktJ6_length_0 := by decide +kernel
theorem dJ6_length_0 : decode cJ6_length 0 = .ok (.aload_n 0, 1) := dk_42 (dk_at dksJ6_length_0 0 rfl rfl)
theorem dJ6_length_1 : decode cJ6_length 1 = .ok (.arraylength, 1) := dk_190 (dk_at dksJ6_length_0 1 rfl rfl)
theorem dJ6_length_2 : decode cJ6_length 2 = .ok (.iconst 1, 1) := dk_4 (dk_at dksJ6_length_0 2 rfl rfl)
theorem dJ6_length_3 : decode cJ6_length 3 = .ok (.ishr, 1) := dk_122 (dk_at dksJ6_length_0 3 rfl rfl)
theorem dJ6_length_4 : decode cJ6_length 4 = .ok (.ireturn, 1) := dk_172 (dk_at dksJ6_length_0 4 rfl rfl)
abbrev cJ6_putChar : ByteArray := prog_40_method_4_code
def yJ6_putChar : MethodName := ⟨RJ6, "putChar", "([BII)V"⟩
def dkwJ6_putChar_2 : List UInt8 := [178, 0, 63, 122, 145, 84, 177]
abbrev dktJ6_putChar_2 : List UInt8 := dkwJ6_putChar_2 ++ []
def dkwJ6_putChar_1 : List UInt8 := [183, 0, 56, 191, 27, 4, 120, 60, 42, 27, 132, 1, 1, 28, 178, 0, 59, 122, 145, 84, 42, 27, 28]
abbrev dktJ6_putChar_1 : List UInt8 := dkwJ6_putChar_1 ++ dktJ6_putChar_2
def dkwJ6_putChar_0 : List UInt8 := [178, 0, 44, 154, 0, 25, 27, 155, 0, 11, 27, 42, 184, 0, 48, 161, 0, 13, 187, 0, 52, 89, 18, 54]
abbrev dktJ6_putChar_0 : List UInt8 := dkwJ6_putChar_0 ++ dktJ6_putChar_1
theorem dksJ6_putChar_0 : cJ6_putChar.data.toList.drop 0 = dktJ6_putChar_0 := by decide +kernel
theorem dksJ6_putChar_1 : cJ6_putChar.data.toList.drop 24 = dktJ6_putChar_1 := dk_seg dksJ6_putChar_0 24 rfl rfl
theorem dksJ6_putChar_2 : cJ6_putChar.data.toList.drop 47 = dktJ6_putChar_2 := dk_seg dksJ6_putChar_1 23 rfl rfl
theorem dJ6_putChar_0 : decode cJ6_putChar 0 = .ok (.getstatic 44, 3) := dk_178 0 44 (dk_at dksJ6_putChar_0 0 rfl rfl)
theorem dJ6_putChar_3 : decode cJ6_putChar 3 = .ok (.ifCond .ne 25, 3) := dk_154 0 25 (dk_at dksJ6_putChar_0 3 rfl rfl)
theorem dJ6_putChar_6 : decode cJ6_putChar 6 = .ok (.iload_n 1, 1) := dk_27 (dk_at dksJ6_putChar_0 6 rfl rfl)
theorem dJ6_putChar_7 : decode cJ6_putChar 7 = .ok (.ifCond .lt 11, 3) := dk_155 0 11 (dk_at dksJ6_putChar_0 7 rfl rfl)
theorem dJ6_putChar_10 : decode cJ6_putChar 10 = .ok (.iload_n 1, 1) := dk_27 (dk_at dksJ6_putChar_0 10 rfl rfl)
theorem dJ6_putChar_11 : decode cJ6_putChar 11 = .ok (.aload_n 0, 1) := dk_42 (dk_at dksJ6_putChar_0 11 rfl rfl)
theorem dJ6_putChar_12 : decode cJ6_putChar 12 = .ok (.invokestatic 48, 3) := dk_184 0 48 (dk_at dksJ6_putChar_0 12 rfl rfl)
theorem dJ6_putChar_15 : decode cJ6_putChar 15 = .ok (.if_icmp .lt 13, 3) := dk_161 0 13 (dk_at dksJ6_putChar_0 15 rfl rfl)
theorem dJ6_putChar_18 : decode cJ6_putChar 18 = .ok (.new 52, 3) := dk_187 0 52 (dk_at dksJ6_putChar_0 18 rfl rfl)
theorem dJ6_putChar_21 : decode cJ6_putChar 21 = .ok (.dup, 1) := dk_89 (dk_at dksJ6_putChar_0 21 rfl rfl)
theorem dJ6_putChar_22 : decode cJ6_putChar 22 = .ok (.ldc 54, 2) := dk_18 54 (dk_at dksJ6_putChar_0 22 rfl rfl)
theorem dJ6_putChar_24 : decode cJ6_putChar 24 = .ok (.invokespecial 56, 3) := dk_183 0 56 (dk_at dksJ6_putChar_1 0 rfl rfl)
theorem dJ6_putChar_27 : decode cJ6_putChar 27 = .ok (.athrow, 1) := dk_191 (dk_at dksJ6_putChar_1 3 rfl rfl)
theorem dJ6_putChar_28 : decode cJ6_putChar 28 = .ok (.iload_n 1, 1) := dk_27 (dk_at dksJ6_putChar_1 4 rfl rfl)
theorem dJ6_putChar_29 : decode cJ6_putChar 29 = .ok (.iconst 1, 1) := dk_4 (dk_at dksJ6_putChar_1 5 rfl rfl)
theorem dJ6_putChar_30 : decode cJ6_putChar 30 = .ok (.ishl, 1) := dk_120 (dk_at dksJ6_putChar_1 6 rfl rfl)
theorem dJ6_putChar_31 : decode cJ6_putChar 31 = .ok (.istore_n 1, 1) := dk_60 (dk_at dksJ6_putChar_1 7 rfl rfl)
theorem dJ6_putChar_32 : decode cJ6_putChar 32 = .ok (.aload_n 0, 1) := dk_42 (dk_at dksJ6_putChar_1 8 rfl rfl)
theorem dJ6_putChar_33 : decode cJ6_putChar 33 = .ok (.iload_n 1, 1) := dk_27 (dk_at dksJ6_putChar_1 9 rfl rfl)
theorem dJ6_putChar_34 : decode cJ6_putChar 34 = .ok (.iinc 1 1, 3) := dk_132 1 1 (dk_at dksJ6_putChar_1 10 rfl rfl)
theorem dJ6_putChar_37 : decode cJ6_putChar 37 = .ok (.iload_n 2, 1) := dk_28 (dk_at dksJ6_putChar_1 13 rfl rfl)
theorem dJ6_putChar_38 : decode cJ6_putChar 38 = .ok (.getstatic 59, 3) := dk_178 0 59 (dk_at dksJ6_putChar_1 14 rfl rfl)
theorem dJ6_putChar_41 : decode cJ6_putChar 41 = .ok (.ishr, 1) := dk_122 (dk_at dksJ6_putChar_1 17 rfl rfl)
theorem dJ6_putChar_42 : decode cJ6_putChar 42 = .ok (.i2b, 1) := dk_145 (dk_at dksJ6_putChar_1 18 rfl rfl)
theorem dJ6_putChar_43 : decode cJ6_putChar 43 = .ok (.bastore, 1) := dk_84 (dk_at dksJ6_putChar_1 19 rfl rfl)
theorem dJ6_putChar_44 : decode cJ6_putChar 44 = .ok (.aload_n 0, 1) := dk_42 (dk_at dksJ6_putChar_1 20 rfl rfl)
theorem dJ6_putChar_45 : decode cJ6_putChar 45 = .ok (.iload_n 1, 1) := dk_27 (dk_at dksJ6_putChar_1 21 rfl rfl)
theorem dJ6_putChar_46 : decode cJ6_putChar 46 = .ok (.iload_n 2, 1) := dk_28 (dk_at dksJ6_putChar_1 22 rfl rfl)
theorem dJ6_putChar_47 : decode cJ6_putChar 47 = .ok (.getstatic 63, 3) := dk_178 0 63 (dk_at dksJ6_putChar_2 0 rfl rfl)
theorem dJ6_putChar_50 : decode cJ6_putChar 50 = .ok (.ishr, 1) := dk_122 (dk_at dksJ6_putChar_2 3 rfl rfl)
theorem dJ6_putChar_51 : decode cJ6_putChar 51 = .ok (.i2b, 1) := dk_145 (dk_at dksJ6_putChar_2 4 rfl rfl)
theorem dJ6_putChar_52 : decode cJ6_putChar 52 = .ok (.bastore, 1) := dk_84 (dk_at dksJ6_putChar_2 5 rfl rfl)
theorem dJ6_putChar_53 : decode cJ6_putChar 53 = .ok (.return_, 1) := dk_177 (dk_at dksJ6_putChar_2 6 rfl rfl)
abbrev cJ6_putCharSB : ByteArray := prog_40_method_71_code
def yJ6_putCharSB : MethodName := ⟨RJ6, "putCharSB", "([BII)V"⟩
def dkwJ6_putCharSB_0 : List UInt8 := [27, 42, 184, 0, 67, 42, 27, 28, 184, 0, 111, 177]
abbrev dktJ6_putCharSB_0 : List UInt8 := dkwJ6_putCharSB_0 ++ []
theorem dksJ6_putCharSB_0 : cJ6_putCharSB.data.toList.drop 0 = dktJ6_putCharSB_0 := by decide +kernel
theorem dJ6_putCharSB_0 : decode cJ6_putCharSB 0 = .ok (.iload_n 1, 1) := dk_27 (dk_at dksJ6_putCharSB_0 0 rfl rfl)
theorem dJ6_putCharSB_1 : decode cJ6_putCharSB 1 = .ok (.aload_n 0, 1) := dk_42 (dk_at dksJ6_putCharSB_0 1 rfl rfl)
theorem dJ6_putCharSB_2 : decode cJ6_putCharSB 2 = .ok (.invokestatic 67, 3) := dk_184 0 67 (dk_at dksJ6_putCharSB_0 2 rfl rfl)
theorem dJ6_putCharSB_5 : decode cJ6_putCharSB 5 = .ok (.aload_n 0, 1) := dk_42 (dk_at dksJ6_putCharSB_0 5 rfl rfl)
theorem dJ6_putCharSB_6 : decode cJ6_putCharSB 6 = .ok (.iload_n 1, 1) := dk_27 (dk_at dksJ6_putCharSB_0 6 rfl rfl)
theorem dJ6_putCharSB_7 : decode cJ6_putCharSB 7 = .ok (.iload_n 2, 1) := dk_28 (dk_at dksJ6_putCharSB_0 7 rfl rfl)
theorem dJ6_putCharSB_8 : decode cJ6_putCharSB 8 = .ok (.invokestatic 111, 3) := dk_184 0 111 (dk_at dksJ6_putCharSB_0 8 rfl rfl)
theorem dJ6_putCharSB_11 : decode cJ6_putCharSB 11 = .ok (.return_, 1) := dk_177 (dk_at dksJ6_putCharSB_0 11 rfl rfl)
abbrev cJ6_checkIndex : ByteArray := prog_40_method_91_code
def yJ6_checkIndex : MethodName := ⟨RJ6, "checkIndex", "(I[B)V"⟩
def dkwJ6_checkIndex_0 : List UInt8 := [26, 43, 184, 0, 48, 184, 1, 158, 177]
abbrev dktJ6_checkIndex_0 : List UInt8 := dkwJ6_checkIndex_0 ++ []
theorem dksJ6_checkIndex_0 : cJ6_checkIndex.data.toList.drop 0 = dktJ6_checkIndex_0 := by decide +kernel
theorem dJ6_checkIndex_0 : decode cJ6_checkIndex 0 = .ok (.iload_n 0, 1) := dk_26 (dk_at dksJ6_checkIndex_0 0 rfl rfl)
theorem dJ6_checkIndex_1 : decode cJ6_checkIndex 1 = .ok (.aload_n 1, 1) := dk_43 (dk_at dksJ6_checkIndex_0 1 rfl rfl)
theorem dJ6_checkIndex_2 : decode cJ6_checkIndex 2 = .ok (.invokestatic 48, 3) := dk_184 0 48 (dk_at dksJ6_checkIndex_0 2 rfl rfl)
theorem dJ6_checkIndex_5 : decode cJ6_checkIndex 5 = .ok (.invokestatic 414, 3) := dk_184 1 158 (dk_at dksJ6_checkIndex_0 5 rfl rfl)
theorem dJ6_checkIndex_8 : decode cJ6_checkIndex 8 = .ok (.return_, 1) := dk_177 (dk_at dksJ6_checkIndex_0 8 rfl rfl)
abbrev cJ6_getChars : ByteArray := prog_40_method_77_code
def yJ6_getChars : MethodName := ⟨RJ6, "getChars", "(III[B)I"⟩
def dkwJ6_getChars_1 : List UInt8 := [159, 0, 11, 187, 0, 52, 89, 183, 0, 66, 191, 21, 4, 172]
abbrev dktJ6_getChars_1 : List UInt8 := dkwJ6_getChars_1 ++ []
def dkwJ6_getChars_0 : List UInt8 := [27, 28, 45, 184, 0, 96, 26, 28, 45, 184, 1, 137, 54, 4, 178, 0, 44, 154, 0, 17, 27, 21, 4]
abbrev dktJ6_getChars_0 : List UInt8 := dkwJ6_getChars_0 ++ dktJ6_getChars_1
theorem dksJ6_getChars_0 : cJ6_getChars.data.toList.drop 0 = dktJ6_getChars_0 := by decide +kernel
theorem dksJ6_getChars_1 : cJ6_getChars.data.toList.drop 23 = dktJ6_getChars_1 := dk_seg dksJ6_getChars_0 23 rfl rfl
theorem dJ6_getChars_0 : decode cJ6_getChars 0 = .ok (.iload_n 1, 1) := dk_27 (dk_at dksJ6_getChars_0 0 rfl rfl)
theorem dJ6_getChars_1 : decode cJ6_getChars 1 = .ok (.iload_n 2, 1) := dk_28 (dk_at dksJ6_getChars_0 1 rfl rfl)
theorem dJ6_getChars_2 : decode cJ6_getChars 2 = .ok (.aload_n 3, 1) := dk_45 (dk_at dksJ6_getChars_0 2 rfl rfl)
theorem dJ6_getChars_3 : decode cJ6_getChars 3 = .ok (.invokestatic 96, 3) := dk_184 0 96 (dk_at dksJ6_getChars_0 3 rfl rfl)
theorem dJ6_getChars_6 : decode cJ6_getChars 6 = .ok (.iload_n 0, 1) := dk_26 (dk_at dksJ6_getChars_0 6 rfl rfl)
theorem dJ6_getChars_7 : decode cJ6_getChars 7 = .ok (.iload_n 2, 1) := dk_28 (dk_at dksJ6_getChars_0 7 rfl rfl)
theorem dJ6_getChars_8 : decode cJ6_getChars 8 = .ok (.aload_n 3, 1) := dk_45 (dk_at dksJ6_getChars_0 8 rfl rfl)
theorem dJ6_getChars_9 : decode cJ6_getChars 9 = .ok (.invokestatic 393, 3) := dk_184 1 137 (dk_at dksJ6_getChars_0 9 rfl rfl)
theorem dJ6_getChars_12 : decode cJ6_getChars 12 = .ok (.istore 4, 2) := dk_54 4 (dk_at dksJ6_getChars_0 12 rfl rfl)
theorem dJ6_getChars_14 : decode cJ6_getChars 14 = .ok (.getstatic 44, 3) := dk_178 0 44 (dk_at dksJ6_getChars_0 14 rfl rfl)
theorem dJ6_getChars_17 : decode cJ6_getChars 17 = .ok (.ifCond .ne 17, 3) := dk_154 0 17 (dk_at dksJ6_getChars_0 17 rfl rfl)
theorem dJ6_getChars_20 : decode cJ6_getChars 20 = .ok (.iload_n 1, 1) := dk_27 (dk_at dksJ6_getChars_0 20 rfl rfl)
theorem dJ6_getChars_21 : decode cJ6_getChars 21 = .ok (.iload 4, 2) := dk_21 4 (dk_at dksJ6_getChars_0 21 rfl rfl)
theorem dJ6_getChars_23 : decode cJ6_getChars 23 = .ok (.if_icmp .eq 11, 3) := dk_159 0 11 (dk_at dksJ6_getChars_1 0 rfl rfl)
theorem dJ6_getChars_26 : decode cJ6_getChars 26 = .ok (.new 52, 3) := dk_187 0 52 (dk_at dksJ6_getChars_1 3 rfl rfl)
theorem dJ6_getChars_29 : decode cJ6_getChars 29 = .ok (.dup, 1) := dk_89 (dk_at dksJ6_getChars_1 6 rfl rfl)
theorem dJ6_getChars_30 : decode cJ6_getChars 30 = .ok (.invokespecial 66, 3) := dk_183 0 66 (dk_at dksJ6_getChars_1 7 rfl rfl)
theorem dJ6_getChars_33 : decode cJ6_getChars 33 = .ok (.athrow, 1) := dk_191 (dk_at dksJ6_getChars_1 10 rfl rfl)
theorem dJ6_getChars_34 : decode cJ6_getChars 34 = .ok (.iload 4, 2) := dk_21 4 (dk_at dksJ6_getChars_1 11 rfl rfl)
theorem dJ6_getChars_36 : decode cJ6_getChars 36 = .ok (.ireturn, 1) := dk_172 (dk_at dksJ6_getChars_1 13 rfl rfl)
abbrev cJ6_checkBoundsBeginEnd : ByteArray := prog_40_method_93_code
def yJ6_checkBoundsBeginEnd : MethodName := ⟨RJ6, "checkBoundsBeginEnd", "(II[B)V"⟩
def dkwJ6_checkBoundsBeginEnd_0 : List UInt8 := [26, 27, 44, 184, 0, 48, 184, 0, 241, 177]
abbrev dktJ6_checkBoundsBeginEnd_0 : List UInt8 := dkwJ6_checkBoundsBeginEnd_0 ++ []
theorem dksJ6_checkBoundsBeginEnd_0 : cJ6_checkBoundsBeginEnd.data.toList.drop 0 = dktJ6_checkBoundsBeginEnd_0 := by decide +kernel
theorem dJ6_checkBoundsBeginEnd_0 : decode cJ6_checkBoundsBeginEnd 0 = .ok (.iload_n 0, 1) := dk_26 (dk_at dksJ6_checkBoundsBeginEnd_0 0 rfl rfl)
theorem dJ6_checkBoundsBeginEnd_1 : decode cJ6_checkBoundsBeginEnd 1 = .ok (.iload_n 1, 1) := dk_27 (dk_at dksJ6_checkBoundsBeginEnd_0 1 rfl rfl)
theorem dJ6_checkBoundsBeginEnd_2 : decode cJ6_checkBoundsBeginEnd 2 = .ok (.aload_n 2, 1) := dk_44 (dk_at dksJ6_checkBoundsBeginEnd_0 2 rfl rfl)
theorem dJ6_checkBoundsBeginEnd_3 : decode cJ6_checkBoundsBeginEnd 3 = .ok (.invokestatic 48, 3) := dk_184 0 48 (dk_at dksJ6_checkBoundsBeginEnd_0 3 rfl rfl)
theorem dJ6_checkBoundsBeginEnd_6 : decode cJ6_checkBoundsBeginEnd 6 = .ok (.invokestatic 241, 3) := dk_184 0 241 (dk_at dksJ6_checkBoundsBeginEnd_0 6 rfl rfl)
theorem dJ6_checkBoundsBeginEnd_9 : decode cJ6_checkBoundsBeginEnd 9 = .ok (.return_, 1) := dk_177 (dk_at dksJ6_checkBoundsBeginEnd_0 9 rfl rfl)
abbrev cJ6_getChars_2 : ByteArray := prog_40_method_89_code
def yJ6_getChars_2 : MethodName := ⟨RJ6, "getChars", "(II[B)I"⟩
def dkwJ6_getChars_2_5 : List UInt8 := [132, 5, 255, 21, 5, 16, 45, 184, 0, 111, 21, 5, 172]
abbrev dktJ6_getChars_2_5 : List UInt8 := dkwJ6_getChars_2_5 ++ []
def dkwJ6_getChars_2_4 : List UInt8 := [162, 0, 18, 44, 132, 5, 255, 21, 5, 178, 1, 151, 26, 116, 51, 184, 0, 111, 21, 6, 153, 0, 14, 44]
abbrev dktJ6_getChars_2_4 : List UInt8 := dkwJ6_getChars_2_4 ++ dktJ6_getChars_2_5
def dkwJ6_getChars_2_3 : List UInt8 := [184, 0, 111, 167, 255, 205, 44, 132, 5, 255, 21, 5, 178, 1, 147, 26, 116, 51, 184, 0, 111, 26, 16, 247]
abbrev dktJ6_getChars_2_3 : List UInt8 := dkwJ6_getChars_2_3 ++ dktJ6_getChars_2_4
def dkwJ6_getChars_2_2 : List UInt8 := [21, 5, 178, 1, 147, 21, 4, 51, 184, 0, 111, 44, 132, 5, 255, 21, 5, 178, 1, 151, 21, 4, 51]
abbrev dktJ6_getChars_2_2 : List UInt8 := dkwJ6_getChars_2_2 ++ dktJ6_getChars_2_3
def dkwJ6_getChars_2_1 : List UInt8 := [16, 156, 163, 0, 51, 26, 16, 100, 108, 62, 29, 16, 100, 104, 26, 100, 54, 4, 29, 59, 44, 132, 5, 255]
abbrev dktJ6_getChars_2_1 : List UInt8 := dkwJ6_getChars_2_1 ++ dktJ6_getChars_2_2
def dkwJ6_getChars_2_0 : List UInt8 := [27, 54, 5, 26, 156, 0, 7, 4, 167, 0, 4, 3, 54, 6, 21, 6, 154, 0, 6, 26, 116, 59, 26]
abbrev dktJ6_getChars_2_0 : List UInt8 := dkwJ6_getChars_2_0 ++ dktJ6_getChars_2_1
theorem dksJ6_getChars_2_0 : cJ6_getChars_2.data.toList.drop 0 = dktJ6_getChars_2_0 := by decide +kernel
theorem dksJ6_getChars_2_1 : cJ6_getChars_2.data.toList.drop 23 = dktJ6_getChars_2_1 := dk_seg dksJ6_getChars_2_0 23 rfl rfl
theorem dksJ6_getChars_2_2 : cJ6_getChars_2.data.toList.drop 47 = dktJ6_getChars_2_2 := dk_seg dksJ6_getChars_2_1 24 rfl rfl
theorem dksJ6_getChars_2_3 : cJ6_getChars_2.data.toList.drop 70 = dktJ6_getChars_2_3 := dk_seg dksJ6_getChars_2_2 23 rfl rfl
theorem dksJ6_getChars_2_4 : cJ6_getChars_2.data.toList.drop 94 = dktJ6_getChars_2_4 := dk_seg dksJ6_getChars_2_3 24 rfl rfl
theorem dksJ6_getChars_2_5 : cJ6_getChars_2.data.toList.drop 118 = dktJ6_getChars_2_5 := dk_seg dksJ6_getChars_2_4 24 rfl rfl
theorem dJ6_getChars_2_0 : decode cJ6_getChars_2 0 = .ok (.iload_n 1, 1) := dk_27 (dk_at dksJ6_getChars_2_0 0 rfl rfl)
theorem dJ6_getChars_2_1 : decode cJ6_getChars_2 1 = .ok (.istore 5, 2) := dk_54 5 (dk_at dksJ6_getChars_2_0 1 rfl rfl)
theorem dJ6_getChars_2_3 : decode cJ6_getChars_2 3 = .ok (.iload_n 0, 1) := dk_26 (dk_at dksJ6_getChars_2_0 3 rfl rfl)
theorem dJ6_getChars_2_4 : decode cJ6_getChars_2 4 = .ok (.ifCond .ge 7, 3) := dk_156 0 7 (dk_at dksJ6_getChars_2_0 4 rfl rfl)
theorem dJ6_getChars_2_7 : decode cJ6_getChars_2 7 = .ok (.iconst 1, 1) := dk_4 (dk_at dksJ6_getChars_2_0 7 rfl rfl)
theorem dJ6_getChars_2_8 : decode cJ6_getChars_2 8 = .ok (.goto 4, 3) := dk_167 0 4 (dk_at dksJ6_getChars_2_0 8 rfl rfl)
theorem dJ6_getChars_2_11 : decode cJ6_getChars_2 11 = .ok (.iconst 0, 1) := dk_3 (dk_at dksJ6_getChars_2_0 11 rfl rfl)
theorem dJ6_getChars_2_12 : decode cJ6_getChars_2 12 = .ok (.istore 6, 2) := dk_54 6 (dk_at dksJ6_getChars_2_0 12 rfl rfl)
theorem dJ6_getChars_2_14 : decode cJ6_getChars_2 14 = .ok (.iload 6, 2) := dk_21 6 (dk_at dksJ6_getChars_2_0 14 rfl rfl)
theorem dJ6_getChars_2_16 : decode cJ6_getChars_2 16 = .ok (.ifCond .ne 6, 3) := dk_154 0 6 (dk_at dksJ6_getChars_2_0 16 rfl rfl)
theorem dJ6_getChars_2_19 : decode cJ6_getChars_2 19 = .ok (.iload_n 0, 1) := dk_26 (dk_at dksJ6_getChars_2_0 19 rfl rfl)
theorem dJ6_getChars_2_20 : decode cJ6_getChars_2 20 = .ok (.ineg, 1) := dk_116 (dk_at dksJ6_getChars_2_0 20 rfl rfl)
theorem dJ6_getChars_2_21 : decode cJ6_getChars_2 21 = .ok (.istore_n 0, 1) := dk_59 (dk_at dksJ6_getChars_2_0 21 rfl rfl)
theorem dJ6_getChars_2_22 : decode cJ6_getChars_2 22 = .ok (.iload_n 0, 1) := dk_26 (dk_at dksJ6_getChars_2_0 22 rfl rfl)
theorem dJ6_getChars_2_23 : decode cJ6_getChars_2 23 = .ok (.bipush (-100), 2) := dk_16 156 (dk_at dksJ6_getChars_2_1 0 rfl rfl)
theorem dJ6_getChars_2_25 : decode cJ6_getChars_2 25 = .ok (.if_icmp .gt 51, 3) := dk_163 0 51 (dk_at dksJ6_getChars_2_1 2 rfl rfl)
theorem dJ6_getChars_2_28 : decode cJ6_getChars_2 28 = .ok (.iload_n 0, 1) := dk_26 (dk_at dksJ6_getChars_2_1 5 rfl rfl)
theorem dJ6_getChars_2_29 : decode cJ6_getChars_2 29 = .ok (.bipush 100, 2) := dk_16 100 (dk_at dksJ6_getChars_2_1 6 rfl rfl)
theorem dJ6_getChars_2_31 : decode cJ6_getChars_2 31 = .ok (.idiv, 1) := dk_108 (dk_at dksJ6_getChars_2_1 8 rfl rfl)
theorem dJ6_getChars_2_32 : decode cJ6_getChars_2 32 = .ok (.istore_n 3, 1) := dk_62 (dk_at dksJ6_getChars_2_1 9 rfl rfl)
theorem dJ6_getChars_2_33 : decode cJ6_getChars_2 33 = .ok (.iload_n 3, 1) := dk_29 (dk_at dksJ6_getChars_2_1 10 rfl rfl)
theorem dJ6_getChars_2_34 : decode cJ6_getChars_2 34 = .ok (.bipush 100, 2) := dk_16 100 (dk_at dksJ6_getChars_2_1 11 rfl rfl)
theorem dJ6_getChars_2_36 : decode cJ6_getChars_2 36 = .ok (.imul, 1) := dk_104 (dk_at dksJ6_getChars_2_1 13 rfl rfl)
theorem dJ6_getChars_2_37 : decode cJ6_getChars_2 37 = .ok (.iload_n 0, 1) := dk_26 (dk_at dksJ6_getChars_2_1 14 rfl rfl)
theorem dJ6_getChars_2_38 : decode cJ6_getChars_2 38 = .ok (.isub, 1) := dk_100 (dk_at dksJ6_getChars_2_1 15 rfl rfl)
theorem dJ6_getChars_2_39 : decode cJ6_getChars_2 39 = .ok (.istore 4, 2) := dk_54 4 (dk_at dksJ6_getChars_2_1 16 rfl rfl)
theorem dJ6_getChars_2_41 : decode cJ6_getChars_2 41 = .ok (.iload_n 3, 1) := dk_29 (dk_at dksJ6_getChars_2_1 18 rfl rfl)
theorem dJ6_getChars_2_42 : decode cJ6_getChars_2 42 = .ok (.istore_n 0, 1) := dk_59 (dk_at dksJ6_getChars_2_1 19 rfl rfl)
theorem dJ6_getChars_2_43 : decode cJ6_getChars_2 43 = .ok (.aload_n 2, 1) := dk_44 (dk_at dksJ6_getChars_2_1 20 rfl rfl)
theorem dJ6_getChars_2_44 : decode cJ6_getChars_2 44 = .ok (.iinc 5 (-1), 3) := dk_132 5 255 (dk_at dksJ6_getChars_2_1 21 rfl rfl)
theorem dJ6_getChars_2_47 : decode cJ6_getChars_2 47 = .ok (.iload 5, 2) := dk_21 5 (dk_at dksJ6_getChars_2_2 0 rfl rfl)
theorem dJ6_getChars_2_49 : decode cJ6_getChars_2 49 = .ok (.getstatic 403, 3) := dk_178 1 147 (dk_at dksJ6_getChars_2_2 2 rfl rfl)
theorem dJ6_getChars_2_52 : decode cJ6_getChars_2 52 = .ok (.iload 4, 2) := dk_21 4 (dk_at dksJ6_getChars_2_2 5 rfl rfl)
theorem dJ6_getChars_2_54 : decode cJ6_getChars_2 54 = .ok (.baload, 1) := dk_51 (dk_at dksJ6_getChars_2_2 7 rfl rfl)
theorem dJ6_getChars_2_55 : decode cJ6_getChars_2 55 = .ok (.invokestatic 111, 3) := dk_184 0 111 (dk_at dksJ6_getChars_2_2 8 rfl rfl)
theorem dJ6_getChars_2_58 : decode cJ6_getChars_2 58 = .ok (.aload_n 2, 1) := dk_44 (dk_at dksJ6_getChars_2_2 11 rfl rfl)
theorem dJ6_getChars_2_59 : decode cJ6_getChars_2 59 = .ok (.iinc 5 (-1), 3) := dk_132 5 255 (dk_at dksJ6_getChars_2_2 12 rfl rfl)
theorem dJ6_getChars_2_62 : decode cJ6_getChars_2 62 = .ok (.iload 5, 2) := dk_21 5 (dk_at dksJ6_getChars_2_2 15 rfl rfl)
theorem dJ6_getChars_2_64 : decode cJ6_getChars_2 64 = .ok (.getstatic 407, 3) := dk_178 1 151 (dk_at dksJ6_getChars_2_2 17 rfl rfl)
theorem dJ6_getChars_2_67 : decode cJ6_getChars_2 67 = .ok (.iload 4, 2) := dk_21 4 (dk_at dksJ6_getChars_2_2 20 rfl rfl)
theorem dJ6_getChars_2_69 : decode cJ6_getChars_2 69 = .ok (.baload, 1) := dk_51 (dk_at dksJ6_getChars_2_2 22 rfl rfl)
theorem dJ6_getChars_2_70 : decode cJ6_getChars_2 70 = .ok (.invokestatic 111, 3) := dk_184 0 111 (dk_at dksJ6_getChars_2_3 0 rfl rfl)
theorem dJ6_getChars_2_73 : decode cJ6_getChars_2 73 = .ok (.goto (-51), 3) := dk_167 255 205 (dk_at dksJ6_getChars_2_3 3 rfl rfl)
theorem dJ6_getChars_2_76 : decode cJ6_getChars_2 76 = .ok (.aload_n 2, 1) := dk_44 (dk_at dksJ6_getChars_2_3 6 rfl rfl)
theorem dJ6_getChars_2_77 : decode cJ6_getChars_2 77 = .ok (.iinc 5 (-1), 3) := dk_132 5 255 (dk_at dksJ6_getChars_2_3 7 rfl rfl)
theorem dJ6_getChars_2_80 : decode cJ6_getChars_2 80 = .ok (.iload 5, 2) := dk_21 5 (dk_at dksJ6_getChars_2_3 10 rfl rfl)
theorem dJ6_getChars_2_82 : decode cJ6_getChars_2 82 = .ok (.getstatic 403, 3) := dk_178 1 147 (dk_at dksJ6_getChars_2_3 12 rfl rfl)
theorem dJ6_getChars_2_85 : decode cJ6_getChars_2 85 = .ok (.iload_n 0, 1) := dk_26 (dk_at dksJ6_getChars_2_3 15 rfl rfl)
theorem dJ6_getChars_2_86 : decode cJ6_getChars_2 86 = .ok (.ineg, 1) := dk_116 (dk_at dksJ6_getChars_2_3 16 rfl rfl)
theorem dJ6_getChars_2_87 : decode cJ6_getChars_2 87 = .ok (.baload, 1) := dk_51 (dk_at dksJ6_getChars_2_3 17 rfl rfl)
theorem dJ6_getChars_2_88 : decode cJ6_getChars_2 88 = .ok (.invokestatic 111, 3) := dk_184 0 111 (dk_at dksJ6_getChars_2_3 18 rfl rfl)
theorem dJ6_getChars_2_91 : decode cJ6_getChars_2 91 = .ok (.iload_n 0, 1) := dk_26 (dk_at dksJ6_getChars_2_3 21 rfl rfl)
theorem dJ6_getChars_2_92 : decode cJ6_getChars_2 92 = .ok (.bipush (-9), 2) := dk_16 247 (dk_at dksJ6_getChars_2_3 22 rfl rfl)
theorem dJ6_getChars_2_94 : decode cJ6_getChars_2 94 = .ok (.if_icmp .ge 18, 3) := dk_162 0 18 (dk_at dksJ6_getChars_2_4 0 rfl rfl)
theorem dJ6_getChars_2_97 : decode cJ6_getChars_2 97 = .ok (.aload_n 2, 1) := dk_44 (dk_at dksJ6_getChars_2_4 3 rfl rfl)
theorem dJ6_getChars_2_98 : decode cJ6_getChars_2 98 = .ok (.iinc 5 (-1), 3) := dk_132 5 255 (dk_at dksJ6_getChars_2_4 4 rfl rfl)
theorem dJ6_getChars_2_101 : decode cJ6_getChars_2 101 = .ok (.iload 5, 2) := dk_21 5 (dk_at dksJ6_getChars_2_4 7 rfl rfl)
theorem dJ6_getChars_2_103 : decode cJ6_getChars_2 103 = .ok (.getstatic 407, 3) := dk_178 1 151 (dk_at dksJ6_getChars_2_4 9 rfl rfl)
theorem dJ6_getChars_2_106 : decode cJ6_getChars_2 106 = .ok (.iload_n 0, 1) := dk_26 (dk_at dksJ6_getChars_2_4 12 rfl rfl)
theorem dJ6_getChars_2_107 : decode cJ6_getChars_2 107 = .ok (.ineg, 1) := dk_116 (dk_at dksJ6_getChars_2_4 13 rfl rfl)
theorem dJ6_getChars_2_108 : decode cJ6_getChars_2 108 = .ok (.baload, 1) := dk_51 (dk_at dksJ6_getChars_2_4 14 rfl rfl)
theorem dJ6_getChars_2_109 : decode cJ6_getChars_2 109 = .ok (.invokestatic 111, 3) := dk_184 0 111 (dk_at dksJ6_getChars_2_4 15 rfl rfl)
theorem dJ6_getChars_2_112 : decode cJ6_getChars_2 112 = .ok (.iload 6, 2) := dk_21 6 (dk_at dksJ6_getChars_2_4 18 rfl rfl)
theorem dJ6_getChars_2_114 : decode cJ6_getChars_2 114 = .ok (.ifCond .eq 14, 3) := dk_153 0 14 (dk_at dksJ6_getChars_2_4 20 rfl rfl)
theorem dJ6_getChars_2_117 : decode cJ6_getChars_2 117 = .ok (.aload_n 2, 1) := dk_44 (dk_at dksJ6_getChars_2_4 23 rfl rfl)
theorem dJ6_getChars_2_118 : decode cJ6_getChars_2 118 = .ok (.iinc 5 (-1), 3) := dk_132 5 255 (dk_at dksJ6_getChars_2_5 0 rfl rfl)
theorem dJ6_getChars_2_121 : decode cJ6_getChars_2 121 = .ok (.iload 5, 2) := dk_21 5 (dk_at dksJ6_getChars_2_5 3 rfl rfl)
theorem dJ6_getChars_2_123 : decode cJ6_getChars_2 123 = .ok (.bipush 45, 2) := dk_16 45 (dk_at dksJ6_getChars_2_5 5 rfl rfl)
theorem dJ6_getChars_2_125 : decode cJ6_getChars_2 125 = .ok (.invokestatic 111, 3) := dk_184 0 111 (dk_at dksJ6_getChars_2_5 7 rfl rfl)
theorem dJ6_getChars_2_128 : decode cJ6_getChars_2 128 = .ok (.iload 5, 2) := dk_21 5 (dk_at dksJ6_getChars_2_5 10 rfl rfl)
theorem dJ6_getChars_2_130 : decode cJ6_getChars_2 130 = .ok (.ireturn, 1) := dk_172 (dk_at dksJ6_getChars_2_5 12 rfl rfl)
abbrev cJ6_putCharsAt : ByteArray := prog_40_method_81_code
def yJ6_putCharsAt : MethodName := ⟨RJ6, "putCharsAt", "([BICCCC)I"⟩
def dkwJ6_putCharsAt_3 : List UInt8 := [21, 6, 172]
abbrev dktJ6_putCharsAt_3 : List UInt8 := dkwJ6_putCharsAt_3 ++ []
def dkwJ6_putCharsAt_2 : List UInt8 := [184, 0, 111, 178, 0, 44, 154, 0, 17, 27, 21, 6, 159, 0, 11, 187, 0, 52, 89, 183, 0, 66, 191]
abbrev dktJ6_putCharsAt_2 : List UInt8 := dkwJ6_putCharsAt_2 ++ dktJ6_putCharsAt_3
def dkwJ6_putCharsAt_1 : List UInt8 := [132, 1, 1, 29, 184, 0, 111, 42, 27, 132, 1, 1, 21, 4, 184, 0, 111, 42, 27, 132, 1, 1, 21, 5]
abbrev dktJ6_putCharsAt_1 : List UInt8 := dkwJ6_putCharsAt_1 ++ dktJ6_putCharsAt_2
def dkwJ6_putCharsAt_0 : List UInt8 := [27, 7, 96, 54, 6, 27, 21, 6, 42, 184, 0, 96, 42, 27, 132, 1, 1, 28, 184, 0, 111, 42, 27]
abbrev dktJ6_putCharsAt_0 : List UInt8 := dkwJ6_putCharsAt_0 ++ dktJ6_putCharsAt_1
theorem dksJ6_putCharsAt_0 : cJ6_putCharsAt.data.toList.drop 0 = dktJ6_putCharsAt_0 := by decide +kernel
theorem dksJ6_putCharsAt_1 : cJ6_putCharsAt.data.toList.drop 23 = dktJ6_putCharsAt_1 := dk_seg dksJ6_putCharsAt_0 23 rfl rfl
theorem dksJ6_putCharsAt_2 : cJ6_putCharsAt.data.toList.drop 47 = dktJ6_putCharsAt_2 := dk_seg dksJ6_putCharsAt_1 24 rfl rfl
theorem dksJ6_putCharsAt_3 : cJ6_putCharsAt.data.toList.drop 70 = dktJ6_putCharsAt_3 := dk_seg dksJ6_putCharsAt_2 23 rfl rfl
theorem dJ6_putCharsAt_0 : decode cJ6_putCharsAt 0 = .ok (.iload_n 1, 1) := dk_27 (dk_at dksJ6_putCharsAt_0 0 rfl rfl)
theorem dJ6_putCharsAt_1 : decode cJ6_putCharsAt 1 = .ok (.iconst 4, 1) := dk_7 (dk_at dksJ6_putCharsAt_0 1 rfl rfl)
theorem dJ6_putCharsAt_2 : decode cJ6_putCharsAt 2 = .ok (.iadd, 1) := dk_96 (dk_at dksJ6_putCharsAt_0 2 rfl rfl)
theorem dJ6_putCharsAt_3 : decode cJ6_putCharsAt 3 = .ok (.istore 6, 2) := dk_54 6 (dk_at dksJ6_putCharsAt_0 3 rfl rfl)
theorem dJ6_putCharsAt_5 : decode cJ6_putCharsAt 5 = .ok (.iload_n 1, 1) := dk_27 (dk_at dksJ6_putCharsAt_0 5 rfl rfl)
theorem dJ6_putCharsAt_6 : decode cJ6_putCharsAt 6 = .ok (.iload 6, 2) := dk_21 6 (dk_at dksJ6_putCharsAt_0 6 rfl rfl)
theorem dJ6_putCharsAt_8 : decode cJ6_putCharsAt 8 = .ok (.aload_n 0, 1) := dk_42 (dk_at dksJ6_putCharsAt_0 8 rfl rfl)
theorem dJ6_putCharsAt_9 : decode cJ6_putCharsAt 9 = .ok (.invokestatic 96, 3) := dk_184 0 96 (dk_at dksJ6_putCharsAt_0 9 rfl rfl)
theorem dJ6_putCharsAt_12 : decode cJ6_putCharsAt 12 = .ok (.aload_n 0, 1) := dk_42 (dk_at dksJ6_putCharsAt_0 12 rfl rfl)
theorem dJ6_putCharsAt_13 : decode cJ6_putCharsAt 13 = .ok (.iload_n 1, 1) := dk_27 (dk_at dksJ6_putCharsAt_0 13 rfl rfl)
theorem dJ6_putCharsAt_14 : decode cJ6_putCharsAt 14 = .ok (.iinc 1 1, 3) := dk_132 1 1 (dk_at dksJ6_putCharsAt_0 14 rfl rfl)
theorem dJ6_putCharsAt_17 : decode cJ6_putCharsAt 17 = .ok (.iload_n 2, 1) := dk_28 (dk_at dksJ6_putCharsAt_0 17 rfl rfl)
theorem dJ6_putCharsAt_18 : decode cJ6_putCharsAt 18 = .ok (.invokestatic 111, 3) := dk_184 0 111 (dk_at dksJ6_putCharsAt_0 18 rfl rfl)
theorem dJ6_putCharsAt_21 : decode cJ6_putCharsAt 21 = .ok (.aload_n 0, 1) := dk_42 (dk_at dksJ6_putCharsAt_0 21 rfl rfl)
theorem dJ6_putCharsAt_22 : decode cJ6_putCharsAt 22 = .ok (.iload_n 1, 1) := dk_27 (dk_at dksJ6_putCharsAt_0 22 rfl rfl)
theorem dJ6_putCharsAt_23 : decode cJ6_putCharsAt 23 = .ok (.iinc 1 1, 3) := dk_132 1 1 (dk_at dksJ6_putCharsAt_1 0 rfl rfl)
theorem dJ6_putCharsAt_26 : decode cJ6_putCharsAt 26 = .ok (.iload_n 3, 1) := dk_29 (dk_at dksJ6_putCharsAt_1 3 rfl rfl)
theorem dJ6_putCharsAt_27 : decode cJ6_putCharsAt 27 = .ok (.invokestatic 111, 3) := dk_184 0 111 (dk_at dksJ6_putCharsAt_1 4 rfl rfl)
theorem dJ6_putCharsAt_30 : decode cJ6_putCharsAt 30 = .ok (.aload_n 0, 1) := dk_42 (dk_at dksJ6_putCharsAt_1 7 rfl rfl)
theorem dJ6_putCharsAt_31 : decode cJ6_putCharsAt 31 = .ok (.iload_n 1, 1) := dk_27 (dk_at dksJ6_putCharsAt_1 8 rfl rfl)
theorem dJ6_putCharsAt_32 : decode cJ6_putCharsAt 32 = .ok (.iinc 1 1, 3) := dk_132 1 1 (dk_at dksJ6_putCharsAt_1 9 rfl rfl)
theorem dJ6_putCharsAt_35 : decode cJ6_putCharsAt 35 = .ok (.iload 4, 2) := dk_21 4 (dk_at dksJ6_putCharsAt_1 12 rfl rfl)
theorem dJ6_putCharsAt_37 : decode cJ6_putCharsAt 37 = .ok (.invokestatic 111, 3) := dk_184 0 111 (dk_at dksJ6_putCharsAt_1 14 rfl rfl)
theorem dJ6_putCharsAt_40 : decode cJ6_putCharsAt 40 = .ok (.aload_n 0, 1) := dk_42 (dk_at dksJ6_putCharsAt_1 17 rfl rfl)
theorem dJ6_putCharsAt_41 : decode cJ6_putCharsAt 41 = .ok (.iload_n 1, 1) := dk_27 (dk_at dksJ6_putCharsAt_1 18 rfl rfl)
theorem dJ6_putCharsAt_42 : decode cJ6_putCharsAt 42 = .ok (.iinc 1 1, 3) := dk_132 1 1 (dk_at dksJ6_putCharsAt_1 19 rfl rfl)
theorem dJ6_putCharsAt_45 : decode cJ6_putCharsAt 45 = .ok (.iload 5, 2) := dk_21 5 (dk_at dksJ6_putCharsAt_1 22 rfl rfl)
theorem dJ6_putCharsAt_47 : decode cJ6_putCharsAt 47 = .ok (.invokestatic 111, 3) := dk_184 0 111 (dk_at dksJ6_putCharsAt_2 0 rfl rfl)
theorem dJ6_putCharsAt_50 : decode cJ6_putCharsAt 50 = .ok (.getstatic 44, 3) := dk_178 0 44 (dk_at dksJ6_putCharsAt_2 3 rfl rfl)
theorem dJ6_putCharsAt_53 : decode cJ6_putCharsAt 53 = .ok (.ifCond .ne 17, 3) := dk_154 0 17 (dk_at dksJ6_putCharsAt_2 6 rfl rfl)
theorem dJ6_putCharsAt_56 : decode cJ6_putCharsAt 56 = .ok (.iload_n 1, 1) := dk_27 (dk_at dksJ6_putCharsAt_2 9 rfl rfl)
theorem dJ6_putCharsAt_57 : decode cJ6_putCharsAt 57 = .ok (.iload 6, 2) := dk_21 6 (dk_at dksJ6_putCharsAt_2 10 rfl rfl)
theorem dJ6_putCharsAt_59 : decode cJ6_putCharsAt 59 = .ok (.if_icmp .eq 11, 3) := dk_159 0 11 (dk_at dksJ6_putCharsAt_2 12 rfl rfl)
theorem dJ6_putCharsAt_62 : decode cJ6_putCharsAt 62 = .ok (.new 52, 3) := dk_187 0 52 (dk_at dksJ6_putCharsAt_2 15 rfl rfl)
theorem dJ6_putCharsAt_65 : decode cJ6_putCharsAt 65 = .ok (.dup, 1) := dk_89 (dk_at dksJ6_putCharsAt_2 18 rfl rfl)
theorem dJ6_putCharsAt_66 : decode cJ6_putCharsAt 66 = .ok (.invokespecial 66, 3) := dk_183 0 66 (dk_at dksJ6_putCharsAt_2 19 rfl rfl)
theorem dJ6_putCharsAt_69 : decode cJ6_putCharsAt 69 = .ok (.athrow, 1) := dk_191 (dk_at dksJ6_putCharsAt_2 22 rfl rfl)
theorem dJ6_putCharsAt_70 : decode cJ6_putCharsAt 70 = .ok (.iload 6, 2) := dk_21 6 (dk_at dksJ6_putCharsAt_3 0 rfl rfl)
theorem dJ6_putCharsAt_72 : decode cJ6_putCharsAt 72 = .ok (.ireturn, 1) := dk_172 (dk_at dksJ6_putCharsAt_3 2 rfl rfl)
abbrev cJ6_compress : ByteArray := prog_40_method_17_code
def yJ6_compress : MethodName := ⟨RJ6, "compress", "([BII)[B"⟩
def dkwJ6_compress_2 : List UInt8 := [25, 5, 3, 45, 3, 28, 184, 0, 123, 28, 159, 0, 6, 25, 5, 176, 45, 176]
abbrev dktJ6_compress_2 : List UInt8 := dkwJ6_compress_2 ++ []
def dkwJ6_compress_1 : List UInt8 := [27, 28, 96, 184, 0, 11, 184, 0, 126, 58, 5, 25, 5, 21, 4, 184, 0, 71, 17, 0, 255, 163, 0, 16]
abbrev dktJ6_compress_1 : List UInt8 := dkwJ6_compress_1 ++ dktJ6_compress_2
def dkwJ6_compress_0 : List UInt8 := [28, 188, 8, 78, 42, 27, 45, 3, 28, 184, 0, 123, 54, 4, 21, 4, 28, 159, 0, 47, 42, 27, 4, 120]
abbrev dktJ6_compress_0 : List UInt8 := dkwJ6_compress_0 ++ dktJ6_compress_1
theorem dksJ6_compress_0 : cJ6_compress.data.toList.drop 0 = dktJ6_compress_0 := by decide +kernel
theorem dksJ6_compress_1 : cJ6_compress.data.toList.drop 24 = dktJ6_compress_1 := dk_seg dksJ6_compress_0 24 rfl rfl
theorem dksJ6_compress_2 : cJ6_compress.data.toList.drop 48 = dktJ6_compress_2 := dk_seg dksJ6_compress_1 24 rfl rfl
theorem dJ6_compress_0 : decode cJ6_compress 0 = .ok (.iload_n 2, 1) := dk_28 (dk_at dksJ6_compress_0 0 rfl rfl)
theorem dJ6_compress_1 : decode cJ6_compress 1 = .ok (.newarray .byte, 2) := dk_188_8 (dk_at dksJ6_compress_0 1 rfl rfl)
theorem dJ6_compress_3 : decode cJ6_compress 3 = .ok (.astore_n 3, 1) := dk_78 (dk_at dksJ6_compress_0 3 rfl rfl)
theorem dJ6_compress_4 : decode cJ6_compress 4 = .ok (.aload_n 0, 1) := dk_42 (dk_at dksJ6_compress_0 4 rfl rfl)
theorem dJ6_compress_5 : decode cJ6_compress 5 = .ok (.iload_n 1, 1) := dk_27 (dk_at dksJ6_compress_0 5 rfl rfl)
theorem dJ6_compress_6 : decode cJ6_compress 6 = .ok (.aload_n 3, 1) := dk_45 (dk_at dksJ6_compress_0 6 rfl rfl)
theorem dJ6_compress_7 : decode cJ6_compress 7 = .ok (.iconst 0, 1) := dk_3 (dk_at dksJ6_compress_0 7 rfl rfl)
theorem dJ6_compress_8 : decode cJ6_compress 8 = .ok (.iload_n 2, 1) := dk_28 (dk_at dksJ6_compress_0 8 rfl rfl)
theorem dJ6_compress_9 : decode cJ6_compress 9 = .ok (.invokestatic 123, 3) := dk_184 0 123 (dk_at dksJ6_compress_0 9 rfl rfl)
theorem dJ6_compress_12 : decode cJ6_compress 12 = .ok (.istore 4, 2) := dk_54 4 (dk_at dksJ6_compress_0 12 rfl rfl)
theorem dJ6_compress_14 : decode cJ6_compress 14 = .ok (.iload 4, 2) := dk_21 4 (dk_at dksJ6_compress_0 14 rfl rfl)
theorem dJ6_compress_16 : decode cJ6_compress 16 = .ok (.iload_n 2, 1) := dk_28 (dk_at dksJ6_compress_0 16 rfl rfl)
theorem dJ6_compress_17 : decode cJ6_compress 17 = .ok (.if_icmp .eq 47, 3) := dk_159 0 47 (dk_at dksJ6_compress_0 17 rfl rfl)
theorem dJ6_compress_20 : decode cJ6_compress 20 = .ok (.aload_n 0, 1) := dk_42 (dk_at dksJ6_compress_0 20 rfl rfl)
theorem dJ6_compress_21 : decode cJ6_compress 21 = .ok (.iload_n 1, 1) := dk_27 (dk_at dksJ6_compress_0 21 rfl rfl)
theorem dJ6_compress_22 : decode cJ6_compress 22 = .ok (.iconst 1, 1) := dk_4 (dk_at dksJ6_compress_0 22 rfl rfl)
theorem dJ6_compress_23 : decode cJ6_compress 23 = .ok (.ishl, 1) := dk_120 (dk_at dksJ6_compress_0 23 rfl rfl)
theorem dJ6_compress_24 : decode cJ6_compress 24 = .ok (.iload_n 1, 1) := dk_27 (dk_at dksJ6_compress_1 0 rfl rfl)
theorem dJ6_compress_25 : decode cJ6_compress 25 = .ok (.iload_n 2, 1) := dk_28 (dk_at dksJ6_compress_1 1 rfl rfl)
theorem dJ6_compress_26 : decode cJ6_compress 26 = .ok (.iadd, 1) := dk_96 (dk_at dksJ6_compress_1 2 rfl rfl)
theorem dJ6_compress_27 : decode cJ6_compress 27 = .ok (.invokestatic 11, 3) := dk_184 0 11 (dk_at dksJ6_compress_1 3 rfl rfl)
theorem dJ6_compress_30 : decode cJ6_compress 30 = .ok (.invokestatic 126, 3) := dk_184 0 126 (dk_at dksJ6_compress_1 6 rfl rfl)
theorem dJ6_compress_33 : decode cJ6_compress 33 = .ok (.astore 5, 2) := dk_58 5 (dk_at dksJ6_compress_1 9 rfl rfl)
theorem dJ6_compress_35 : decode cJ6_compress 35 = .ok (.aload 5, 2) := dk_25 5 (dk_at dksJ6_compress_1 11 rfl rfl)
theorem dJ6_compress_37 : decode cJ6_compress 37 = .ok (.iload 4, 2) := dk_21 4 (dk_at dksJ6_compress_1 13 rfl rfl)
theorem dJ6_compress_39 : decode cJ6_compress 39 = .ok (.invokestatic 71, 3) := dk_184 0 71 (dk_at dksJ6_compress_1 15 rfl rfl)
theorem dJ6_compress_42 : decode cJ6_compress 42 = .ok (.sipush 255, 3) := dk_17 0 255 (dk_at dksJ6_compress_1 18 rfl rfl)
theorem dJ6_compress_45 : decode cJ6_compress 45 = .ok (.if_icmp .gt 16, 3) := dk_163 0 16 (dk_at dksJ6_compress_1 21 rfl rfl)
theorem dJ6_compress_48 : decode cJ6_compress 48 = .ok (.aload 5, 2) := dk_25 5 (dk_at dksJ6_compress_2 0 rfl rfl)
theorem dJ6_compress_50 : decode cJ6_compress 50 = .ok (.iconst 0, 1) := dk_3 (dk_at dksJ6_compress_2 2 rfl rfl)
theorem dJ6_compress_51 : decode cJ6_compress 51 = .ok (.aload_n 3, 1) := dk_45 (dk_at dksJ6_compress_2 3 rfl rfl)
theorem dJ6_compress_52 : decode cJ6_compress 52 = .ok (.iconst 0, 1) := dk_3 (dk_at dksJ6_compress_2 4 rfl rfl)
theorem dJ6_compress_53 : decode cJ6_compress 53 = .ok (.iload_n 2, 1) := dk_28 (dk_at dksJ6_compress_2 5 rfl rfl)
theorem dJ6_compress_54 : decode cJ6_compress 54 = .ok (.invokestatic 123, 3) := dk_184 0 123 (dk_at dksJ6_compress_2 6 rfl rfl)
theorem dJ6_compress_57 : decode cJ6_compress 57 = .ok (.iload_n 2, 1) := dk_28 (dk_at dksJ6_compress_2 9 rfl rfl)
theorem dJ6_compress_58 : decode cJ6_compress 58 = .ok (.if_icmp .eq 6, 3) := dk_159 0 6 (dk_at dksJ6_compress_2 10 rfl rfl)
theorem dJ6_compress_61 : decode cJ6_compress 61 = .ok (.aload 5, 2) := dk_25 5 (dk_at dksJ6_compress_2 13 rfl rfl)
theorem dJ6_compress_63 : decode cJ6_compress 63 = .ok (.areturn, 1) := dk_176 (dk_at dksJ6_compress_2 15 rfl rfl)
theorem dJ6_compress_64 : decode cJ6_compress 64 = .ok (.aload_n 3, 1) := dk_45 (dk_at dksJ6_compress_2 16 rfl rfl)
theorem dJ6_compress_65 : decode cJ6_compress 65 = .ok (.areturn, 1) := dk_176 (dk_at dksJ6_compress_2 17 rfl rfl)
abbrev cJ6_compress_2 : ByteArray := prog_40_method_22_code
def yJ6_compress_2 : MethodName := ⟨RJ6, "compress", "([BI[BII)I"⟩
def dkwJ6_compress_2_2 : List UInt8 := [132, 5, 1, 167, 255, 216, 21, 4, 172]
abbrev dktJ6_compress_2_2 : List UInt8 := dkwJ6_compress_2_2 ++ []
def dkwJ6_compress_2_1 : List UInt8 := [21, 6, 17, 0, 255, 164, 0, 6, 21, 5, 172, 44, 29, 21, 6, 145, 84, 132, 1, 1, 132, 3, 1]
abbrev dktJ6_compress_2_1 : List UInt8 := dkwJ6_compress_2_1 ++ dktJ6_compress_2_2
def dkwJ6_compress_2_0 : List UInt8 := [27, 21, 4, 42, 184, 0, 173, 3, 54, 5, 21, 5, 21, 4, 162, 0, 39, 42, 27, 184, 0, 71, 54, 6]
abbrev dktJ6_compress_2_0 : List UInt8 := dkwJ6_compress_2_0 ++ dktJ6_compress_2_1
theorem dksJ6_compress_2_0 : cJ6_compress_2.data.toList.drop 0 = dktJ6_compress_2_0 := by decide +kernel
theorem dksJ6_compress_2_1 : cJ6_compress_2.data.toList.drop 24 = dktJ6_compress_2_1 := dk_seg dksJ6_compress_2_0 24 rfl rfl
theorem dksJ6_compress_2_2 : cJ6_compress_2.data.toList.drop 47 = dktJ6_compress_2_2 := dk_seg dksJ6_compress_2_1 23 rfl rfl
theorem dJ6_compress_2_0 : decode cJ6_compress_2 0 = .ok (.iload_n 1, 1) := dk_27 (dk_at dksJ6_compress_2_0 0 rfl rfl)
theorem dJ6_compress_2_1 : decode cJ6_compress_2 1 = .ok (.iload 4, 2) := dk_21 4 (dk_at dksJ6_compress_2_0 1 rfl rfl)
theorem dJ6_compress_2_3 : decode cJ6_compress_2 3 = .ok (.aload_n 0, 1) := dk_42 (dk_at dksJ6_compress_2_0 3 rfl rfl)
theorem dJ6_compress_2_4 : decode cJ6_compress_2 4 = .ok (.invokestatic 173, 3) := dk_184 0 173 (dk_at dksJ6_compress_2_0 4 rfl rfl)
theorem dJ6_compress_2_7 : decode cJ6_compress_2 7 = .ok (.iconst 0, 1) := dk_3 (dk_at dksJ6_compress_2_0 7 rfl rfl)
theorem dJ6_compress_2_8 : decode cJ6_compress_2 8 = .ok (.istore 5, 2) := dk_54 5 (dk_at dksJ6_compress_2_0 8 rfl rfl)
theorem dJ6_compress_2_10 : decode cJ6_compress_2 10 = .ok (.iload 5, 2) := dk_21 5 (dk_at dksJ6_compress_2_0 10 rfl rfl)
theorem dJ6_compress_2_12 : decode cJ6_compress_2 12 = .ok (.iload 4, 2) := dk_21 4 (dk_at dksJ6_compress_2_0 12 rfl rfl)
theorem dJ6_compress_2_14 : decode cJ6_compress_2 14 = .ok (.if_icmp .ge 39, 3) := dk_162 0 39 (dk_at dksJ6_compress_2_0 14 rfl rfl)
theorem dJ6_compress_2_17 : decode cJ6_compress_2 17 = .ok (.aload_n 0, 1) := dk_42 (dk_at dksJ6_compress_2_0 17 rfl rfl)
theorem dJ6_compress_2_18 : decode cJ6_compress_2 18 = .ok (.iload_n 1, 1) := dk_27 (dk_at dksJ6_compress_2_0 18 rfl rfl)
theorem dJ6_compress_2_19 : decode cJ6_compress_2 19 = .ok (.invokestatic 71, 3) := dk_184 0 71 (dk_at dksJ6_compress_2_0 19 rfl rfl)
theorem dJ6_compress_2_22 : decode cJ6_compress_2 22 = .ok (.istore 6, 2) := dk_54 6 (dk_at dksJ6_compress_2_0 22 rfl rfl)
theorem dJ6_compress_2_24 : decode cJ6_compress_2 24 = .ok (.iload 6, 2) := dk_21 6 (dk_at dksJ6_compress_2_1 0 rfl rfl)
theorem dJ6_compress_2_26 : decode cJ6_compress_2 26 = .ok (.sipush 255, 3) := dk_17 0 255 (dk_at dksJ6_compress_2_1 2 rfl rfl)
theorem dJ6_compress_2_29 : decode cJ6_compress_2 29 = .ok (.if_icmp .le 6, 3) := dk_164 0 6 (dk_at dksJ6_compress_2_1 5 rfl rfl)
theorem dJ6_compress_2_32 : decode cJ6_compress_2 32 = .ok (.iload 5, 2) := dk_21 5 (dk_at dksJ6_compress_2_1 8 rfl rfl)
theorem dJ6_compress_2_34 : decode cJ6_compress_2 34 = .ok (.ireturn, 1) := dk_172 (dk_at dksJ6_compress_2_1 10 rfl rfl)
theorem dJ6_compress_2_35 : decode cJ6_compress_2 35 = .ok (.aload_n 2, 1) := dk_44 (dk_at dksJ6_compress_2_1 11 rfl rfl)
theorem dJ6_compress_2_36 : decode cJ6_compress_2 36 = .ok (.iload_n 3, 1) := dk_29 (dk_at dksJ6_compress_2_1 12 rfl rfl)
theorem dJ6_compress_2_37 : decode cJ6_compress_2 37 = .ok (.iload 6, 2) := dk_21 6 (dk_at dksJ6_compress_2_1 13 rfl rfl)
theorem dJ6_compress_2_39 : decode cJ6_compress_2 39 = .ok (.i2b, 1) := dk_145 (dk_at dksJ6_compress_2_1 15 rfl rfl)
theorem dJ6_compress_2_40 : decode cJ6_compress_2 40 = .ok (.bastore, 1) := dk_84 (dk_at dksJ6_compress_2_1 16 rfl rfl)
theorem dJ6_compress_2_41 : decode cJ6_compress_2 41 = .ok (.iinc 1 1, 3) := dk_132 1 1 (dk_at dksJ6_compress_2_1 17 rfl rfl)
theorem dJ6_compress_2_44 : decode cJ6_compress_2 44 = .ok (.iinc 3 1, 3) := dk_132 3 1 (dk_at dksJ6_compress_2_1 20 rfl rfl)
theorem dJ6_compress_2_47 : decode cJ6_compress_2 47 = .ok (.iinc 5 1, 3) := dk_132 5 1 (dk_at dksJ6_compress_2_2 0 rfl rfl)
theorem dJ6_compress_2_50 : decode cJ6_compress_2 50 = .ok (.goto (-40), 3) := dk_167 255 216 (dk_at dksJ6_compress_2_2 3 rfl rfl)
theorem dJ6_compress_2_53 : decode cJ6_compress_2 53 = .ok (.iload 4, 2) := dk_21 4 (dk_at dksJ6_compress_2_2 6 rfl rfl)
theorem dJ6_compress_2_55 : decode cJ6_compress_2 55 = .ok (.ireturn, 1) := dk_172 (dk_at dksJ6_compress_2_2 8 rfl rfl)
abbrev cJ6_getChar : ByteArray := prog_40_method_5_code
def yJ6_getChar : MethodName := ⟨RJ6, "getChar", "([BI)C"⟩
def dkwJ6_getChar_2 : List UInt8 := [51, 17, 0, 255, 126, 178, 0, 63, 120, 128, 146, 172]
abbrev dktJ6_getChar_2 : List UInt8 := dkwJ6_getChar_2 ++ []
def dkwJ6_getChar_1 : List UInt8 := [183, 0, 56, 191, 27, 4, 120, 60, 42, 27, 132, 1, 1, 51, 17, 0, 255, 126, 178, 0, 59, 120, 42, 27]
abbrev dktJ6_getChar_1 : List UInt8 := dkwJ6_getChar_1 ++ dktJ6_getChar_2
def dkwJ6_getChar_0 : List UInt8 := [178, 0, 44, 154, 0, 25, 27, 155, 0, 11, 27, 42, 184, 0, 48, 161, 0, 13, 187, 0, 52, 89, 18, 54]
abbrev dktJ6_getChar_0 : List UInt8 := dkwJ6_getChar_0 ++ dktJ6_getChar_1
theorem dksJ6_getChar_0 : cJ6_getChar.data.toList.drop 0 = dktJ6_getChar_0 := by decide +kernel
theorem dksJ6_getChar_1 : cJ6_getChar.data.toList.drop 24 = dktJ6_getChar_1 := dk_seg dksJ6_getChar_0 24 rfl rfl
theorem dksJ6_getChar_2 : cJ6_getChar.data.toList.drop 48 = dktJ6_getChar_2 := dk_seg dksJ6_getChar_1 24 rfl rfl
theorem dJ6_getChar_0 : decode cJ6_getChar 0 = .ok (.getstatic 44, 3) := dk_178 0 44 (dk_at dksJ6_getChar_0 0 rfl rfl)
theorem dJ6_getChar_3 : decode cJ6_getChar 3 = .ok (.ifCond .ne 25, 3) := dk_154 0 25 (dk_at dksJ6_getChar_0 3 rfl rfl)
theorem dJ6_getChar_6 : decode cJ6_getChar 6 = .ok (.iload_n 1, 1) := dk_27 (dk_at dksJ6_getChar_0 6 rfl rfl)
theorem dJ6_getChar_7 : decode cJ6_getChar 7 = .ok (.ifCond .lt 11, 3) := dk_155 0 11 (dk_at dksJ6_getChar_0 7 rfl rfl)
theorem dJ6_getChar_10 : decode cJ6_getChar 10 = .ok (.iload_n 1, 1) := dk_27 (dk_at dksJ6_getChar_0 10 rfl rfl)
theorem dJ6_getChar_11 : decode cJ6_getChar 11 = .ok (.aload_n 0, 1) := dk_42 (dk_at dksJ6_getChar_0 11 rfl rfl)
theorem dJ6_getChar_12 : decode cJ6_getChar 12 = .ok (.invokestatic 48, 3) := dk_184 0 48 (dk_at dksJ6_getChar_0 12 rfl rfl)
theorem dJ6_getChar_15 : decode cJ6_getChar 15 = .ok (.if_icmp .lt 13, 3) := dk_161 0 13 (dk_at dksJ6_getChar_0 15 rfl rfl)
theorem dJ6_getChar_18 : decode cJ6_getChar 18 = .ok (.new 52, 3) := dk_187 0 52 (dk_at dksJ6_getChar_0 18 rfl rfl)
theorem dJ6_getChar_21 : decode cJ6_getChar 21 = .ok (.dup, 1) := dk_89 (dk_at dksJ6_getChar_0 21 rfl rfl)
theorem dJ6_getChar_22 : decode cJ6_getChar 22 = .ok (.ldc 54, 2) := dk_18 54 (dk_at dksJ6_getChar_0 22 rfl rfl)
theorem dJ6_getChar_24 : decode cJ6_getChar 24 = .ok (.invokespecial 56, 3) := dk_183 0 56 (dk_at dksJ6_getChar_1 0 rfl rfl)
theorem dJ6_getChar_27 : decode cJ6_getChar 27 = .ok (.athrow, 1) := dk_191 (dk_at dksJ6_getChar_1 3 rfl rfl)
theorem dJ6_getChar_28 : decode cJ6_getChar 28 = .ok (.iload_n 1, 1) := dk_27 (dk_at dksJ6_getChar_1 4 rfl rfl)
theorem dJ6_getChar_29 : decode cJ6_getChar 29 = .ok (.iconst 1, 1) := dk_4 (dk_at dksJ6_getChar_1 5 rfl rfl)
theorem dJ6_getChar_30 : decode cJ6_getChar 30 = .ok (.ishl, 1) := dk_120 (dk_at dksJ6_getChar_1 6 rfl rfl)
theorem dJ6_getChar_31 : decode cJ6_getChar 31 = .ok (.istore_n 1, 1) := dk_60 (dk_at dksJ6_getChar_1 7 rfl rfl)
theorem dJ6_getChar_32 : decode cJ6_getChar 32 = .ok (.aload_n 0, 1) := dk_42 (dk_at dksJ6_getChar_1 8 rfl rfl)
theorem dJ6_getChar_33 : decode cJ6_getChar 33 = .ok (.iload_n 1, 1) := dk_27 (dk_at dksJ6_getChar_1 9 rfl rfl)
theorem dJ6_getChar_34 : decode cJ6_getChar 34 = .ok (.iinc 1 1, 3) := dk_132 1 1 (dk_at dksJ6_getChar_1 10 rfl rfl)
theorem dJ6_getChar_37 : decode cJ6_getChar 37 = .ok (.baload, 1) := dk_51 (dk_at dksJ6_getChar_1 13 rfl rfl)
theorem dJ6_getChar_38 : decode cJ6_getChar 38 = .ok (.sipush 255, 3) := dk_17 0 255 (dk_at dksJ6_getChar_1 14 rfl rfl)
theorem dJ6_getChar_41 : decode cJ6_getChar 41 = .ok (.iand, 1) := dk_126 (dk_at dksJ6_getChar_1 17 rfl rfl)
theorem dJ6_getChar_42 : decode cJ6_getChar 42 = .ok (.getstatic 59, 3) := dk_178 0 59 (dk_at dksJ6_getChar_1 18 rfl rfl)
theorem dJ6_getChar_45 : decode cJ6_getChar 45 = .ok (.ishl, 1) := dk_120 (dk_at dksJ6_getChar_1 21 rfl rfl)
theorem dJ6_getChar_46 : decode cJ6_getChar 46 = .ok (.aload_n 0, 1) := dk_42 (dk_at dksJ6_getChar_1 22 rfl rfl)
theorem dJ6_getChar_47 : decode cJ6_getChar 47 = .ok (.iload_n 1, 1) := dk_27 (dk_at dksJ6_getChar_1 23 rfl rfl)
theorem dJ6_getChar_48 : decode cJ6_getChar 48 = .ok (.baload, 1) := dk_51 (dk_at dksJ6_getChar_2 0 rfl rfl)
theorem dJ6_getChar_49 : decode cJ6_getChar 49 = .ok (.sipush 255, 3) := dk_17 0 255 (dk_at dksJ6_getChar_2 1 rfl rfl)
theorem dJ6_getChar_52 : decode cJ6_getChar 52 = .ok (.iand, 1) := dk_126 (dk_at dksJ6_getChar_2 4 rfl rfl)
theorem dJ6_getChar_53 : decode cJ6_getChar 53 = .ok (.getstatic 63, 3) := dk_178 0 63 (dk_at dksJ6_getChar_2 5 rfl rfl)
theorem dJ6_getChar_56 : decode cJ6_getChar 56 = .ok (.ishl, 1) := dk_120 (dk_at dksJ6_getChar_2 8 rfl rfl)
theorem dJ6_getChar_57 : decode cJ6_getChar 57 = .ok (.ior, 1) := dk_128 (dk_at dksJ6_getChar_2 9 rfl rfl)
theorem dJ6_getChar_58 : decode cJ6_getChar 58 = .ok (.i2c, 1) := dk_146 (dk_at dksJ6_getChar_2 10 rfl rfl)
theorem dJ6_getChar_59 : decode cJ6_getChar 59 = .ok (.ireturn, 1) := dk_172 (dk_at dksJ6_getChar_2 11 rfl rfl)
abbrev cJ6_coderFromArrayLen : ByteArray := prog_40_method_15_code
def yJ6_coderFromArrayLen : MethodName := ⟨RJ6, "coderFromArrayLen", "([BI)B"⟩
def dkwJ6_coderFromArrayLen_0 : List UInt8 := [27, 42, 190, 100, 16, 31, 124, 145, 172]
abbrev dktJ6_coderFromArrayLen_0 : List UInt8 := dkwJ6_coderFromArrayLen_0 ++ []
theorem dksJ6_coderFromArrayLen_0 : cJ6_coderFromArrayLen.data.toList.drop 0 = dktJ6_coderFromArrayLen_0 := by decide +kernel
theorem dJ6_coderFromArrayLen_0 : decode cJ6_coderFromArrayLen 0 = .ok (.iload_n 1, 1) := dk_27 (dk_at dksJ6_coderFromArrayLen_0 0 rfl rfl)
theorem dJ6_coderFromArrayLen_1 : decode cJ6_coderFromArrayLen 1 = .ok (.aload_n 0, 1) := dk_42 (dk_at dksJ6_coderFromArrayLen_0 1 rfl rfl)
theorem dJ6_coderFromArrayLen_2 : decode cJ6_coderFromArrayLen 2 = .ok (.arraylength, 1) := dk_190 (dk_at dksJ6_coderFromArrayLen_0 2 rfl rfl)
theorem dJ6_coderFromArrayLen_3 : decode cJ6_coderFromArrayLen 3 = .ok (.isub, 1) := dk_100 (dk_at dksJ6_coderFromArrayLen_0 3 rfl rfl)
theorem dJ6_coderFromArrayLen_4 : decode cJ6_coderFromArrayLen 4 = .ok (.bipush 31, 2) := dk_16 31 (dk_at dksJ6_coderFromArrayLen_0 4 rfl rfl)
theorem dJ6_coderFromArrayLen_6 : decode cJ6_coderFromArrayLen 6 = .ok (.iushr, 1) := dk_124 (dk_at dksJ6_coderFromArrayLen_0 6 rfl rfl)
theorem dJ6_coderFromArrayLen_7 : decode cJ6_coderFromArrayLen 7 = .ok (.i2b, 1) := dk_145 (dk_at dksJ6_coderFromArrayLen_0 7 rfl rfl)
theorem dJ6_coderFromArrayLen_8 : decode cJ6_coderFromArrayLen 8 = .ok (.ireturn, 1) := dk_172 (dk_at dksJ6_coderFromArrayLen_0 8 rfl rfl)
abbrev cJ6_hashCode : ByteArray := prog_40_method_39_code
def yJ6_hashCode : MethodName := ⟨RJ6, "hashCode", "([B)I"⟩
def dkwJ6_hashCode_2 : List UInt8 := [3, 167, 0, 22, 42, 3, 184, 0, 71, 167, 0, 14, 42, 3, 42, 190, 4, 122, 3, 8, 184, 0, 220, 172]
abbrev dktJ6_hashCode_2 : List UInt8 := dkwJ6_hashCode_2 ++ []
def dkwJ6_hashCode_1 : List UInt8 := [171, 0, 0, 0, 0, 38, 0, 0, 0, 2, 0, 0, 0, 0, 0, 0, 0, 26, 0, 0, 0, 2, 0, 0, 0, 30]
abbrev dktJ6_hashCode_1 : List UInt8 := dkwJ6_hashCode_1 ++ dktJ6_hashCode_2
def dkwJ6_hashCode_0 : List UInt8 := [42, 190]
abbrev dktJ6_hashCode_0 : List UInt8 := dkwJ6_hashCode_0 ++ dktJ6_hashCode_1
theorem dksJ6_hashCode_0 : cJ6_hashCode.data.toList.drop 0 = dktJ6_hashCode_0 := by decide +kernel
theorem dksJ6_hashCode_1 : cJ6_hashCode.data.toList.drop 2 = dktJ6_hashCode_1 := dk_seg dksJ6_hashCode_0 2 rfl rfl
theorem dksJ6_hashCode_2 : cJ6_hashCode.data.toList.drop 28 = dktJ6_hashCode_2 := dk_seg dksJ6_hashCode_1 26 rfl rfl
theorem dJ6_hashCode_0 : decode cJ6_hashCode 0 = .ok (.aload_n 0, 1) := dk_42 (dk_at dksJ6_hashCode_0 0 rfl rfl)
theorem dJ6_hashCode_1 : decode cJ6_hashCode 1 = .ok (.arraylength, 1) := dk_190 (dk_at dksJ6_hashCode_0 1 rfl rfl)
theorem dJ6_hashCode_2 : decode cJ6_hashCode 2 = .ok (.lookupswitch 38 #[(0, 26), (2, 30)], 26) := by decide +kernel
theorem dJ6_hashCode_28 : decode cJ6_hashCode 28 = .ok (.iconst 0, 1) := dk_3 (dk_at dksJ6_hashCode_2 0 rfl rfl)
theorem dJ6_hashCode_29 : decode cJ6_hashCode 29 = .ok (.goto 22, 3) := dk_167 0 22 (dk_at dksJ6_hashCode_2 1 rfl rfl)
theorem dJ6_hashCode_32 : decode cJ6_hashCode 32 = .ok (.aload_n 0, 1) := dk_42 (dk_at dksJ6_hashCode_2 4 rfl rfl)
theorem dJ6_hashCode_33 : decode cJ6_hashCode 33 = .ok (.iconst 0, 1) := dk_3 (dk_at dksJ6_hashCode_2 5 rfl rfl)
theorem dJ6_hashCode_34 : decode cJ6_hashCode 34 = .ok (.invokestatic 71, 3) := dk_184 0 71 (dk_at dksJ6_hashCode_2 6 rfl rfl)
theorem dJ6_hashCode_37 : decode cJ6_hashCode 37 = .ok (.goto 14, 3) := dk_167 0 14 (dk_at dksJ6_hashCode_2 9 rfl rfl)
theorem dJ6_hashCode_40 : decode cJ6_hashCode 40 = .ok (.aload_n 0, 1) := dk_42 (dk_at dksJ6_hashCode_2 12 rfl rfl)
theorem dJ6_hashCode_41 : decode cJ6_hashCode 41 = .ok (.iconst 0, 1) := dk_3 (dk_at dksJ6_hashCode_2 13 rfl rfl)
theorem dJ6_hashCode_42 : decode cJ6_hashCode 42 = .ok (.aload_n 0, 1) := dk_42 (dk_at dksJ6_hashCode_2 14 rfl rfl)
theorem dJ6_hashCode_43 : decode cJ6_hashCode 43 = .ok (.arraylength, 1) := dk_190 (dk_at dksJ6_hashCode_2 15 rfl rfl)
theorem dJ6_hashCode_44 : decode cJ6_hashCode 44 = .ok (.iconst 1, 1) := dk_4 (dk_at dksJ6_hashCode_2 16 rfl rfl)
theorem dJ6_hashCode_45 : decode cJ6_hashCode 45 = .ok (.ishr, 1) := dk_122 (dk_at dksJ6_hashCode_2 17 rfl rfl)
theorem dJ6_hashCode_46 : decode cJ6_hashCode 46 = .ok (.iconst 0, 1) := dk_3 (dk_at dksJ6_hashCode_2 18 rfl rfl)
theorem dJ6_hashCode_47 : decode cJ6_hashCode 47 = .ok (.iconst 5, 1) := dk_8 (dk_at dksJ6_hashCode_2 19 rfl rfl)
theorem dJ6_hashCode_48 : decode cJ6_hashCode 48 = .ok (.invokestatic 220, 3) := dk_184 0 220 (dk_at dksJ6_hashCode_2 20 rfl rfl)
theorem dJ6_hashCode_51 : decode cJ6_hashCode 51 = .ok (.ireturn, 1) := dk_172 (dk_at dksJ6_hashCode_2 23 rfl rfl)
abbrev cJ6_charAt : ByteArray := prog_40_method_83_code
def yJ6_charAt : MethodName := ⟨RJ6, "charAt", "([BI)C"⟩
def dkwJ6_charAt_0 : List UInt8 := [27, 42, 184, 0, 67, 42, 27, 184, 0, 71, 172]
abbrev dktJ6_charAt_0 : List UInt8 := dkwJ6_charAt_0 ++ []
theorem dksJ6_charAt_0 : cJ6_charAt.data.toList.drop 0 = dktJ6_charAt_0 := by decide +kernel
theorem dJ6_charAt_0 : decode cJ6_charAt 0 = .ok (.iload_n 1, 1) := dk_27 (dk_at dksJ6_charAt_0 0 rfl rfl)
theorem dJ6_charAt_1 : decode cJ6_charAt 1 = .ok (.aload_n 0, 1) := dk_42 (dk_at dksJ6_charAt_0 1 rfl rfl)
theorem dJ6_charAt_2 : decode cJ6_charAt 2 = .ok (.invokestatic 67, 3) := dk_184 0 67 (dk_at dksJ6_charAt_0 2 rfl rfl)
theorem dJ6_charAt_5 : decode cJ6_charAt 5 = .ok (.aload_n 0, 1) := dk_42 (dk_at dksJ6_charAt_0 5 rfl rfl)
theorem dJ6_charAt_6 : decode cJ6_charAt 6 = .ok (.iload_n 1, 1) := dk_27 (dk_at dksJ6_charAt_0 6 rfl rfl)
theorem dJ6_charAt_7 : decode cJ6_charAt 7 = .ok (.invokestatic 71, 3) := dk_184 0 71 (dk_at dksJ6_charAt_0 7 rfl rfl)
theorem dJ6_charAt_10 : decode cJ6_charAt 10 = .ok (.ireturn, 1) := dk_172 (dk_at dksJ6_charAt_0 10 rfl rfl)
theorem q126 : (Jvm.Cond.initialized "java/lang/StringUTF16") ∈ lw_all := lw_g (lw_at lw_m1 14 rfl) rfl
theorem q769 : (Jvm.Cond.static ({ cls := "java/lang/StringUTF16", name := "newBytesFor", desc := "(I)[B" } : Jvm.MethodName)) ∈ lw_all := lw_g (lw_at lw_m3 177 rfl) rfl
theorem q770 : (Jvm.Cond.code ({ cls := "java/lang/StringUTF16", name := "newBytesFor", desc := "(I)[B" } : Jvm.MethodName) prog_40_method_2_code (1 : Nat) (Option.some (Jvm.ClassFile.FieldType.array Jvm.ClassFile.FieldType.byte))) ∈ lw_all := lw_g (lw_at lw_m3 178 rfl) rfl
theorem q771 : (Jvm.Cond.methodLink "java/lang/StringUTF16" (11 : Nat) ({ cls := "java/lang/StringUTF16", name := "newBytesLength", desc := "(I)I" } : Jvm.MethodName)) ∈ lw_all := lw_g (lw_at lw_m3 179 rfl) rfl
theorem q772 : (Jvm.Cond.static ({ cls := "java/lang/StringUTF16", name := "newBytesLength", desc := "(I)I" } : Jvm.MethodName)) ∈ lw_all := lw_g (lw_at lw_m3 180 rfl) rfl
theorem q773 : (Jvm.Cond.code ({ cls := "java/lang/StringUTF16", name := "newBytesLength", desc := "(I)I" } : Jvm.MethodName) prog_40_method_3_code (1 : Nat) (Option.some Jvm.ClassFile.FieldType.int)) ∈ lw_all := lw_g (lw_at lw_m3 181 rfl) rfl
theorem q774 : (Jvm.Cond.constant "java/lang/StringUTF16" (20 : Nat) (1073741823 : Int32)) ∈ lw_all := lw_g (lw_at lw_m3 182 rfl) rfl
theorem q840 : (Jvm.Cond.static ({ cls := "java/lang/StringUTF16", name := "inflate", desc := "([BI[BII)V" } : Jvm.MethodName)) ∈ lw_all := lw_g (lw_at lw_m4 8 rfl) rfl
theorem q841 : (Jvm.Cond.code ({ cls := "java/lang/StringUTF16", name := "inflate", desc := "([BI[BII)V" } : Jvm.MethodName) prog_40_method_86_code (6 : Nat) (Option.none : Option Jvm.ClassFile.FieldType)) ∈ lw_all := lw_g (lw_at lw_m4 9 rfl) rfl
theorem q842 : (Jvm.Cond.methodLink "java/lang/StringUTF16" (173 : Nat) ({ cls := "java/lang/StringUTF16", name := "checkBoundsOffCount", desc := "(II[B)V" } : Jvm.MethodName)) ∈ lw_all := lw_g (lw_at lw_m4 10 rfl) rfl
theorem q843 : (Jvm.Cond.static ({ cls := "java/lang/StringUTF16", name := "checkBoundsOffCount", desc := "(II[B)V" } : Jvm.MethodName)) ∈ lw_all := lw_g (lw_at lw_m4 11 rfl) rfl
theorem q844 : (Jvm.Cond.code ({ cls := "java/lang/StringUTF16", name := "checkBoundsOffCount", desc := "(II[B)V" } : Jvm.MethodName) prog_40_method_94_code (3 : Nat) (Option.none : Option Jvm.ClassFile.FieldType)) ∈ lw_all := lw_g (lw_at lw_m4 12 rfl) rfl
theorem q845 : (Jvm.Cond.methodLink "java/lang/StringUTF16" (48 : Nat) ({ cls := "java/lang/StringUTF16", name := "length", desc := "([B)I" } : Jvm.MethodName)) ∈ lw_all := lw_g (lw_at lw_m4 13 rfl) rfl
theorem q846 : (Jvm.Cond.static ({ cls := "java/lang/StringUTF16", name := "length", desc := "([B)I" } : Jvm.MethodName)) ∈ lw_all := lw_g (lw_at lw_m4 14 rfl) rfl
theorem q847 : (Jvm.Cond.code ({ cls := "java/lang/StringUTF16", name := "length", desc := "([B)I" } : Jvm.MethodName) prog_40_method_6_code (1 : Nat) (Option.some Jvm.ClassFile.FieldType.int)) ∈ lw_all := lw_g (lw_at lw_m4 15 rfl) rfl
theorem q848 : (Jvm.Cond.methodLink "java/lang/StringUTF16" (419 : Nat) ({ cls := "java/lang/String", name := "checkBoundsOffCount", desc := "(III)I" } : Jvm.MethodName)) ∈ lw_all := lw_g (lw_at lw_m4 16 rfl) rfl
theorem q856 : (Jvm.Cond.methodLink "java/lang/StringUTF16" (111 : Nat) ({ cls := "java/lang/StringUTF16", name := "putChar", desc := "([BII)V" } : Jvm.MethodName)) ∈ lw_all := lw_g (lw_at lw_m4 24 rfl) rfl
theorem q857 : (Jvm.Cond.static ({ cls := "java/lang/StringUTF16", name := "putChar", desc := "([BII)V" } : Jvm.MethodName)) ∈ lw_all := lw_g (lw_at lw_m4 25 rfl) rfl
theorem q858 : (Jvm.Cond.code ({ cls := "java/lang/StringUTF16", name := "putChar", desc := "([BII)V" } : Jvm.MethodName) prog_40_method_4_code (3 : Nat) (Option.none : Option Jvm.ClassFile.FieldType)) ∈ lw_all := lw_g (lw_at lw_m4 26 rfl) rfl
theorem q859 : (Jvm.Cond.fieldLink "java/lang/StringUTF16" (44 : Nat) "java/lang/StringUTF16" "$assertionsDisabled" "Z") ∈ lw_all := lw_g (lw_at lw_m4 27 rfl) rfl
theorem q860 : (Jvm.Cond.laysStatic "java/lang/StringUTF16" "$assertionsDisabled" "Z") ∈ lw_tbl := lw_at lw_m4 28 rfl
theorem q861 : (Jvm.Cond.fieldLink "java/lang/StringUTF16" (59 : Nat) "java/lang/StringUTF16" "HI_BYTE_SHIFT" "I") ∈ lw_all := lw_g (lw_at lw_m4 29 rfl) rfl
theorem q862 : (Jvm.Cond.laysStatic "java/lang/StringUTF16" "HI_BYTE_SHIFT" "I") ∈ lw_tbl := lw_at lw_m4 30 rfl
theorem q863 : (Jvm.Cond.fieldLink "java/lang/StringUTF16" (63 : Nat) "java/lang/StringUTF16" "LO_BYTE_SHIFT" "I") ∈ lw_all := lw_g (lw_at lw_m4 31 rfl) rfl
theorem q864 : (Jvm.Cond.laysStatic "java/lang/StringUTF16" "LO_BYTE_SHIFT" "I") ∈ lw_tbl := lw_at lw_m4 32 rfl
theorem q866 : (Jvm.Cond.static ({ cls := "java/lang/StringUTF16", name := "putCharSB", desc := "([BII)V" } : Jvm.MethodName)) ∈ lw_all := lw_g (lw_at lw_m4 34 rfl) rfl
theorem q867 : (Jvm.Cond.code ({ cls := "java/lang/StringUTF16", name := "putCharSB", desc := "([BII)V" } : Jvm.MethodName) prog_40_method_71_code (3 : Nat) (Option.none : Option Jvm.ClassFile.FieldType)) ∈ lw_all := lw_g (lw_at lw_m4 35 rfl) rfl
theorem q868 : (Jvm.Cond.methodLink "java/lang/StringUTF16" (67 : Nat) ({ cls := "java/lang/StringUTF16", name := "checkIndex", desc := "(I[B)V" } : Jvm.MethodName)) ∈ lw_all := lw_g (lw_at lw_m4 36 rfl) rfl
theorem q869 : (Jvm.Cond.static ({ cls := "java/lang/StringUTF16", name := "checkIndex", desc := "(I[B)V" } : Jvm.MethodName)) ∈ lw_all := lw_g (lw_at lw_m4 37 rfl) rfl
theorem q870 : (Jvm.Cond.code ({ cls := "java/lang/StringUTF16", name := "checkIndex", desc := "(I[B)V" } : Jvm.MethodName) prog_40_method_91_code (2 : Nat) (Option.none : Option Jvm.ClassFile.FieldType)) ∈ lw_all := lw_g (lw_at lw_m4 38 rfl) rfl
theorem q871 : (Jvm.Cond.methodLink "java/lang/StringUTF16" (414 : Nat) ({ cls := "java/lang/String", name := "checkIndex", desc := "(II)V" } : Jvm.MethodName)) ∈ lw_all := lw_g (lw_at lw_m4 39 rfl) rfl
theorem q976 : (Jvm.Cond.static ({ cls := "java/lang/StringUTF16", name := "getChars", desc := "(III[B)I" } : Jvm.MethodName)) ∈ lw_all := lw_g (lw_at lw_m4 144 rfl) rfl
theorem q977 : (Jvm.Cond.code ({ cls := "java/lang/StringUTF16", name := "getChars", desc := "(III[B)I" } : Jvm.MethodName) prog_40_method_77_code (5 : Nat) (Option.some Jvm.ClassFile.FieldType.int)) ∈ lw_all := lw_g (lw_at lw_m4 145 rfl) rfl
theorem q978 : (Jvm.Cond.methodLink "java/lang/StringUTF16" (96 : Nat) ({ cls := "java/lang/StringUTF16", name := "checkBoundsBeginEnd", desc := "(II[B)V" } : Jvm.MethodName)) ∈ lw_all := lw_g (lw_at lw_m4 146 rfl) rfl
theorem q979 : (Jvm.Cond.static ({ cls := "java/lang/StringUTF16", name := "checkBoundsBeginEnd", desc := "(II[B)V" } : Jvm.MethodName)) ∈ lw_all := lw_g (lw_at lw_m4 147 rfl) rfl
theorem q980 : (Jvm.Cond.code ({ cls := "java/lang/StringUTF16", name := "checkBoundsBeginEnd", desc := "(II[B)V" } : Jvm.MethodName) prog_40_method_93_code (3 : Nat) (Option.none : Option Jvm.ClassFile.FieldType)) ∈ lw_all := lw_g (lw_at lw_m4 148 rfl) rfl
theorem q981 : (Jvm.Cond.methodLink "java/lang/StringUTF16" (241 : Nat) ({ cls := "java/lang/String", name := "checkBoundsBeginEnd", desc := "(III)V" } : Jvm.MethodName)) ∈ lw_all := lw_g (lw_at lw_m4 149 rfl) rfl
theorem q987 : (Jvm.Cond.methodLink "java/lang/StringUTF16" (393 : Nat) ({ cls := "java/lang/StringUTF16", name := "getChars", desc := "(II[B)I" } : Jvm.MethodName)) ∈ lw_all := lw_g (lw_at lw_m4 155 rfl) rfl
theorem q988 : (Jvm.Cond.static ({ cls := "java/lang/StringUTF16", name := "getChars", desc := "(II[B)I" } : Jvm.MethodName)) ∈ lw_all := lw_g (lw_at lw_m4 156 rfl) rfl
theorem q989 : (Jvm.Cond.code ({ cls := "java/lang/StringUTF16", name := "getChars", desc := "(II[B)I" } : Jvm.MethodName) prog_40_method_89_code (7 : Nat) (Option.some Jvm.ClassFile.FieldType.int)) ∈ lw_all := lw_g (lw_at lw_m4 157 rfl) rfl
theorem q990 : (Jvm.Cond.fieldLink "java/lang/StringUTF16" (403 : Nat) "java/lang/Integer" "DigitOnes" "[B") ∈ lw_all := lw_g (lw_at lw_m4 158 rfl) rfl
theorem q991 : (Jvm.Cond.fieldLink "java/lang/StringUTF16" (407 : Nat) "java/lang/Integer" "DigitTens" "[B") ∈ lw_all := lw_g (lw_at lw_m4 159 rfl) rfl
theorem q1005 : (Jvm.Cond.static ({ cls := "java/lang/StringUTF16", name := "putCharsAt", desc := "([BICCCC)I" } : Jvm.MethodName)) ∈ lw_all := lw_g (lw_at lw_m4 173 rfl) rfl
theorem q1006 : (Jvm.Cond.code ({ cls := "java/lang/StringUTF16", name := "putCharsAt", desc := "([BICCCC)I" } : Jvm.MethodName) prog_40_method_81_code (7 : Nat) (Option.some Jvm.ClassFile.FieldType.int)) ∈ lw_all := lw_g (lw_at lw_m4 174 rfl) rfl
theorem q1058 : (Jvm.Cond.static ({ cls := "java/lang/StringUTF16", name := "compress", desc := "([BII)[B" } : Jvm.MethodName)) ∈ lw_all := lw_g (lw_at lw_m4 226 rfl) rfl
theorem q1059 : (Jvm.Cond.code ({ cls := "java/lang/StringUTF16", name := "compress", desc := "([BII)[B" } : Jvm.MethodName) prog_40_method_17_code (6 : Nat) (Option.some (Jvm.ClassFile.FieldType.array Jvm.ClassFile.FieldType.byte))) ∈ lw_all := lw_g (lw_at lw_m4 227 rfl) rfl
theorem q1060 : (Jvm.Cond.methodLink "java/lang/StringUTF16" (123 : Nat) ({ cls := "java/lang/StringUTF16", name := "compress", desc := "([BI[BII)I" } : Jvm.MethodName)) ∈ lw_all := lw_g (lw_at lw_m4 228 rfl) rfl
theorem q1061 : (Jvm.Cond.static ({ cls := "java/lang/StringUTF16", name := "compress", desc := "([BI[BII)I" } : Jvm.MethodName)) ∈ lw_all := lw_g (lw_at lw_m4 229 rfl) rfl
theorem q1062 : (Jvm.Cond.code ({ cls := "java/lang/StringUTF16", name := "compress", desc := "([BI[BII)I" } : Jvm.MethodName) prog_40_method_22_code (7 : Nat) (Option.some Jvm.ClassFile.FieldType.int)) ∈ lw_all := lw_g (lw_at lw_m4 230 rfl) rfl
theorem q1063 : (Jvm.Cond.methodLink "java/lang/StringUTF16" (71 : Nat) ({ cls := "java/lang/StringUTF16", name := "getChar", desc := "([BI)C" } : Jvm.MethodName)) ∈ lw_all := lw_g (lw_at lw_m4 231 rfl) rfl
theorem q1064 : (Jvm.Cond.static ({ cls := "java/lang/StringUTF16", name := "getChar", desc := "([BI)C" } : Jvm.MethodName)) ∈ lw_all := lw_g (lw_at lw_m4 232 rfl) rfl
theorem q1065 : (Jvm.Cond.code ({ cls := "java/lang/StringUTF16", name := "getChar", desc := "([BI)C" } : Jvm.MethodName) prog_40_method_5_code (2 : Nat) (Option.some Jvm.ClassFile.FieldType.char)) ∈ lw_all := lw_g (lw_at lw_m4 233 rfl) rfl
theorem q1066 : (Jvm.Cond.methodLink "java/lang/StringUTF16" (126 : Nat) ({ cls := "java/util/Arrays", name := "copyOfRange", desc := "([BII)[B" } : Jvm.MethodName)) ∈ lw_all := lw_g (lw_at lw_m4 234 rfl) rfl
theorem q1068 : (Jvm.Cond.static ({ cls := "java/lang/StringUTF16", name := "coderFromArrayLen", desc := "([BI)B" } : Jvm.MethodName)) ∈ lw_all := lw_g (lw_at lw_m4 236 rfl) rfl
theorem q1069 : (Jvm.Cond.code ({ cls := "java/lang/StringUTF16", name := "coderFromArrayLen", desc := "([BI)B" } : Jvm.MethodName) prog_40_method_15_code (2 : Nat) (Option.some Jvm.ClassFile.FieldType.byte)) ∈ lw_all := lw_g (lw_at lw_m4 237 rfl) rfl
theorem q1169 : (Jvm.Cond.static ({ cls := "java/lang/StringUTF16", name := "hashCode", desc := "([B)I" } : Jvm.MethodName)) ∈ lw_all := lw_g (lw_at lw_m5 97 rfl) rfl
theorem q1170 : (Jvm.Cond.code ({ cls := "java/lang/StringUTF16", name := "hashCode", desc := "([B)I" } : Jvm.MethodName) prog_40_method_39_code (1 : Nat) (Option.some Jvm.ClassFile.FieldType.int)) ∈ lw_all := lw_g (lw_at lw_m5 98 rfl) rfl
theorem q1171 : (Jvm.Cond.methodLink "java/lang/StringUTF16" (220 : Nat) ({ cls := "jdk/internal/util/ArraysSupport", name := "vectorizedHashCode", desc := "(Ljava/lang/Object;IIII)I" } : Jvm.MethodName)) ∈ lw_all := lw_g (lw_at lw_m5 99 rfl) rfl
theorem q2086 : (Jvm.Cond.static ({ cls := "java/lang/StringUTF16", name := "charAt", desc := "([BI)C" } : Jvm.MethodName)) ∈ lw_all := lw_g (lw_at lw_m9 54 rfl) rfl
theorem q2087 : (Jvm.Cond.code ({ cls := "java/lang/StringUTF16", name := "charAt", desc := "([BI)C" } : Jvm.MethodName) prog_40_method_83_code (2 : Nat) (Option.some Jvm.ClassFile.FieldType.char)) ∈ lw_all := lw_g (lw_at lw_m9 55 rfl) rfl

/-! jdk/internal/util/ArraysSupport -/
set_option maxRecDepth 100000
def RJ7 : String := "jdk/internal/util/ArraysSupport"
abbrev cJ7_newLength : ByteArray := prog_58_method_27_code
def yJ7_newLength : MethodName := ⟨RJ7, "newLength", "(III)I"⟩
def dkwJ7_newLength_1 : List UInt8 := [184, 0, 201, 172]
abbrev dktJ7_newLength_1 : List UInt8 := dkwJ7_newLength_1 ++ []
def dkwJ7_newLength_0 : List UInt8 := [26, 27, 28, 184, 0, 194, 96, 62, 3, 29, 162, 0, 11, 29, 18, 200, 163, 0, 5, 29, 172, 26, 27]
abbrev dktJ7_newLength_0 : List UInt8 := dkwJ7_newLength_0 ++ dktJ7_newLength_1
theorem dksJ7_newLength_0 : cJ7_newLength.data.toList.drop 0 = dktJ7_newLength_0 := by decide +kernel
theorem dksJ7_newLength_1 : cJ7_newLength.data.toList.drop 23 = dktJ7_newLength_1 := dk_seg dksJ7_newLength_0 23 rfl rfl
theorem dJ7_newLength_0 : decode cJ7_newLength 0 = .ok (.iload_n 0, 1) := dk_26 (dk_at dksJ7_newLength_0 0 rfl rfl)
theorem dJ7_newLength_1 : decode cJ7_newLength 1 = .ok (.iload_n 1, 1) := dk_27 (dk_at dksJ7_newLength_0 1 rfl rfl)
theorem dJ7_newLength_2 : decode cJ7_newLength 2 = .ok (.iload_n 2, 1) := dk_28 (dk_at dksJ7_newLength_0 2 rfl rfl)
theorem dJ7_newLength_3 : decode cJ7_newLength 3 = .ok (.invokestatic 194, 3) := dk_184 0 194 (dk_at dksJ7_newLength_0 3 rfl rfl)
theorem dJ7_newLength_6 : decode cJ7_newLength 6 = .ok (.iadd, 1) := dk_96 (dk_at dksJ7_newLength_0 6 rfl rfl)
theorem dJ7_newLength_7 : decode cJ7_newLength 7 = .ok (.istore_n 3, 1) := dk_62 (dk_at dksJ7_newLength_0 7 rfl rfl)
theorem dJ7_newLength_8 : decode cJ7_newLength 8 = .ok (.iconst 0, 1) := dk_3 (dk_at dksJ7_newLength_0 8 rfl rfl)
theorem dJ7_newLength_9 : decode cJ7_newLength 9 = .ok (.iload_n 3, 1) := dk_29 (dk_at dksJ7_newLength_0 9 rfl rfl)
theorem dJ7_newLength_10 : decode cJ7_newLength 10 = .ok (.if_icmp .ge 11, 3) := dk_162 0 11 (dk_at dksJ7_newLength_0 10 rfl rfl)
theorem dJ7_newLength_13 : decode cJ7_newLength 13 = .ok (.iload_n 3, 1) := dk_29 (dk_at dksJ7_newLength_0 13 rfl rfl)
theorem dJ7_newLength_14 : decode cJ7_newLength 14 = .ok (.ldc 200, 2) := dk_18 200 (dk_at dksJ7_newLength_0 14 rfl rfl)
theorem dJ7_newLength_16 : decode cJ7_newLength 16 = .ok (.if_icmp .gt 5, 3) := dk_163 0 5 (dk_at dksJ7_newLength_0 16 rfl rfl)
theorem dJ7_newLength_19 : decode cJ7_newLength 19 = .ok (.iload_n 3, 1) := dk_29 (dk_at dksJ7_newLength_0 19 rfl rfl)
theorem dJ7_newLength_20 : decode cJ7_newLength 20 = .ok (.ireturn, 1) := dk_172 (dk_at dksJ7_newLength_0 20 rfl rfl)
theorem dJ7_newLength_21 : decode cJ7_newLength 21 = .ok (.iload_n 0, 1) := dk_26 (dk_at dksJ7_newLength_0 21 rfl rfl)
theorem dJ7_newLength_22 : decode cJ7_newLength 22 = .ok (.iload_n 1, 1) := dk_27 (dk_at dksJ7_newLength_0 22 rfl rfl)
theorem dJ7_newLength_23 : decode cJ7_newLength 23 = .ok (.invokestatic 201, 3) := dk_184 0 201 (dk_at dksJ7_newLength_1 0 rfl rfl)
theorem dJ7_newLength_26 : decode cJ7_newLength 26 = .ok (.ireturn, 1) := dk_172 (dk_at dksJ7_newLength_1 3 rfl rfl)
abbrev cJ7_hugeLength : ByteArray := prog_58_method_28_code
def yJ7_hugeLength : MethodName := ⟨RJ7, "hugeLength", "(II)I"⟩
def dkwJ7_hugeLength_2 : List UInt8 := [191, 28, 18, 200, 163, 0, 6, 18, 200, 172, 28, 172]
abbrev dktJ7_hugeLength_2 : List UInt8 := dkwJ7_hugeLength_2 ++ []
def dkwJ7_hugeLength_1 : List UInt8 := [26, 182, 0, 98, 18, 208, 182, 0, 94, 27, 182, 0, 98, 18, 210, 182, 0, 94, 182, 0, 101, 183, 0, 212]
abbrev dktJ7_hugeLength_1 : List UInt8 := dkwJ7_hugeLength_1 ++ dktJ7_hugeLength_2
def dkwJ7_hugeLength_0 : List UInt8 := [26, 27, 96, 61, 28, 156, 0, 44, 187, 0, 204, 89, 187, 0, 89, 89, 183, 0, 91, 18, 206, 182, 0, 94]
abbrev dktJ7_hugeLength_0 : List UInt8 := dkwJ7_hugeLength_0 ++ dktJ7_hugeLength_1
theorem dksJ7_hugeLength_0 : cJ7_hugeLength.data.toList.drop 0 = dktJ7_hugeLength_0 := by decide +kernel
theorem dksJ7_hugeLength_1 : cJ7_hugeLength.data.toList.drop 24 = dktJ7_hugeLength_1 := dk_seg dksJ7_hugeLength_0 24 rfl rfl
theorem dksJ7_hugeLength_2 : cJ7_hugeLength.data.toList.drop 48 = dktJ7_hugeLength_2 := dk_seg dksJ7_hugeLength_1 24 rfl rfl
theorem dJ7_hugeLength_0 : decode cJ7_hugeLength 0 = .ok (.iload_n 0, 1) := dk_26 (dk_at dksJ7_hugeLength_0 0 rfl rfl)
theorem dJ7_hugeLength_1 : decode cJ7_hugeLength 1 = .ok (.iload_n 1, 1) := dk_27 (dk_at dksJ7_hugeLength_0 1 rfl rfl)
theorem dJ7_hugeLength_2 : decode cJ7_hugeLength 2 = .ok (.iadd, 1) := dk_96 (dk_at dksJ7_hugeLength_0 2 rfl rfl)
theorem dJ7_hugeLength_3 : decode cJ7_hugeLength 3 = .ok (.istore_n 2, 1) := dk_61 (dk_at dksJ7_hugeLength_0 3 rfl rfl)
theorem dJ7_hugeLength_4 : decode cJ7_hugeLength 4 = .ok (.iload_n 2, 1) := dk_28 (dk_at dksJ7_hugeLength_0 4 rfl rfl)
theorem dJ7_hugeLength_5 : decode cJ7_hugeLength 5 = .ok (.ifCond .ge 44, 3) := dk_156 0 44 (dk_at dksJ7_hugeLength_0 5 rfl rfl)
theorem dJ7_hugeLength_8 : decode cJ7_hugeLength 8 = .ok (.new 204, 3) := dk_187 0 204 (dk_at dksJ7_hugeLength_0 8 rfl rfl)
theorem dJ7_hugeLength_11 : decode cJ7_hugeLength 11 = .ok (.dup, 1) := dk_89 (dk_at dksJ7_hugeLength_0 11 rfl rfl)
theorem dJ7_hugeLength_12 : decode cJ7_hugeLength 12 = .ok (.new 89, 3) := dk_187 0 89 (dk_at dksJ7_hugeLength_0 12 rfl rfl)
theorem dJ7_hugeLength_15 : decode cJ7_hugeLength 15 = .ok (.dup, 1) := dk_89 (dk_at dksJ7_hugeLength_0 15 rfl rfl)
theorem dJ7_hugeLength_16 : decode cJ7_hugeLength 16 = .ok (.invokespecial 91, 3) := dk_183 0 91 (dk_at dksJ7_hugeLength_0 16 rfl rfl)
theorem dJ7_hugeLength_19 : decode cJ7_hugeLength 19 = .ok (.ldc 206, 2) := dk_18 206 (dk_at dksJ7_hugeLength_0 19 rfl rfl)
theorem dJ7_hugeLength_21 : decode cJ7_hugeLength 21 = .ok (.invokevirtual 94, 3) := dk_182 0 94 (dk_at dksJ7_hugeLength_0 21 rfl rfl)
theorem dJ7_hugeLength_24 : decode cJ7_hugeLength 24 = .ok (.iload_n 0, 1) := dk_26 (dk_at dksJ7_hugeLength_1 0 rfl rfl)
theorem dJ7_hugeLength_25 : decode cJ7_hugeLength 25 = .ok (.invokevirtual 98, 3) := dk_182 0 98 (dk_at dksJ7_hugeLength_1 1 rfl rfl)
theorem dJ7_hugeLength_28 : decode cJ7_hugeLength 28 = .ok (.ldc 208, 2) := dk_18 208 (dk_at dksJ7_hugeLength_1 4 rfl rfl)
theorem dJ7_hugeLength_30 : decode cJ7_hugeLength 30 = .ok (.invokevirtual 94, 3) := dk_182 0 94 (dk_at dksJ7_hugeLength_1 6 rfl rfl)
theorem dJ7_hugeLength_33 : decode cJ7_hugeLength 33 = .ok (.iload_n 1, 1) := dk_27 (dk_at dksJ7_hugeLength_1 9 rfl rfl)
theorem dJ7_hugeLength_34 : decode cJ7_hugeLength 34 = .ok (.invokevirtual 98, 3) := dk_182 0 98 (dk_at dksJ7_hugeLength_1 10 rfl rfl)
theorem dJ7_hugeLength_37 : decode cJ7_hugeLength 37 = .ok (.ldc 210, 2) := dk_18 210 (dk_at dksJ7_hugeLength_1 13 rfl rfl)
theorem dJ7_hugeLength_39 : decode cJ7_hugeLength 39 = .ok (.invokevirtual 94, 3) := dk_182 0 94 (dk_at dksJ7_hugeLength_1 15 rfl rfl)
theorem dJ7_hugeLength_42 : decode cJ7_hugeLength 42 = .ok (.invokevirtual 101, 3) := dk_182 0 101 (dk_at dksJ7_hugeLength_1 18 rfl rfl)
theorem dJ7_hugeLength_45 : decode cJ7_hugeLength 45 = .ok (.invokespecial 212, 3) := dk_183 0 212 (dk_at dksJ7_hugeLength_1 21 rfl rfl)
theorem dJ7_hugeLength_48 : decode cJ7_hugeLength 48 = .ok (.athrow, 1) := dk_191 (dk_at dksJ7_hugeLength_2 0 rfl rfl)
theorem dJ7_hugeLength_49 : decode cJ7_hugeLength 49 = .ok (.iload_n 2, 1) := dk_28 (dk_at dksJ7_hugeLength_2 1 rfl rfl)
theorem dJ7_hugeLength_50 : decode cJ7_hugeLength 50 = .ok (.ldc 200, 2) := dk_18 200 (dk_at dksJ7_hugeLength_2 2 rfl rfl)
theorem dJ7_hugeLength_52 : decode cJ7_hugeLength 52 = .ok (.if_icmp .gt 6, 3) := dk_163 0 6 (dk_at dksJ7_hugeLength_2 4 rfl rfl)
theorem dJ7_hugeLength_55 : decode cJ7_hugeLength 55 = .ok (.ldc 200, 2) := dk_18 200 (dk_at dksJ7_hugeLength_2 7 rfl rfl)
theorem dJ7_hugeLength_57 : decode cJ7_hugeLength 57 = .ok (.ireturn, 1) := dk_172 (dk_at dksJ7_hugeLength_2 9 rfl rfl)
theorem dJ7_hugeLength_58 : decode cJ7_hugeLength 58 = .ok (.iload_n 2, 1) := dk_28 (dk_at dksJ7_hugeLength_2 10 rfl rfl)
theorem dJ7_hugeLength_59 : decode cJ7_hugeLength 59 = .ok (.ireturn, 1) := dk_172 (dk_at dksJ7_hugeLength_2 11 rfl rfl)
abbrev cJ7_vectorizedHashCode : ByteArray := prog_58_method_4_code
def yJ7_vectorizedHashCode : MethodName := ⟨RJ7, "vectorizedHashCode", "(Ljava/lang/Object;IIII)I"⟩
def dkwJ7_vectorizedHashCode_6 : List UInt8 := [183, 0, 91, 18, 92, 182, 0, 94, 21, 4, 182, 0, 98, 182, 0, 101, 183, 0, 105, 191, 172]
abbrev dktJ7_vectorizedHashCode_6 : List UInt8 := dkwJ7_vectorizedHashCode_6 ++ []
def dkwJ7_vectorizedHashCode_5 : List UInt8 := [167, 0, 44, 29, 42, 192, 0, 82, 27, 28, 184, 0, 84, 167, 0, 31, 187, 0, 87, 89, 187, 0, 89, 89]
abbrev dktJ7_vectorizedHashCode_5 : List UInt8 := dkwJ7_vectorizedHashCode_5 ++ dktJ7_vectorizedHashCode_6
def dkwJ7_vectorizedHashCode_4 : List UInt8 := [29, 42, 192, 0, 60, 27, 28, 184, 0, 75, 167, 0, 57, 29, 42, 192, 0, 77, 27, 28, 184, 0, 79]
abbrev dktJ7_vectorizedHashCode_4 : List UInt8 := dkwJ7_vectorizedHashCode_4 ++ dktJ7_vectorizedHashCode_5
def dkwJ7_vectorizedHashCode_3 : List UInt8 := [192, 0, 60, 27, 28, 184, 0, 66, 167, 0, 83, 29, 42, 192, 0, 69, 27, 28, 184, 0, 71, 167, 0, 70]
abbrev dktJ7_vectorizedHashCode_3 : List UInt8 := dkwJ7_vectorizedHashCode_3 ++ dktJ7_vectorizedHashCode_4
def dkwJ7_vectorizedHashCode_2 : List UInt8 := [29, 42, 192, 0, 60, 27, 28, 184, 0, 62, 167, 0, 103, 42, 193, 0, 60, 153, 0, 16, 29, 42]
abbrev dktJ7_vectorizedHashCode_2 : List UInt8 := dkwJ7_vectorizedHashCode_2 ++ dktJ7_vectorizedHashCode_3
def dkwJ7_vectorizedHashCode_1 : List UInt8 := [170, 0, 0, 0, 0, 127, 0, 0, 0, 4, 0, 0, 0, 10, 0, 0, 0, 42, 0, 0, 0, 55, 0, 0, 0, 127, 0, 0, 0, 127, 0, 0, 0, 88, 0, 0, 0, 101, 0, 0, 0, 114]
abbrev dktJ7_vectorizedHashCode_1 : List UInt8 := dkwJ7_vectorizedHashCode_1 ++ dktJ7_vectorizedHashCode_2
def dkwJ7_vectorizedHashCode_0 : List UInt8 := [21, 4]
abbrev dktJ7_vectorizedHashCode_0 : List UInt8 := dkwJ7_vectorizedHashCode_0 ++ dktJ7_vectorizedHashCode_1
theorem dksJ7_vectorizedHashCode_0 : cJ7_vectorizedHashCode.data.toList.drop 0 = dktJ7_vectorizedHashCode_0 := by decide +kernel
theorem dksJ7_vectorizedHashCode_1 : cJ7_vectorizedHashCode.data.toList.drop 2 = dktJ7_vectorizedHashCode_1 := dk_seg dksJ7_vectorizedHashCode_0 2 rfl rfl
theorem dksJ7_vectorizedHashCode_2 : cJ7_vectorizedHashCode.data.toList.drop 44 = dktJ7_vectorizedHashCode_2 := dk_seg dksJ7_vectorizedHashCode_1 42 rfl rfl
theorem dksJ7_vectorizedHashCode_3 : cJ7_vectorizedHashCode.data.toList.drop 66 = dktJ7_vectorizedHashCode_3 := dk_seg dksJ7_vectorizedHashCode_2 22 rfl rfl
theorem dksJ7_vectorizedHashCode_4 : cJ7_vectorizedHashCode.data.toList.drop 90 = dktJ7_vectorizedHashCode_4 := dk_seg dksJ7_vectorizedHashCode_3 24 rfl rfl
theorem dksJ7_vectorizedHashCode_5 : cJ7_vectorizedHashCode.data.toList.drop 113 = dktJ7_vectorizedHashCode_5 := dk_seg dksJ7_vectorizedHashCode_4 23 rfl rfl
theorem dksJ7_vectorizedHashCode_6 : cJ7_vectorizedHashCode.data.toList.drop 137 = dktJ7_vectorizedHashCode_6 := dk_seg dksJ7_vectorizedHashCode_5 24 rfl rfl
theorem dJ7_vectorizedHashCode_0 : decode cJ7_vectorizedHashCode 0 = .ok (.iload 4, 2) := dk_21 4 (dk_at dksJ7_vectorizedHashCode_0 0 rfl rfl)
theorem dJ7_vectorizedHashCode_2 : decode cJ7_vectorizedHashCode 2 = .ok (.tableswitch 127 4 10 #[42, 55, 127, 127, 88, 101, 114], 42) := by decide +kernel
theorem dJ7_vectorizedHashCode_44 : decode cJ7_vectorizedHashCode 44 = .ok (.iload_n 3, 1) := dk_29 (dk_at dksJ7_vectorizedHashCode_2 0 rfl rfl)
theorem dJ7_vectorizedHashCode_45 : decode cJ7_vectorizedHashCode 45 = .ok (.aload_n 0, 1) := dk_42 (dk_at dksJ7_vectorizedHashCode_2 1 rfl rfl)
theorem dJ7_vectorizedHashCode_46 : decode cJ7_vectorizedHashCode 46 = .ok (.checkcast 60, 3) := dk_192 0 60 (dk_at dksJ7_vectorizedHashCode_2 2 rfl rfl)
theorem dJ7_vectorizedHashCode_49 : decode cJ7_vectorizedHashCode 49 = .ok (.iload_n 1, 1) := dk_27 (dk_at dksJ7_vectorizedHashCode_2 5 rfl rfl)
theorem dJ7_vectorizedHashCode_50 : decode cJ7_vectorizedHashCode 50 = .ok (.iload_n 2, 1) := dk_28 (dk_at dksJ7_vectorizedHashCode_2 6 rfl rfl)
theorem dJ7_vectorizedHashCode_51 : decode cJ7_vectorizedHashCode 51 = .ok (.invokestatic 62, 3) := dk_184 0 62 (dk_at dksJ7_vectorizedHashCode_2 7 rfl rfl)
theorem dJ7_vectorizedHashCode_54 : decode cJ7_vectorizedHashCode 54 = .ok (.goto 103, 3) := dk_167 0 103 (dk_at dksJ7_vectorizedHashCode_2 10 rfl rfl)
theorem dJ7_vectorizedHashCode_57 : decode cJ7_vectorizedHashCode 57 = .ok (.aload_n 0, 1) := dk_42 (dk_at dksJ7_vectorizedHashCode_2 13 rfl rfl)
theorem dJ7_vectorizedHashCode_58 : decode cJ7_vectorizedHashCode 58 = .ok (.instanceof 60, 3) := dk_193 0 60 (dk_at dksJ7_vectorizedHashCode_2 14 rfl rfl)
theorem dJ7_vectorizedHashCode_61 : decode cJ7_vectorizedHashCode 61 = .ok (.ifCond .eq 16, 3) := dk_153 0 16 (dk_at dksJ7_vectorizedHashCode_2 17 rfl rfl)
theorem dJ7_vectorizedHashCode_64 : decode cJ7_vectorizedHashCode 64 = .ok (.iload_n 3, 1) := dk_29 (dk_at dksJ7_vectorizedHashCode_2 20 rfl rfl)
theorem dJ7_vectorizedHashCode_65 : decode cJ7_vectorizedHashCode 65 = .ok (.aload_n 0, 1) := dk_42 (dk_at dksJ7_vectorizedHashCode_2 21 rfl rfl)
theorem dJ7_vectorizedHashCode_66 : decode cJ7_vectorizedHashCode 66 = .ok (.checkcast 60, 3) := dk_192 0 60 (dk_at dksJ7_vectorizedHashCode_3 0 rfl rfl)
theorem dJ7_vectorizedHashCode_69 : decode cJ7_vectorizedHashCode 69 = .ok (.iload_n 1, 1) := dk_27 (dk_at dksJ7_vectorizedHashCode_3 3 rfl rfl)
theorem dJ7_vectorizedHashCode_70 : decode cJ7_vectorizedHashCode 70 = .ok (.iload_n 2, 1) := dk_28 (dk_at dksJ7_vectorizedHashCode_3 4 rfl rfl)
theorem dJ7_vectorizedHashCode_71 : decode cJ7_vectorizedHashCode 71 = .ok (.invokestatic 66, 3) := dk_184 0 66 (dk_at dksJ7_vectorizedHashCode_3 5 rfl rfl)
theorem dJ7_vectorizedHashCode_74 : decode cJ7_vectorizedHashCode 74 = .ok (.goto 83, 3) := dk_167 0 83 (dk_at dksJ7_vectorizedHashCode_3 8 rfl rfl)
theorem dJ7_vectorizedHashCode_77 : decode cJ7_vectorizedHashCode 77 = .ok (.iload_n 3, 1) := dk_29 (dk_at dksJ7_vectorizedHashCode_3 11 rfl rfl)
theorem dJ7_vectorizedHashCode_78 : decode cJ7_vectorizedHashCode 78 = .ok (.aload_n 0, 1) := dk_42 (dk_at dksJ7_vectorizedHashCode_3 12 rfl rfl)
theorem dJ7_vectorizedHashCode_79 : decode cJ7_vectorizedHashCode 79 = .ok (.checkcast 69, 3) := dk_192 0 69 (dk_at dksJ7_vectorizedHashCode_3 13 rfl rfl)
theorem dJ7_vectorizedHashCode_82 : decode cJ7_vectorizedHashCode 82 = .ok (.iload_n 1, 1) := dk_27 (dk_at dksJ7_vectorizedHashCode_3 16 rfl rfl)
theorem dJ7_vectorizedHashCode_83 : decode cJ7_vectorizedHashCode 83 = .ok (.iload_n 2, 1) := dk_28 (dk_at dksJ7_vectorizedHashCode_3 17 rfl rfl)
theorem dJ7_vectorizedHashCode_84 : decode cJ7_vectorizedHashCode 84 = .ok (.invokestatic 71, 3) := dk_184 0 71 (dk_at dksJ7_vectorizedHashCode_3 18 rfl rfl)
theorem dJ7_vectorizedHashCode_87 : decode cJ7_vectorizedHashCode 87 = .ok (.goto 70, 3) := dk_167 0 70 (dk_at dksJ7_vectorizedHashCode_3 21 rfl rfl)
theorem dJ7_vectorizedHashCode_90 : decode cJ7_vectorizedHashCode 90 = .ok (.iload_n 3, 1) := dk_29 (dk_at dksJ7_vectorizedHashCode_4 0 rfl rfl)
theorem dJ7_vectorizedHashCode_91 : decode cJ7_vectorizedHashCode 91 = .ok (.aload_n 0, 1) := dk_42 (dk_at dksJ7_vectorizedHashCode_4 1 rfl rfl)
theorem dJ7_vectorizedHashCode_92 : decode cJ7_vectorizedHashCode 92 = .ok (.checkcast 60, 3) := dk_192 0 60 (dk_at dksJ7_vectorizedHashCode_4 2 rfl rfl)
theorem dJ7_vectorizedHashCode_95 : decode cJ7_vectorizedHashCode 95 = .ok (.iload_n 1, 1) := dk_27 (dk_at dksJ7_vectorizedHashCode_4 5 rfl rfl)
theorem dJ7_vectorizedHashCode_96 : decode cJ7_vectorizedHashCode 96 = .ok (.iload_n 2, 1) := dk_28 (dk_at dksJ7_vectorizedHashCode_4 6 rfl rfl)
theorem dJ7_vectorizedHashCode_97 : decode cJ7_vectorizedHashCode 97 = .ok (.invokestatic 75, 3) := dk_184 0 75 (dk_at dksJ7_vectorizedHashCode_4 7 rfl rfl)
theorem dJ7_vectorizedHashCode_100 : decode cJ7_vectorizedHashCode 100 = .ok (.goto 57, 3) := dk_167 0 57 (dk_at dksJ7_vectorizedHashCode_4 10 rfl rfl)
theorem dJ7_vectorizedHashCode_103 : decode cJ7_vectorizedHashCode 103 = .ok (.iload_n 3, 1) := dk_29 (dk_at dksJ7_vectorizedHashCode_4 13 rfl rfl)
theorem dJ7_vectorizedHashCode_104 : decode cJ7_vectorizedHashCode 104 = .ok (.aload_n 0, 1) := dk_42 (dk_at dksJ7_vectorizedHashCode_4 14 rfl rfl)
theorem dJ7_vectorizedHashCode_105 : decode cJ7_vectorizedHashCode 105 = .ok (.checkcast 77, 3) := dk_192 0 77 (dk_at dksJ7_vectorizedHashCode_4 15 rfl rfl)
theorem dJ7_vectorizedHashCode_108 : decode cJ7_vectorizedHashCode 108 = .ok (.iload_n 1, 1) := dk_27 (dk_at dksJ7_vectorizedHashCode_4 18 rfl rfl)
theorem dJ7_vectorizedHashCode_109 : decode cJ7_vectorizedHashCode 109 = .ok (.iload_n 2, 1) := dk_28 (dk_at dksJ7_vectorizedHashCode_4 19 rfl rfl)
theorem dJ7_vectorizedHashCode_110 : decode cJ7_vectorizedHashCode 110 = .ok (.invokestatic 79, 3) := dk_184 0 79 (dk_at dksJ7_vectorizedHashCode_4 20 rfl rfl)
theorem dJ7_vectorizedHashCode_113 : decode cJ7_vectorizedHashCode 113 = .ok (.goto 44, 3) := dk_167 0 44 (dk_at dksJ7_vectorizedHashCode_5 0 rfl rfl)
theorem dJ7_vectorizedHashCode_116 : decode cJ7_vectorizedHashCode 116 = .ok (.iload_n 3, 1) := dk_29 (dk_at dksJ7_vectorizedHashCode_5 3 rfl rfl)
theorem dJ7_vectorizedHashCode_117 : decode cJ7_vectorizedHashCode 117 = .ok (.aload_n 0, 1) := dk_42 (dk_at dksJ7_vectorizedHashCode_5 4 rfl rfl)
theorem dJ7_vectorizedHashCode_118 : decode cJ7_vectorizedHashCode 118 = .ok (.checkcast 82, 3) := dk_192 0 82 (dk_at dksJ7_vectorizedHashCode_5 5 rfl rfl)
theorem dJ7_vectorizedHashCode_121 : decode cJ7_vectorizedHashCode 121 = .ok (.iload_n 1, 1) := dk_27 (dk_at dksJ7_vectorizedHashCode_5 8 rfl rfl)
theorem dJ7_vectorizedHashCode_122 : decode cJ7_vectorizedHashCode 122 = .ok (.iload_n 2, 1) := dk_28 (dk_at dksJ7_vectorizedHashCode_5 9 rfl rfl)
theorem dJ7_vectorizedHashCode_123 : decode cJ7_vectorizedHashCode 123 = .ok (.invokestatic 84, 3) := dk_184 0 84 (dk_at dksJ7_vectorizedHashCode_5 10 rfl rfl)
theorem dJ7_vectorizedHashCode_126 : decode cJ7_vectorizedHashCode 126 = .ok (.goto 31, 3) := dk_167 0 31 (dk_at dksJ7_vectorizedHashCode_5 13 rfl rfl)
theorem dJ7_vectorizedHashCode_129 : decode cJ7_vectorizedHashCode 129 = .ok (.new 87, 3) := dk_187 0 87 (dk_at dksJ7_vectorizedHashCode_5 16 rfl rfl)
theorem dJ7_vectorizedHashCode_132 : decode cJ7_vectorizedHashCode 132 = .ok (.dup, 1) := dk_89 (dk_at dksJ7_vectorizedHashCode_5 19 rfl rfl)
theorem dJ7_vectorizedHashCode_133 : decode cJ7_vectorizedHashCode 133 = .ok (.new 89, 3) := dk_187 0 89 (dk_at dksJ7_vectorizedHashCode_5 20 rfl rfl)
theorem dJ7_vectorizedHashCode_136 : decode cJ7_vectorizedHashCode 136 = .ok (.dup, 1) := dk_89 (dk_at dksJ7_vectorizedHashCode_5 23 rfl rfl)
theorem dJ7_vectorizedHashCode_137 : decode cJ7_vectorizedHashCode 137 = .ok (.invokespecial 91, 3) := dk_183 0 91 (dk_at dksJ7_vectorizedHashCode_6 0 rfl rfl)
theorem dJ7_vectorizedHashCode_140 : decode cJ7_vectorizedHashCode 140 = .ok (.ldc 92, 2) := dk_18 92 (dk_at dksJ7_vectorizedHashCode_6 3 rfl rfl)
theorem dJ7_vectorizedHashCode_142 : decode cJ7_vectorizedHashCode 142 = .ok (.invokevirtual 94, 3) := dk_182 0 94 (dk_at dksJ7_vectorizedHashCode_6 5 rfl rfl)
theorem dJ7_vectorizedHashCode_145 : decode cJ7_vectorizedHashCode 145 = .ok (.iload 4, 2) := dk_21 4 (dk_at dksJ7_vectorizedHashCode_6 8 rfl rfl)
theorem dJ7_vectorizedHashCode_147 : decode cJ7_vectorizedHashCode 147 = .ok (.invokevirtual 98, 3) := dk_182 0 98 (dk_at dksJ7_vectorizedHashCode_6 10 rfl rfl)
theorem dJ7_vectorizedHashCode_150 : decode cJ7_vectorizedHashCode 150 = .ok (.invokevirtual 101, 3) := dk_182 0 101 (dk_at dksJ7_vectorizedHashCode_6 13 rfl rfl)
theorem dJ7_vectorizedHashCode_153 : decode cJ7_vectorizedHashCode 153 = .ok (.invokespecial 105, 3) := dk_183 0 105 (dk_at dksJ7_vectorizedHashCode_6 16 rfl rfl)
theorem dJ7_vectorizedHashCode_156 : decode cJ7_vectorizedHashCode 156 = .ok (.athrow, 1) := dk_191 (dk_at dksJ7_vectorizedHashCode_6 19 rfl rfl)
theorem dJ7_vectorizedHashCode_157 : decode cJ7_vectorizedHashCode 157 = .ok (.ireturn, 1) := dk_172 (dk_at dksJ7_vectorizedHashCode_6 20 rfl rfl)
abbrev cJ7_signedHashCode : ByteArray := prog_58_method_5_code
def yJ7_signedHashCode : MethodName := ⟨RJ7, "signedHashCode", "(I[BII)I"⟩
def dkwJ7_signedHashCode_1 : List UInt8 := [17, 0, 255, 126, 96, 59, 132, 5, 1, 167, 255, 232, 26, 172]
abbrev dktJ7_signedHashCode_1 : List UInt8 := dkwJ7_signedHashCode_1 ++ []
def dkwJ7_signedHashCode_0 : List UInt8 := [28, 29, 96, 54, 4, 28, 54, 5, 21, 5, 21, 4, 162, 0, 23, 16, 31, 26, 104, 43, 21, 5, 51]
abbrev dktJ7_signedHashCode_0 : List UInt8 := dkwJ7_signedHashCode_0 ++ dktJ7_signedHashCode_1
theorem dksJ7_signedHashCode_0 : cJ7_signedHashCode.data.toList.drop 0 = dktJ7_signedHashCode_0 := by decide +kernel
theorem dksJ7_signedHashCode_1 : cJ7_signedHashCode.data.toList.drop 23 = dktJ7_signedHashCode_1 := dk_seg dksJ7_signedHashCode_0 23 rfl rfl
theorem dJ7_signedHashCode_0 : decode cJ7_signedHashCode 0 = .ok (.iload_n 2, 1) := dk_28 (dk_at dksJ7_signedHashCode_0 0 rfl rfl)
theorem dJ7_signedHashCode_1 : decode cJ7_signedHashCode 1 = .ok (.iload_n 3, 1) := dk_29 (dk_at dksJ7_signedHashCode_0 1 rfl rfl)
theorem dJ7_signedHashCode_2 : decode cJ7_signedHashCode 2 = .ok (.iadd, 1) := dk_96 (dk_at dksJ7_signedHashCode_0 2 rfl rfl)
theorem dJ7_signedHashCode_3 : decode cJ7_signedHashCode 3 = .ok (.istore 4, 2) := dk_54 4 (dk_at dksJ7_signedHashCode_0 3 rfl rfl)
theorem dJ7_signedHashCode_5 : decode cJ7_signedHashCode 5 = .ok (.iload_n 2, 1) := dk_28 (dk_at dksJ7_signedHashCode_0 5 rfl rfl)
theorem dJ7_signedHashCode_6 : decode cJ7_signedHashCode 6 = .ok (.istore 5, 2) := dk_54 5 (dk_at dksJ7_signedHashCode_0 6 rfl rfl)
theorem dJ7_signedHashCode_8 : decode cJ7_signedHashCode 8 = .ok (.iload 5, 2) := dk_21 5 (dk_at dksJ7_signedHashCode_0 8 rfl rfl)
theorem dJ7_signedHashCode_10 : decode cJ7_signedHashCode 10 = .ok (.iload 4, 2) := dk_21 4 (dk_at dksJ7_signedHashCode_0 10 rfl rfl)
theorem dJ7_signedHashCode_12 : decode cJ7_signedHashCode 12 = .ok (.if_icmp .ge 23, 3) := dk_162 0 23 (dk_at dksJ7_signedHashCode_0 12 rfl rfl)
theorem dJ7_signedHashCode_15 : decode cJ7_signedHashCode 15 = .ok (.bipush 31, 2) := dk_16 31 (dk_at dksJ7_signedHashCode_0 15 rfl rfl)
theorem dJ7_signedHashCode_17 : decode cJ7_signedHashCode 17 = .ok (.iload_n 0, 1) := dk_26 (dk_at dksJ7_signedHashCode_0 17 rfl rfl)
theorem dJ7_signedHashCode_18 : decode cJ7_signedHashCode 18 = .ok (.imul, 1) := dk_104 (dk_at dksJ7_signedHashCode_0 18 rfl rfl)
theorem dJ7_signedHashCode_19 : decode cJ7_signedHashCode 19 = .ok (.aload_n 1, 1) := dk_43 (dk_at dksJ7_signedHashCode_0 19 rfl rfl)
theorem dJ7_signedHashCode_20 : decode cJ7_signedHashCode 20 = .ok (.iload 5, 2) := dk_21 5 (dk_at dksJ7_signedHashCode_0 20 rfl rfl)
theorem dJ7_signedHashCode_22 : decode cJ7_signedHashCode 22 = .ok (.baload, 1) := dk_51 (dk_at dksJ7_signedHashCode_0 22 rfl rfl)
theorem dJ7_signedHashCode_23 : decode cJ7_signedHashCode 23 = .ok (.sipush 255, 3) := dk_17 0 255 (dk_at dksJ7_signedHashCode_1 0 rfl rfl)
theorem dJ7_signedHashCode_26 : decode cJ7_signedHashCode 26 = .ok (.iand, 1) := dk_126 (dk_at dksJ7_signedHashCode_1 3 rfl rfl)
theorem dJ7_signedHashCode_27 : decode cJ7_signedHashCode 27 = .ok (.iadd, 1) := dk_96 (dk_at dksJ7_signedHashCode_1 4 rfl rfl)
theorem dJ7_signedHashCode_28 : decode cJ7_signedHashCode 28 = .ok (.istore_n 0, 1) := dk_59 (dk_at dksJ7_signedHashCode_1 5 rfl rfl)
theorem dJ7_signedHashCode_29 : decode cJ7_signedHashCode 29 = .ok (.iinc 5 1, 3) := dk_132 5 1 (dk_at dksJ7_signedHashCode_1 6 rfl rfl)
theorem dJ7_signedHashCode_32 : decode cJ7_signedHashCode 32 = .ok (.goto (-24), 3) := dk_167 255 232 (dk_at dksJ7_signedHashCode_1 9 rfl rfl)
theorem dJ7_signedHashCode_35 : decode cJ7_signedHashCode 35 = .ok (.iload_n 0, 1) := dk_26 (dk_at dksJ7_signedHashCode_1 12 rfl rfl)
theorem dJ7_signedHashCode_36 : decode cJ7_signedHashCode 36 = .ok (.ireturn, 1) := dk_172 (dk_at dksJ7_signedHashCode_1 13 rfl rfl)
abbrev cJ7_utf16hashCode : ByteArray := prog_58_method_10_code
def yJ7_utf16hashCode : MethodName := ⟨RJ7, "utf16hashCode", "(I[BII)I"⟩
def dkwJ7_utf16hashCode_1 : List UInt8 := [21, 5, 185, 0, 110, 3, 0, 96, 59, 132, 5, 1, 167, 255, 229, 26, 172]
abbrev dktJ7_utf16hashCode_1 : List UInt8 := dkwJ7_utf16hashCode_1 ++ []
def dkwJ7_utf16hashCode_0 : List UInt8 := [28, 29, 96, 54, 4, 28, 54, 5, 21, 5, 21, 4, 162, 0, 26, 16, 31, 26, 104, 178, 0, 106, 43]
abbrev dktJ7_utf16hashCode_0 : List UInt8 := dkwJ7_utf16hashCode_0 ++ dktJ7_utf16hashCode_1
theorem dksJ7_utf16hashCode_0 : cJ7_utf16hashCode.data.toList.drop 0 = dktJ7_utf16hashCode_0 := by decide +kernel
theorem dksJ7_utf16hashCode_1 : cJ7_utf16hashCode.data.toList.drop 23 = dktJ7_utf16hashCode_1 := dk_seg dksJ7_utf16hashCode_0 23 rfl rfl
theorem dJ7_utf16hashCode_0 : decode cJ7_utf16hashCode 0 = .ok (.iload_n 2, 1) := dk_28 (dk_at dksJ7_utf16hashCode_0 0 rfl rfl)
theorem dJ7_utf16hashCode_1 : decode cJ7_utf16hashCode 1 = .ok (.iload_n 3, 1) := dk_29 (dk_at dksJ7_utf16hashCode_0 1 rfl rfl)
theorem dJ7_utf16hashCode_2 : decode cJ7_utf16hashCode 2 = .ok (.iadd, 1) := dk_96 (dk_at dksJ7_utf16hashCode_0 2 rfl rfl)
theorem dJ7_utf16hashCode_3 : decode cJ7_utf16hashCode 3 = .ok (.istore 4, 2) := dk_54 4 (dk_at dksJ7_utf16hashCode_0 3 rfl rfl)
theorem dJ7_utf16hashCode_5 : decode cJ7_utf16hashCode 5 = .ok (.iload_n 2, 1) := dk_28 (dk_at dksJ7_utf16hashCode_0 5 rfl rfl)
theorem dJ7_utf16hashCode_6 : decode cJ7_utf16hashCode 6 = .ok (.istore 5, 2) := dk_54 5 (dk_at dksJ7_utf16hashCode_0 6 rfl rfl)
theorem dJ7_utf16hashCode_8 : decode cJ7_utf16hashCode 8 = .ok (.iload 5, 2) := dk_21 5 (dk_at dksJ7_utf16hashCode_0 8 rfl rfl)
theorem dJ7_utf16hashCode_10 : decode cJ7_utf16hashCode 10 = .ok (.iload 4, 2) := dk_21 4 (dk_at dksJ7_utf16hashCode_0 10 rfl rfl)
theorem dJ7_utf16hashCode_12 : decode cJ7_utf16hashCode 12 = .ok (.if_icmp .ge 26, 3) := dk_162 0 26 (dk_at dksJ7_utf16hashCode_0 12 rfl rfl)
theorem dJ7_utf16hashCode_15 : decode cJ7_utf16hashCode 15 = .ok (.bipush 31, 2) := dk_16 31 (dk_at dksJ7_utf16hashCode_0 15 rfl rfl)
theorem dJ7_utf16hashCode_17 : decode cJ7_utf16hashCode 17 = .ok (.iload_n 0, 1) := dk_26 (dk_at dksJ7_utf16hashCode_0 17 rfl rfl)
theorem dJ7_utf16hashCode_18 : decode cJ7_utf16hashCode 18 = .ok (.imul, 1) := dk_104 (dk_at dksJ7_utf16hashCode_0 18 rfl rfl)
theorem dJ7_utf16hashCode_19 : decode cJ7_utf16hashCode 19 = .ok (.getstatic 106, 3) := dk_178 0 106 (dk_at dksJ7_utf16hashCode_0 19 rfl rfl)
theorem dJ7_utf16hashCode_22 : decode cJ7_utf16hashCode 22 = .ok (.aload_n 1, 1) := dk_43 (dk_at dksJ7_utf16hashCode_0 22 rfl rfl)
theorem dJ7_utf16hashCode_23 : decode cJ7_utf16hashCode 23 = .ok (.iload 5, 2) := dk_21 5 (dk_at dksJ7_utf16hashCode_1 0 rfl rfl)
theorem dJ7_utf16hashCode_25 : decode cJ7_utf16hashCode 25 = .ok (.invokeinterface 110 3, 5) := by decide +kernel
theorem dJ7_utf16hashCode_30 : decode cJ7_utf16hashCode 30 = .ok (.iadd, 1) := dk_96 (dk_at dksJ7_utf16hashCode_1 7 rfl rfl)
theorem dJ7_utf16hashCode_31 : decode cJ7_utf16hashCode 31 = .ok (.istore_n 0, 1) := dk_59 (dk_at dksJ7_utf16hashCode_1 8 rfl rfl)
theorem dJ7_utf16hashCode_32 : decode cJ7_utf16hashCode 32 = .ok (.iinc 5 1, 3) := dk_132 5 1 (dk_at dksJ7_utf16hashCode_1 9 rfl rfl)
theorem dJ7_utf16hashCode_35 : decode cJ7_utf16hashCode 35 = .ok (.goto (-27), 3) := dk_167 255 229 (dk_at dksJ7_utf16hashCode_1 12 rfl rfl)
theorem dJ7_utf16hashCode_38 : decode cJ7_utf16hashCode 38 = .ok (.iload_n 0, 1) := dk_26 (dk_at dksJ7_utf16hashCode_1 15 rfl rfl)
theorem dJ7_utf16hashCode_39 : decode cJ7_utf16hashCode 39 = .ok (.ireturn, 1) := dk_172 (dk_at dksJ7_utf16hashCode_1 16 rfl rfl)
abbrev cJ7_hashCode : ByteArray := prog_58_method_7_code
def yJ7_hashCode : MethodName := ⟨RJ7, "hashCode", "(I[CII)I"⟩
def dkwJ7_hashCode_1 : List UInt8 := [59, 132, 5, 1, 167, 255, 236, 26, 172]
abbrev dktJ7_hashCode_1 : List UInt8 := dkwJ7_hashCode_1 ++ []
def dkwJ7_hashCode_0 : List UInt8 := [28, 29, 96, 54, 4, 28, 54, 5, 21, 5, 21, 4, 162, 0, 19, 16, 31, 26, 104, 43, 21, 5, 52, 96]
abbrev dktJ7_hashCode_0 : List UInt8 := dkwJ7_hashCode_0 ++ dktJ7_hashCode_1
theorem dksJ7_hashCode_0 : cJ7_hashCode.data.toList.drop 0 = dktJ7_hashCode_0 := by decide +kernel
theorem dksJ7_hashCode_1 : cJ7_hashCode.data.toList.drop 24 = dktJ7_hashCode_1 := dk_seg dksJ7_hashCode_0 24 rfl rfl
theorem dJ7_hashCode_0 : decode cJ7_hashCode 0 = .ok (.iload_n 2, 1) := dk_28 (dk_at dksJ7_hashCode_0 0 rfl rfl)
theorem dJ7_hashCode_1 : decode cJ7_hashCode 1 = .ok (.iload_n 3, 1) := dk_29 (dk_at dksJ7_hashCode_0 1 rfl rfl)
theorem dJ7_hashCode_2 : decode cJ7_hashCode 2 = .ok (.iadd, 1) := dk_96 (dk_at dksJ7_hashCode_0 2 rfl rfl)
theorem dJ7_hashCode_3 : decode cJ7_hashCode 3 = .ok (.istore 4, 2) := dk_54 4 (dk_at dksJ7_hashCode_0 3 rfl rfl)
theorem dJ7_hashCode_5 : decode cJ7_hashCode 5 = .ok (.iload_n 2, 1) := dk_28 (dk_at dksJ7_hashCode_0 5 rfl rfl)
theorem dJ7_hashCode_6 : decode cJ7_hashCode 6 = .ok (.istore 5, 2) := dk_54 5 (dk_at dksJ7_hashCode_0 6 rfl rfl)
theorem dJ7_hashCode_8 : decode cJ7_hashCode 8 = .ok (.iload 5, 2) := dk_21 5 (dk_at dksJ7_hashCode_0 8 rfl rfl)
theorem dJ7_hashCode_10 : decode cJ7_hashCode 10 = .ok (.iload 4, 2) := dk_21 4 (dk_at dksJ7_hashCode_0 10 rfl rfl)
theorem dJ7_hashCode_12 : decode cJ7_hashCode 12 = .ok (.if_icmp .ge 19, 3) := dk_162 0 19 (dk_at dksJ7_hashCode_0 12 rfl rfl)
theorem dJ7_hashCode_15 : decode cJ7_hashCode 15 = .ok (.bipush 31, 2) := dk_16 31 (dk_at dksJ7_hashCode_0 15 rfl rfl)
theorem dJ7_hashCode_17 : decode cJ7_hashCode 17 = .ok (.iload_n 0, 1) := dk_26 (dk_at dksJ7_hashCode_0 17 rfl rfl)
theorem dJ7_hashCode_18 : decode cJ7_hashCode 18 = .ok (.imul, 1) := dk_104 (dk_at dksJ7_hashCode_0 18 rfl rfl)
theorem dJ7_hashCode_19 : decode cJ7_hashCode 19 = .ok (.aload_n 1, 1) := dk_43 (dk_at dksJ7_hashCode_0 19 rfl rfl)
theorem dJ7_hashCode_20 : decode cJ7_hashCode 20 = .ok (.iload 5, 2) := dk_21 5 (dk_at dksJ7_hashCode_0 20 rfl rfl)
theorem dJ7_hashCode_22 : decode cJ7_hashCode 22 = .ok (.caload, 1) := dk_52 (dk_at dksJ7_hashCode_0 22 rfl rfl)
theorem dJ7_hashCode_23 : decode cJ7_hashCode 23 = .ok (.iadd, 1) := dk_96 (dk_at dksJ7_hashCode_0 23 rfl rfl)
theorem dJ7_hashCode_24 : decode cJ7_hashCode 24 = .ok (.istore_n 0, 1) := dk_59 (dk_at dksJ7_hashCode_1 0 rfl rfl)
theorem dJ7_hashCode_25 : decode cJ7_hashCode 25 = .ok (.iinc 5 1, 3) := dk_132 5 1 (dk_at dksJ7_hashCode_1 1 rfl rfl)
theorem dJ7_hashCode_28 : decode cJ7_hashCode 28 = .ok (.goto (-20), 3) := dk_167 255 236 (dk_at dksJ7_hashCode_1 4 rfl rfl)
theorem dJ7_hashCode_31 : decode cJ7_hashCode 31 = .ok (.iload_n 0, 1) := dk_26 (dk_at dksJ7_hashCode_1 7 rfl rfl)
theorem dJ7_hashCode_32 : decode cJ7_hashCode 32 = .ok (.ireturn, 1) := dk_172 (dk_at dksJ7_hashCode_1 8 rfl rfl)
abbrev cJ7_hashCode_2 : ByteArray := prog_58_method_6_code
def yJ7_hashCode_2 : MethodName := ⟨RJ7, "hashCode", "(I[BII)I"⟩
def dkwJ7_hashCode_2_1 : List UInt8 := [59, 132, 5, 1, 167, 255, 236, 26, 172]
abbrev dktJ7_hashCode_2_1 : List UInt8 := dkwJ7_hashCode_2_1 ++ []
def dkwJ7_hashCode_2_0 : List UInt8 := [28, 29, 96, 54, 4, 28, 54, 5, 21, 5, 21, 4, 162, 0, 19, 16, 31, 26, 104, 43, 21, 5, 51, 96]
abbrev dktJ7_hashCode_2_0 : List UInt8 := dkwJ7_hashCode_2_0 ++ dktJ7_hashCode_2_1
theorem dksJ7_hashCode_2_0 : cJ7_hashCode_2.data.toList.drop 0 = dktJ7_hashCode_2_0 := by decide +kernel
theorem dksJ7_hashCode_2_1 : cJ7_hashCode_2.data.toList.drop 24 = dktJ7_hashCode_2_1 := dk_seg dksJ7_hashCode_2_0 24 rfl rfl
theorem dJ7_hashCode_2_0 : decode cJ7_hashCode_2 0 = .ok (.iload_n 2, 1) := dk_28 (dk_at dksJ7_hashCode_2_0 0 rfl rfl)
theorem dJ7_hashCode_2_1 : decode cJ7_hashCode_2 1 = .ok (.iload_n 3, 1) := dk_29 (dk_at dksJ7_hashCode_2_0 1 rfl rfl)
theorem dJ7_hashCode_2_2 : decode cJ7_hashCode_2 2 = .ok (.iadd, 1) := dk_96 (dk_at dksJ7_hashCode_2_0 2 rfl rfl)
theorem dJ7_hashCode_2_3 : decode cJ7_hashCode_2 3 = .ok (.istore 4, 2) := dk_54 4 (dk_at dksJ7_hashCode_2_0 3 rfl rfl)
theorem dJ7_hashCode_2_5 : decode cJ7_hashCode_2 5 = .ok (.iload_n 2, 1) := dk_28 (dk_at dksJ7_hashCode_2_0 5 rfl rfl)
theorem dJ7_hashCode_2_6 : decode cJ7_hashCode_2 6 = .ok (.istore 5, 2) := dk_54 5 (dk_at dksJ7_hashCode_2_0 6 rfl rfl)
theorem dJ7_hashCode_2_8 : decode cJ7_hashCode_2 8 = .ok (.iload 5, 2) := dk_21 5 (dk_at dksJ7_hashCode_2_0 8 rfl rfl)
theorem dJ7_hashCode_2_10 : decode cJ7_hashCode_2 10 = .ok (.iload 4, 2) := dk_21 4 (dk_at dksJ7_hashCode_2_0 10 rfl rfl)
theorem dJ7_hashCode_2_12 : decode cJ7_hashCode_2 12 = .ok (.if_icmp .ge 19, 3) := dk_162 0 19 (dk_at dksJ7_hashCode_2_0 12 rfl rfl)
theorem dJ7_hashCode_2_15 : decode cJ7_hashCode_2 15 = .ok (.bipush 31, 2) := dk_16 31 (dk_at dksJ7_hashCode_2_0 15 rfl rfl)
theorem dJ7_hashCode_2_17 : decode cJ7_hashCode_2 17 = .ok (.iload_n 0, 1) := dk_26 (dk_at dksJ7_hashCode_2_0 17 rfl rfl)
theorem dJ7_hashCode_2_18 : decode cJ7_hashCode_2 18 = .ok (.imul, 1) := dk_104 (dk_at dksJ7_hashCode_2_0 18 rfl rfl)
theorem dJ7_hashCode_2_19 : decode cJ7_hashCode_2 19 = .ok (.aload_n 1, 1) := dk_43 (dk_at dksJ7_hashCode_2_0 19 rfl rfl)
theorem dJ7_hashCode_2_20 : decode cJ7_hashCode_2 20 = .ok (.iload 5, 2) := dk_21 5 (dk_at dksJ7_hashCode_2_0 20 rfl rfl)
theorem dJ7_hashCode_2_22 : decode cJ7_hashCode_2 22 = .ok (.baload, 1) := dk_51 (dk_at dksJ7_hashCode_2_0 22 rfl rfl)
theorem dJ7_hashCode_2_23 : decode cJ7_hashCode_2 23 = .ok (.iadd, 1) := dk_96 (dk_at dksJ7_hashCode_2_0 23 rfl rfl)
theorem dJ7_hashCode_2_24 : decode cJ7_hashCode_2 24 = .ok (.istore_n 0, 1) := dk_59 (dk_at dksJ7_hashCode_2_1 0 rfl rfl)
theorem dJ7_hashCode_2_25 : decode cJ7_hashCode_2 25 = .ok (.iinc 5 1, 3) := dk_132 5 1 (dk_at dksJ7_hashCode_2_1 1 rfl rfl)
theorem dJ7_hashCode_2_28 : decode cJ7_hashCode_2 28 = .ok (.goto (-20), 3) := dk_167 255 236 (dk_at dksJ7_hashCode_2_1 4 rfl rfl)
theorem dJ7_hashCode_2_31 : decode cJ7_hashCode_2 31 = .ok (.iload_n 0, 1) := dk_26 (dk_at dksJ7_hashCode_2_1 7 rfl rfl)
theorem dJ7_hashCode_2_32 : decode cJ7_hashCode_2 32 = .ok (.ireturn, 1) := dk_172 (dk_at dksJ7_hashCode_2_1 8 rfl rfl)
abbrev cJ7_hashCode_3 : ByteArray := prog_58_method_8_code
def yJ7_hashCode_3 : MethodName := ⟨RJ7, "hashCode", "(I[SII)I"⟩
def dkwJ7_hashCode_3_1 : List UInt8 := [59, 132, 5, 1, 167, 255, 236, 26, 172]
abbrev dktJ7_hashCode_3_1 : List UInt8 := dkwJ7_hashCode_3_1 ++ []
def dkwJ7_hashCode_3_0 : List UInt8 := [28, 29, 96, 54, 4, 28, 54, 5, 21, 5, 21, 4, 162, 0, 19, 16, 31, 26, 104, 43, 21, 5, 53, 96]
abbrev dktJ7_hashCode_3_0 : List UInt8 := dkwJ7_hashCode_3_0 ++ dktJ7_hashCode_3_1
theorem dksJ7_hashCode_3_0 : cJ7_hashCode_3.data.toList.drop 0 = dktJ7_hashCode_3_0 := by decide +kernel
theorem dksJ7_hashCode_3_1 : cJ7_hashCode_3.data.toList.drop 24 = dktJ7_hashCode_3_1 := dk_seg dksJ7_hashCode_3_0 24 rfl rfl
theorem dJ7_hashCode_3_0 : decode cJ7_hashCode_3 0 = .ok (.iload_n 2, 1) := dk_28 (dk_at dksJ7_hashCode_3_0 0 rfl rfl)
theorem dJ7_hashCode_3_1 : decode cJ7_hashCode_3 1 = .ok (.iload_n 3, 1) := dk_29 (dk_at dksJ7_hashCode_3_0 1 rfl rfl)
theorem dJ7_hashCode_3_2 : decode cJ7_hashCode_3 2 = .ok (.iadd, 1) := dk_96 (dk_at dksJ7_hashCode_3_0 2 rfl rfl)
theorem dJ7_hashCode_3_3 : decode cJ7_hashCode_3 3 = .ok (.istore 4, 2) := dk_54 4 (dk_at dksJ7_hashCode_3_0 3 rfl rfl)
theorem dJ7_hashCode_3_5 : decode cJ7_hashCode_3 5 = .ok (.iload_n 2, 1) := dk_28 (dk_at dksJ7_hashCode_3_0 5 rfl rfl)
theorem dJ7_hashCode_3_6 : decode cJ7_hashCode_3 6 = .ok (.istore 5, 2) := dk_54 5 (dk_at dksJ7_hashCode_3_0 6 rfl rfl)
theorem dJ7_hashCode_3_8 : decode cJ7_hashCode_3 8 = .ok (.iload 5, 2) := dk_21 5 (dk_at dksJ7_hashCode_3_0 8 rfl rfl)
theorem dJ7_hashCode_3_10 : decode cJ7_hashCode_3 10 = .ok (.iload 4, 2) := dk_21 4 (dk_at dksJ7_hashCode_3_0 10 rfl rfl)
theorem dJ7_hashCode_3_12 : decode cJ7_hashCode_3 12 = .ok (.if_icmp .ge 19, 3) := dk_162 0 19 (dk_at dksJ7_hashCode_3_0 12 rfl rfl)
theorem dJ7_hashCode_3_15 : decode cJ7_hashCode_3 15 = .ok (.bipush 31, 2) := dk_16 31 (dk_at dksJ7_hashCode_3_0 15 rfl rfl)
theorem dJ7_hashCode_3_17 : decode cJ7_hashCode_3 17 = .ok (.iload_n 0, 1) := dk_26 (dk_at dksJ7_hashCode_3_0 17 rfl rfl)
theorem dJ7_hashCode_3_18 : decode cJ7_hashCode_3 18 = .ok (.imul, 1) := dk_104 (dk_at dksJ7_hashCode_3_0 18 rfl rfl)
theorem dJ7_hashCode_3_19 : decode cJ7_hashCode_3 19 = .ok (.aload_n 1, 1) := dk_43 (dk_at dksJ7_hashCode_3_0 19 rfl rfl)
theorem dJ7_hashCode_3_20 : decode cJ7_hashCode_3 20 = .ok (.iload 5, 2) := dk_21 5 (dk_at dksJ7_hashCode_3_0 20 rfl rfl)
theorem dJ7_hashCode_3_22 : decode cJ7_hashCode_3 22 = .ok (.saload, 1) := dk_53 (dk_at dksJ7_hashCode_3_0 22 rfl rfl)
theorem dJ7_hashCode_3_23 : decode cJ7_hashCode_3 23 = .ok (.iadd, 1) := dk_96 (dk_at dksJ7_hashCode_3_0 23 rfl rfl)
theorem dJ7_hashCode_3_24 : decode cJ7_hashCode_3 24 = .ok (.istore_n 0, 1) := dk_59 (dk_at dksJ7_hashCode_3_1 0 rfl rfl)
theorem dJ7_hashCode_3_25 : decode cJ7_hashCode_3 25 = .ok (.iinc 5 1, 3) := dk_132 5 1 (dk_at dksJ7_hashCode_3_1 1 rfl rfl)
theorem dJ7_hashCode_3_28 : decode cJ7_hashCode_3 28 = .ok (.goto (-20), 3) := dk_167 255 236 (dk_at dksJ7_hashCode_3_1 4 rfl rfl)
theorem dJ7_hashCode_3_31 : decode cJ7_hashCode_3 31 = .ok (.iload_n 0, 1) := dk_26 (dk_at dksJ7_hashCode_3_1 7 rfl rfl)
theorem dJ7_hashCode_3_32 : decode cJ7_hashCode_3 32 = .ok (.ireturn, 1) := dk_172 (dk_at dksJ7_hashCode_3_1 8 rfl rfl)
abbrev cJ7_hashCode_4 : ByteArray := prog_58_method_9_code
def yJ7_hashCode_4 : MethodName := ⟨RJ7, "hashCode", "(I[III)I"⟩
def dkwJ7_hashCode_4_1 : List UInt8 := [59, 132, 5, 1, 167, 255, 236, 26, 172]
abbrev dktJ7_hashCode_4_1 : List UInt8 := dkwJ7_hashCode_4_1 ++ []
def dkwJ7_hashCode_4_0 : List UInt8 := [28, 29, 96, 54, 4, 28, 54, 5, 21, 5, 21, 4, 162, 0, 19, 16, 31, 26, 104, 43, 21, 5, 46, 96]
abbrev dktJ7_hashCode_4_0 : List UInt8 := dkwJ7_hashCode_4_0 ++ dktJ7_hashCode_4_1
theorem dksJ7_hashCode_4_0 : cJ7_hashCode_4.data.toList.drop 0 = dktJ7_hashCode_4_0 := by decide +kernel
theorem dksJ7_hashCode_4_1 : cJ7_hashCode_4.data.toList.drop 24 = dktJ7_hashCode_4_1 := dk_seg dksJ7_hashCode_4_0 24 rfl rfl
theorem dJ7_hashCode_4_0 : decode cJ7_hashCode_4 0 = .ok (.iload_n 2, 1) := dk_28 (dk_at dksJ7_hashCode_4_0 0 rfl rfl)
theorem dJ7_hashCode_4_1 : decode cJ7_hashCode_4 1 = .ok (.iload_n 3, 1) := dk_29 (dk_at dksJ7_hashCode_4_0 1 rfl rfl)
theorem dJ7_hashCode_4_2 : decode cJ7_hashCode_4 2 = .ok (.iadd, 1) := dk_96 (dk_at dksJ7_hashCode_4_0 2 rfl rfl)
theorem dJ7_hashCode_4_3 : decode cJ7_hashCode_4 3 = .ok (.istore 4, 2) := dk_54 4 (dk_at dksJ7_hashCode_4_0 3 rfl rfl)
theorem dJ7_hashCode_4_5 : decode cJ7_hashCode_4 5 = .ok (.iload_n 2, 1) := dk_28 (dk_at dksJ7_hashCode_4_0 5 rfl rfl)
theorem dJ7_hashCode_4_6 : decode cJ7_hashCode_4 6 = .ok (.istore 5, 2) := dk_54 5 (dk_at dksJ7_hashCode_4_0 6 rfl rfl)
theorem dJ7_hashCode_4_8 : decode cJ7_hashCode_4 8 = .ok (.iload 5, 2) := dk_21 5 (dk_at dksJ7_hashCode_4_0 8 rfl rfl)
theorem dJ7_hashCode_4_10 : decode cJ7_hashCode_4 10 = .ok (.iload 4, 2) := dk_21 4 (dk_at dksJ7_hashCode_4_0 10 rfl rfl)
theorem dJ7_hashCode_4_12 : decode cJ7_hashCode_4 12 = .ok (.if_icmp .ge 19, 3) := dk_162 0 19 (dk_at dksJ7_hashCode_4_0 12 rfl rfl)
theorem dJ7_hashCode_4_15 : decode cJ7_hashCode_4 15 = .ok (.bipush 31, 2) := dk_16 31 (dk_at dksJ7_hashCode_4_0 15 rfl rfl)
theorem dJ7_hashCode_4_17 : decode cJ7_hashCode_4 17 = .ok (.iload_n 0, 1) := dk_26 (dk_at dksJ7_hashCode_4_0 17 rfl rfl)
theorem dJ7_hashCode_4_18 : decode cJ7_hashCode_4 18 = .ok (.imul, 1) := dk_104 (dk_at dksJ7_hashCode_4_0 18 rfl rfl)
theorem dJ7_hashCode_4_19 : decode cJ7_hashCode_4 19 = .ok (.aload_n 1, 1) := dk_43 (dk_at dksJ7_hashCode_4_0 19 rfl rfl)
theorem dJ7_hashCode_4_20 : decode cJ7_hashCode_4 20 = .ok (.iload 5, 2) := dk_21 5 (dk_at dksJ7_hashCode_4_0 20 rfl rfl)
theorem dJ7_hashCode_4_22 : decode cJ7_hashCode_4 22 = .ok (.iaload, 1) := dk_46 (dk_at dksJ7_hashCode_4_0 22 rfl rfl)
theorem dJ7_hashCode_4_23 : decode cJ7_hashCode_4 23 = .ok (.iadd, 1) := dk_96 (dk_at dksJ7_hashCode_4_0 23 rfl rfl)
theorem dJ7_hashCode_4_24 : decode cJ7_hashCode_4 24 = .ok (.istore_n 0, 1) := dk_59 (dk_at dksJ7_hashCode_4_1 0 rfl rfl)
theorem dJ7_hashCode_4_25 : decode cJ7_hashCode_4 25 = .ok (.iinc 5 1, 3) := dk_132 5 1 (dk_at dksJ7_hashCode_4_1 1 rfl rfl)
theorem dJ7_hashCode_4_28 : decode cJ7_hashCode_4 28 = .ok (.goto (-20), 3) := dk_167 255 236 (dk_at dksJ7_hashCode_4_1 4 rfl rfl)
theorem dJ7_hashCode_4_31 : decode cJ7_hashCode_4 31 = .ok (.iload_n 0, 1) := dk_26 (dk_at dksJ7_hashCode_4_1 7 rfl rfl)
theorem dJ7_hashCode_4_32 : decode cJ7_hashCode_4 32 = .ok (.ireturn, 1) := dk_172 (dk_at dksJ7_hashCode_4_1 8 rfl rfl)
theorem q127 : (Jvm.Cond.initialized "jdk/internal/util/ArraysSupport") ∈ lw_all := lw_g (lw_at lw_m1 15 rfl) rfl
theorem q804 : (Jvm.Cond.static ({ cls := "jdk/internal/util/ArraysSupport", name := "newLength", desc := "(III)I" } : Jvm.MethodName)) ∈ lw_all := lw_g (lw_at lw_m3 212 rfl) rfl
theorem q805 : (Jvm.Cond.code ({ cls := "jdk/internal/util/ArraysSupport", name := "newLength", desc := "(III)I" } : Jvm.MethodName) prog_58_method_27_code (4 : Nat) (Option.some Jvm.ClassFile.FieldType.int)) ∈ lw_all := lw_g (lw_at lw_m3 213 rfl) rfl
theorem q806 : (Jvm.Cond.methodLink "jdk/internal/util/ArraysSupport" (194 : Nat) ({ cls := "java/lang/Math", name := "max", desc := "(II)I" } : Jvm.MethodName)) ∈ lw_all := lw_g (lw_at lw_m3 214 rfl) rfl
theorem q807 : (Jvm.Cond.constant "jdk/internal/util/ArraysSupport" (200 : Nat) (2147483639 : Int32)) ∈ lw_all := lw_g (lw_at lw_m3 215 rfl) rfl
theorem q808 : (Jvm.Cond.methodLink "jdk/internal/util/ArraysSupport" (201 : Nat) ({ cls := "jdk/internal/util/ArraysSupport", name := "hugeLength", desc := "(II)I" } : Jvm.MethodName)) ∈ lw_all := lw_g (lw_at lw_m3 216 rfl) rfl
theorem q809 : (Jvm.Cond.static ({ cls := "jdk/internal/util/ArraysSupport", name := "hugeLength", desc := "(II)I" } : Jvm.MethodName)) ∈ lw_all := lw_g (lw_at lw_m3 217 rfl) rfl
theorem q810 : (Jvm.Cond.code ({ cls := "jdk/internal/util/ArraysSupport", name := "hugeLength", desc := "(II)I" } : Jvm.MethodName) prog_58_method_28_code (3 : Nat) (Option.some Jvm.ClassFile.FieldType.int)) ∈ lw_all := lw_g (lw_at lw_m3 218 rfl) rfl
theorem q1123 : (Jvm.Cond.static ({ cls := "jdk/internal/util/ArraysSupport", name := "vectorizedHashCode", desc := "(Ljava/lang/Object;IIII)I" } : Jvm.MethodName)) ∈ lw_all := lw_g (lw_at lw_m5 51 rfl) rfl
theorem q1124 : (Jvm.Cond.code ({ cls := "jdk/internal/util/ArraysSupport", name := "vectorizedHashCode", desc := "(Ljava/lang/Object;IIII)I" } : Jvm.MethodName) prog_58_method_4_code (5 : Nat) (Option.some Jvm.ClassFile.FieldType.int)) ∈ lw_all := lw_g (lw_at lw_m5 52 rfl) rfl
theorem q1125 : (Jvm.Cond.classLink "jdk/internal/util/ArraysSupport" (60 : Nat) "[B") ∈ lw_all := lw_g (lw_at lw_m5 53 rfl) rfl
theorem q1126 : (Jvm.Cond.methodLink "jdk/internal/util/ArraysSupport" (62 : Nat) ({ cls := "jdk/internal/util/ArraysSupport", name := "signedHashCode", desc := "(I[BII)I" } : Jvm.MethodName)) ∈ lw_all := lw_g (lw_at lw_m5 54 rfl) rfl
theorem q1127 : (Jvm.Cond.static ({ cls := "jdk/internal/util/ArraysSupport", name := "signedHashCode", desc := "(I[BII)I" } : Jvm.MethodName)) ∈ lw_all := lw_g (lw_at lw_m5 55 rfl) rfl
theorem q1128 : (Jvm.Cond.code ({ cls := "jdk/internal/util/ArraysSupport", name := "signedHashCode", desc := "(I[BII)I" } : Jvm.MethodName) prog_58_method_5_code (6 : Nat) (Option.some Jvm.ClassFile.FieldType.int)) ∈ lw_all := lw_g (lw_at lw_m5 56 rfl) rfl
theorem q1129 : (Jvm.Cond.methodLink "jdk/internal/util/ArraysSupport" (66 : Nat) ({ cls := "jdk/internal/util/ArraysSupport", name := "utf16hashCode", desc := "(I[BII)I" } : Jvm.MethodName)) ∈ lw_all := lw_g (lw_at lw_m5 57 rfl) rfl
theorem q1130 : (Jvm.Cond.static ({ cls := "jdk/internal/util/ArraysSupport", name := "utf16hashCode", desc := "(I[BII)I" } : Jvm.MethodName)) ∈ lw_all := lw_g (lw_at lw_m5 58 rfl) rfl
theorem q1131 : (Jvm.Cond.code ({ cls := "jdk/internal/util/ArraysSupport", name := "utf16hashCode", desc := "(I[BII)I" } : Jvm.MethodName) prog_58_method_10_code (6 : Nat) (Option.some Jvm.ClassFile.FieldType.int)) ∈ lw_all := lw_g (lw_at lw_m5 59 rfl) rfl
theorem q1132 : (Jvm.Cond.fieldLink "jdk/internal/util/ArraysSupport" (106 : Nat) "jdk/internal/util/ArraysSupport" "JLA" "Ljdk/internal/access/JavaLangAccess;") ∈ lw_all := lw_g (lw_at lw_m5 60 rfl) rfl
theorem q1133 : (Jvm.Cond.laysStatic "jdk/internal/util/ArraysSupport" "JLA" "Ljdk/internal/access/JavaLangAccess;") ∈ lw_tbl := lw_at lw_m5 61 rfl
theorem q1134 : (Jvm.Cond.interfaceEntry "jdk/internal/util/ArraysSupport" (110 : Nat)) ∈ lw_tbl := lw_at lw_m5 62 rfl
theorem q1135 : (Jvm.Cond.methodLink "jdk/internal/util/ArraysSupport" (110 : Nat) ({ cls := "jdk/internal/access/JavaLangAccess", name := "getUTF16Char", desc := "([BI)C" } : Jvm.MethodName)) ∈ lw_all := lw_g (lw_at lw_m5 63 rfl) rfl
theorem q1145 : (Jvm.Cond.classLink "jdk/internal/util/ArraysSupport" (69 : Nat) "[C") ∈ lw_all := lw_g (lw_at lw_m5 73 rfl) rfl
theorem q1146 : (Jvm.Cond.methodLink "jdk/internal/util/ArraysSupport" (71 : Nat) ({ cls := "jdk/internal/util/ArraysSupport", name := "hashCode", desc := "(I[CII)I" } : Jvm.MethodName)) ∈ lw_all := lw_g (lw_at lw_m5 74 rfl) rfl
theorem q1147 : (Jvm.Cond.static ({ cls := "jdk/internal/util/ArraysSupport", name := "hashCode", desc := "(I[CII)I" } : Jvm.MethodName)) ∈ lw_all := lw_g (lw_at lw_m5 75 rfl) rfl
theorem q1148 : (Jvm.Cond.code ({ cls := "jdk/internal/util/ArraysSupport", name := "hashCode", desc := "(I[CII)I" } : Jvm.MethodName) prog_58_method_7_code (6 : Nat) (Option.some Jvm.ClassFile.FieldType.int)) ∈ lw_all := lw_g (lw_at lw_m5 76 rfl) rfl
theorem q1149 : (Jvm.Cond.methodLink "jdk/internal/util/ArraysSupport" (75 : Nat) ({ cls := "jdk/internal/util/ArraysSupport", name := "hashCode", desc := "(I[BII)I" } : Jvm.MethodName)) ∈ lw_all := lw_g (lw_at lw_m5 77 rfl) rfl
theorem q1150 : (Jvm.Cond.static ({ cls := "jdk/internal/util/ArraysSupport", name := "hashCode", desc := "(I[BII)I" } : Jvm.MethodName)) ∈ lw_all := lw_g (lw_at lw_m5 78 rfl) rfl
theorem q1151 : (Jvm.Cond.code ({ cls := "jdk/internal/util/ArraysSupport", name := "hashCode", desc := "(I[BII)I" } : Jvm.MethodName) prog_58_method_6_code (6 : Nat) (Option.some Jvm.ClassFile.FieldType.int)) ∈ lw_all := lw_g (lw_at lw_m5 79 rfl) rfl
theorem q1152 : (Jvm.Cond.classLink "jdk/internal/util/ArraysSupport" (77 : Nat) "[S") ∈ lw_all := lw_g (lw_at lw_m5 80 rfl) rfl
theorem q1153 : (Jvm.Cond.methodLink "jdk/internal/util/ArraysSupport" (79 : Nat) ({ cls := "jdk/internal/util/ArraysSupport", name := "hashCode", desc := "(I[SII)I" } : Jvm.MethodName)) ∈ lw_all := lw_g (lw_at lw_m5 81 rfl) rfl
theorem q1154 : (Jvm.Cond.static ({ cls := "jdk/internal/util/ArraysSupport", name := "hashCode", desc := "(I[SII)I" } : Jvm.MethodName)) ∈ lw_all := lw_g (lw_at lw_m5 82 rfl) rfl
theorem q1155 : (Jvm.Cond.code ({ cls := "jdk/internal/util/ArraysSupport", name := "hashCode", desc := "(I[SII)I" } : Jvm.MethodName) prog_58_method_8_code (6 : Nat) (Option.some Jvm.ClassFile.FieldType.int)) ∈ lw_all := lw_g (lw_at lw_m5 83 rfl) rfl
theorem q1156 : (Jvm.Cond.classLink "jdk/internal/util/ArraysSupport" (82 : Nat) "[I") ∈ lw_all := lw_g (lw_at lw_m5 84 rfl) rfl
theorem q1157 : (Jvm.Cond.methodLink "jdk/internal/util/ArraysSupport" (84 : Nat) ({ cls := "jdk/internal/util/ArraysSupport", name := "hashCode", desc := "(I[III)I" } : Jvm.MethodName)) ∈ lw_all := lw_g (lw_at lw_m5 85 rfl) rfl
theorem q1158 : (Jvm.Cond.static ({ cls := "jdk/internal/util/ArraysSupport", name := "hashCode", desc := "(I[III)I" } : Jvm.MethodName)) ∈ lw_all := lw_g (lw_at lw_m5 86 rfl) rfl
theorem q1159 : (Jvm.Cond.code ({ cls := "jdk/internal/util/ArraysSupport", name := "hashCode", desc := "(I[III)I" } : Jvm.MethodName) prog_58_method_9_code (6 : Nat) (Option.some Jvm.ClassFile.FieldType.int)) ∈ lw_all := lw_g (lw_at lw_m5 87 rfl) rfl
theorem q1160 : (Jvm.Cond.classLink "jdk/internal/util/ArraysSupport" (87 : Nat) "java/lang/IllegalArgumentException") ∈ lw_all := lw_g (lw_at lw_m5 88 rfl) rfl
theorem q1161 : (Jvm.Cond.classLink "jdk/internal/util/ArraysSupport" (89 : Nat) "java/lang/StringBuilder") ∈ lw_all := lw_g (lw_at lw_m5 89 rfl) rfl
theorem q1162 : (Jvm.Cond.methodLink "jdk/internal/util/ArraysSupport" (91 : Nat) ({ cls := "java/lang/StringBuilder", name := "<init>", desc := "()V" } : Jvm.MethodName)) ∈ lw_all := lw_g (lw_at lw_m5 90 rfl) rfl
theorem q1163 : (Jvm.Cond.stringRef "jdk/internal/util/ArraysSupport" (92 : Nat) "unrecognized basic type: ") ∈ lw_tbl := lw_at lw_m5 91 rfl
theorem q1164 : (Jvm.Cond.methodLink "jdk/internal/util/ArraysSupport" (94 : Nat) ({ cls := "java/lang/StringBuilder", name := "append", desc := "(Ljava/lang/String;)Ljava/lang/StringBuilder;" } : Jvm.MethodName)) ∈ lw_all := lw_g (lw_at lw_m5 92 rfl) rfl
theorem q1165 : (Jvm.Cond.methodLink "jdk/internal/util/ArraysSupport" (98 : Nat) ({ cls := "java/lang/StringBuilder", name := "append", desc := "(I)Ljava/lang/StringBuilder;" } : Jvm.MethodName)) ∈ lw_all := lw_g (lw_at lw_m5 93 rfl) rfl
theorem q1166 : (Jvm.Cond.methodLink "jdk/internal/util/ArraysSupport" (101 : Nat) ({ cls := "java/lang/StringBuilder", name := "toString", desc := "()Ljava/lang/String;" } : Jvm.MethodName)) ∈ lw_all := lw_g (lw_at lw_m5 94 rfl) rfl
theorem q1167 : (Jvm.Cond.methodLink "jdk/internal/util/ArraysSupport" (105 : Nat) ({ cls := "java/lang/IllegalArgumentException", name := "<init>", desc := "(Ljava/lang/String;)V" } : Jvm.MethodName)) ∈ lw_all := lw_g (lw_at lw_m5 95 rfl) rfl

/-! java/lang/Math -/
set_option maxRecDepth 100000
def RJ8 : String := "java/lang/Math"
abbrev cJ8_min : ByteArray := prog_34_method_69_code
def yJ8_min : MethodName := ⟨RJ8, "min", "(II)I"⟩
def dkwJ8_min_0 : List UInt8 := [26, 27, 163, 0, 7, 26, 167, 0, 4, 27, 172]
abbrev dktJ8_min_0 : List UInt8 := dkwJ8_min_0 ++ []
theorem dksJ8_min_0 : cJ8_min.data.toList.drop 0 = dktJ8_min_0 := by decide +kernel
theorem dJ8_min_0 : decode cJ8_min 0 = .ok (.iload_n 0, 1) := dk_26 (dk_at dksJ8_min_0 0 rfl rfl)
theorem dJ8_min_1 : decode cJ8_min 1 = .ok (.iload_n 1, 1) := dk_27 (dk_at dksJ8_min_0 1 rfl rfl)
theorem dJ8_min_2 : decode cJ8_min 2 = .ok (.if_icmp .gt 7, 3) := dk_163 0 7 (dk_at dksJ8_min_0 2 rfl rfl)
theorem dJ8_min_5 : decode cJ8_min 5 = .ok (.iload_n 0, 1) := dk_26 (dk_at dksJ8_min_0 5 rfl rfl)
theorem dJ8_min_6 : decode cJ8_min 6 = .ok (.goto 4, 3) := dk_167 0 4 (dk_at dksJ8_min_0 6 rfl rfl)
theorem dJ8_min_9 : decode cJ8_min 9 = .ok (.iload_n 1, 1) := dk_27 (dk_at dksJ8_min_0 9 rfl rfl)
theorem dJ8_min_10 : decode cJ8_min 10 = .ok (.ireturn, 1) := dk_172 (dk_at dksJ8_min_0 10 rfl rfl)
abbrev cJ8_max : ByteArray := prog_34_method_65_code
def yJ8_max : MethodName := ⟨RJ8, "max", "(II)I"⟩
def dkwJ8_max_0 : List UInt8 := [26, 27, 161, 0, 7, 26, 167, 0, 4, 27, 172]
abbrev dktJ8_max_0 : List UInt8 := dkwJ8_max_0 ++ []
theorem dksJ8_max_0 : cJ8_max.data.toList.drop 0 = dktJ8_max_0 := by decide +kernel
theorem dJ8_max_0 : decode cJ8_max 0 = .ok (.iload_n 0, 1) := dk_26 (dk_at dksJ8_max_0 0 rfl rfl)
theorem dJ8_max_1 : decode cJ8_max 1 = .ok (.iload_n 1, 1) := dk_27 (dk_at dksJ8_max_0 1 rfl rfl)
theorem dJ8_max_2 : decode cJ8_max 2 = .ok (.if_icmp .lt 7, 3) := dk_161 0 7 (dk_at dksJ8_max_0 2 rfl rfl)
theorem dJ8_max_5 : decode cJ8_max 5 = .ok (.iload_n 0, 1) := dk_26 (dk_at dksJ8_max_0 5 rfl rfl)
theorem dJ8_max_6 : decode cJ8_max 6 = .ok (.goto 4, 3) := dk_167 0 4 (dk_at dksJ8_max_0 6 rfl rfl)
theorem dJ8_max_9 : decode cJ8_max 9 = .ok (.iload_n 1, 1) := dk_27 (dk_at dksJ8_max_0 9 rfl rfl)
theorem dJ8_max_10 : decode cJ8_max 10 = .ok (.ireturn, 1) := dk_172 (dk_at dksJ8_max_0 10 rfl rfl)
theorem q128 : (Jvm.Cond.initialized "java/lang/Math") ∈ lw_all := lw_g (lw_at lw_m1 16 rfl) rfl
theorem q480 : (Jvm.Cond.static ({ cls := "java/lang/Math", name := "min", desc := "(II)I" } : Jvm.MethodName)) ∈ lw_all := lw_g (lw_at lw_m2 128 rfl) rfl
theorem q481 : (Jvm.Cond.code ({ cls := "java/lang/Math", name := "min", desc := "(II)I" } : Jvm.MethodName) prog_34_method_69_code (2 : Nat) (Option.some Jvm.ClassFile.FieldType.int)) ∈ lw_all := lw_g (lw_at lw_m2 129 rfl) rfl
theorem q491 : (Jvm.Cond.static ({ cls := "java/lang/Math", name := "max", desc := "(II)I" } : Jvm.MethodName)) ∈ lw_all := lw_g (lw_at lw_m2 139 rfl) rfl
theorem q492 : (Jvm.Cond.code ({ cls := "java/lang/Math", name := "max", desc := "(II)I" } : Jvm.MethodName) prog_34_method_65_code (2 : Nat) (Option.some Jvm.ClassFile.FieldType.int)) ∈ lw_all := lw_g (lw_at lw_m2 140 rfl) rfl

/-! java/util/Arrays -/
set_option maxRecDepth 100000
def RJ9 : String := "java/util/Arrays"
abbrev cJ9_copyOf : ByteArray := prog_50_method_121_code
def yJ9_copyOf : MethodName := ⟨RJ9, "copyOf", "([BI)[B"⟩
def dkwJ9_copyOf_1 : List UInt8 := [27, 184, 1, 48, 184, 0, 150, 44, 176]
abbrev dktJ9_copyOf_1 : List UInt8 := dkwJ9_copyOf_1 ++ []
def dkwJ9_copyOf_0 : List UInt8 := [27, 42, 190, 160, 0, 11, 42, 182, 1, 54, 192, 1, 55, 176, 27, 188, 8, 77, 42, 3, 44, 3, 42, 190]
abbrev dktJ9_copyOf_0 : List UInt8 := dkwJ9_copyOf_0 ++ dktJ9_copyOf_1
theorem dksJ9_copyOf_0 : cJ9_copyOf.data.toList.drop 0 = dktJ9_copyOf_0 := by decide +kernel
theorem dksJ9_copyOf_1 : cJ9_copyOf.data.toList.drop 24 = dktJ9_copyOf_1 := dk_seg dksJ9_copyOf_0 24 rfl rfl
theorem dJ9_copyOf_0 : decode cJ9_copyOf 0 = .ok (.iload_n 1, 1) := dk_27 (dk_at dksJ9_copyOf_0 0 rfl rfl)
theorem dJ9_copyOf_1 : decode cJ9_copyOf 1 = .ok (.aload_n 0, 1) := dk_42 (dk_at dksJ9_copyOf_0 1 rfl rfl)
theorem dJ9_copyOf_2 : decode cJ9_copyOf 2 = .ok (.arraylength, 1) := dk_190 (dk_at dksJ9_copyOf_0 2 rfl rfl)
theorem dJ9_copyOf_3 : decode cJ9_copyOf 3 = .ok (.if_icmp .ne 11, 3) := dk_160 0 11 (dk_at dksJ9_copyOf_0 3 rfl rfl)
theorem dJ9_copyOf_6 : decode cJ9_copyOf 6 = .ok (.aload_n 0, 1) := dk_42 (dk_at dksJ9_copyOf_0 6 rfl rfl)
theorem dJ9_copyOf_7 : decode cJ9_copyOf 7 = .ok (.invokevirtual 310, 3) := dk_182 1 54 (dk_at dksJ9_copyOf_0 7 rfl rfl)
theorem dJ9_copyOf_10 : decode cJ9_copyOf 10 = .ok (.checkcast 311, 3) := dk_192 1 55 (dk_at dksJ9_copyOf_0 10 rfl rfl)
theorem dJ9_copyOf_13 : decode cJ9_copyOf 13 = .ok (.areturn, 1) := dk_176 (dk_at dksJ9_copyOf_0 13 rfl rfl)
theorem dJ9_copyOf_14 : decode cJ9_copyOf 14 = .ok (.iload_n 1, 1) := dk_27 (dk_at dksJ9_copyOf_0 14 rfl rfl)
theorem dJ9_copyOf_15 : decode cJ9_copyOf 15 = .ok (.newarray .byte, 2) := dk_188_8 (dk_at dksJ9_copyOf_0 15 rfl rfl)
theorem dJ9_copyOf_17 : decode cJ9_copyOf 17 = .ok (.astore_n 2, 1) := dk_77 (dk_at dksJ9_copyOf_0 17 rfl rfl)
theorem dJ9_copyOf_18 : decode cJ9_copyOf 18 = .ok (.aload_n 0, 1) := dk_42 (dk_at dksJ9_copyOf_0 18 rfl rfl)
theorem dJ9_copyOf_19 : decode cJ9_copyOf 19 = .ok (.iconst 0, 1) := dk_3 (dk_at dksJ9_copyOf_0 19 rfl rfl)
theorem dJ9_copyOf_20 : decode cJ9_copyOf 20 = .ok (.aload_n 2, 1) := dk_44 (dk_at dksJ9_copyOf_0 20 rfl rfl)
theorem dJ9_copyOf_21 : decode cJ9_copyOf 21 = .ok (.iconst 0, 1) := dk_3 (dk_at dksJ9_copyOf_0 21 rfl rfl)
theorem dJ9_copyOf_22 : decode cJ9_copyOf 22 = .ok (.aload_n 0, 1) := dk_42 (dk_at dksJ9_copyOf_0 22 rfl rfl)
theorem dJ9_copyOf_23 : decode cJ9_copyOf 23 = .ok (.arraylength, 1) := dk_190 (dk_at dksJ9_copyOf_0 23 rfl rfl)
theorem dJ9_copyOf_24 : decode cJ9_copyOf 24 = .ok (.iload_n 1, 1) := dk_27 (dk_at dksJ9_copyOf_1 0 rfl rfl)
theorem dJ9_copyOf_25 : decode cJ9_copyOf 25 = .ok (.invokestatic 304, 3) := dk_184 1 48 (dk_at dksJ9_copyOf_1 1 rfl rfl)
theorem dJ9_copyOf_28 : decode cJ9_copyOf 28 = .ok (.invokestatic 150, 3) := dk_184 0 150 (dk_at dksJ9_copyOf_1 4 rfl rfl)
theorem dJ9_copyOf_31 : decode cJ9_copyOf 31 = .ok (.aload_n 2, 1) := dk_44 (dk_at dksJ9_copyOf_1 7 rfl rfl)
theorem dJ9_copyOf_32 : decode cJ9_copyOf 32 = .ok (.areturn, 1) := dk_176 (dk_at dksJ9_copyOf_1 8 rfl rfl)
abbrev cJ9_copyOfRange : ByteArray := prog_50_method_132_code
def yJ9_copyOfRange : MethodName := ⟨RJ9, "copyOfRange", "([BII)[B"⟩
def dkwJ9_copyOfRange_1 : List UInt8 := [176]
abbrev dktJ9_copyOfRange_1 : List UInt8 := dkwJ9_copyOfRange_1 ++ []
def dkwJ9_copyOfRange_0 : List UInt8 := [27, 154, 0, 9, 28, 42, 190, 159, 0, 10, 42, 27, 28, 184, 1, 83, 176, 42, 182, 1, 54, 192, 1, 55]
abbrev dktJ9_copyOfRange_0 : List UInt8 := dkwJ9_copyOfRange_0 ++ dktJ9_copyOfRange_1
theorem dksJ9_copyOfRange_0 : cJ9_copyOfRange.data.toList.drop 0 = dktJ9_copyOfRange_0 := by decide +kernel
theorem dksJ9_copyOfRange_1 : cJ9_copyOfRange.data.toList.drop 24 = dktJ9_copyOfRange_1 := dk_seg dksJ9_copyOfRange_0 24 rfl rfl
theorem dJ9_copyOfRange_0 : decode cJ9_copyOfRange 0 = .ok (.iload_n 1, 1) := dk_27 (dk_at dksJ9_copyOfRange_0 0 rfl rfl)
theorem dJ9_copyOfRange_1 : decode cJ9_copyOfRange 1 = .ok (.ifCond .ne 9, 3) := dk_154 0 9 (dk_at dksJ9_copyOfRange_0 1 rfl rfl)
theorem dJ9_copyOfRange_4 : decode cJ9_copyOfRange 4 = .ok (.iload_n 2, 1) := dk_28 (dk_at dksJ9_copyOfRange_0 4 rfl rfl)
theorem dJ9_copyOfRange_5 : decode cJ9_copyOfRange 5 = .ok (.aload_n 0, 1) := dk_42 (dk_at dksJ9_copyOfRange_0 5 rfl rfl)
theorem dJ9_copyOfRange_6 : decode cJ9_copyOfRange 6 = .ok (.arraylength, 1) := dk_190 (dk_at dksJ9_copyOfRange_0 6 rfl rfl)
theorem dJ9_copyOfRange_7 : decode cJ9_copyOfRange 7 = .ok (.if_icmp .eq 10, 3) := dk_159 0 10 (dk_at dksJ9_copyOfRange_0 7 rfl rfl)
theorem dJ9_copyOfRange_10 : decode cJ9_copyOfRange 10 = .ok (.aload_n 0, 1) := dk_42 (dk_at dksJ9_copyOfRange_0 10 rfl rfl)
theorem dJ9_copyOfRange_11 : decode cJ9_copyOfRange 11 = .ok (.iload_n 1, 1) := dk_27 (dk_at dksJ9_copyOfRange_0 11 rfl rfl)
theorem dJ9_copyOfRange_12 : decode cJ9_copyOfRange 12 = .ok (.iload_n 2, 1) := dk_28 (dk_at dksJ9_copyOfRange_0 12 rfl rfl)
theorem dJ9_copyOfRange_13 : decode cJ9_copyOfRange 13 = .ok (.invokestatic 339, 3) := dk_184 1 83 (dk_at dksJ9_copyOfRange_0 13 rfl rfl)
theorem dJ9_copyOfRange_16 : decode cJ9_copyOfRange 16 = .ok (.areturn, 1) := dk_176 (dk_at dksJ9_copyOfRange_0 16 rfl rfl)
theorem dJ9_copyOfRange_17 : decode cJ9_copyOfRange 17 = .ok (.aload_n 0, 1) := dk_42 (dk_at dksJ9_copyOfRange_0 17 rfl rfl)
theorem dJ9_copyOfRange_18 : decode cJ9_copyOfRange 18 = .ok (.invokevirtual 310, 3) := dk_182 1 54 (dk_at dksJ9_copyOfRange_0 18 rfl rfl)
theorem dJ9_copyOfRange_21 : decode cJ9_copyOfRange 21 = .ok (.checkcast 311, 3) := dk_192 1 55 (dk_at dksJ9_copyOfRange_0 21 rfl rfl)
theorem dJ9_copyOfRange_24 : decode cJ9_copyOfRange 24 = .ok (.areturn, 1) := dk_176 (dk_at dksJ9_copyOfRange_1 0 rfl rfl)
abbrev cJ9_copyOfRangeByte : ByteArray := prog_50_method_133_code
def yJ9_copyOfRangeByte : MethodName := ⟨RJ9, "copyOfRangeByte", "([BII)[B"⟩
def dkwJ9_copyOfRangeByte_1 : List UInt8 := [184, 1, 48, 184, 0, 150, 25, 4, 176]
abbrev dktJ9_copyOfRangeByte_1 : List UInt8 := dkwJ9_copyOfRangeByte_1 ++ []
def dkwJ9_copyOfRangeByte_0 : List UInt8 := [27, 28, 184, 1, 87, 28, 27, 100, 62, 29, 188, 8, 58, 4, 42, 27, 25, 4, 3, 42, 190, 27, 100, 29]
abbrev dktJ9_copyOfRangeByte_0 : List UInt8 := dkwJ9_copyOfRangeByte_0 ++ dktJ9_copyOfRangeByte_1
theorem dksJ9_copyOfRangeByte_0 : cJ9_copyOfRangeByte.data.toList.drop 0 = dktJ9_copyOfRangeByte_0 := by decide +kernel
theorem dksJ9_copyOfRangeByte_1 : cJ9_copyOfRangeByte.data.toList.drop 24 = dktJ9_copyOfRangeByte_1 := dk_seg dksJ9_copyOfRangeByte_0 24 rfl rfl
theorem dJ9_copyOfRangeByte_0 : decode cJ9_copyOfRangeByte 0 = .ok (.iload_n 1, 1) := dk_27 (dk_at dksJ9_copyOfRangeByte_0 0 rfl rfl)
theorem dJ9_copyOfRangeByte_1 : decode cJ9_copyOfRangeByte 1 = .ok (.iload_n 2, 1) := dk_28 (dk_at dksJ9_copyOfRangeByte_0 1 rfl rfl)
theorem dJ9_copyOfRangeByte_2 : decode cJ9_copyOfRangeByte 2 = .ok (.invokestatic 343, 3) := dk_184 1 87 (dk_at dksJ9_copyOfRangeByte_0 2 rfl rfl)
theorem dJ9_copyOfRangeByte_5 : decode cJ9_copyOfRangeByte 5 = .ok (.iload_n 2, 1) := dk_28 (dk_at dksJ9_copyOfRangeByte_0 5 rfl rfl)
theorem dJ9_copyOfRangeByte_6 : decode cJ9_copyOfRangeByte 6 = .ok (.iload_n 1, 1) := dk_27 (dk_at dksJ9_copyOfRangeByte_0 6 rfl rfl)
theorem dJ9_copyOfRangeByte_7 : decode cJ9_copyOfRangeByte 7 = .ok (.isub, 1) := dk_100 (dk_at dksJ9_copyOfRangeByte_0 7 rfl rfl)
theorem dJ9_copyOfRangeByte_8 : decode cJ9_copyOfRangeByte 8 = .ok (.istore_n 3, 1) := dk_62 (dk_at dksJ9_copyOfRangeByte_0 8 rfl rfl)
theorem dJ9_copyOfRangeByte_9 : decode cJ9_copyOfRangeByte 9 = .ok (.iload_n 3, 1) := dk_29 (dk_at dksJ9_copyOfRangeByte_0 9 rfl rfl)
theorem dJ9_copyOfRangeByte_10 : decode cJ9_copyOfRangeByte 10 = .ok (.newarray .byte, 2) := dk_188_8 (dk_at dksJ9_copyOfRangeByte_0 10 rfl rfl)
theorem dJ9_copyOfRangeByte_12 : decode cJ9_copyOfRangeByte 12 = .ok (.astore 4, 2) := dk_58 4 (dk_at dksJ9_copyOfRangeByte_0 12 rfl rfl)
theorem dJ9_copyOfRangeByte_14 : decode cJ9_copyOfRangeByte 14 = .ok (.aload_n 0, 1) := dk_42 (dk_at dksJ9_copyOfRangeByte_0 14 rfl rfl)
theorem dJ9_copyOfRangeByte_15 : decode cJ9_copyOfRangeByte 15 = .ok (.iload_n 1, 1) := dk_27 (dk_at dksJ9_copyOfRangeByte_0 15 rfl rfl)
theorem dJ9_copyOfRangeByte_16 : decode cJ9_copyOfRangeByte 16 = .ok (.aload 4, 2) := dk_25 4 (dk_at dksJ9_copyOfRangeByte_0 16 rfl rfl)
theorem dJ9_copyOfRangeByte_18 : decode cJ9_copyOfRangeByte 18 = .ok (.iconst 0, 1) := dk_3 (dk_at dksJ9_copyOfRangeByte_0 18 rfl rfl)
theorem dJ9_copyOfRangeByte_19 : decode cJ9_copyOfRangeByte 19 = .ok (.aload_n 0, 1) := dk_42 (dk_at dksJ9_copyOfRangeByte_0 19 rfl rfl)
theorem dJ9_copyOfRangeByte_20 : decode cJ9_copyOfRangeByte 20 = .ok (.arraylength, 1) := dk_190 (dk_at dksJ9_copyOfRangeByte_0 20 rfl rfl)
theorem dJ9_copyOfRangeByte_21 : decode cJ9_copyOfRangeByte 21 = .ok (.iload_n 1, 1) := dk_27 (dk_at dksJ9_copyOfRangeByte_0 21 rfl rfl)
theorem dJ9_copyOfRangeByte_22 : decode cJ9_copyOfRangeByte 22 = .ok (.isub, 1) := dk_100 (dk_at dksJ9_copyOfRangeByte_0 22 rfl rfl)
theorem dJ9_copyOfRangeByte_23 : decode cJ9_copyOfRangeByte 23 = .ok (.iload_n 3, 1) := dk_29 (dk_at dksJ9_copyOfRangeByte_0 23 rfl rfl)
theorem dJ9_copyOfRangeByte_24 : decode cJ9_copyOfRangeByte 24 = .ok (.invokestatic 304, 3) := dk_184 1 48 (dk_at dksJ9_copyOfRangeByte_1 0 rfl rfl)
theorem dJ9_copyOfRangeByte_27 : decode cJ9_copyOfRangeByte 27 = .ok (.invokestatic 150, 3) := dk_184 0 150 (dk_at dksJ9_copyOfRangeByte_1 3 rfl rfl)
theorem dJ9_copyOfRangeByte_30 : decode cJ9_copyOfRangeByte 30 = .ok (.aload 4, 2) := dk_25 4 (dk_at dksJ9_copyOfRangeByte_1 6 rfl rfl)
theorem dJ9_copyOfRangeByte_32 : decode cJ9_copyOfRangeByte 32 = .ok (.areturn, 1) := dk_176 (dk_at dksJ9_copyOfRangeByte_1 8 rfl rfl)
abbrev cJ9_checkLength : ByteArray := prog_50_method_131_code
def yJ9_checkLength : MethodName := ⟨RJ9, "checkLength", "(II)V"⟩
def dkwJ9_checkLength_1 : List UInt8 := [182, 0, 50, 27, 182, 0, 54, 182, 0, 61, 183, 0, 65, 191, 177]
abbrev dktJ9_checkLength_1 : List UInt8 := dkwJ9_checkLength_1 ++ []
def dkwJ9_checkLength_0 : List UInt8 := [27, 26, 162, 0, 35, 187, 0, 43, 89, 187, 0, 45, 89, 183, 0, 47, 26, 182, 0, 54, 19, 1, 81]
abbrev dktJ9_checkLength_0 : List UInt8 := dkwJ9_checkLength_0 ++ dktJ9_checkLength_1
theorem dksJ9_checkLength_0 : cJ9_checkLength.data.toList.drop 0 = dktJ9_checkLength_0 := by decide +kernel
theorem dksJ9_checkLength_1 : cJ9_checkLength.data.toList.drop 23 = dktJ9_checkLength_1 := dk_seg dksJ9_checkLength_0 23 rfl rfl
theorem dJ9_checkLength_0 : decode cJ9_checkLength 0 = .ok (.iload_n 1, 1) := dk_27 (dk_at dksJ9_checkLength_0 0 rfl rfl)
theorem dJ9_checkLength_1 : decode cJ9_checkLength 1 = .ok (.iload_n 0, 1) := dk_26 (dk_at dksJ9_checkLength_0 1 rfl rfl)
theorem dJ9_checkLength_2 : decode cJ9_checkLength 2 = .ok (.if_icmp .ge 35, 3) := dk_162 0 35 (dk_at dksJ9_checkLength_0 2 rfl rfl)
theorem dJ9_checkLength_5 : decode cJ9_checkLength 5 = .ok (.new 43, 3) := dk_187 0 43 (dk_at dksJ9_checkLength_0 5 rfl rfl)
theorem dJ9_checkLength_8 : decode cJ9_checkLength 8 = .ok (.dup, 1) := dk_89 (dk_at dksJ9_checkLength_0 8 rfl rfl)
theorem dJ9_checkLength_9 : decode cJ9_checkLength 9 = .ok (.new 45, 3) := dk_187 0 45 (dk_at dksJ9_checkLength_0 9 rfl rfl)
theorem dJ9_checkLength_12 : decode cJ9_checkLength 12 = .ok (.dup, 1) := dk_89 (dk_at dksJ9_checkLength_0 12 rfl rfl)
theorem dJ9_checkLength_13 : decode cJ9_checkLength 13 = .ok (.invokespecial 47, 3) := dk_183 0 47 (dk_at dksJ9_checkLength_0 13 rfl rfl)
theorem dJ9_checkLength_16 : decode cJ9_checkLength 16 = .ok (.iload_n 0, 1) := dk_26 (dk_at dksJ9_checkLength_0 16 rfl rfl)
theorem dJ9_checkLength_17 : decode cJ9_checkLength 17 = .ok (.invokevirtual 54, 3) := dk_182 0 54 (dk_at dksJ9_checkLength_0 17 rfl rfl)
theorem dJ9_checkLength_20 : decode cJ9_checkLength 20 = .ok (.ldc_w 337, 3) := dk_19 1 81 (dk_at dksJ9_checkLength_0 20 rfl rfl)
theorem dJ9_checkLength_23 : decode cJ9_checkLength 23 = .ok (.invokevirtual 50, 3) := dk_182 0 50 (dk_at dksJ9_checkLength_1 0 rfl rfl)
theorem dJ9_checkLength_26 : decode cJ9_checkLength 26 = .ok (.iload_n 1, 1) := dk_27 (dk_at dksJ9_checkLength_1 3 rfl rfl)
theorem dJ9_checkLength_27 : decode cJ9_checkLength 27 = .ok (.invokevirtual 54, 3) := dk_182 0 54 (dk_at dksJ9_checkLength_1 4 rfl rfl)
theorem dJ9_checkLength_30 : decode cJ9_checkLength 30 = .ok (.invokevirtual 61, 3) := dk_182 0 61 (dk_at dksJ9_checkLength_1 7 rfl rfl)
theorem dJ9_checkLength_33 : decode cJ9_checkLength 33 = .ok (.invokespecial 65, 3) := dk_183 0 65 (dk_at dksJ9_checkLength_1 10 rfl rfl)
theorem dJ9_checkLength_36 : decode cJ9_checkLength 36 = .ok (.athrow, 1) := dk_191 (dk_at dksJ9_checkLength_1 13 rfl rfl)
theorem dJ9_checkLength_37 : decode cJ9_checkLength 37 = .ok (.return_, 1) := dk_177 (dk_at dksJ9_checkLength_1 14 rfl rfl)
abbrev cJ9_copyOf_2 : ByteArray := prog_50_method_119_code
def yJ9_copyOf_2 : MethodName := ⟨RJ9, "copyOf", "([Ljava/lang/Object;I)[Ljava/lang/Object;"⟩
def dkwJ9_copyOf_2_0 : List UInt8 := [42, 27, 42, 182, 0, 86, 184, 1, 44, 176]
abbrev dktJ9_copyOf_2_0 : List UInt8 := dkwJ9_copyOf_2_0 ++ []
theorem dksJ9_copyOf_2_0 : cJ9_copyOf_2.data.toList.drop 0 = dktJ9_copyOf_2_0 := by decide +kernel
theorem dJ9_copyOf_2_0 : decode cJ9_copyOf_2 0 = .ok (.aload_n 0, 1) := dk_42 (dk_at dksJ9_copyOf_2_0 0 rfl rfl)
theorem dJ9_copyOf_2_1 : decode cJ9_copyOf_2 1 = .ok (.iload_n 1, 1) := dk_27 (dk_at dksJ9_copyOf_2_0 1 rfl rfl)
theorem dJ9_copyOf_2_2 : decode cJ9_copyOf_2 2 = .ok (.aload_n 0, 1) := dk_42 (dk_at dksJ9_copyOf_2_0 2 rfl rfl)
theorem dJ9_copyOf_2_3 : decode cJ9_copyOf_2 3 = .ok (.invokevirtual 86, 3) := dk_182 0 86 (dk_at dksJ9_copyOf_2_0 3 rfl rfl)
theorem dJ9_copyOf_2_6 : decode cJ9_copyOf_2 6 = .ok (.invokestatic 300, 3) := dk_184 1 44 (dk_at dksJ9_copyOf_2_0 6 rfl rfl)
theorem dJ9_copyOf_2_9 : decode cJ9_copyOf_2 9 = .ok (.areturn, 1) := dk_176 (dk_at dksJ9_copyOf_2_0 9 rfl rfl)
abbrev cJ9_copyOf_3 : ByteArray := prog_50_method_120_code
def yJ9_copyOf_3 : MethodName := ⟨RJ9, "copyOf", "([Ljava/lang/Object;ILjava/lang/Class;)[Ljava/lang/Object;"⟩
def dkwJ9_copyOf_3_1 : List UInt8 := [78, 42, 3, 45, 3, 42, 190, 27, 184, 1, 48, 184, 0, 150, 45, 176]
abbrev dktJ9_copyOf_3_1 : List UInt8 := dkwJ9_copyOf_3_1 ++ []
def dkwJ9_copyOf_3_0 : List UInt8 := [44, 18, 110, 166, 0, 10, 27, 189, 0, 2, 167, 0, 14, 44, 182, 0, 90, 27, 184, 0, 95, 192, 0, 110]
abbrev dktJ9_copyOf_3_0 : List UInt8 := dkwJ9_copyOf_3_0 ++ dktJ9_copyOf_3_1
theorem dksJ9_copyOf_3_0 : cJ9_copyOf_3.data.toList.drop 0 = dktJ9_copyOf_3_0 := by decide +kernel
theorem dksJ9_copyOf_3_1 : cJ9_copyOf_3.data.toList.drop 24 = dktJ9_copyOf_3_1 := dk_seg dksJ9_copyOf_3_0 24 rfl rfl
theorem dJ9_copyOf_3_0 : decode cJ9_copyOf_3 0 = .ok (.aload_n 2, 1) := dk_44 (dk_at dksJ9_copyOf_3_0 0 rfl rfl)
theorem dJ9_copyOf_3_1 : decode cJ9_copyOf_3 1 = .ok (.ldc 110, 2) := dk_18 110 (dk_at dksJ9_copyOf_3_0 1 rfl rfl)
theorem dJ9_copyOf_3_3 : decode cJ9_copyOf_3 3 = .ok (.if_acmp .ne 10, 3) := dk_166 0 10 (dk_at dksJ9_copyOf_3_0 3 rfl rfl)
theorem dJ9_copyOf_3_6 : decode cJ9_copyOf_3 6 = .ok (.iload_n 1, 1) := dk_27 (dk_at dksJ9_copyOf_3_0 6 rfl rfl)
theorem dJ9_copyOf_3_7 : decode cJ9_copyOf_3 7 = .ok (.anewarray 2, 3) := dk_189 0 2 (dk_at dksJ9_copyOf_3_0 7 rfl rfl)
theorem dJ9_copyOf_3_10 : decode cJ9_copyOf_3 10 = .ok (.goto 14, 3) := dk_167 0 14 (dk_at dksJ9_copyOf_3_0 10 rfl rfl)
theorem dJ9_copyOf_3_13 : decode cJ9_copyOf_3 13 = .ok (.aload_n 2, 1) := dk_44 (dk_at dksJ9_copyOf_3_0 13 rfl rfl)
theorem dJ9_copyOf_3_14 : decode cJ9_copyOf_3 14 = .ok (.invokevirtual 90, 3) := dk_182 0 90 (dk_at dksJ9_copyOf_3_0 14 rfl rfl)
theorem dJ9_copyOf_3_17 : decode cJ9_copyOf_3 17 = .ok (.iload_n 1, 1) := dk_27 (dk_at dksJ9_copyOf_3_0 17 rfl rfl)
theorem dJ9_copyOf_3_18 : decode cJ9_copyOf_3 18 = .ok (.invokestatic 95, 3) := dk_184 0 95 (dk_at dksJ9_copyOf_3_0 18 rfl rfl)
theorem dJ9_copyOf_3_21 : decode cJ9_copyOf_3 21 = .ok (.checkcast 110, 3) := dk_192 0 110 (dk_at dksJ9_copyOf_3_0 21 rfl rfl)
theorem dJ9_copyOf_3_24 : decode cJ9_copyOf_3 24 = .ok (.astore_n 3, 1) := dk_78 (dk_at dksJ9_copyOf_3_1 0 rfl rfl)
theorem dJ9_copyOf_3_25 : decode cJ9_copyOf_3 25 = .ok (.aload_n 0, 1) := dk_42 (dk_at dksJ9_copyOf_3_1 1 rfl rfl)
theorem dJ9_copyOf_3_26 : decode cJ9_copyOf_3 26 = .ok (.iconst 0, 1) := dk_3 (dk_at dksJ9_copyOf_3_1 2 rfl rfl)
theorem dJ9_copyOf_3_27 : decode cJ9_copyOf_3 27 = .ok (.aload_n 3, 1) := dk_45 (dk_at dksJ9_copyOf_3_1 3 rfl rfl)
theorem dJ9_copyOf_3_28 : decode cJ9_copyOf_3 28 = .ok (.iconst 0, 1) := dk_3 (dk_at dksJ9_copyOf_3_1 4 rfl rfl)
theorem dJ9_copyOf_3_29 : decode cJ9_copyOf_3 29 = .ok (.aload_n 0, 1) := dk_42 (dk_at dksJ9_copyOf_3_1 5 rfl rfl)
theorem dJ9_copyOf_3_30 : decode cJ9_copyOf_3 30 = .ok (.arraylength, 1) := dk_190 (dk_at dksJ9_copyOf_3_1 6 rfl rfl)
theorem dJ9_copyOf_3_31 : decode cJ9_copyOf_3 31 = .ok (.iload_n 1, 1) := dk_27 (dk_at dksJ9_copyOf_3_1 7 rfl rfl)
theorem dJ9_copyOf_3_32 : decode cJ9_copyOf_3 32 = .ok (.invokestatic 304, 3) := dk_184 1 48 (dk_at dksJ9_copyOf_3_1 8 rfl rfl)
theorem dJ9_copyOf_3_35 : decode cJ9_copyOf_3 35 = .ok (.invokestatic 150, 3) := dk_184 0 150 (dk_at dksJ9_copyOf_3_1 11 rfl rfl)
theorem dJ9_copyOf_3_38 : decode cJ9_copyOf_3 38 = .ok (.aload_n 3, 1) := dk_45 (dk_at dksJ9_copyOf_3_1 14 rfl rfl)
theorem dJ9_copyOf_3_39 : decode cJ9_copyOf_3 39 = .ok (.areturn, 1) := dk_176 (dk_at dksJ9_copyOf_3_1 15 rfl rfl)
abbrev cJ9_fill : ByteArray := prog_50_method_103_code
def yJ9_fill : MethodName := ⟨RJ9, "fill", "([II)V"⟩
def dkwJ9_fill_0 : List UInt8 := [3, 61, 42, 190, 62, 28, 29, 162, 0, 13, 42, 28, 27, 79, 132, 2, 1, 167, 255, 244, 177]
abbrev dktJ9_fill_0 : List UInt8 := dkwJ9_fill_0 ++ []
theorem dksJ9_fill_0 : cJ9_fill.data.toList.drop 0 = dktJ9_fill_0 := by decide +kernel
theorem dJ9_fill_0 : decode cJ9_fill 0 = .ok (.iconst 0, 1) := dk_3 (dk_at dksJ9_fill_0 0 rfl rfl)
theorem dJ9_fill_1 : decode cJ9_fill 1 = .ok (.istore_n 2, 1) := dk_61 (dk_at dksJ9_fill_0 1 rfl rfl)
theorem dJ9_fill_2 : decode cJ9_fill 2 = .ok (.aload_n 0, 1) := dk_42 (dk_at dksJ9_fill_0 2 rfl rfl)
theorem dJ9_fill_3 : decode cJ9_fill 3 = .ok (.arraylength, 1) := dk_190 (dk_at dksJ9_fill_0 3 rfl rfl)
theorem dJ9_fill_4 : decode cJ9_fill 4 = .ok (.istore_n 3, 1) := dk_62 (dk_at dksJ9_fill_0 4 rfl rfl)
theorem dJ9_fill_5 : decode cJ9_fill 5 = .ok (.iload_n 2, 1) := dk_28 (dk_at dksJ9_fill_0 5 rfl rfl)
theorem dJ9_fill_6 : decode cJ9_fill 6 = .ok (.iload_n 3, 1) := dk_29 (dk_at dksJ9_fill_0 6 rfl rfl)
theorem dJ9_fill_7 : decode cJ9_fill 7 = .ok (.if_icmp .ge 13, 3) := dk_162 0 13 (dk_at dksJ9_fill_0 7 rfl rfl)
theorem dJ9_fill_10 : decode cJ9_fill 10 = .ok (.aload_n 0, 1) := dk_42 (dk_at dksJ9_fill_0 10 rfl rfl)
theorem dJ9_fill_11 : decode cJ9_fill 11 = .ok (.iload_n 2, 1) := dk_28 (dk_at dksJ9_fill_0 11 rfl rfl)
theorem dJ9_fill_12 : decode cJ9_fill 12 = .ok (.iload_n 1, 1) := dk_27 (dk_at dksJ9_fill_0 12 rfl rfl)
theorem dJ9_fill_13 : decode cJ9_fill 13 = .ok (.iastore, 1) := dk_79 (dk_at dksJ9_fill_0 13 rfl rfl)
theorem dJ9_fill_14 : decode cJ9_fill 14 = .ok (.iinc 2 1, 3) := dk_132 2 1 (dk_at dksJ9_fill_0 14 rfl rfl)
theorem dJ9_fill_17 : decode cJ9_fill 17 = .ok (.goto (-12), 3) := dk_167 255 244 (dk_at dksJ9_fill_0 17 rfl rfl)
theorem dJ9_fill_20 : decode cJ9_fill 20 = .ok (.return_, 1) := dk_177 (dk_at dksJ9_fill_0 20 rfl rfl)
abbrev cJ9_fill_2 : ByteArray := prog_50_method_111_code
def yJ9_fill_2 : MethodName := ⟨RJ9, "fill", "([ZZ)V"⟩
def dkwJ9_fill_2_0 : List UInt8 := [3, 61, 42, 190, 62, 28, 29, 162, 0, 13, 42, 28, 27, 84, 132, 2, 1, 167, 255, 244, 177]
abbrev dktJ9_fill_2_0 : List UInt8 := dkwJ9_fill_2_0 ++ []
theorem dksJ9_fill_2_0 : cJ9_fill_2.data.toList.drop 0 = dktJ9_fill_2_0 := by decide +kernel
theorem dJ9_fill_2_0 : decode cJ9_fill_2 0 = .ok (.iconst 0, 1) := dk_3 (dk_at dksJ9_fill_2_0 0 rfl rfl)
theorem dJ9_fill_2_1 : decode cJ9_fill_2 1 = .ok (.istore_n 2, 1) := dk_61 (dk_at dksJ9_fill_2_0 1 rfl rfl)
theorem dJ9_fill_2_2 : decode cJ9_fill_2 2 = .ok (.aload_n 0, 1) := dk_42 (dk_at dksJ9_fill_2_0 2 rfl rfl)
theorem dJ9_fill_2_3 : decode cJ9_fill_2 3 = .ok (.arraylength, 1) := dk_190 (dk_at dksJ9_fill_2_0 3 rfl rfl)
theorem dJ9_fill_2_4 : decode cJ9_fill_2 4 = .ok (.istore_n 3, 1) := dk_62 (dk_at dksJ9_fill_2_0 4 rfl rfl)
theorem dJ9_fill_2_5 : decode cJ9_fill_2 5 = .ok (.iload_n 2, 1) := dk_28 (dk_at dksJ9_fill_2_0 5 rfl rfl)
theorem dJ9_fill_2_6 : decode cJ9_fill_2 6 = .ok (.iload_n 3, 1) := dk_29 (dk_at dksJ9_fill_2_0 6 rfl rfl)
theorem dJ9_fill_2_7 : decode cJ9_fill_2 7 = .ok (.if_icmp .ge 13, 3) := dk_162 0 13 (dk_at dksJ9_fill_2_0 7 rfl rfl)
theorem dJ9_fill_2_10 : decode cJ9_fill_2 10 = .ok (.aload_n 0, 1) := dk_42 (dk_at dksJ9_fill_2_0 10 rfl rfl)
theorem dJ9_fill_2_11 : decode cJ9_fill_2 11 = .ok (.iload_n 2, 1) := dk_28 (dk_at dksJ9_fill_2_0 11 rfl rfl)
theorem dJ9_fill_2_12 : decode cJ9_fill_2 12 = .ok (.iload_n 1, 1) := dk_27 (dk_at dksJ9_fill_2_0 12 rfl rfl)
theorem dJ9_fill_2_13 : decode cJ9_fill_2 13 = .ok (.bastore, 1) := dk_84 (dk_at dksJ9_fill_2_0 13 rfl rfl)
theorem dJ9_fill_2_14 : decode cJ9_fill_2 14 = .ok (.iinc 2 1, 3) := dk_132 2 1 (dk_at dksJ9_fill_2_0 14 rfl rfl)
theorem dJ9_fill_2_17 : decode cJ9_fill_2 17 = .ok (.goto (-12), 3) := dk_167 255 244 (dk_at dksJ9_fill_2_0 17 rfl rfl)
theorem dJ9_fill_2_20 : decode cJ9_fill_2 20 = .ok (.return_, 1) := dk_177 (dk_at dksJ9_fill_2_0 20 rfl rfl)
theorem q129 : (Jvm.Cond.initialized "java/util/Arrays") ∈ lw_all := lw_g (lw_at lw_m1 17 rfl) rfl
theorem q813 : (Jvm.Cond.static ({ cls := "java/util/Arrays", name := "copyOf", desc := "([BI)[B" } : Jvm.MethodName)) ∈ lw_all := lw_g (lw_at lw_m3 221 rfl) rfl
theorem q814 : (Jvm.Cond.code ({ cls := "java/util/Arrays", name := "copyOf", desc := "([BI)[B" } : Jvm.MethodName) prog_50_method_121_code (3 : Nat) (Option.some (Jvm.ClassFile.FieldType.array Jvm.ClassFile.FieldType.byte))) ∈ lw_all := lw_g (lw_at lw_m3 222 rfl) rfl
theorem q815 : (Jvm.Cond.methodLink "java/util/Arrays" (310 : Nat) ({ cls := "[B", name := "clone", desc := "()Ljava/lang/Object;" } : Jvm.MethodName)) ∈ lw_all := lw_g (lw_at lw_m3 223 rfl) rfl
theorem q821 : (Jvm.Cond.classLink "java/util/Arrays" (311 : Nat) "[B") ∈ lw_all := lw_g (lw_at lw_m3 229 rfl) rfl
theorem q822 : (Jvm.Cond.methodLink "java/util/Arrays" (304 : Nat) ({ cls := "java/lang/Math", name := "min", desc := "(II)I" } : Jvm.MethodName)) ∈ lw_all := lw_g (lw_at lw_m3 230 rfl) rfl
theorem q823 : (Jvm.Cond.methodLink "java/util/Arrays" (150 : Nat) ({ cls := "java/lang/System", name := "arraycopy", desc := "(Ljava/lang/Object;ILjava/lang/Object;II)V" } : Jvm.MethodName)) ∈ lw_all := lw_g (lw_at lw_m3 231 rfl) rfl
theorem q903 : (Jvm.Cond.static ({ cls := "java/util/Arrays", name := "copyOfRange", desc := "([BII)[B" } : Jvm.MethodName)) ∈ lw_all := lw_g (lw_at lw_m4 71 rfl) rfl
theorem q904 : (Jvm.Cond.code ({ cls := "java/util/Arrays", name := "copyOfRange", desc := "([BII)[B" } : Jvm.MethodName) prog_50_method_132_code (3 : Nat) (Option.some (Jvm.ClassFile.FieldType.array Jvm.ClassFile.FieldType.byte))) ∈ lw_all := lw_g (lw_at lw_m4 72 rfl) rfl
theorem q905 : (Jvm.Cond.methodLink "java/util/Arrays" (339 : Nat) ({ cls := "java/util/Arrays", name := "copyOfRangeByte", desc := "([BII)[B" } : Jvm.MethodName)) ∈ lw_all := lw_g (lw_at lw_m4 73 rfl) rfl
theorem q906 : (Jvm.Cond.static ({ cls := "java/util/Arrays", name := "copyOfRangeByte", desc := "([BII)[B" } : Jvm.MethodName)) ∈ lw_all := lw_g (lw_at lw_m4 74 rfl) rfl
theorem q907 : (Jvm.Cond.code ({ cls := "java/util/Arrays", name := "copyOfRangeByte", desc := "([BII)[B" } : Jvm.MethodName) prog_50_method_133_code (5 : Nat) (Option.some (Jvm.ClassFile.FieldType.array Jvm.ClassFile.FieldType.byte))) ∈ lw_all := lw_g (lw_at lw_m4 75 rfl) rfl
theorem q908 : (Jvm.Cond.methodLink "java/util/Arrays" (343 : Nat) ({ cls := "java/util/Arrays", name := "checkLength", desc := "(II)V" } : Jvm.MethodName)) ∈ lw_all := lw_g (lw_at lw_m4 76 rfl) rfl
theorem q909 : (Jvm.Cond.static ({ cls := "java/util/Arrays", name := "checkLength", desc := "(II)V" } : Jvm.MethodName)) ∈ lw_all := lw_g (lw_at lw_m4 77 rfl) rfl
theorem q910 : (Jvm.Cond.code ({ cls := "java/util/Arrays", name := "checkLength", desc := "(II)V" } : Jvm.MethodName) prog_50_method_131_code (2 : Nat) (Option.none : Option Jvm.ClassFile.FieldType)) ∈ lw_all := lw_g (lw_at lw_m4 78 rfl) rfl
theorem q911 : (Jvm.Cond.classLink "java/util/Arrays" (43 : Nat) "java/lang/IllegalArgumentException") ∈ lw_all := lw_g (lw_at lw_m4 79 rfl) rfl
theorem q956 : (Jvm.Cond.classLink "java/util/Arrays" (45 : Nat) "java/lang/StringBuilder") ∈ lw_all := lw_g (lw_at lw_m4 124 rfl) rfl
theorem q957 : (Jvm.Cond.methodLink "java/util/Arrays" (47 : Nat) ({ cls := "java/lang/StringBuilder", name := "<init>", desc := "()V" } : Jvm.MethodName)) ∈ lw_all := lw_g (lw_at lw_m4 125 rfl) rfl
theorem q958 : (Jvm.Cond.methodLink "java/util/Arrays" (54 : Nat) ({ cls := "java/lang/StringBuilder", name := "append", desc := "(I)Ljava/lang/StringBuilder;" } : Jvm.MethodName)) ∈ lw_all := lw_g (lw_at lw_m4 126 rfl) rfl
theorem q992 : (Jvm.Cond.stringRef "java/util/Arrays" (337 : Nat) " > ") ∈ lw_tbl := lw_at lw_m4 160 rfl
theorem q993 : (Jvm.Cond.methodLink "java/util/Arrays" (50 : Nat) ({ cls := "java/lang/StringBuilder", name := "append", desc := "(Ljava/lang/String;)Ljava/lang/StringBuilder;" } : Jvm.MethodName)) ∈ lw_all := lw_g (lw_at lw_m4 161 rfl) rfl
theorem q1031 : (Jvm.Cond.methodLink "java/util/Arrays" (61 : Nat) ({ cls := "java/lang/StringBuilder", name := "toString", desc := "()Ljava/lang/String;" } : Jvm.MethodName)) ∈ lw_all := lw_g (lw_at lw_m4 199 rfl) rfl
theorem q1032 : (Jvm.Cond.methodLink "java/util/Arrays" (65 : Nat) ({ cls := "java/lang/IllegalArgumentException", name := "<init>", desc := "(Ljava/lang/String;)V" } : Jvm.MethodName)) ∈ lw_all := lw_g (lw_at lw_m4 200 rfl) rfl
theorem q1446 : (Jvm.Cond.static ({ cls := "java/util/Arrays", name := "copyOf", desc := "([Ljava/lang/Object;I)[Ljava/lang/Object;" } : Jvm.MethodName)) ∈ lw_all := lw_g (lw_at lw_m6 134 rfl) rfl
theorem q1447 : (Jvm.Cond.code ({ cls := "java/util/Arrays", name := "copyOf", desc := "([Ljava/lang/Object;I)[Ljava/lang/Object;" } : Jvm.MethodName) prog_50_method_119_code (2 : Nat) (Option.some (Jvm.ClassFile.FieldType.array (Jvm.ClassFile.FieldType.object "java/lang/Object")))) ∈ lw_all := lw_g (lw_at lw_m6 135 rfl) rfl
theorem q1448 : (Jvm.Cond.methodLink "java/util/Arrays" (86 : Nat) ({ cls := "java/lang/Object", name := "getClass", desc := "()Ljava/lang/Class;" } : Jvm.MethodName)) ∈ lw_all := lw_g (lw_at lw_m6 136 rfl) rfl
theorem q1479 : (Jvm.Cond.methodLink "java/util/Arrays" (300 : Nat) ({ cls := "java/util/Arrays", name := "copyOf", desc := "([Ljava/lang/Object;ILjava/lang/Class;)[Ljava/lang/Object;" } : Jvm.MethodName)) ∈ lw_all := lw_g (lw_at lw_m6 167 rfl) rfl
theorem q1480 : (Jvm.Cond.static ({ cls := "java/util/Arrays", name := "copyOf", desc := "([Ljava/lang/Object;ILjava/lang/Class;)[Ljava/lang/Object;" } : Jvm.MethodName)) ∈ lw_all := lw_g (lw_at lw_m6 168 rfl) rfl
theorem q1481 : (Jvm.Cond.code ({ cls := "java/util/Arrays", name := "copyOf", desc := "([Ljava/lang/Object;ILjava/lang/Class;)[Ljava/lang/Object;" } : Jvm.MethodName) prog_50_method_120_code (4 : Nat) (Option.some (Jvm.ClassFile.FieldType.array (Jvm.ClassFile.FieldType.object "java/lang/Object")))) ∈ lw_all := lw_g (lw_at lw_m6 169 rfl) rfl
theorem q1482 : (Jvm.Cond.classLink "java/util/Arrays" (110 : Nat) "[Ljava/lang/Object;") ∈ lw_all := lw_g (lw_at lw_m6 170 rfl) rfl
theorem q1484 : (Jvm.Cond.classLink "java/util/Arrays" (2 : Nat) "java/lang/Object") ∈ lw_all := lw_g (lw_at lw_m6 172 rfl) rfl
theorem q1800 : (Jvm.Cond.static ({ cls := "java/util/Arrays", name := "fill", desc := "([II)V" } : Jvm.MethodName)) ∈ lw_all := lw_g (lw_at lw_m8 8 rfl) rfl
theorem q1801 : (Jvm.Cond.code ({ cls := "java/util/Arrays", name := "fill", desc := "([II)V" } : Jvm.MethodName) prog_50_method_103_code (4 : Nat) (Option.none : Option Jvm.ClassFile.FieldType)) ∈ lw_all := lw_g (lw_at lw_m8 9 rfl) rfl
theorem q1812 : (Jvm.Cond.static ({ cls := "java/util/Arrays", name := "fill", desc := "([ZZ)V" } : Jvm.MethodName)) ∈ lw_all := lw_g (lw_at lw_m8 20 rfl) rfl
theorem q1813 : (Jvm.Cond.code ({ cls := "java/util/Arrays", name := "fill", desc := "([ZZ)V" } : Jvm.MethodName) prog_50_method_111_code (4 : Nat) (Option.none : Option Jvm.ClassFile.FieldType)) ∈ lw_all := lw_g (lw_at lw_m8 21 rfl) rfl

/-! StoneBacksLaw -/
set_option maxRecDepth 100000
def RX0 : String := "StoneBacksLaw"
abbrev cX0_valley : ByteArray := method_3_code
def yX0_valley : MethodName := ⟨RX0, "valley", "(LStoneBacks;[J)I"⟩
def dkwX0_valley_0 : List UInt8 := [43, 3, 42, 182, 0, 7, 133, 80, 167, 0, 9, 77, 4, 172, 77, 5, 172, 3, 172]
abbrev dktX0_valley_0 : List UInt8 := dkwX0_valley_0 ++ []
theorem dksX0_valley_0 : cX0_valley.data.toList.drop 0 = dktX0_valley_0 := by decide +kernel
theorem dX0_valley_0 : decode cX0_valley 0 = .ok (.aload_n 1, 1) := dk_43 (dk_at dksX0_valley_0 0 rfl rfl)
theorem dX0_valley_1 : decode cX0_valley 1 = .ok (.iconst 0, 1) := dk_3 (dk_at dksX0_valley_0 1 rfl rfl)
theorem dX0_valley_2 : decode cX0_valley 2 = .ok (.aload_n 0, 1) := dk_42 (dk_at dksX0_valley_0 2 rfl rfl)
theorem dX0_valley_3 : decode cX0_valley 3 = .ok (.invokevirtual 7, 3) := dk_182 0 7 (dk_at dksX0_valley_0 3 rfl rfl)
theorem dX0_valley_6 : decode cX0_valley 6 = .ok (.i2l, 1) := dk_133 (dk_at dksX0_valley_0 6 rfl rfl)
theorem dX0_valley_7 : decode cX0_valley 7 = .ok (.lastore, 1) := dk_80 (dk_at dksX0_valley_0 7 rfl rfl)
theorem dX0_valley_8 : decode cX0_valley 8 = .ok (.goto 9, 3) := dk_167 0 9 (dk_at dksX0_valley_0 8 rfl rfl)
theorem dX0_valley_11 : decode cX0_valley 11 = .ok (.astore_n 2, 1) := dk_77 (dk_at dksX0_valley_0 11 rfl rfl)
theorem dX0_valley_12 : decode cX0_valley 12 = .ok (.iconst 1, 1) := dk_4 (dk_at dksX0_valley_0 12 rfl rfl)
theorem dX0_valley_13 : decode cX0_valley 13 = .ok (.ireturn, 1) := dk_172 (dk_at dksX0_valley_0 13 rfl rfl)
theorem dX0_valley_14 : decode cX0_valley 14 = .ok (.astore_n 2, 1) := dk_77 (dk_at dksX0_valley_0 14 rfl rfl)
theorem dX0_valley_15 : decode cX0_valley 15 = .ok (.iconst 2, 1) := dk_5 (dk_at dksX0_valley_0 15 rfl rfl)
theorem dX0_valley_16 : decode cX0_valley 16 = .ok (.ireturn, 1) := dk_172 (dk_at dksX0_valley_0 16 rfl rfl)
theorem dX0_valley_17 : decode cX0_valley 17 = .ok (.iconst 0, 1) := dk_3 (dk_at dksX0_valley_0 17 rfl rfl)
theorem dX0_valley_18 : decode cX0_valley 18 = .ok (.ireturn, 1) := dk_172 (dk_at dksX0_valley_0 18 rfl rfl)
abbrev cX0_law : ByteArray := method_4_code
def yX0_law : MethodName := ⟨RX0, "law", "(LStoneBacks;[J)I"⟩
def dkwX0_law_0 : List UInt8 := [43, 3, 42, 182, 0, 17, 133, 80, 167, 0, 6, 77, 4, 172, 3, 172]
abbrev dktX0_law_0 : List UInt8 := dkwX0_law_0 ++ []
theorem dksX0_law_0 : cX0_law.data.toList.drop 0 = dktX0_law_0 := by decide +kernel
theorem dX0_law_0 : decode cX0_law 0 = .ok (.aload_n 1, 1) := dk_43 (dk_at dksX0_law_0 0 rfl rfl)
theorem dX0_law_1 : decode cX0_law 1 = .ok (.iconst 0, 1) := dk_3 (dk_at dksX0_law_0 1 rfl rfl)
theorem dX0_law_2 : decode cX0_law 2 = .ok (.aload_n 0, 1) := dk_42 (dk_at dksX0_law_0 2 rfl rfl)
theorem dX0_law_3 : decode cX0_law 3 = .ok (.invokevirtual 17, 3) := dk_182 0 17 (dk_at dksX0_law_0 3 rfl rfl)
theorem dX0_law_6 : decode cX0_law 6 = .ok (.i2l, 1) := dk_133 (dk_at dksX0_law_0 6 rfl rfl)
theorem dX0_law_7 : decode cX0_law 7 = .ok (.lastore, 1) := dk_80 (dk_at dksX0_law_0 7 rfl rfl)
theorem dX0_law_8 : decode cX0_law 8 = .ok (.goto 6, 3) := dk_167 0 6 (dk_at dksX0_law_0 8 rfl rfl)
theorem dX0_law_11 : decode cX0_law 11 = .ok (.astore_n 2, 1) := dk_77 (dk_at dksX0_law_0 11 rfl rfl)
theorem dX0_law_12 : decode cX0_law 12 = .ok (.iconst 1, 1) := dk_4 (dk_at dksX0_law_0 12 rfl rfl)
theorem dX0_law_13 : decode cX0_law 13 = .ok (.ireturn, 1) := dk_172 (dk_at dksX0_law_0 13 rfl rfl)
theorem dX0_law_14 : decode cX0_law 14 = .ok (.iconst 0, 1) := dk_3 (dk_at dksX0_law_0 14 rfl rfl)
theorem dX0_law_15 : decode cX0_law 15 = .ok (.ireturn, 1) := dk_172 (dk_at dksX0_law_0 15 rfl rfl)
abbrev cX0_person : ByteArray := method_5_code
def yX0_person : MethodName := ⟨RX0, "person", "(LStoneBacks;II[J)I"⟩
def dkwX0_person_0 : List UInt8 := [45, 3, 42, 27, 28, 182, 0, 20, 133, 80, 167, 0, 11, 58, 4, 4, 172, 58, 4, 5, 172, 3, 172]
abbrev dktX0_person_0 : List UInt8 := dkwX0_person_0 ++ []
theorem dksX0_person_0 : cX0_person.data.toList.drop 0 = dktX0_person_0 := by decide +kernel
theorem dX0_person_0 : decode cX0_person 0 = .ok (.aload_n 3, 1) := dk_45 (dk_at dksX0_person_0 0 rfl rfl)
theorem dX0_person_1 : decode cX0_person 1 = .ok (.iconst 0, 1) := dk_3 (dk_at dksX0_person_0 1 rfl rfl)
theorem dX0_person_2 : decode cX0_person 2 = .ok (.aload_n 0, 1) := dk_42 (dk_at dksX0_person_0 2 rfl rfl)
theorem dX0_person_3 : decode cX0_person 3 = .ok (.iload_n 1, 1) := dk_27 (dk_at dksX0_person_0 3 rfl rfl)
theorem dX0_person_4 : decode cX0_person 4 = .ok (.iload_n 2, 1) := dk_28 (dk_at dksX0_person_0 4 rfl rfl)
theorem dX0_person_5 : decode cX0_person 5 = .ok (.invokevirtual 20, 3) := dk_182 0 20 (dk_at dksX0_person_0 5 rfl rfl)
theorem dX0_person_8 : decode cX0_person 8 = .ok (.i2l, 1) := dk_133 (dk_at dksX0_person_0 8 rfl rfl)
theorem dX0_person_9 : decode cX0_person 9 = .ok (.lastore, 1) := dk_80 (dk_at dksX0_person_0 9 rfl rfl)
theorem dX0_person_10 : decode cX0_person 10 = .ok (.goto 11, 3) := dk_167 0 11 (dk_at dksX0_person_0 10 rfl rfl)
theorem dX0_person_13 : decode cX0_person 13 = .ok (.astore 4, 2) := dk_58 4 (dk_at dksX0_person_0 13 rfl rfl)
theorem dX0_person_15 : decode cX0_person 15 = .ok (.iconst 1, 1) := dk_4 (dk_at dksX0_person_0 15 rfl rfl)
theorem dX0_person_16 : decode cX0_person 16 = .ok (.ireturn, 1) := dk_172 (dk_at dksX0_person_0 16 rfl rfl)
theorem dX0_person_17 : decode cX0_person 17 = .ok (.astore 4, 2) := dk_58 4 (dk_at dksX0_person_0 17 rfl rfl)
theorem dX0_person_19 : decode cX0_person 19 = .ok (.iconst 2, 1) := dk_5 (dk_at dksX0_person_0 19 rfl rfl)
theorem dX0_person_20 : decode cX0_person 20 = .ok (.ireturn, 1) := dk_172 (dk_at dksX0_person_0 20 rfl rfl)
theorem dX0_person_21 : decode cX0_person 21 = .ok (.iconst 0, 1) := dk_3 (dk_at dksX0_person_0 21 rfl rfl)
theorem dX0_person_22 : decode cX0_person 22 = .ok (.ireturn, 1) := dk_172 (dk_at dksX0_person_0 22 rfl rfl)
abbrev cX0_does : ByteArray := method_6_code
def yX0_does : MethodName := ⟨RX0, "does", "(LStoneBacks;II[J)I"⟩
def dkwX0_does_0 : List UInt8 := [45, 3, 42, 27, 28, 182, 0, 28, 133, 80, 167, 0, 11, 58, 4, 4, 172, 58, 4, 5, 172, 3, 172]
abbrev dktX0_does_0 : List UInt8 := dkwX0_does_0 ++ []
theorem dksX0_does_0 : cX0_does.data.toList.drop 0 = dktX0_does_0 := by decide +kernel
theorem dX0_does_0 : decode cX0_does 0 = .ok (.aload_n 3, 1) := dk_45 (dk_at dksX0_does_0 0 rfl rfl)
theorem dX0_does_1 : decode cX0_does 1 = .ok (.iconst 0, 1) := dk_3 (dk_at dksX0_does_0 1 rfl rfl)
theorem dX0_does_2 : decode cX0_does 2 = .ok (.aload_n 0, 1) := dk_42 (dk_at dksX0_does_0 2 rfl rfl)
theorem dX0_does_3 : decode cX0_does 3 = .ok (.iload_n 1, 1) := dk_27 (dk_at dksX0_does_0 3 rfl rfl)
theorem dX0_does_4 : decode cX0_does 4 = .ok (.iload_n 2, 1) := dk_28 (dk_at dksX0_does_0 4 rfl rfl)
theorem dX0_does_5 : decode cX0_does 5 = .ok (.invokevirtual 28, 3) := dk_182 0 28 (dk_at dksX0_does_0 5 rfl rfl)
theorem dX0_does_8 : decode cX0_does 8 = .ok (.i2l, 1) := dk_133 (dk_at dksX0_does_0 8 rfl rfl)
theorem dX0_does_9 : decode cX0_does 9 = .ok (.lastore, 1) := dk_80 (dk_at dksX0_does_0 9 rfl rfl)
theorem dX0_does_10 : decode cX0_does 10 = .ok (.goto 11, 3) := dk_167 0 11 (dk_at dksX0_does_0 10 rfl rfl)
theorem dX0_does_13 : decode cX0_does 13 = .ok (.astore 4, 2) := dk_58 4 (dk_at dksX0_does_0 13 rfl rfl)
theorem dX0_does_15 : decode cX0_does 15 = .ok (.iconst 1, 1) := dk_4 (dk_at dksX0_does_0 15 rfl rfl)
theorem dX0_does_16 : decode cX0_does 16 = .ok (.ireturn, 1) := dk_172 (dk_at dksX0_does_0 16 rfl rfl)
theorem dX0_does_17 : decode cX0_does 17 = .ok (.astore 4, 2) := dk_58 4 (dk_at dksX0_does_0 17 rfl rfl)
theorem dX0_does_19 : decode cX0_does 19 = .ok (.iconst 2, 1) := dk_5 (dk_at dksX0_does_0 19 rfl rfl)
theorem dX0_does_20 : decode cX0_does 20 = .ok (.ireturn, 1) := dk_172 (dk_at dksX0_does_0 20 rfl rfl)
theorem dX0_does_21 : decode cX0_does 21 = .ok (.iconst 0, 1) := dk_3 (dk_at dksX0_does_0 21 rfl rfl)
theorem dX0_does_22 : decode cX0_does 22 = .ok (.ireturn, 1) := dk_172 (dk_at dksX0_does_0 22 rfl rfl)
abbrev cX0_stone : ByteArray := method_7_code
def yX0_stone : MethodName := ⟨RX0, "stone", "(LStoneBacks;II[J)I"⟩
def dkwX0_stone_0 : List UInt8 := [45, 3, 42, 27, 28, 182, 0, 31, 133, 80, 167, 0, 11, 58, 4, 4, 172, 58, 4, 5, 172, 3, 172]
abbrev dktX0_stone_0 : List UInt8 := dkwX0_stone_0 ++ []
theorem dksX0_stone_0 : cX0_stone.data.toList.drop 0 = dktX0_stone_0 := by decide +kernel
theorem dX0_stone_0 : decode cX0_stone 0 = .ok (.aload_n 3, 1) := dk_45 (dk_at dksX0_stone_0 0 rfl rfl)
theorem dX0_stone_1 : decode cX0_stone 1 = .ok (.iconst 0, 1) := dk_3 (dk_at dksX0_stone_0 1 rfl rfl)
theorem dX0_stone_2 : decode cX0_stone 2 = .ok (.aload_n 0, 1) := dk_42 (dk_at dksX0_stone_0 2 rfl rfl)
theorem dX0_stone_3 : decode cX0_stone 3 = .ok (.iload_n 1, 1) := dk_27 (dk_at dksX0_stone_0 3 rfl rfl)
theorem dX0_stone_4 : decode cX0_stone 4 = .ok (.iload_n 2, 1) := dk_28 (dk_at dksX0_stone_0 4 rfl rfl)
theorem dX0_stone_5 : decode cX0_stone 5 = .ok (.invokevirtual 31, 3) := dk_182 0 31 (dk_at dksX0_stone_0 5 rfl rfl)
theorem dX0_stone_8 : decode cX0_stone 8 = .ok (.i2l, 1) := dk_133 (dk_at dksX0_stone_0 8 rfl rfl)
theorem dX0_stone_9 : decode cX0_stone 9 = .ok (.lastore, 1) := dk_80 (dk_at dksX0_stone_0 9 rfl rfl)
theorem dX0_stone_10 : decode cX0_stone 10 = .ok (.goto 11, 3) := dk_167 0 11 (dk_at dksX0_stone_0 10 rfl rfl)
theorem dX0_stone_13 : decode cX0_stone 13 = .ok (.astore 4, 2) := dk_58 4 (dk_at dksX0_stone_0 13 rfl rfl)
theorem dX0_stone_15 : decode cX0_stone 15 = .ok (.iconst 1, 1) := dk_4 (dk_at dksX0_stone_0 15 rfl rfl)
theorem dX0_stone_16 : decode cX0_stone 16 = .ok (.ireturn, 1) := dk_172 (dk_at dksX0_stone_0 16 rfl rfl)
theorem dX0_stone_17 : decode cX0_stone 17 = .ok (.astore 4, 2) := dk_58 4 (dk_at dksX0_stone_0 17 rfl rfl)
theorem dX0_stone_19 : decode cX0_stone 19 = .ok (.iconst 2, 1) := dk_5 (dk_at dksX0_stone_0 19 rfl rfl)
theorem dX0_stone_20 : decode cX0_stone 20 = .ok (.ireturn, 1) := dk_172 (dk_at dksX0_stone_0 20 rfl rfl)
theorem dX0_stone_21 : decode cX0_stone 21 = .ok (.iconst 0, 1) := dk_3 (dk_at dksX0_stone_0 21 rfl rfl)
theorem dX0_stone_22 : decode cX0_stone 22 = .ok (.ireturn, 1) := dk_172 (dk_at dksX0_stone_0 22 rfl rfl)
abbrev cX0_place : ByteArray := method_8_code
def yX0_place : MethodName := ⟨RX0, "place", "(LStoneBacks;II[J)I"⟩
def dkwX0_place_0 : List UInt8 := [45, 3, 42, 27, 28, 182, 0, 34, 133, 80, 167, 0, 11, 58, 4, 4, 172, 58, 4, 5, 172, 3, 172]
abbrev dktX0_place_0 : List UInt8 := dkwX0_place_0 ++ []
theorem dksX0_place_0 : cX0_place.data.toList.drop 0 = dktX0_place_0 := by decide +kernel
theorem dX0_place_0 : decode cX0_place 0 = .ok (.aload_n 3, 1) := dk_45 (dk_at dksX0_place_0 0 rfl rfl)
theorem dX0_place_1 : decode cX0_place 1 = .ok (.iconst 0, 1) := dk_3 (dk_at dksX0_place_0 1 rfl rfl)
theorem dX0_place_2 : decode cX0_place 2 = .ok (.aload_n 0, 1) := dk_42 (dk_at dksX0_place_0 2 rfl rfl)
theorem dX0_place_3 : decode cX0_place 3 = .ok (.iload_n 1, 1) := dk_27 (dk_at dksX0_place_0 3 rfl rfl)
theorem dX0_place_4 : decode cX0_place 4 = .ok (.iload_n 2, 1) := dk_28 (dk_at dksX0_place_0 4 rfl rfl)
theorem dX0_place_5 : decode cX0_place 5 = .ok (.invokevirtual 34, 3) := dk_182 0 34 (dk_at dksX0_place_0 5 rfl rfl)
theorem dX0_place_8 : decode cX0_place 8 = .ok (.i2l, 1) := dk_133 (dk_at dksX0_place_0 8 rfl rfl)
theorem dX0_place_9 : decode cX0_place 9 = .ok (.lastore, 1) := dk_80 (dk_at dksX0_place_0 9 rfl rfl)
theorem dX0_place_10 : decode cX0_place 10 = .ok (.goto 11, 3) := dk_167 0 11 (dk_at dksX0_place_0 10 rfl rfl)
theorem dX0_place_13 : decode cX0_place 13 = .ok (.astore 4, 2) := dk_58 4 (dk_at dksX0_place_0 13 rfl rfl)
theorem dX0_place_15 : decode cX0_place 15 = .ok (.iconst 1, 1) := dk_4 (dk_at dksX0_place_0 15 rfl rfl)
theorem dX0_place_16 : decode cX0_place 16 = .ok (.ireturn, 1) := dk_172 (dk_at dksX0_place_0 16 rfl rfl)
theorem dX0_place_17 : decode cX0_place 17 = .ok (.astore 4, 2) := dk_58 4 (dk_at dksX0_place_0 17 rfl rfl)
theorem dX0_place_19 : decode cX0_place 19 = .ok (.iconst 2, 1) := dk_5 (dk_at dksX0_place_0 19 rfl rfl)
theorem dX0_place_20 : decode cX0_place 20 = .ok (.ireturn, 1) := dk_172 (dk_at dksX0_place_0 20 rfl rfl)
theorem dX0_place_21 : decode cX0_place 21 = .ok (.iconst 0, 1) := dk_3 (dk_at dksX0_place_0 21 rfl rfl)
theorem dX0_place_22 : decode cX0_place 22 = .ok (.ireturn, 1) := dk_172 (dk_at dksX0_place_0 22 rfl rfl)
abbrev cX0_lend : ByteArray := method_9_code
def yX0_lend : MethodName := ⟨RX0, "lend", "(LStoneBacks;III[J)I"⟩
def dkwX0_lend_1 : List UInt8 := [58, 5, 6, 172, 3, 172]
abbrev dktX0_lend_1 : List UInt8 := dkwX0_lend_1 ++ []
def dkwX0_lend_0 : List UInt8 := [25, 4, 3, 42, 27, 28, 29, 182, 0, 37, 133, 80, 167, 0, 15, 58, 5, 4, 172, 58, 5, 5, 172]
abbrev dktX0_lend_0 : List UInt8 := dkwX0_lend_0 ++ dktX0_lend_1
theorem dksX0_lend_0 : cX0_lend.data.toList.drop 0 = dktX0_lend_0 := by decide +kernel
theorem dksX0_lend_1 : cX0_lend.data.toList.drop 23 = dktX0_lend_1 := dk_seg dksX0_lend_0 23 rfl rfl
theorem dX0_lend_0 : decode cX0_lend 0 = .ok (.aload 4, 2) := dk_25 4 (dk_at dksX0_lend_0 0 rfl rfl)
theorem dX0_lend_2 : decode cX0_lend 2 = .ok (.iconst 0, 1) := dk_3 (dk_at dksX0_lend_0 2 rfl rfl)
theorem dX0_lend_3 : decode cX0_lend 3 = .ok (.aload_n 0, 1) := dk_42 (dk_at dksX0_lend_0 3 rfl rfl)
theorem dX0_lend_4 : decode cX0_lend 4 = .ok (.iload_n 1, 1) := dk_27 (dk_at dksX0_lend_0 4 rfl rfl)
theorem dX0_lend_5 : decode cX0_lend 5 = .ok (.iload_n 2, 1) := dk_28 (dk_at dksX0_lend_0 5 rfl rfl)
theorem dX0_lend_6 : decode cX0_lend 6 = .ok (.iload_n 3, 1) := dk_29 (dk_at dksX0_lend_0 6 rfl rfl)
theorem dX0_lend_7 : decode cX0_lend 7 = .ok (.invokevirtual 37, 3) := dk_182 0 37 (dk_at dksX0_lend_0 7 rfl rfl)
theorem dX0_lend_10 : decode cX0_lend 10 = .ok (.i2l, 1) := dk_133 (dk_at dksX0_lend_0 10 rfl rfl)
theorem dX0_lend_11 : decode cX0_lend 11 = .ok (.lastore, 1) := dk_80 (dk_at dksX0_lend_0 11 rfl rfl)
theorem dX0_lend_12 : decode cX0_lend 12 = .ok (.goto 15, 3) := dk_167 0 15 (dk_at dksX0_lend_0 12 rfl rfl)
theorem dX0_lend_15 : decode cX0_lend 15 = .ok (.astore 5, 2) := dk_58 5 (dk_at dksX0_lend_0 15 rfl rfl)
theorem dX0_lend_17 : decode cX0_lend 17 = .ok (.iconst 1, 1) := dk_4 (dk_at dksX0_lend_0 17 rfl rfl)
theorem dX0_lend_18 : decode cX0_lend 18 = .ok (.ireturn, 1) := dk_172 (dk_at dksX0_lend_0 18 rfl rfl)
theorem dX0_lend_19 : decode cX0_lend 19 = .ok (.astore 5, 2) := dk_58 5 (dk_at dksX0_lend_0 19 rfl rfl)
theorem dX0_lend_21 : decode cX0_lend 21 = .ok (.iconst 2, 1) := dk_5 (dk_at dksX0_lend_0 21 rfl rfl)
theorem dX0_lend_22 : decode cX0_lend 22 = .ok (.ireturn, 1) := dk_172 (dk_at dksX0_lend_0 22 rfl rfl)
theorem dX0_lend_23 : decode cX0_lend 23 = .ok (.astore 5, 2) := dk_58 5 (dk_at dksX0_lend_1 0 rfl rfl)
theorem dX0_lend_25 : decode cX0_lend 25 = .ok (.iconst 3, 1) := dk_6 (dk_at dksX0_lend_1 2 rfl rfl)
theorem dX0_lend_26 : decode cX0_lend 26 = .ok (.ireturn, 1) := dk_172 (dk_at dksX0_lend_1 3 rfl rfl)
theorem dX0_lend_27 : decode cX0_lend 27 = .ok (.iconst 0, 1) := dk_3 (dk_at dksX0_lend_1 4 rfl rfl)
theorem dX0_lend_28 : decode cX0_lend 28 = .ok (.ireturn, 1) := dk_172 (dk_at dksX0_lend_1 5 rfl rfl)
abbrev cX0_pay : ByteArray := method_10_code
def yX0_pay : MethodName := ⟨RX0, "pay", "(LStoneBacks;I[J)I"⟩
def dkwX0_pay_0 : List UInt8 := [44, 3, 42, 27, 182, 0, 43, 133, 80, 167, 0, 9, 78, 4, 172, 78, 5, 172, 3, 172]
abbrev dktX0_pay_0 : List UInt8 := dkwX0_pay_0 ++ []
theorem dksX0_pay_0 : cX0_pay.data.toList.drop 0 = dktX0_pay_0 := by decide +kernel
theorem dX0_pay_0 : decode cX0_pay 0 = .ok (.aload_n 2, 1) := dk_44 (dk_at dksX0_pay_0 0 rfl rfl)
theorem dX0_pay_1 : decode cX0_pay 1 = .ok (.iconst 0, 1) := dk_3 (dk_at dksX0_pay_0 1 rfl rfl)
theorem dX0_pay_2 : decode cX0_pay 2 = .ok (.aload_n 0, 1) := dk_42 (dk_at dksX0_pay_0 2 rfl rfl)
theorem dX0_pay_3 : decode cX0_pay 3 = .ok (.iload_n 1, 1) := dk_27 (dk_at dksX0_pay_0 3 rfl rfl)
theorem dX0_pay_4 : decode cX0_pay 4 = .ok (.invokevirtual 43, 3) := dk_182 0 43 (dk_at dksX0_pay_0 4 rfl rfl)
theorem dX0_pay_7 : decode cX0_pay 7 = .ok (.i2l, 1) := dk_133 (dk_at dksX0_pay_0 7 rfl rfl)
theorem dX0_pay_8 : decode cX0_pay 8 = .ok (.lastore, 1) := dk_80 (dk_at dksX0_pay_0 8 rfl rfl)
theorem dX0_pay_9 : decode cX0_pay 9 = .ok (.goto 9, 3) := dk_167 0 9 (dk_at dksX0_pay_0 9 rfl rfl)
theorem dX0_pay_12 : decode cX0_pay 12 = .ok (.astore_n 3, 1) := dk_78 (dk_at dksX0_pay_0 12 rfl rfl)
theorem dX0_pay_13 : decode cX0_pay 13 = .ok (.iconst 1, 1) := dk_4 (dk_at dksX0_pay_0 13 rfl rfl)
theorem dX0_pay_14 : decode cX0_pay 14 = .ok (.ireturn, 1) := dk_172 (dk_at dksX0_pay_0 14 rfl rfl)
theorem dX0_pay_15 : decode cX0_pay 15 = .ok (.astore_n 3, 1) := dk_78 (dk_at dksX0_pay_0 15 rfl rfl)
theorem dX0_pay_16 : decode cX0_pay 16 = .ok (.iconst 2, 1) := dk_5 (dk_at dksX0_pay_0 16 rfl rfl)
theorem dX0_pay_17 : decode cX0_pay 17 = .ok (.ireturn, 1) := dk_172 (dk_at dksX0_pay_0 17 rfl rfl)
theorem dX0_pay_18 : decode cX0_pay 18 = .ok (.iconst 0, 1) := dk_3 (dk_at dksX0_pay_0 18 rfl rfl)
theorem dX0_pay_19 : decode cX0_pay 19 = .ok (.ireturn, 1) := dk_172 (dk_at dksX0_pay_0 19 rfl rfl)
abbrev cX0_split : ByteArray := method_11_code
def yX0_split : MethodName := ⟨RX0, "split", "(LStoneBacks;I[J)I"⟩
def dkwX0_split_0 : List UInt8 := [44, 3, 42, 27, 182, 0, 47, 133, 80, 167, 0, 9, 78, 4, 172, 78, 5, 172, 3, 172]
abbrev dktX0_split_0 : List UInt8 := dkwX0_split_0 ++ []
theorem dksX0_split_0 : cX0_split.data.toList.drop 0 = dktX0_split_0 := by decide +kernel
theorem dX0_split_0 : decode cX0_split 0 = .ok (.aload_n 2, 1) := dk_44 (dk_at dksX0_split_0 0 rfl rfl)
theorem dX0_split_1 : decode cX0_split 1 = .ok (.iconst 0, 1) := dk_3 (dk_at dksX0_split_0 1 rfl rfl)
theorem dX0_split_2 : decode cX0_split 2 = .ok (.aload_n 0, 1) := dk_42 (dk_at dksX0_split_0 2 rfl rfl)
theorem dX0_split_3 : decode cX0_split 3 = .ok (.iload_n 1, 1) := dk_27 (dk_at dksX0_split_0 3 rfl rfl)
theorem dX0_split_4 : decode cX0_split 4 = .ok (.invokevirtual 47, 3) := dk_182 0 47 (dk_at dksX0_split_0 4 rfl rfl)
theorem dX0_split_7 : decode cX0_split 7 = .ok (.i2l, 1) := dk_133 (dk_at dksX0_split_0 7 rfl rfl)
theorem dX0_split_8 : decode cX0_split 8 = .ok (.lastore, 1) := dk_80 (dk_at dksX0_split_0 8 rfl rfl)
theorem dX0_split_9 : decode cX0_split 9 = .ok (.goto 9, 3) := dk_167 0 9 (dk_at dksX0_split_0 9 rfl rfl)
theorem dX0_split_12 : decode cX0_split 12 = .ok (.astore_n 3, 1) := dk_78 (dk_at dksX0_split_0 12 rfl rfl)
theorem dX0_split_13 : decode cX0_split 13 = .ok (.iconst 1, 1) := dk_4 (dk_at dksX0_split_0 13 rfl rfl)
theorem dX0_split_14 : decode cX0_split 14 = .ok (.ireturn, 1) := dk_172 (dk_at dksX0_split_0 14 rfl rfl)
theorem dX0_split_15 : decode cX0_split 15 = .ok (.astore_n 3, 1) := dk_78 (dk_at dksX0_split_0 15 rfl rfl)
theorem dX0_split_16 : decode cX0_split 16 = .ok (.iconst 2, 1) := dk_5 (dk_at dksX0_split_0 16 rfl rfl)
theorem dX0_split_17 : decode cX0_split 17 = .ok (.ireturn, 1) := dk_172 (dk_at dksX0_split_0 17 rfl rfl)
theorem dX0_split_18 : decode cX0_split 18 = .ok (.iconst 0, 1) := dk_3 (dk_at dksX0_split_0 18 rfl rfl)
theorem dX0_split_19 : decode cX0_split 19 = .ok (.ireturn, 1) := dk_172 (dk_at dksX0_split_0 19 rfl rfl)
abbrev cX0_pass : ByteArray := method_12_code
def yX0_pass : MethodName := ⟨RX0, "pass", "(LStoneBacks;II[J)I"⟩
def dkwX0_pass_1 : List UInt8 := [172, 3, 172]
abbrev dktX0_pass_1 : List UInt8 := dkwX0_pass_1 ++ []
def dkwX0_pass_0 : List UInt8 := [45, 3, 42, 27, 28, 182, 0, 50, 133, 80, 167, 0, 15, 58, 4, 4, 172, 58, 4, 5, 172, 58, 4, 6]
abbrev dktX0_pass_0 : List UInt8 := dkwX0_pass_0 ++ dktX0_pass_1
theorem dksX0_pass_0 : cX0_pass.data.toList.drop 0 = dktX0_pass_0 := by decide +kernel
theorem dksX0_pass_1 : cX0_pass.data.toList.drop 24 = dktX0_pass_1 := dk_seg dksX0_pass_0 24 rfl rfl
theorem dX0_pass_0 : decode cX0_pass 0 = .ok (.aload_n 3, 1) := dk_45 (dk_at dksX0_pass_0 0 rfl rfl)
theorem dX0_pass_1 : decode cX0_pass 1 = .ok (.iconst 0, 1) := dk_3 (dk_at dksX0_pass_0 1 rfl rfl)
theorem dX0_pass_2 : decode cX0_pass 2 = .ok (.aload_n 0, 1) := dk_42 (dk_at dksX0_pass_0 2 rfl rfl)
theorem dX0_pass_3 : decode cX0_pass 3 = .ok (.iload_n 1, 1) := dk_27 (dk_at dksX0_pass_0 3 rfl rfl)
theorem dX0_pass_4 : decode cX0_pass 4 = .ok (.iload_n 2, 1) := dk_28 (dk_at dksX0_pass_0 4 rfl rfl)
theorem dX0_pass_5 : decode cX0_pass 5 = .ok (.invokevirtual 50, 3) := dk_182 0 50 (dk_at dksX0_pass_0 5 rfl rfl)
theorem dX0_pass_8 : decode cX0_pass 8 = .ok (.i2l, 1) := dk_133 (dk_at dksX0_pass_0 8 rfl rfl)
theorem dX0_pass_9 : decode cX0_pass 9 = .ok (.lastore, 1) := dk_80 (dk_at dksX0_pass_0 9 rfl rfl)
theorem dX0_pass_10 : decode cX0_pass 10 = .ok (.goto 15, 3) := dk_167 0 15 (dk_at dksX0_pass_0 10 rfl rfl)
theorem dX0_pass_13 : decode cX0_pass 13 = .ok (.astore 4, 2) := dk_58 4 (dk_at dksX0_pass_0 13 rfl rfl)
theorem dX0_pass_15 : decode cX0_pass 15 = .ok (.iconst 1, 1) := dk_4 (dk_at dksX0_pass_0 15 rfl rfl)
theorem dX0_pass_16 : decode cX0_pass 16 = .ok (.ireturn, 1) := dk_172 (dk_at dksX0_pass_0 16 rfl rfl)
theorem dX0_pass_17 : decode cX0_pass 17 = .ok (.astore 4, 2) := dk_58 4 (dk_at dksX0_pass_0 17 rfl rfl)
theorem dX0_pass_19 : decode cX0_pass 19 = .ok (.iconst 2, 1) := dk_5 (dk_at dksX0_pass_0 19 rfl rfl)
theorem dX0_pass_20 : decode cX0_pass 20 = .ok (.ireturn, 1) := dk_172 (dk_at dksX0_pass_0 20 rfl rfl)
theorem dX0_pass_21 : decode cX0_pass 21 = .ok (.astore 4, 2) := dk_58 4 (dk_at dksX0_pass_0 21 rfl rfl)
theorem dX0_pass_23 : decode cX0_pass 23 = .ok (.iconst 3, 1) := dk_6 (dk_at dksX0_pass_0 23 rfl rfl)
theorem dX0_pass_24 : decode cX0_pass 24 = .ok (.ireturn, 1) := dk_172 (dk_at dksX0_pass_1 0 rfl rfl)
theorem dX0_pass_25 : decode cX0_pass 25 = .ok (.iconst 0, 1) := dk_3 (dk_at dksX0_pass_1 1 rfl rfl)
theorem dX0_pass_26 : decode cX0_pass 26 = .ok (.ireturn, 1) := dk_172 (dk_at dksX0_pass_1 2 rfl rfl)
abbrev cX0_lay : ByteArray := method_13_code
def yX0_lay : MethodName := ⟨RX0, "lay", "(LStoneBacks;I[J)I"⟩
def dkwX0_lay_0 : List UInt8 := [44, 3, 42, 27, 182, 0, 53, 133, 80, 167, 0, 9, 78, 4, 172, 78, 5, 172, 3, 172]
abbrev dktX0_lay_0 : List UInt8 := dkwX0_lay_0 ++ []
theorem dksX0_lay_0 : cX0_lay.data.toList.drop 0 = dktX0_lay_0 := by decide +kernel
theorem dX0_lay_0 : decode cX0_lay 0 = .ok (.aload_n 2, 1) := dk_44 (dk_at dksX0_lay_0 0 rfl rfl)
theorem dX0_lay_1 : decode cX0_lay 1 = .ok (.iconst 0, 1) := dk_3 (dk_at dksX0_lay_0 1 rfl rfl)
theorem dX0_lay_2 : decode cX0_lay 2 = .ok (.aload_n 0, 1) := dk_42 (dk_at dksX0_lay_0 2 rfl rfl)
theorem dX0_lay_3 : decode cX0_lay 3 = .ok (.iload_n 1, 1) := dk_27 (dk_at dksX0_lay_0 3 rfl rfl)
theorem dX0_lay_4 : decode cX0_lay 4 = .ok (.invokevirtual 53, 3) := dk_182 0 53 (dk_at dksX0_lay_0 4 rfl rfl)
theorem dX0_lay_7 : decode cX0_lay 7 = .ok (.i2l, 1) := dk_133 (dk_at dksX0_lay_0 7 rfl rfl)
theorem dX0_lay_8 : decode cX0_lay 8 = .ok (.lastore, 1) := dk_80 (dk_at dksX0_lay_0 8 rfl rfl)
theorem dX0_lay_9 : decode cX0_lay 9 = .ok (.goto 9, 3) := dk_167 0 9 (dk_at dksX0_lay_0 9 rfl rfl)
theorem dX0_lay_12 : decode cX0_lay 12 = .ok (.astore_n 3, 1) := dk_78 (dk_at dksX0_lay_0 12 rfl rfl)
theorem dX0_lay_13 : decode cX0_lay 13 = .ok (.iconst 1, 1) := dk_4 (dk_at dksX0_lay_0 13 rfl rfl)
theorem dX0_lay_14 : decode cX0_lay 14 = .ok (.ireturn, 1) := dk_172 (dk_at dksX0_lay_0 14 rfl rfl)
theorem dX0_lay_15 : decode cX0_lay 15 = .ok (.astore_n 3, 1) := dk_78 (dk_at dksX0_lay_0 15 rfl rfl)
theorem dX0_lay_16 : decode cX0_lay 16 = .ok (.iconst 2, 1) := dk_5 (dk_at dksX0_lay_0 16 rfl rfl)
theorem dX0_lay_17 : decode cX0_lay 17 = .ok (.ireturn, 1) := dk_172 (dk_at dksX0_lay_0 17 rfl rfl)
theorem dX0_lay_18 : decode cX0_lay 18 = .ok (.iconst 0, 1) := dk_3 (dk_at dksX0_lay_0 18 rfl rfl)
theorem dX0_lay_19 : decode cX0_lay 19 = .ok (.ireturn, 1) := dk_172 (dk_at dksX0_lay_0 19 rfl rfl)
abbrev cX0_lift : ByteArray := method_14_code
def yX0_lift : MethodName := ⟨RX0, "lift", "(LStoneBacks;II[J)I"⟩
def dkwX0_lift_0 : List UInt8 := [45, 3, 42, 27, 28, 182, 0, 56, 133, 80, 167, 0, 11, 58, 4, 4, 172, 58, 4, 5, 172, 3, 172]
abbrev dktX0_lift_0 : List UInt8 := dkwX0_lift_0 ++ []
theorem dksX0_lift_0 : cX0_lift.data.toList.drop 0 = dktX0_lift_0 := by decide +kernel
theorem dX0_lift_0 : decode cX0_lift 0 = .ok (.aload_n 3, 1) := dk_45 (dk_at dksX0_lift_0 0 rfl rfl)
theorem dX0_lift_1 : decode cX0_lift 1 = .ok (.iconst 0, 1) := dk_3 (dk_at dksX0_lift_0 1 rfl rfl)
theorem dX0_lift_2 : decode cX0_lift 2 = .ok (.aload_n 0, 1) := dk_42 (dk_at dksX0_lift_0 2 rfl rfl)
theorem dX0_lift_3 : decode cX0_lift 3 = .ok (.iload_n 1, 1) := dk_27 (dk_at dksX0_lift_0 3 rfl rfl)
theorem dX0_lift_4 : decode cX0_lift 4 = .ok (.iload_n 2, 1) := dk_28 (dk_at dksX0_lift_0 4 rfl rfl)
theorem dX0_lift_5 : decode cX0_lift 5 = .ok (.invokevirtual 56, 3) := dk_182 0 56 (dk_at dksX0_lift_0 5 rfl rfl)
theorem dX0_lift_8 : decode cX0_lift 8 = .ok (.i2l, 1) := dk_133 (dk_at dksX0_lift_0 8 rfl rfl)
theorem dX0_lift_9 : decode cX0_lift 9 = .ok (.lastore, 1) := dk_80 (dk_at dksX0_lift_0 9 rfl rfl)
theorem dX0_lift_10 : decode cX0_lift 10 = .ok (.goto 11, 3) := dk_167 0 11 (dk_at dksX0_lift_0 10 rfl rfl)
theorem dX0_lift_13 : decode cX0_lift 13 = .ok (.astore 4, 2) := dk_58 4 (dk_at dksX0_lift_0 13 rfl rfl)
theorem dX0_lift_15 : decode cX0_lift 15 = .ok (.iconst 1, 1) := dk_4 (dk_at dksX0_lift_0 15 rfl rfl)
theorem dX0_lift_16 : decode cX0_lift 16 = .ok (.ireturn, 1) := dk_172 (dk_at dksX0_lift_0 16 rfl rfl)
theorem dX0_lift_17 : decode cX0_lift 17 = .ok (.astore 4, 2) := dk_58 4 (dk_at dksX0_lift_0 17 rfl rfl)
theorem dX0_lift_19 : decode cX0_lift 19 = .ok (.iconst 2, 1) := dk_5 (dk_at dksX0_lift_0 19 rfl rfl)
theorem dX0_lift_20 : decode cX0_lift 20 = .ok (.ireturn, 1) := dk_172 (dk_at dksX0_lift_0 20 rfl rfl)
theorem dX0_lift_21 : decode cX0_lift 21 = .ok (.iconst 0, 1) := dk_3 (dk_at dksX0_lift_0 21 rfl rfl)
theorem dX0_lift_22 : decode cX0_lift 22 = .ok (.ireturn, 1) := dk_172 (dk_at dksX0_lift_0 22 rfl rfl)
abbrev cX0_goal : ByteArray := method_15_code
def yX0_goal : MethodName := ⟨RX0, "goal", "(LStoneBacks;II[J)I"⟩
def dkwX0_goal_0 : List UInt8 := [45, 3, 42, 27, 28, 182, 0, 59, 133, 80, 167, 0, 7, 58, 4, 4, 172, 3, 172]
abbrev dktX0_goal_0 : List UInt8 := dkwX0_goal_0 ++ []
theorem dksX0_goal_0 : cX0_goal.data.toList.drop 0 = dktX0_goal_0 := by decide +kernel
theorem dX0_goal_0 : decode cX0_goal 0 = .ok (.aload_n 3, 1) := dk_45 (dk_at dksX0_goal_0 0 rfl rfl)
theorem dX0_goal_1 : decode cX0_goal 1 = .ok (.iconst 0, 1) := dk_3 (dk_at dksX0_goal_0 1 rfl rfl)
theorem dX0_goal_2 : decode cX0_goal 2 = .ok (.aload_n 0, 1) := dk_42 (dk_at dksX0_goal_0 2 rfl rfl)
theorem dX0_goal_3 : decode cX0_goal 3 = .ok (.iload_n 1, 1) := dk_27 (dk_at dksX0_goal_0 3 rfl rfl)
theorem dX0_goal_4 : decode cX0_goal 4 = .ok (.iload_n 2, 1) := dk_28 (dk_at dksX0_goal_0 4 rfl rfl)
theorem dX0_goal_5 : decode cX0_goal 5 = .ok (.invokevirtual 59, 3) := dk_182 0 59 (dk_at dksX0_goal_0 5 rfl rfl)
theorem dX0_goal_8 : decode cX0_goal 8 = .ok (.i2l, 1) := dk_133 (dk_at dksX0_goal_0 8 rfl rfl)
theorem dX0_goal_9 : decode cX0_goal 9 = .ok (.lastore, 1) := dk_80 (dk_at dksX0_goal_0 9 rfl rfl)
theorem dX0_goal_10 : decode cX0_goal 10 = .ok (.goto 7, 3) := dk_167 0 7 (dk_at dksX0_goal_0 10 rfl rfl)
theorem dX0_goal_13 : decode cX0_goal 13 = .ok (.astore 4, 2) := dk_58 4 (dk_at dksX0_goal_0 13 rfl rfl)
theorem dX0_goal_15 : decode cX0_goal 15 = .ok (.iconst 1, 1) := dk_4 (dk_at dksX0_goal_0 15 rfl rfl)
theorem dX0_goal_16 : decode cX0_goal 16 = .ok (.ireturn, 1) := dk_172 (dk_at dksX0_goal_0 16 rfl rfl)
theorem dX0_goal_17 : decode cX0_goal 17 = .ok (.iconst 0, 1) := dk_3 (dk_at dksX0_goal_0 17 rfl rfl)
theorem dX0_goal_18 : decode cX0_goal 18 = .ok (.ireturn, 1) := dk_172 (dk_at dksX0_goal_0 18 rfl rfl)
abbrev cX0_rest : ByteArray := method_16_code
def yX0_rest : MethodName := ⟨RX0, "rest", "(LStoneBacks;I[J)I"⟩
def dkwX0_rest_0 : List UInt8 := [44, 3, 42, 27, 182, 0, 62, 133, 80, 167, 0, 6, 78, 4, 172, 3, 172]
abbrev dktX0_rest_0 : List UInt8 := dkwX0_rest_0 ++ []
theorem dksX0_rest_0 : cX0_rest.data.toList.drop 0 = dktX0_rest_0 := by decide +kernel
theorem dX0_rest_0 : decode cX0_rest 0 = .ok (.aload_n 2, 1) := dk_44 (dk_at dksX0_rest_0 0 rfl rfl)
theorem dX0_rest_1 : decode cX0_rest 1 = .ok (.iconst 0, 1) := dk_3 (dk_at dksX0_rest_0 1 rfl rfl)
theorem dX0_rest_2 : decode cX0_rest 2 = .ok (.aload_n 0, 1) := dk_42 (dk_at dksX0_rest_0 2 rfl rfl)
theorem dX0_rest_3 : decode cX0_rest 3 = .ok (.iload_n 1, 1) := dk_27 (dk_at dksX0_rest_0 3 rfl rfl)
theorem dX0_rest_4 : decode cX0_rest 4 = .ok (.invokevirtual 62, 3) := dk_182 0 62 (dk_at dksX0_rest_0 4 rfl rfl)
theorem dX0_rest_7 : decode cX0_rest 7 = .ok (.i2l, 1) := dk_133 (dk_at dksX0_rest_0 7 rfl rfl)
theorem dX0_rest_8 : decode cX0_rest 8 = .ok (.lastore, 1) := dk_80 (dk_at dksX0_rest_0 8 rfl rfl)
theorem dX0_rest_9 : decode cX0_rest 9 = .ok (.goto 6, 3) := dk_167 0 6 (dk_at dksX0_rest_0 9 rfl rfl)
theorem dX0_rest_12 : decode cX0_rest 12 = .ok (.astore_n 3, 1) := dk_78 (dk_at dksX0_rest_0 12 rfl rfl)
theorem dX0_rest_13 : decode cX0_rest 13 = .ok (.iconst 1, 1) := dk_4 (dk_at dksX0_rest_0 13 rfl rfl)
theorem dX0_rest_14 : decode cX0_rest 14 = .ok (.ireturn, 1) := dk_172 (dk_at dksX0_rest_0 14 rfl rfl)
theorem dX0_rest_15 : decode cX0_rest 15 = .ok (.iconst 0, 1) := dk_3 (dk_at dksX0_rest_0 15 rfl rfl)
theorem dX0_rest_16 : decode cX0_rest 16 = .ok (.ireturn, 1) := dk_172 (dk_at dksX0_rest_0 16 rfl rfl)
abbrev cX0_hours : ByteArray := method_17_code
def yX0_hours : MethodName := ⟨RX0, "hours", "(LStoneBacks;I[J)I"⟩
def dkwX0_hours_0 : List UInt8 := [44, 3, 42, 27, 182, 0, 65, 133, 80, 167, 0, 6, 78, 4, 172, 3, 172]
abbrev dktX0_hours_0 : List UInt8 := dkwX0_hours_0 ++ []
theorem dksX0_hours_0 : cX0_hours.data.toList.drop 0 = dktX0_hours_0 := by decide +kernel
theorem dX0_hours_0 : decode cX0_hours 0 = .ok (.aload_n 2, 1) := dk_44 (dk_at dksX0_hours_0 0 rfl rfl)
theorem dX0_hours_1 : decode cX0_hours 1 = .ok (.iconst 0, 1) := dk_3 (dk_at dksX0_hours_0 1 rfl rfl)
theorem dX0_hours_2 : decode cX0_hours 2 = .ok (.aload_n 0, 1) := dk_42 (dk_at dksX0_hours_0 2 rfl rfl)
theorem dX0_hours_3 : decode cX0_hours 3 = .ok (.iload_n 1, 1) := dk_27 (dk_at dksX0_hours_0 3 rfl rfl)
theorem dX0_hours_4 : decode cX0_hours 4 = .ok (.invokevirtual 65, 3) := dk_182 0 65 (dk_at dksX0_hours_0 4 rfl rfl)
theorem dX0_hours_7 : decode cX0_hours 7 = .ok (.i2l, 1) := dk_133 (dk_at dksX0_hours_0 7 rfl rfl)
theorem dX0_hours_8 : decode cX0_hours 8 = .ok (.lastore, 1) := dk_80 (dk_at dksX0_hours_0 8 rfl rfl)
theorem dX0_hours_9 : decode cX0_hours 9 = .ok (.goto 6, 3) := dk_167 0 6 (dk_at dksX0_hours_0 9 rfl rfl)
theorem dX0_hours_12 : decode cX0_hours 12 = .ok (.astore_n 3, 1) := dk_78 (dk_at dksX0_hours_0 12 rfl rfl)
theorem dX0_hours_13 : decode cX0_hours 13 = .ok (.iconst 1, 1) := dk_4 (dk_at dksX0_hours_0 13 rfl rfl)
theorem dX0_hours_14 : decode cX0_hours 14 = .ok (.ireturn, 1) := dk_172 (dk_at dksX0_hours_0 14 rfl rfl)
theorem dX0_hours_15 : decode cX0_hours 15 = .ok (.iconst 0, 1) := dk_3 (dk_at dksX0_hours_0 15 rfl rfl)
theorem dX0_hours_16 : decode cX0_hours 16 = .ok (.ireturn, 1) := dk_172 (dk_at dksX0_hours_0 16 rfl rfl)
abbrev cX0_way : ByteArray := method_18_code
def yX0_way : MethodName := ⟨RX0, "way", "(LStoneBacks;II[J)I"⟩
def dkwX0_way_0 : List UInt8 := [45, 3, 42, 27, 28, 182, 0, 68, 133, 80, 167, 0, 7, 58, 4, 4, 172, 3, 172]
abbrev dktX0_way_0 : List UInt8 := dkwX0_way_0 ++ []
theorem dksX0_way_0 : cX0_way.data.toList.drop 0 = dktX0_way_0 := by decide +kernel
theorem dX0_way_0 : decode cX0_way 0 = .ok (.aload_n 3, 1) := dk_45 (dk_at dksX0_way_0 0 rfl rfl)
theorem dX0_way_1 : decode cX0_way 1 = .ok (.iconst 0, 1) := dk_3 (dk_at dksX0_way_0 1 rfl rfl)
theorem dX0_way_2 : decode cX0_way 2 = .ok (.aload_n 0, 1) := dk_42 (dk_at dksX0_way_0 2 rfl rfl)
theorem dX0_way_3 : decode cX0_way 3 = .ok (.iload_n 1, 1) := dk_27 (dk_at dksX0_way_0 3 rfl rfl)
theorem dX0_way_4 : decode cX0_way 4 = .ok (.iload_n 2, 1) := dk_28 (dk_at dksX0_way_0 4 rfl rfl)
theorem dX0_way_5 : decode cX0_way 5 = .ok (.invokevirtual 68, 3) := dk_182 0 68 (dk_at dksX0_way_0 5 rfl rfl)
theorem dX0_way_8 : decode cX0_way 8 = .ok (.i2l, 1) := dk_133 (dk_at dksX0_way_0 8 rfl rfl)
theorem dX0_way_9 : decode cX0_way 9 = .ok (.lastore, 1) := dk_80 (dk_at dksX0_way_0 9 rfl rfl)
theorem dX0_way_10 : decode cX0_way 10 = .ok (.goto 7, 3) := dk_167 0 7 (dk_at dksX0_way_0 10 rfl rfl)
theorem dX0_way_13 : decode cX0_way 13 = .ok (.astore 4, 2) := dk_58 4 (dk_at dksX0_way_0 13 rfl rfl)
theorem dX0_way_15 : decode cX0_way 15 = .ok (.iconst 1, 1) := dk_4 (dk_at dksX0_way_0 15 rfl rfl)
theorem dX0_way_16 : decode cX0_way 16 = .ok (.ireturn, 1) := dk_172 (dk_at dksX0_way_0 16 rfl rfl)
theorem dX0_way_17 : decode cX0_way 17 = .ok (.iconst 0, 1) := dk_3 (dk_at dksX0_way_0 17 rfl rfl)
theorem dX0_way_18 : decode cX0_way 18 = .ok (.ireturn, 1) := dk_172 (dk_at dksX0_way_0 18 rfl rfl)
abbrev cX0_soonest : ByteArray := method_19_code
def yX0_soonest : MethodName := ⟨RX0, "soonest", "(LStoneBacks;I[J)I"⟩
def dkwX0_soonest_0 : List UInt8 := [44, 3, 42, 27, 182, 0, 71, 133, 80, 167, 0, 6, 78, 4, 172, 3, 172]
abbrev dktX0_soonest_0 : List UInt8 := dkwX0_soonest_0 ++ []
theorem dksX0_soonest_0 : cX0_soonest.data.toList.drop 0 = dktX0_soonest_0 := by decide +kernel
theorem dX0_soonest_0 : decode cX0_soonest 0 = .ok (.aload_n 2, 1) := dk_44 (dk_at dksX0_soonest_0 0 rfl rfl)
theorem dX0_soonest_1 : decode cX0_soonest 1 = .ok (.iconst 0, 1) := dk_3 (dk_at dksX0_soonest_0 1 rfl rfl)
theorem dX0_soonest_2 : decode cX0_soonest 2 = .ok (.aload_n 0, 1) := dk_42 (dk_at dksX0_soonest_0 2 rfl rfl)
theorem dX0_soonest_3 : decode cX0_soonest 3 = .ok (.iload_n 1, 1) := dk_27 (dk_at dksX0_soonest_0 3 rfl rfl)
theorem dX0_soonest_4 : decode cX0_soonest 4 = .ok (.invokevirtual 71, 3) := dk_182 0 71 (dk_at dksX0_soonest_0 4 rfl rfl)
theorem dX0_soonest_7 : decode cX0_soonest 7 = .ok (.i2l, 1) := dk_133 (dk_at dksX0_soonest_0 7 rfl rfl)
theorem dX0_soonest_8 : decode cX0_soonest 8 = .ok (.lastore, 1) := dk_80 (dk_at dksX0_soonest_0 8 rfl rfl)
theorem dX0_soonest_9 : decode cX0_soonest 9 = .ok (.goto 6, 3) := dk_167 0 6 (dk_at dksX0_soonest_0 9 rfl rfl)
theorem dX0_soonest_12 : decode cX0_soonest 12 = .ok (.astore_n 3, 1) := dk_78 (dk_at dksX0_soonest_0 12 rfl rfl)
theorem dX0_soonest_13 : decode cX0_soonest 13 = .ok (.iconst 1, 1) := dk_4 (dk_at dksX0_soonest_0 13 rfl rfl)
theorem dX0_soonest_14 : decode cX0_soonest 14 = .ok (.ireturn, 1) := dk_172 (dk_at dksX0_soonest_0 14 rfl rfl)
theorem dX0_soonest_15 : decode cX0_soonest 15 = .ok (.iconst 0, 1) := dk_3 (dk_at dksX0_soonest_0 15 rfl rfl)
theorem dX0_soonest_16 : decode cX0_soonest 16 = .ok (.ireturn, 1) := dk_172 (dk_at dksX0_soonest_0 16 rfl rfl)
abbrev cX0_cross : ByteArray := method_20_code
def yX0_cross : MethodName := ⟨RX0, "cross", "(LStoneBacks;I[J)I"⟩
def dkwX0_cross_0 : List UInt8 := [44, 3, 42, 27, 182, 0, 74, 153, 0, 7, 10, 167, 0, 4, 9, 80, 167, 0, 6, 78, 4, 172, 3, 172]
abbrev dktX0_cross_0 : List UInt8 := dkwX0_cross_0 ++ []
theorem dksX0_cross_0 : cX0_cross.data.toList.drop 0 = dktX0_cross_0 := by decide +kernel
theorem dX0_cross_0 : decode cX0_cross 0 = .ok (.aload_n 2, 1) := dk_44 (dk_at dksX0_cross_0 0 rfl rfl)
theorem dX0_cross_1 : decode cX0_cross 1 = .ok (.iconst 0, 1) := dk_3 (dk_at dksX0_cross_0 1 rfl rfl)
theorem dX0_cross_2 : decode cX0_cross 2 = .ok (.aload_n 0, 1) := dk_42 (dk_at dksX0_cross_0 2 rfl rfl)
theorem dX0_cross_3 : decode cX0_cross 3 = .ok (.iload_n 1, 1) := dk_27 (dk_at dksX0_cross_0 3 rfl rfl)
theorem dX0_cross_4 : decode cX0_cross 4 = .ok (.invokevirtual 74, 3) := dk_182 0 74 (dk_at dksX0_cross_0 4 rfl rfl)
theorem dX0_cross_7 : decode cX0_cross 7 = .ok (.ifCond .eq 7, 3) := dk_153 0 7 (dk_at dksX0_cross_0 7 rfl rfl)
theorem dX0_cross_10 : decode cX0_cross 10 = .ok (.lconst 1, 1) := dk_10 (dk_at dksX0_cross_0 10 rfl rfl)
theorem dX0_cross_11 : decode cX0_cross 11 = .ok (.goto 4, 3) := dk_167 0 4 (dk_at dksX0_cross_0 11 rfl rfl)
theorem dX0_cross_14 : decode cX0_cross 14 = .ok (.lconst 0, 1) := dk_9 (dk_at dksX0_cross_0 14 rfl rfl)
theorem dX0_cross_15 : decode cX0_cross 15 = .ok (.lastore, 1) := dk_80 (dk_at dksX0_cross_0 15 rfl rfl)
theorem dX0_cross_16 : decode cX0_cross 16 = .ok (.goto 6, 3) := dk_167 0 6 (dk_at dksX0_cross_0 16 rfl rfl)
theorem dX0_cross_19 : decode cX0_cross 19 = .ok (.astore_n 3, 1) := dk_78 (dk_at dksX0_cross_0 19 rfl rfl)
theorem dX0_cross_20 : decode cX0_cross 20 = .ok (.iconst 1, 1) := dk_4 (dk_at dksX0_cross_0 20 rfl rfl)
theorem dX0_cross_21 : decode cX0_cross 21 = .ok (.ireturn, 1) := dk_172 (dk_at dksX0_cross_0 21 rfl rfl)
theorem dX0_cross_22 : decode cX0_cross 22 = .ok (.iconst 0, 1) := dk_3 (dk_at dksX0_cross_0 22 rfl rfl)
theorem dX0_cross_23 : decode cX0_cross 23 = .ok (.ireturn, 1) := dk_172 (dk_at dksX0_cross_0 23 rfl rfl)
abbrev cX0_shed : ByteArray := method_21_code
def yX0_shed : MethodName := ⟨RX0, "shed", "(LStoneBacks;I[J)I"⟩
def dkwX0_shed_0 : List UInt8 := [44, 3, 42, 27, 182, 0, 78, 133, 80, 167, 0, 6, 78, 4, 172, 3, 172]
abbrev dktX0_shed_0 : List UInt8 := dkwX0_shed_0 ++ []
theorem dksX0_shed_0 : cX0_shed.data.toList.drop 0 = dktX0_shed_0 := by decide +kernel
theorem dX0_shed_0 : decode cX0_shed 0 = .ok (.aload_n 2, 1) := dk_44 (dk_at dksX0_shed_0 0 rfl rfl)
theorem dX0_shed_1 : decode cX0_shed 1 = .ok (.iconst 0, 1) := dk_3 (dk_at dksX0_shed_0 1 rfl rfl)
theorem dX0_shed_2 : decode cX0_shed 2 = .ok (.aload_n 0, 1) := dk_42 (dk_at dksX0_shed_0 2 rfl rfl)
theorem dX0_shed_3 : decode cX0_shed 3 = .ok (.iload_n 1, 1) := dk_27 (dk_at dksX0_shed_0 3 rfl rfl)
theorem dX0_shed_4 : decode cX0_shed 4 = .ok (.invokevirtual 78, 3) := dk_182 0 78 (dk_at dksX0_shed_0 4 rfl rfl)
theorem dX0_shed_7 : decode cX0_shed 7 = .ok (.i2l, 1) := dk_133 (dk_at dksX0_shed_0 7 rfl rfl)
theorem dX0_shed_8 : decode cX0_shed 8 = .ok (.lastore, 1) := dk_80 (dk_at dksX0_shed_0 8 rfl rfl)
theorem dX0_shed_9 : decode cX0_shed 9 = .ok (.goto 6, 3) := dk_167 0 6 (dk_at dksX0_shed_0 9 rfl rfl)
theorem dX0_shed_12 : decode cX0_shed 12 = .ok (.astore_n 3, 1) := dk_78 (dk_at dksX0_shed_0 12 rfl rfl)
theorem dX0_shed_13 : decode cX0_shed 13 = .ok (.iconst 1, 1) := dk_4 (dk_at dksX0_shed_0 13 rfl rfl)
theorem dX0_shed_14 : decode cX0_shed 14 = .ok (.ireturn, 1) := dk_172 (dk_at dksX0_shed_0 14 rfl rfl)
theorem dX0_shed_15 : decode cX0_shed 15 = .ok (.iconst 0, 1) := dk_3 (dk_at dksX0_shed_0 15 rfl rfl)
theorem dX0_shed_16 : decode cX0_shed 16 = .ok (.ireturn, 1) := dk_172 (dk_at dksX0_shed_0 16 rfl rfl)
abbrev cX0_share : ByteArray := method_22_code
def yX0_share : MethodName := ⟨RX0, "share", "(LStoneBacks;II[J)I"⟩
def dkwX0_share_0 : List UInt8 := [45, 3, 42, 27, 28, 182, 0, 81, 133, 80, 167, 0, 7, 58, 4, 4, 172, 3, 172]
abbrev dktX0_share_0 : List UInt8 := dkwX0_share_0 ++ []
theorem dksX0_share_0 : cX0_share.data.toList.drop 0 = dktX0_share_0 := by decide +kernel
theorem dX0_share_0 : decode cX0_share 0 = .ok (.aload_n 3, 1) := dk_45 (dk_at dksX0_share_0 0 rfl rfl)
theorem dX0_share_1 : decode cX0_share 1 = .ok (.iconst 0, 1) := dk_3 (dk_at dksX0_share_0 1 rfl rfl)
theorem dX0_share_2 : decode cX0_share 2 = .ok (.aload_n 0, 1) := dk_42 (dk_at dksX0_share_0 2 rfl rfl)
theorem dX0_share_3 : decode cX0_share 3 = .ok (.iload_n 1, 1) := dk_27 (dk_at dksX0_share_0 3 rfl rfl)
theorem dX0_share_4 : decode cX0_share 4 = .ok (.iload_n 2, 1) := dk_28 (dk_at dksX0_share_0 4 rfl rfl)
theorem dX0_share_5 : decode cX0_share 5 = .ok (.invokevirtual 81, 3) := dk_182 0 81 (dk_at dksX0_share_0 5 rfl rfl)
theorem dX0_share_8 : decode cX0_share 8 = .ok (.i2l, 1) := dk_133 (dk_at dksX0_share_0 8 rfl rfl)
theorem dX0_share_9 : decode cX0_share 9 = .ok (.lastore, 1) := dk_80 (dk_at dksX0_share_0 9 rfl rfl)
theorem dX0_share_10 : decode cX0_share 10 = .ok (.goto 7, 3) := dk_167 0 7 (dk_at dksX0_share_0 10 rfl rfl)
theorem dX0_share_13 : decode cX0_share 13 = .ok (.astore 4, 2) := dk_58 4 (dk_at dksX0_share_0 13 rfl rfl)
theorem dX0_share_15 : decode cX0_share 15 = .ok (.iconst 1, 1) := dk_4 (dk_at dksX0_share_0 15 rfl rfl)
theorem dX0_share_16 : decode cX0_share 16 = .ok (.ireturn, 1) := dk_172 (dk_at dksX0_share_0 16 rfl rfl)
theorem dX0_share_17 : decode cX0_share 17 = .ok (.iconst 0, 1) := dk_3 (dk_at dksX0_share_0 17 rfl rfl)
theorem dX0_share_18 : decode cX0_share 18 = .ok (.ireturn, 1) := dk_172 (dk_at dksX0_share_0 18 rfl rfl)
abbrev cX0_pays : ByteArray := method_23_code
def yX0_pays : MethodName := ⟨RX0, "pays", "(LStoneBacks;IZ[J)I"⟩
def dkwX0_pays_0 : List UInt8 := [45, 3, 42, 27, 28, 182, 0, 84, 133, 80, 167, 0, 7, 58, 4, 4, 172, 3, 172]
abbrev dktX0_pays_0 : List UInt8 := dkwX0_pays_0 ++ []
theorem dksX0_pays_0 : cX0_pays.data.toList.drop 0 = dktX0_pays_0 := by decide +kernel
theorem dX0_pays_0 : decode cX0_pays 0 = .ok (.aload_n 3, 1) := dk_45 (dk_at dksX0_pays_0 0 rfl rfl)
theorem dX0_pays_1 : decode cX0_pays 1 = .ok (.iconst 0, 1) := dk_3 (dk_at dksX0_pays_0 1 rfl rfl)
theorem dX0_pays_2 : decode cX0_pays 2 = .ok (.aload_n 0, 1) := dk_42 (dk_at dksX0_pays_0 2 rfl rfl)
theorem dX0_pays_3 : decode cX0_pays 3 = .ok (.iload_n 1, 1) := dk_27 (dk_at dksX0_pays_0 3 rfl rfl)
theorem dX0_pays_4 : decode cX0_pays 4 = .ok (.iload_n 2, 1) := dk_28 (dk_at dksX0_pays_0 4 rfl rfl)
theorem dX0_pays_5 : decode cX0_pays 5 = .ok (.invokevirtual 84, 3) := dk_182 0 84 (dk_at dksX0_pays_0 5 rfl rfl)
theorem dX0_pays_8 : decode cX0_pays 8 = .ok (.i2l, 1) := dk_133 (dk_at dksX0_pays_0 8 rfl rfl)
theorem dX0_pays_9 : decode cX0_pays 9 = .ok (.lastore, 1) := dk_80 (dk_at dksX0_pays_0 9 rfl rfl)
theorem dX0_pays_10 : decode cX0_pays 10 = .ok (.goto 7, 3) := dk_167 0 7 (dk_at dksX0_pays_0 10 rfl rfl)
theorem dX0_pays_13 : decode cX0_pays 13 = .ok (.astore 4, 2) := dk_58 4 (dk_at dksX0_pays_0 13 rfl rfl)
theorem dX0_pays_15 : decode cX0_pays 15 = .ok (.iconst 1, 1) := dk_4 (dk_at dksX0_pays_0 15 rfl rfl)
theorem dX0_pays_16 : decode cX0_pays 16 = .ok (.ireturn, 1) := dk_172 (dk_at dksX0_pays_0 16 rfl rfl)
theorem dX0_pays_17 : decode cX0_pays 17 = .ok (.iconst 0, 1) := dk_3 (dk_at dksX0_pays_0 17 rfl rfl)
theorem dX0_pays_18 : decode cX0_pays 18 = .ok (.ireturn, 1) := dk_172 (dk_at dksX0_pays_0 18 rfl rfl)
abbrev cX0_first : ByteArray := method_24_code
def yX0_first : MethodName := ⟨RX0, "first", "(LStoneBacks;I[J)I"⟩
def dkwX0_first_0 : List UInt8 := [44, 3, 42, 27, 182, 0, 88, 133, 80, 167, 0, 6, 78, 4, 172, 3, 172]
abbrev dktX0_first_0 : List UInt8 := dkwX0_first_0 ++ []
theorem dksX0_first_0 : cX0_first.data.toList.drop 0 = dktX0_first_0 := by decide +kernel
theorem dX0_first_0 : decode cX0_first 0 = .ok (.aload_n 2, 1) := dk_44 (dk_at dksX0_first_0 0 rfl rfl)
theorem dX0_first_1 : decode cX0_first 1 = .ok (.iconst 0, 1) := dk_3 (dk_at dksX0_first_0 1 rfl rfl)
theorem dX0_first_2 : decode cX0_first 2 = .ok (.aload_n 0, 1) := dk_42 (dk_at dksX0_first_0 2 rfl rfl)
theorem dX0_first_3 : decode cX0_first 3 = .ok (.iload_n 1, 1) := dk_27 (dk_at dksX0_first_0 3 rfl rfl)
theorem dX0_first_4 : decode cX0_first 4 = .ok (.invokevirtual 88, 3) := dk_182 0 88 (dk_at dksX0_first_0 4 rfl rfl)
theorem dX0_first_7 : decode cX0_first 7 = .ok (.i2l, 1) := dk_133 (dk_at dksX0_first_0 7 rfl rfl)
theorem dX0_first_8 : decode cX0_first 8 = .ok (.lastore, 1) := dk_80 (dk_at dksX0_first_0 8 rfl rfl)
theorem dX0_first_9 : decode cX0_first 9 = .ok (.goto 6, 3) := dk_167 0 6 (dk_at dksX0_first_0 9 rfl rfl)
theorem dX0_first_12 : decode cX0_first 12 = .ok (.astore_n 3, 1) := dk_78 (dk_at dksX0_first_0 12 rfl rfl)
theorem dX0_first_13 : decode cX0_first 13 = .ok (.iconst 1, 1) := dk_4 (dk_at dksX0_first_0 13 rfl rfl)
theorem dX0_first_14 : decode cX0_first 14 = .ok (.ireturn, 1) := dk_172 (dk_at dksX0_first_0 14 rfl rfl)
theorem dX0_first_15 : decode cX0_first 15 = .ok (.iconst 0, 1) := dk_3 (dk_at dksX0_first_0 15 rfl rfl)
theorem dX0_first_16 : decode cX0_first 16 = .ok (.ireturn, 1) := dk_172 (dk_at dksX0_first_0 16 rfl rfl)
abbrev cX0_owes : ByteArray := method_25_code
def yX0_owes : MethodName := ⟨RX0, "owes", "(LStoneBacks;II[J)I"⟩
def dkwX0_owes_1 : List UInt8 := [58, 4, 5, 172, 3, 172]
abbrev dktX0_owes_1 : List UInt8 := dkwX0_owes_1 ++ []
def dkwX0_owes_0 : List UInt8 := [45, 3, 42, 27, 28, 182, 0, 91, 153, 0, 7, 10, 167, 0, 4, 9, 80, 167, 0, 11, 58, 4, 4, 172]
abbrev dktX0_owes_0 : List UInt8 := dkwX0_owes_0 ++ dktX0_owes_1
theorem dksX0_owes_0 : cX0_owes.data.toList.drop 0 = dktX0_owes_0 := by decide +kernel
theorem dksX0_owes_1 : cX0_owes.data.toList.drop 24 = dktX0_owes_1 := dk_seg dksX0_owes_0 24 rfl rfl
theorem dX0_owes_0 : decode cX0_owes 0 = .ok (.aload_n 3, 1) := dk_45 (dk_at dksX0_owes_0 0 rfl rfl)
theorem dX0_owes_1 : decode cX0_owes 1 = .ok (.iconst 0, 1) := dk_3 (dk_at dksX0_owes_0 1 rfl rfl)
theorem dX0_owes_2 : decode cX0_owes 2 = .ok (.aload_n 0, 1) := dk_42 (dk_at dksX0_owes_0 2 rfl rfl)
theorem dX0_owes_3 : decode cX0_owes 3 = .ok (.iload_n 1, 1) := dk_27 (dk_at dksX0_owes_0 3 rfl rfl)
theorem dX0_owes_4 : decode cX0_owes 4 = .ok (.iload_n 2, 1) := dk_28 (dk_at dksX0_owes_0 4 rfl rfl)
theorem dX0_owes_5 : decode cX0_owes 5 = .ok (.invokevirtual 91, 3) := dk_182 0 91 (dk_at dksX0_owes_0 5 rfl rfl)
theorem dX0_owes_8 : decode cX0_owes 8 = .ok (.ifCond .eq 7, 3) := dk_153 0 7 (dk_at dksX0_owes_0 8 rfl rfl)
theorem dX0_owes_11 : decode cX0_owes 11 = .ok (.lconst 1, 1) := dk_10 (dk_at dksX0_owes_0 11 rfl rfl)
theorem dX0_owes_12 : decode cX0_owes 12 = .ok (.goto 4, 3) := dk_167 0 4 (dk_at dksX0_owes_0 12 rfl rfl)
theorem dX0_owes_15 : decode cX0_owes 15 = .ok (.lconst 0, 1) := dk_9 (dk_at dksX0_owes_0 15 rfl rfl)
theorem dX0_owes_16 : decode cX0_owes 16 = .ok (.lastore, 1) := dk_80 (dk_at dksX0_owes_0 16 rfl rfl)
theorem dX0_owes_17 : decode cX0_owes 17 = .ok (.goto 11, 3) := dk_167 0 11 (dk_at dksX0_owes_0 17 rfl rfl)
theorem dX0_owes_20 : decode cX0_owes 20 = .ok (.astore 4, 2) := dk_58 4 (dk_at dksX0_owes_0 20 rfl rfl)
theorem dX0_owes_22 : decode cX0_owes 22 = .ok (.iconst 1, 1) := dk_4 (dk_at dksX0_owes_0 22 rfl rfl)
theorem dX0_owes_23 : decode cX0_owes 23 = .ok (.ireturn, 1) := dk_172 (dk_at dksX0_owes_0 23 rfl rfl)
theorem dX0_owes_24 : decode cX0_owes 24 = .ok (.astore 4, 2) := dk_58 4 (dk_at dksX0_owes_1 0 rfl rfl)
theorem dX0_owes_26 : decode cX0_owes 26 = .ok (.iconst 2, 1) := dk_5 (dk_at dksX0_owes_1 2 rfl rfl)
theorem dX0_owes_27 : decode cX0_owes 27 = .ok (.ireturn, 1) := dk_172 (dk_at dksX0_owes_1 3 rfl rfl)
theorem dX0_owes_28 : decode cX0_owes 28 = .ok (.iconst 0, 1) := dk_3 (dk_at dksX0_owes_1 4 rfl rfl)
theorem dX0_owes_29 : decode cX0_owes 29 = .ok (.ireturn, 1) := dk_172 (dk_at dksX0_owes_1 5 rfl rfl)
abbrev cX0_rests : ByteArray := method_26_code
def yX0_rests : MethodName := ⟨RX0, "rests", "(LStoneBacks;III[J)I"⟩
def dkwX0_rests_1 : List UInt8 := [172]
abbrev dktX0_rests_1 : List UInt8 := dkwX0_rests_1 ++ []
def dkwX0_rests_0 : List UInt8 := [25, 4, 3, 42, 27, 28, 29, 182, 0, 95, 133, 80, 167, 0, 11, 58, 5, 4, 172, 58, 5, 5, 172, 3]
abbrev dktX0_rests_0 : List UInt8 := dkwX0_rests_0 ++ dktX0_rests_1
theorem dksX0_rests_0 : cX0_rests.data.toList.drop 0 = dktX0_rests_0 := by decide +kernel
theorem dksX0_rests_1 : cX0_rests.data.toList.drop 24 = dktX0_rests_1 := dk_seg dksX0_rests_0 24 rfl rfl
theorem dX0_rests_0 : decode cX0_rests 0 = .ok (.aload 4, 2) := dk_25 4 (dk_at dksX0_rests_0 0 rfl rfl)
theorem dX0_rests_2 : decode cX0_rests 2 = .ok (.iconst 0, 1) := dk_3 (dk_at dksX0_rests_0 2 rfl rfl)
theorem dX0_rests_3 : decode cX0_rests 3 = .ok (.aload_n 0, 1) := dk_42 (dk_at dksX0_rests_0 3 rfl rfl)
theorem dX0_rests_4 : decode cX0_rests 4 = .ok (.iload_n 1, 1) := dk_27 (dk_at dksX0_rests_0 4 rfl rfl)
theorem dX0_rests_5 : decode cX0_rests 5 = .ok (.iload_n 2, 1) := dk_28 (dk_at dksX0_rests_0 5 rfl rfl)
theorem dX0_rests_6 : decode cX0_rests 6 = .ok (.iload_n 3, 1) := dk_29 (dk_at dksX0_rests_0 6 rfl rfl)
theorem dX0_rests_7 : decode cX0_rests 7 = .ok (.invokevirtual 95, 3) := dk_182 0 95 (dk_at dksX0_rests_0 7 rfl rfl)
theorem dX0_rests_10 : decode cX0_rests 10 = .ok (.i2l, 1) := dk_133 (dk_at dksX0_rests_0 10 rfl rfl)
theorem dX0_rests_11 : decode cX0_rests 11 = .ok (.lastore, 1) := dk_80 (dk_at dksX0_rests_0 11 rfl rfl)
theorem dX0_rests_12 : decode cX0_rests 12 = .ok (.goto 11, 3) := dk_167 0 11 (dk_at dksX0_rests_0 12 rfl rfl)
theorem dX0_rests_15 : decode cX0_rests 15 = .ok (.astore 5, 2) := dk_58 5 (dk_at dksX0_rests_0 15 rfl rfl)
theorem dX0_rests_17 : decode cX0_rests 17 = .ok (.iconst 1, 1) := dk_4 (dk_at dksX0_rests_0 17 rfl rfl)
theorem dX0_rests_18 : decode cX0_rests 18 = .ok (.ireturn, 1) := dk_172 (dk_at dksX0_rests_0 18 rfl rfl)
theorem dX0_rests_19 : decode cX0_rests 19 = .ok (.astore 5, 2) := dk_58 5 (dk_at dksX0_rests_0 19 rfl rfl)
theorem dX0_rests_21 : decode cX0_rests 21 = .ok (.iconst 2, 1) := dk_5 (dk_at dksX0_rests_0 21 rfl rfl)
theorem dX0_rests_22 : decode cX0_rests 22 = .ok (.ireturn, 1) := dk_172 (dk_at dksX0_rests_0 22 rfl rfl)
theorem dX0_rests_23 : decode cX0_rests 23 = .ok (.iconst 0, 1) := dk_3 (dk_at dksX0_rests_0 23 rfl rfl)
theorem dX0_rests_24 : decode cX0_rests 24 = .ok (.ireturn, 1) := dk_172 (dk_at dksX0_rests_1 0 rfl rfl)
abbrev cX0_scales : ByteArray := method_27_code
def yX0_scales : MethodName := ⟨RX0, "scales", "(LStoneBacks;Z[J)I"⟩
def dkwX0_scales_0 : List UInt8 := [44, 3, 42, 27, 182, 0, 98, 133, 80, 167, 0, 6, 78, 4, 172, 3, 172]
abbrev dktX0_scales_0 : List UInt8 := dkwX0_scales_0 ++ []
theorem dksX0_scales_0 : cX0_scales.data.toList.drop 0 = dktX0_scales_0 := by decide +kernel
theorem dX0_scales_0 : decode cX0_scales 0 = .ok (.aload_n 2, 1) := dk_44 (dk_at dksX0_scales_0 0 rfl rfl)
theorem dX0_scales_1 : decode cX0_scales 1 = .ok (.iconst 0, 1) := dk_3 (dk_at dksX0_scales_0 1 rfl rfl)
theorem dX0_scales_2 : decode cX0_scales 2 = .ok (.aload_n 0, 1) := dk_42 (dk_at dksX0_scales_0 2 rfl rfl)
theorem dX0_scales_3 : decode cX0_scales 3 = .ok (.iload_n 1, 1) := dk_27 (dk_at dksX0_scales_0 3 rfl rfl)
theorem dX0_scales_4 : decode cX0_scales 4 = .ok (.invokevirtual 98, 3) := dk_182 0 98 (dk_at dksX0_scales_0 4 rfl rfl)
theorem dX0_scales_7 : decode cX0_scales 7 = .ok (.i2l, 1) := dk_133 (dk_at dksX0_scales_0 7 rfl rfl)
theorem dX0_scales_8 : decode cX0_scales 8 = .ok (.lastore, 1) := dk_80 (dk_at dksX0_scales_0 8 rfl rfl)
theorem dX0_scales_9 : decode cX0_scales 9 = .ok (.goto 6, 3) := dk_167 0 6 (dk_at dksX0_scales_0 9 rfl rfl)
theorem dX0_scales_12 : decode cX0_scales 12 = .ok (.astore_n 3, 1) := dk_78 (dk_at dksX0_scales_0 12 rfl rfl)
theorem dX0_scales_13 : decode cX0_scales 13 = .ok (.iconst 1, 1) := dk_4 (dk_at dksX0_scales_0 13 rfl rfl)
theorem dX0_scales_14 : decode cX0_scales 14 = .ok (.ireturn, 1) := dk_172 (dk_at dksX0_scales_0 14 rfl rfl)
theorem dX0_scales_15 : decode cX0_scales 15 = .ok (.iconst 0, 1) := dk_3 (dk_at dksX0_scales_0 15 rfl rfl)
theorem dX0_scales_16 : decode cX0_scales 16 = .ok (.ireturn, 1) := dk_172 (dk_at dksX0_scales_0 16 rfl rfl)
abbrev cX0_weigh : ByteArray := method_28_code
def yX0_weigh : MethodName := ⟨RX0, "weigh", "(LStoneBacks;[J)I"⟩
def dkwX0_weigh_0 : List UInt8 := [43, 3, 42, 182, 0, 102, 133, 80, 167, 0, 6, 77, 4, 172, 3, 172]
abbrev dktX0_weigh_0 : List UInt8 := dkwX0_weigh_0 ++ []
theorem dksX0_weigh_0 : cX0_weigh.data.toList.drop 0 = dktX0_weigh_0 := by decide +kernel
theorem dX0_weigh_0 : decode cX0_weigh 0 = .ok (.aload_n 1, 1) := dk_43 (dk_at dksX0_weigh_0 0 rfl rfl)
theorem dX0_weigh_1 : decode cX0_weigh 1 = .ok (.iconst 0, 1) := dk_3 (dk_at dksX0_weigh_0 1 rfl rfl)
theorem dX0_weigh_2 : decode cX0_weigh 2 = .ok (.aload_n 0, 1) := dk_42 (dk_at dksX0_weigh_0 2 rfl rfl)
theorem dX0_weigh_3 : decode cX0_weigh 3 = .ok (.invokevirtual 102, 3) := dk_182 0 102 (dk_at dksX0_weigh_0 3 rfl rfl)
theorem dX0_weigh_6 : decode cX0_weigh 6 = .ok (.i2l, 1) := dk_133 (dk_at dksX0_weigh_0 6 rfl rfl)
theorem dX0_weigh_7 : decode cX0_weigh 7 = .ok (.lastore, 1) := dk_80 (dk_at dksX0_weigh_0 7 rfl rfl)
theorem dX0_weigh_8 : decode cX0_weigh 8 = .ok (.goto 6, 3) := dk_167 0 6 (dk_at dksX0_weigh_0 8 rfl rfl)
theorem dX0_weigh_11 : decode cX0_weigh 11 = .ok (.astore_n 2, 1) := dk_77 (dk_at dksX0_weigh_0 11 rfl rfl)
theorem dX0_weigh_12 : decode cX0_weigh 12 = .ok (.iconst 1, 1) := dk_4 (dk_at dksX0_weigh_0 12 rfl rfl)
theorem dX0_weigh_13 : decode cX0_weigh 13 = .ok (.ireturn, 1) := dk_172 (dk_at dksX0_weigh_0 13 rfl rfl)
theorem dX0_weigh_14 : decode cX0_weigh 14 = .ok (.iconst 0, 1) := dk_3 (dk_at dksX0_weigh_0 14 rfl rfl)
theorem dX0_weigh_15 : decode cX0_weigh 15 = .ok (.ireturn, 1) := dk_172 (dk_at dksX0_weigh_0 15 rfl rfl)
abbrev cX0_gravel : ByteArray := method_29_code
def yX0_gravel : MethodName := ⟨RX0, "gravel", "(LStoneBacks;I[J)I"⟩
def dkwX0_gravel_0 : List UInt8 := [44, 3, 42, 27, 182, 0, 105, 133, 80, 167, 0, 6, 78, 4, 172, 3, 172]
abbrev dktX0_gravel_0 : List UInt8 := dkwX0_gravel_0 ++ []
theorem dksX0_gravel_0 : cX0_gravel.data.toList.drop 0 = dktX0_gravel_0 := by decide +kernel
theorem dX0_gravel_0 : decode cX0_gravel 0 = .ok (.aload_n 2, 1) := dk_44 (dk_at dksX0_gravel_0 0 rfl rfl)
theorem dX0_gravel_1 : decode cX0_gravel 1 = .ok (.iconst 0, 1) := dk_3 (dk_at dksX0_gravel_0 1 rfl rfl)
theorem dX0_gravel_2 : decode cX0_gravel 2 = .ok (.aload_n 0, 1) := dk_42 (dk_at dksX0_gravel_0 2 rfl rfl)
theorem dX0_gravel_3 : decode cX0_gravel 3 = .ok (.iload_n 1, 1) := dk_27 (dk_at dksX0_gravel_0 3 rfl rfl)
theorem dX0_gravel_4 : decode cX0_gravel 4 = .ok (.invokevirtual 105, 3) := dk_182 0 105 (dk_at dksX0_gravel_0 4 rfl rfl)
theorem dX0_gravel_7 : decode cX0_gravel 7 = .ok (.i2l, 1) := dk_133 (dk_at dksX0_gravel_0 7 rfl rfl)
theorem dX0_gravel_8 : decode cX0_gravel 8 = .ok (.lastore, 1) := dk_80 (dk_at dksX0_gravel_0 8 rfl rfl)
theorem dX0_gravel_9 : decode cX0_gravel 9 = .ok (.goto 6, 3) := dk_167 0 6 (dk_at dksX0_gravel_0 9 rfl rfl)
theorem dX0_gravel_12 : decode cX0_gravel 12 = .ok (.astore_n 3, 1) := dk_78 (dk_at dksX0_gravel_0 12 rfl rfl)
theorem dX0_gravel_13 : decode cX0_gravel 13 = .ok (.iconst 1, 1) := dk_4 (dk_at dksX0_gravel_0 13 rfl rfl)
theorem dX0_gravel_14 : decode cX0_gravel 14 = .ok (.ireturn, 1) := dk_172 (dk_at dksX0_gravel_0 14 rfl rfl)
theorem dX0_gravel_15 : decode cX0_gravel 15 = .ok (.iconst 0, 1) := dk_3 (dk_at dksX0_gravel_0 15 rfl rfl)
theorem dX0_gravel_16 : decode cX0_gravel 16 = .ok (.ireturn, 1) := dk_172 (dk_at dksX0_gravel_0 16 rfl rfl)
abbrev cX0_ahead : ByteArray := method_30_code
def yX0_ahead : MethodName := ⟨RX0, "ahead", "(LStoneBacks;III[J)I"⟩
def dkwX0_ahead_1 : List UInt8 := [58, 5, 6, 172, 3, 172]
abbrev dktX0_ahead_1 : List UInt8 := dkwX0_ahead_1 ++ []
def dkwX0_ahead_0 : List UInt8 := [25, 4, 3, 42, 27, 28, 29, 182, 0, 108, 133, 80, 167, 0, 15, 58, 5, 4, 172, 58, 5, 5, 172]
abbrev dktX0_ahead_0 : List UInt8 := dkwX0_ahead_0 ++ dktX0_ahead_1
theorem dksX0_ahead_0 : cX0_ahead.data.toList.drop 0 = dktX0_ahead_0 := by decide +kernel
theorem dksX0_ahead_1 : cX0_ahead.data.toList.drop 23 = dktX0_ahead_1 := dk_seg dksX0_ahead_0 23 rfl rfl
theorem dX0_ahead_0 : decode cX0_ahead 0 = .ok (.aload 4, 2) := dk_25 4 (dk_at dksX0_ahead_0 0 rfl rfl)
theorem dX0_ahead_2 : decode cX0_ahead 2 = .ok (.iconst 0, 1) := dk_3 (dk_at dksX0_ahead_0 2 rfl rfl)
theorem dX0_ahead_3 : decode cX0_ahead 3 = .ok (.aload_n 0, 1) := dk_42 (dk_at dksX0_ahead_0 3 rfl rfl)
theorem dX0_ahead_4 : decode cX0_ahead 4 = .ok (.iload_n 1, 1) := dk_27 (dk_at dksX0_ahead_0 4 rfl rfl)
theorem dX0_ahead_5 : decode cX0_ahead 5 = .ok (.iload_n 2, 1) := dk_28 (dk_at dksX0_ahead_0 5 rfl rfl)
theorem dX0_ahead_6 : decode cX0_ahead 6 = .ok (.iload_n 3, 1) := dk_29 (dk_at dksX0_ahead_0 6 rfl rfl)
theorem dX0_ahead_7 : decode cX0_ahead 7 = .ok (.invokevirtual 108, 3) := dk_182 0 108 (dk_at dksX0_ahead_0 7 rfl rfl)
theorem dX0_ahead_10 : decode cX0_ahead 10 = .ok (.i2l, 1) := dk_133 (dk_at dksX0_ahead_0 10 rfl rfl)
theorem dX0_ahead_11 : decode cX0_ahead 11 = .ok (.lastore, 1) := dk_80 (dk_at dksX0_ahead_0 11 rfl rfl)
theorem dX0_ahead_12 : decode cX0_ahead 12 = .ok (.goto 15, 3) := dk_167 0 15 (dk_at dksX0_ahead_0 12 rfl rfl)
theorem dX0_ahead_15 : decode cX0_ahead 15 = .ok (.astore 5, 2) := dk_58 5 (dk_at dksX0_ahead_0 15 rfl rfl)
theorem dX0_ahead_17 : decode cX0_ahead 17 = .ok (.iconst 1, 1) := dk_4 (dk_at dksX0_ahead_0 17 rfl rfl)
theorem dX0_ahead_18 : decode cX0_ahead 18 = .ok (.ireturn, 1) := dk_172 (dk_at dksX0_ahead_0 18 rfl rfl)
theorem dX0_ahead_19 : decode cX0_ahead 19 = .ok (.astore 5, 2) := dk_58 5 (dk_at dksX0_ahead_0 19 rfl rfl)
theorem dX0_ahead_21 : decode cX0_ahead 21 = .ok (.iconst 2, 1) := dk_5 (dk_at dksX0_ahead_0 21 rfl rfl)
theorem dX0_ahead_22 : decode cX0_ahead 22 = .ok (.ireturn, 1) := dk_172 (dk_at dksX0_ahead_0 22 rfl rfl)
theorem dX0_ahead_23 : decode cX0_ahead 23 = .ok (.astore 5, 2) := dk_58 5 (dk_at dksX0_ahead_1 0 rfl rfl)
theorem dX0_ahead_25 : decode cX0_ahead 25 = .ok (.iconst 3, 1) := dk_6 (dk_at dksX0_ahead_1 2 rfl rfl)
theorem dX0_ahead_26 : decode cX0_ahead 26 = .ok (.ireturn, 1) := dk_172 (dk_at dksX0_ahead_1 3 rfl rfl)
theorem dX0_ahead_27 : decode cX0_ahead 27 = .ok (.iconst 0, 1) := dk_3 (dk_at dksX0_ahead_1 4 rfl rfl)
theorem dX0_ahead_28 : decode cX0_ahead 28 = .ok (.ireturn, 1) := dk_172 (dk_at dksX0_ahead_1 5 rfl rfl)
abbrev cX0_trial : ByteArray := method_31_code
def yX0_trial : MethodName := ⟨RX0, "trial", "(LStoneBacks;IZ[J)I"⟩
def dkwX0_trial_0 : List UInt8 := [45, 3, 42, 27, 28, 182, 0, 111, 133, 80, 167, 0, 7, 58, 4, 4, 172, 3, 172]
abbrev dktX0_trial_0 : List UInt8 := dkwX0_trial_0 ++ []
theorem dksX0_trial_0 : cX0_trial.data.toList.drop 0 = dktX0_trial_0 := by decide +kernel
theorem dX0_trial_0 : decode cX0_trial 0 = .ok (.aload_n 3, 1) := dk_45 (dk_at dksX0_trial_0 0 rfl rfl)
theorem dX0_trial_1 : decode cX0_trial 1 = .ok (.iconst 0, 1) := dk_3 (dk_at dksX0_trial_0 1 rfl rfl)
theorem dX0_trial_2 : decode cX0_trial 2 = .ok (.aload_n 0, 1) := dk_42 (dk_at dksX0_trial_0 2 rfl rfl)
theorem dX0_trial_3 : decode cX0_trial 3 = .ok (.iload_n 1, 1) := dk_27 (dk_at dksX0_trial_0 3 rfl rfl)
theorem dX0_trial_4 : decode cX0_trial 4 = .ok (.iload_n 2, 1) := dk_28 (dk_at dksX0_trial_0 4 rfl rfl)
theorem dX0_trial_5 : decode cX0_trial 5 = .ok (.invokevirtual 111, 3) := dk_182 0 111 (dk_at dksX0_trial_0 5 rfl rfl)
theorem dX0_trial_8 : decode cX0_trial 8 = .ok (.i2l, 1) := dk_133 (dk_at dksX0_trial_0 8 rfl rfl)
theorem dX0_trial_9 : decode cX0_trial 9 = .ok (.lastore, 1) := dk_80 (dk_at dksX0_trial_0 9 rfl rfl)
theorem dX0_trial_10 : decode cX0_trial 10 = .ok (.goto 7, 3) := dk_167 0 7 (dk_at dksX0_trial_0 10 rfl rfl)
theorem dX0_trial_13 : decode cX0_trial 13 = .ok (.astore 4, 2) := dk_58 4 (dk_at dksX0_trial_0 13 rfl rfl)
theorem dX0_trial_15 : decode cX0_trial 15 = .ok (.iconst 1, 1) := dk_4 (dk_at dksX0_trial_0 15 rfl rfl)
theorem dX0_trial_16 : decode cX0_trial 16 = .ok (.ireturn, 1) := dk_172 (dk_at dksX0_trial_0 16 rfl rfl)
theorem dX0_trial_17 : decode cX0_trial 17 = .ok (.iconst 0, 1) := dk_3 (dk_at dksX0_trial_0 17 rfl rfl)
theorem dX0_trial_18 : decode cX0_trial 18 = .ok (.ireturn, 1) := dk_172 (dk_at dksX0_trial_0 18 rfl rfl)
abbrev cX0_span : ByteArray := method_32_code
def yX0_span : MethodName := ⟨RX0, "span", "(LStoneBacks;IZ[J)I"⟩
def dkwX0_span_0 : List UInt8 := [45, 3, 42, 27, 28, 182, 0, 114, 133, 80, 167, 0, 7, 58, 4, 4, 172, 3, 172]
abbrev dktX0_span_0 : List UInt8 := dkwX0_span_0 ++ []
theorem dksX0_span_0 : cX0_span.data.toList.drop 0 = dktX0_span_0 := by decide +kernel
theorem dX0_span_0 : decode cX0_span 0 = .ok (.aload_n 3, 1) := dk_45 (dk_at dksX0_span_0 0 rfl rfl)
theorem dX0_span_1 : decode cX0_span 1 = .ok (.iconst 0, 1) := dk_3 (dk_at dksX0_span_0 1 rfl rfl)
theorem dX0_span_2 : decode cX0_span 2 = .ok (.aload_n 0, 1) := dk_42 (dk_at dksX0_span_0 2 rfl rfl)
theorem dX0_span_3 : decode cX0_span 3 = .ok (.iload_n 1, 1) := dk_27 (dk_at dksX0_span_0 3 rfl rfl)
theorem dX0_span_4 : decode cX0_span 4 = .ok (.iload_n 2, 1) := dk_28 (dk_at dksX0_span_0 4 rfl rfl)
theorem dX0_span_5 : decode cX0_span 5 = .ok (.invokevirtual 114, 3) := dk_182 0 114 (dk_at dksX0_span_0 5 rfl rfl)
theorem dX0_span_8 : decode cX0_span 8 = .ok (.i2l, 1) := dk_133 (dk_at dksX0_span_0 8 rfl rfl)
theorem dX0_span_9 : decode cX0_span 9 = .ok (.lastore, 1) := dk_80 (dk_at dksX0_span_0 9 rfl rfl)
theorem dX0_span_10 : decode cX0_span 10 = .ok (.goto 7, 3) := dk_167 0 7 (dk_at dksX0_span_0 10 rfl rfl)
theorem dX0_span_13 : decode cX0_span 13 = .ok (.astore 4, 2) := dk_58 4 (dk_at dksX0_span_0 13 rfl rfl)
theorem dX0_span_15 : decode cX0_span 15 = .ok (.iconst 1, 1) := dk_4 (dk_at dksX0_span_0 15 rfl rfl)
theorem dX0_span_16 : decode cX0_span 16 = .ok (.ireturn, 1) := dk_172 (dk_at dksX0_span_0 16 rfl rfl)
theorem dX0_span_17 : decode cX0_span 17 = .ok (.iconst 0, 1) := dk_3 (dk_at dksX0_span_0 17 rfl rfl)
theorem dX0_span_18 : decode cX0_span 18 = .ok (.ireturn, 1) := dk_172 (dk_at dksX0_span_0 18 rfl rfl)
abbrev cX0_led : ByteArray := method_33_code
def yX0_led : MethodName := ⟨RX0, "led", "(LStoneBacks;IZ[J)I"⟩
def dkwX0_led_0 : List UInt8 := [45, 3, 42, 27, 28, 182, 0, 117, 133, 80, 167, 0, 7, 58, 4, 4, 172, 3, 172]
abbrev dktX0_led_0 : List UInt8 := dkwX0_led_0 ++ []
theorem dksX0_led_0 : cX0_led.data.toList.drop 0 = dktX0_led_0 := by decide +kernel
theorem dX0_led_0 : decode cX0_led 0 = .ok (.aload_n 3, 1) := dk_45 (dk_at dksX0_led_0 0 rfl rfl)
theorem dX0_led_1 : decode cX0_led 1 = .ok (.iconst 0, 1) := dk_3 (dk_at dksX0_led_0 1 rfl rfl)
theorem dX0_led_2 : decode cX0_led 2 = .ok (.aload_n 0, 1) := dk_42 (dk_at dksX0_led_0 2 rfl rfl)
theorem dX0_led_3 : decode cX0_led 3 = .ok (.iload_n 1, 1) := dk_27 (dk_at dksX0_led_0 3 rfl rfl)
theorem dX0_led_4 : decode cX0_led 4 = .ok (.iload_n 2, 1) := dk_28 (dk_at dksX0_led_0 4 rfl rfl)
theorem dX0_led_5 : decode cX0_led 5 = .ok (.invokevirtual 117, 3) := dk_182 0 117 (dk_at dksX0_led_0 5 rfl rfl)
theorem dX0_led_8 : decode cX0_led 8 = .ok (.i2l, 1) := dk_133 (dk_at dksX0_led_0 8 rfl rfl)
theorem dX0_led_9 : decode cX0_led 9 = .ok (.lastore, 1) := dk_80 (dk_at dksX0_led_0 9 rfl rfl)
theorem dX0_led_10 : decode cX0_led 10 = .ok (.goto 7, 3) := dk_167 0 7 (dk_at dksX0_led_0 10 rfl rfl)
theorem dX0_led_13 : decode cX0_led 13 = .ok (.astore 4, 2) := dk_58 4 (dk_at dksX0_led_0 13 rfl rfl)
theorem dX0_led_15 : decode cX0_led 15 = .ok (.iconst 1, 1) := dk_4 (dk_at dksX0_led_0 15 rfl rfl)
theorem dX0_led_16 : decode cX0_led 16 = .ok (.ireturn, 1) := dk_172 (dk_at dksX0_led_0 16 rfl rfl)
theorem dX0_led_17 : decode cX0_led 17 = .ok (.iconst 0, 1) := dk_3 (dk_at dksX0_led_0 17 rfl rfl)
theorem dX0_led_18 : decode cX0_led 18 = .ok (.ireturn, 1) := dk_172 (dk_at dksX0_led_0 18 rfl rfl)
abbrev cX0_log : ByteArray := method_34_code
def yX0_log : MethodName := ⟨RX0, "log", "(LStoneBacks;II[J)I"⟩
def dkwX0_log_0 : List UInt8 := [45, 3, 42, 27, 28, 182, 0, 120, 133, 80, 167, 0, 7, 58, 4, 4, 172, 3, 172]
abbrev dktX0_log_0 : List UInt8 := dkwX0_log_0 ++ []
theorem dksX0_log_0 : cX0_log.data.toList.drop 0 = dktX0_log_0 := by decide +kernel
theorem dX0_log_0 : decode cX0_log 0 = .ok (.aload_n 3, 1) := dk_45 (dk_at dksX0_log_0 0 rfl rfl)
theorem dX0_log_1 : decode cX0_log 1 = .ok (.iconst 0, 1) := dk_3 (dk_at dksX0_log_0 1 rfl rfl)
theorem dX0_log_2 : decode cX0_log 2 = .ok (.aload_n 0, 1) := dk_42 (dk_at dksX0_log_0 2 rfl rfl)
theorem dX0_log_3 : decode cX0_log 3 = .ok (.iload_n 1, 1) := dk_27 (dk_at dksX0_log_0 3 rfl rfl)
theorem dX0_log_4 : decode cX0_log 4 = .ok (.iload_n 2, 1) := dk_28 (dk_at dksX0_log_0 4 rfl rfl)
theorem dX0_log_5 : decode cX0_log 5 = .ok (.invokevirtual 120, 3) := dk_182 0 120 (dk_at dksX0_log_0 5 rfl rfl)
theorem dX0_log_8 : decode cX0_log 8 = .ok (.i2l, 1) := dk_133 (dk_at dksX0_log_0 8 rfl rfl)
theorem dX0_log_9 : decode cX0_log 9 = .ok (.lastore, 1) := dk_80 (dk_at dksX0_log_0 9 rfl rfl)
theorem dX0_log_10 : decode cX0_log 10 = .ok (.goto 7, 3) := dk_167 0 7 (dk_at dksX0_log_0 10 rfl rfl)
theorem dX0_log_13 : decode cX0_log 13 = .ok (.astore 4, 2) := dk_58 4 (dk_at dksX0_log_0 13 rfl rfl)
theorem dX0_log_15 : decode cX0_log 15 = .ok (.iconst 1, 1) := dk_4 (dk_at dksX0_log_0 15 rfl rfl)
theorem dX0_log_16 : decode cX0_log 16 = .ok (.ireturn, 1) := dk_172 (dk_at dksX0_log_0 16 rfl rfl)
theorem dX0_log_17 : decode cX0_log 17 = .ok (.iconst 0, 1) := dk_3 (dk_at dksX0_log_0 17 rfl rfl)
theorem dX0_log_18 : decode cX0_log 18 = .ok (.ireturn, 1) := dk_172 (dk_at dksX0_log_0 18 rfl rfl)
theorem q112 : (Jvm.Cond.initialized "StoneBacksLaw") ∈ lw_all := lw_g (lw_at lw_m1 0 rfl) rfl
theorem q156 : (Jvm.Cond.classLink "StoneBacksLaw" (8 : Nat) "StoneBacks") ∈ lw_all := lw_g (lw_at lw_m1 44 rfl) rfl
theorem q158 : (Jvm.Cond.methodLink "StoneBacksLaw" (123 : Nat) ({ cls := "StoneBacks", name := "<init>", desc := "()V" } : Jvm.MethodName)) ∈ lw_all := lw_g (lw_at lw_m1 46 rfl) rfl
theorem q430 : (Jvm.Cond.methodLink "StoneBacksLaw" (127 : Nat) ({ cls := "StoneBacks", name := "feed", desc := "(IIIII)I" } : Jvm.MethodName)) ∈ lw_all := lw_g (lw_at lw_m2 78 rfl) rfl
theorem q438 : (Jvm.Cond.methodLink "StoneBacksLaw" (132 : Nat) ({ cls := "StoneBacks", name := "end", desc := "(I)Z" } : Jvm.MethodName)) ∈ lw_all := lw_g (lw_at lw_m2 86 rfl) rfl
theorem q446 : (Jvm.Cond.methodLink "StoneBacksLaw" (148 : Nat) ({ cls := "StoneBacks", name := "fault", desc := "()I" } : Jvm.MethodName)) ∈ lw_all := lw_g (lw_at lw_m2 94 rfl) rfl
theorem q450 : (Jvm.Cond.methodLink "StoneBacksLaw" (209 : Nat) ({ cls := "StoneBacks", name := "goes", desc := "()I" } : Jvm.MethodName)) ∈ lw_all := lw_g (lw_at lw_m2 98 rfl) rfl
theorem q482 : (Jvm.Cond.methodLink "StoneBacksLaw" (233 : Nat) ({ cls := "StoneBacks", name := "meet", desc := "()I" } : Jvm.MethodName)) ∈ lw_all := lw_g (lw_at lw_m2 130 rfl) rfl
theorem q493 : (Jvm.Cond.methodLink "StoneBacksLaw" (237 : Nat) ({ cls := "StoneBacks", name := "last", desc := "(Z)I" } : Jvm.MethodName)) ∈ lw_all := lw_g (lw_at lw_m2 141 rfl) rfl
theorem q644 : (Jvm.Cond.methodLink "StoneBacksLaw" (241 : Nat) ({ cls := "StoneBacks", name := "heap", desc := "()I" } : Jvm.MethodName)) ∈ lw_all := lw_g (lw_at lw_m3 52 rfl) rfl
theorem q653 : (Jvm.Cond.methodLink "StoneBacksLaw" (245 : Nat) ({ cls := "StoneBacks", name := "pairs", desc := "()I" } : Jvm.MethodName)) ∈ lw_all := lw_g (lw_at lw_m3 61 rfl) rfl
theorem q657 : (Jvm.Cond.methodLink "StoneBacksLaw" (249 : Nat) ({ cls := "StoneBacks", name := "heaviest", desc := "()I" } : Jvm.MethodName)) ∈ lw_all := lw_g (lw_at lw_m3 65 rfl) rfl
theorem q661 : (Jvm.Cond.methodLink "StoneBacksLaw" (271 : Nat) ({ cls := "StoneBacks", name := "seed", desc := "(I)I" } : Jvm.MethodName)) ∈ lw_all := lw_g (lw_at lw_m3 69 rfl) rfl
theorem q665 : (Jvm.Cond.methodLink "StoneBacksLaw" (275 : Nat) ({ cls := "StoneBacks", name := "undo", desc := "()Z" } : Jvm.MethodName)) ∈ lw_all := lw_g (lw_at lw_m3 73 rfl) rfl
theorem q683 : (Jvm.Cond.methodLink "StoneBacksLaw" (280 : Nat) ({ cls := "StoneBacks", name := "image", desc := "()V" } : Jvm.MethodName)) ∈ lw_all := lw_g (lw_at lw_m3 91 rfl) rfl
theorem q687 : (Jvm.Cond.methodLink "StoneBacksLaw" (284 : Nat) ({ cls := "StoneBacks", name := "back", desc := "()Z" } : Jvm.MethodName)) ∈ lw_all := lw_g (lw_at lw_m3 95 rfl) rfl
theorem q695 : (Jvm.Cond.methodLink "StoneBacksLaw" (288 : Nat) ({ cls := "StoneBacks", name := "count", desc := "(I)I" } : Jvm.MethodName)) ∈ lw_all := lw_g (lw_at lw_m3 103 rfl) rfl
theorem q716 : (Jvm.Cond.methodLink "StoneBacksLaw" (136 : Nat) ({ cls := "StoneBacksLaw", name := "valley", desc := "(LStoneBacks;[J)I" } : Jvm.MethodName)) ∈ lw_all := lw_g (lw_at lw_m3 124 rfl) rfl
theorem q717 : (Jvm.Cond.static ({ cls := "StoneBacksLaw", name := "valley", desc := "(LStoneBacks;[J)I" } : Jvm.MethodName)) ∈ lw_all := lw_g (lw_at lw_m3 125 rfl) rfl
theorem q718 : (Jvm.Cond.codeWith ({ cls := "StoneBacksLaw", name := "valley", desc := "(LStoneBacks;[J)I" } : Jvm.MethodName) method_3_code (3 : Nat) (Option.some Jvm.ClassFile.FieldType.int) [((0 : Nat), (8 : Nat), (11 : Nat), (13 : Nat)), ((0 : Nat), (8 : Nat), (14 : Nat), (15 : Nat))]) ∈ lw_all := lw_g (lw_at lw_m3 126 rfl) rfl
theorem q719 : (Jvm.Cond.classLink "StoneBacksLaw" (13 : Nat) "java/lang/IllegalArgumentException") ∈ lw_all := lw_g (lw_at lw_m3 127 rfl) rfl
theorem q720 : (Jvm.Cond.classLink "StoneBacksLaw" (15 : Nat) "java/lang/UnsupportedOperationException") ∈ lw_all := lw_g (lw_at lw_m3 128 rfl) rfl
theorem q721 : (Jvm.Cond.methodLink "StoneBacksLaw" (7 : Nat) ({ cls := "StoneBacks", name := "valley", desc := "()I" } : Jvm.MethodName)) ∈ lw_all := lw_g (lw_at lw_m3 129 rfl) rfl
theorem q1270 : (Jvm.Cond.methodLink "StoneBacksLaw" (145 : Nat) ({ cls := "StoneBacksLaw", name := "law", desc := "(LStoneBacks;[J)I" } : Jvm.MethodName)) ∈ lw_all := lw_g (lw_at lw_m5 198 rfl) rfl
theorem q1271 : (Jvm.Cond.static ({ cls := "StoneBacksLaw", name := "law", desc := "(LStoneBacks;[J)I" } : Jvm.MethodName)) ∈ lw_all := lw_g (lw_at lw_m5 199 rfl) rfl
theorem q1272 : (Jvm.Cond.codeWith ({ cls := "StoneBacksLaw", name := "law", desc := "(LStoneBacks;[J)I" } : Jvm.MethodName) method_4_code (3 : Nat) (Option.some Jvm.ClassFile.FieldType.int) [((0 : Nat), (8 : Nat), (11 : Nat), (13 : Nat))]) ∈ lw_all := lw_g (lw_at lw_m5 200 rfl) rfl
theorem q1273 : (Jvm.Cond.methodLink "StoneBacksLaw" (17 : Nat) ({ cls := "StoneBacks", name := "law", desc := "()I" } : Jvm.MethodName)) ∈ lw_all := lw_g (lw_at lw_m5 201 rfl) rfl
theorem q1519 : (Jvm.Cond.methodLink "StoneBacksLaw" (152 : Nat) ({ cls := "StoneBacksLaw", name := "person", desc := "(LStoneBacks;II[J)I" } : Jvm.MethodName)) ∈ lw_all := lw_g (lw_at lw_m6 207 rfl) rfl
theorem q1520 : (Jvm.Cond.static ({ cls := "StoneBacksLaw", name := "person", desc := "(LStoneBacks;II[J)I" } : Jvm.MethodName)) ∈ lw_all := lw_g (lw_at lw_m6 208 rfl) rfl
theorem q1521 : (Jvm.Cond.codeWith ({ cls := "StoneBacksLaw", name := "person", desc := "(LStoneBacks;II[J)I" } : Jvm.MethodName) method_5_code (5 : Nat) (Option.some Jvm.ClassFile.FieldType.int) [((0 : Nat), (10 : Nat), (13 : Nat), (24 : Nat)), ((0 : Nat), (10 : Nat), (17 : Nat), (26 : Nat))]) ∈ lw_all := lw_g (lw_at lw_m6 209 rfl) rfl
theorem q1522 : (Jvm.Cond.classLink "StoneBacksLaw" (24 : Nat) "java/lang/IndexOutOfBoundsException") ∈ lw_all := lw_g (lw_at lw_m6 210 rfl) rfl
theorem q1541 : (Jvm.Cond.classLink "StoneBacksLaw" (26 : Nat) "java/util/NoSuchElementException") ∈ lw_all := lw_g (lw_at lw_m6 229 rfl) rfl
theorem q1542 : (Jvm.Cond.methodLink "StoneBacksLaw" (20 : Nat) ({ cls := "StoneBacks", name := "person", desc := "(II)I" } : Jvm.MethodName)) ∈ lw_all := lw_g (lw_at lw_m6 230 rfl) rfl
theorem q1600 : (Jvm.Cond.methodLink "StoneBacksLaw" (156 : Nat) ({ cls := "StoneBacksLaw", name := "does", desc := "(LStoneBacks;II[J)I" } : Jvm.MethodName)) ∈ lw_all := lw_g (lw_at lw_m7 48 rfl) rfl
theorem q1601 : (Jvm.Cond.static ({ cls := "StoneBacksLaw", name := "does", desc := "(LStoneBacks;II[J)I" } : Jvm.MethodName)) ∈ lw_all := lw_g (lw_at lw_m7 49 rfl) rfl
theorem q1602 : (Jvm.Cond.codeWith ({ cls := "StoneBacksLaw", name := "does", desc := "(LStoneBacks;II[J)I" } : Jvm.MethodName) method_6_code (5 : Nat) (Option.some Jvm.ClassFile.FieldType.int) [((0 : Nat), (10 : Nat), (13 : Nat), (24 : Nat)), ((0 : Nat), (10 : Nat), (17 : Nat), (26 : Nat))]) ∈ lw_all := lw_g (lw_at lw_m7 50 rfl) rfl
theorem q1603 : (Jvm.Cond.methodLink "StoneBacksLaw" (28 : Nat) ({ cls := "StoneBacks", name := "does", desc := "(II)I" } : Jvm.MethodName)) ∈ lw_all := lw_g (lw_at lw_m7 51 rfl) rfl
theorem q1607 : (Jvm.Cond.methodLink "StoneBacksLaw" (159 : Nat) ({ cls := "StoneBacksLaw", name := "stone", desc := "(LStoneBacks;II[J)I" } : Jvm.MethodName)) ∈ lw_all := lw_g (lw_at lw_m7 55 rfl) rfl
theorem q1608 : (Jvm.Cond.static ({ cls := "StoneBacksLaw", name := "stone", desc := "(LStoneBacks;II[J)I" } : Jvm.MethodName)) ∈ lw_all := lw_g (lw_at lw_m7 56 rfl) rfl
theorem q1609 : (Jvm.Cond.codeWith ({ cls := "StoneBacksLaw", name := "stone", desc := "(LStoneBacks;II[J)I" } : Jvm.MethodName) method_7_code (5 : Nat) (Option.some Jvm.ClassFile.FieldType.int) [((0 : Nat), (10 : Nat), (13 : Nat), (24 : Nat)), ((0 : Nat), (10 : Nat), (17 : Nat), (26 : Nat))]) ∈ lw_all := lw_g (lw_at lw_m7 57 rfl) rfl
theorem q1610 : (Jvm.Cond.methodLink "StoneBacksLaw" (31 : Nat) ({ cls := "StoneBacks", name := "stone", desc := "(II)I" } : Jvm.MethodName)) ∈ lw_all := lw_g (lw_at lw_m7 58 rfl) rfl
theorem q1622 : (Jvm.Cond.methodLink "StoneBacksLaw" (162 : Nat) ({ cls := "StoneBacksLaw", name := "place", desc := "(LStoneBacks;II[J)I" } : Jvm.MethodName)) ∈ lw_all := lw_g (lw_at lw_m7 70 rfl) rfl
theorem q1623 : (Jvm.Cond.static ({ cls := "StoneBacksLaw", name := "place", desc := "(LStoneBacks;II[J)I" } : Jvm.MethodName)) ∈ lw_all := lw_g (lw_at lw_m7 71 rfl) rfl
theorem q1624 : (Jvm.Cond.codeWith ({ cls := "StoneBacksLaw", name := "place", desc := "(LStoneBacks;II[J)I" } : Jvm.MethodName) method_8_code (5 : Nat) (Option.some Jvm.ClassFile.FieldType.int) [((0 : Nat), (10 : Nat), (13 : Nat), (24 : Nat)), ((0 : Nat), (10 : Nat), (17 : Nat), (26 : Nat))]) ∈ lw_all := lw_g (lw_at lw_m7 72 rfl) rfl
theorem q1625 : (Jvm.Cond.methodLink "StoneBacksLaw" (34 : Nat) ({ cls := "StoneBacks", name := "place", desc := "(II)I" } : Jvm.MethodName)) ∈ lw_all := lw_g (lw_at lw_m7 73 rfl) rfl
theorem q1636 : (Jvm.Cond.methodLink "StoneBacksLaw" (165 : Nat) ({ cls := "StoneBacksLaw", name := "lend", desc := "(LStoneBacks;III[J)I" } : Jvm.MethodName)) ∈ lw_all := lw_g (lw_at lw_m7 84 rfl) rfl
theorem q1637 : (Jvm.Cond.static ({ cls := "StoneBacksLaw", name := "lend", desc := "(LStoneBacks;III[J)I" } : Jvm.MethodName)) ∈ lw_all := lw_g (lw_at lw_m7 85 rfl) rfl
theorem q1638 : (Jvm.Cond.codeWith ({ cls := "StoneBacksLaw", name := "lend", desc := "(LStoneBacks;III[J)I" } : Jvm.MethodName) method_9_code (6 : Nat) (Option.some Jvm.ClassFile.FieldType.int) [((0 : Nat), (12 : Nat), (15 : Nat), (24 : Nat)), ((0 : Nat), (12 : Nat), (19 : Nat), (13 : Nat)), ((0 : Nat), (12 : Nat), (23 : Nat), (41 : Nat))]) ∈ lw_all := lw_g (lw_at lw_m7 86 rfl) rfl
theorem q1639 : (Jvm.Cond.classLink "StoneBacksLaw" (41 : Nat) "java/lang/IllegalStateException") ∈ lw_all := lw_g (lw_at lw_m7 87 rfl) rfl
theorem q1640 : (Jvm.Cond.methodLink "StoneBacksLaw" (37 : Nat) ({ cls := "StoneBacks", name := "lend", desc := "(III)I" } : Jvm.MethodName)) ∈ lw_all := lw_g (lw_at lw_m7 88 rfl) rfl
theorem q1673 : (Jvm.Cond.methodLink "StoneBacksLaw" (169 : Nat) ({ cls := "StoneBacksLaw", name := "pay", desc := "(LStoneBacks;I[J)I" } : Jvm.MethodName)) ∈ lw_all := lw_g (lw_at lw_m7 121 rfl) rfl
theorem q1674 : (Jvm.Cond.static ({ cls := "StoneBacksLaw", name := "pay", desc := "(LStoneBacks;I[J)I" } : Jvm.MethodName)) ∈ lw_all := lw_g (lw_at lw_m7 122 rfl) rfl
theorem q1675 : (Jvm.Cond.codeWith ({ cls := "StoneBacksLaw", name := "pay", desc := "(LStoneBacks;I[J)I" } : Jvm.MethodName) method_10_code (4 : Nat) (Option.some Jvm.ClassFile.FieldType.int) [((0 : Nat), (9 : Nat), (12 : Nat), (24 : Nat)), ((0 : Nat), (9 : Nat), (15 : Nat), (41 : Nat))]) ∈ lw_all := lw_g (lw_at lw_m7 123 rfl) rfl
theorem q1676 : (Jvm.Cond.methodLink "StoneBacksLaw" (43 : Nat) ({ cls := "StoneBacks", name := "pay", desc := "(I)I" } : Jvm.MethodName)) ∈ lw_all := lw_g (lw_at lw_m7 124 rfl) rfl
theorem q1680 : (Jvm.Cond.methodLink "StoneBacksLaw" (173 : Nat) ({ cls := "StoneBacksLaw", name := "split", desc := "(LStoneBacks;I[J)I" } : Jvm.MethodName)) ∈ lw_all := lw_g (lw_at lw_m7 128 rfl) rfl
theorem q1681 : (Jvm.Cond.static ({ cls := "StoneBacksLaw", name := "split", desc := "(LStoneBacks;I[J)I" } : Jvm.MethodName)) ∈ lw_all := lw_g (lw_at lw_m7 129 rfl) rfl
theorem q1682 : (Jvm.Cond.codeWith ({ cls := "StoneBacksLaw", name := "split", desc := "(LStoneBacks;I[J)I" } : Jvm.MethodName) method_11_code (4 : Nat) (Option.some Jvm.ClassFile.FieldType.int) [((0 : Nat), (9 : Nat), (12 : Nat), (24 : Nat)), ((0 : Nat), (9 : Nat), (15 : Nat), (41 : Nat))]) ∈ lw_all := lw_g (lw_at lw_m7 130 rfl) rfl
theorem q1683 : (Jvm.Cond.methodLink "StoneBacksLaw" (47 : Nat) ({ cls := "StoneBacks", name := "split", desc := "(I)I" } : Jvm.MethodName)) ∈ lw_all := lw_g (lw_at lw_m7 131 rfl) rfl
theorem q1687 : (Jvm.Cond.methodLink "StoneBacksLaw" (176 : Nat) ({ cls := "StoneBacksLaw", name := "pass", desc := "(LStoneBacks;II[J)I" } : Jvm.MethodName)) ∈ lw_all := lw_g (lw_at lw_m7 135 rfl) rfl
theorem q1688 : (Jvm.Cond.static ({ cls := "StoneBacksLaw", name := "pass", desc := "(LStoneBacks;II[J)I" } : Jvm.MethodName)) ∈ lw_all := lw_g (lw_at lw_m7 136 rfl) rfl
theorem q1689 : (Jvm.Cond.codeWith ({ cls := "StoneBacksLaw", name := "pass", desc := "(LStoneBacks;II[J)I" } : Jvm.MethodName) method_12_code (5 : Nat) (Option.some Jvm.ClassFile.FieldType.int) [((0 : Nat), (10 : Nat), (13 : Nat), (24 : Nat)), ((0 : Nat), (10 : Nat), (17 : Nat), (13 : Nat)), ((0 : Nat), (10 : Nat), (21 : Nat), (41 : Nat))]) ∈ lw_all := lw_g (lw_at lw_m7 137 rfl) rfl
theorem q1690 : (Jvm.Cond.methodLink "StoneBacksLaw" (50 : Nat) ({ cls := "StoneBacks", name := "pass", desc := "(II)I" } : Jvm.MethodName)) ∈ lw_all := lw_g (lw_at lw_m7 138 rfl) rfl
theorem q1694 : (Jvm.Cond.methodLink "StoneBacksLaw" (179 : Nat) ({ cls := "StoneBacksLaw", name := "lay", desc := "(LStoneBacks;I[J)I" } : Jvm.MethodName)) ∈ lw_all := lw_g (lw_at lw_m7 142 rfl) rfl
theorem q1695 : (Jvm.Cond.static ({ cls := "StoneBacksLaw", name := "lay", desc := "(LStoneBacks;I[J)I" } : Jvm.MethodName)) ∈ lw_all := lw_g (lw_at lw_m7 143 rfl) rfl
theorem q1696 : (Jvm.Cond.codeWith ({ cls := "StoneBacksLaw", name := "lay", desc := "(LStoneBacks;I[J)I" } : Jvm.MethodName) method_13_code (4 : Nat) (Option.some Jvm.ClassFile.FieldType.int) [((0 : Nat), (9 : Nat), (12 : Nat), (24 : Nat)), ((0 : Nat), (9 : Nat), (15 : Nat), (41 : Nat))]) ∈ lw_all := lw_g (lw_at lw_m7 144 rfl) rfl
theorem q1697 : (Jvm.Cond.methodLink "StoneBacksLaw" (53 : Nat) ({ cls := "StoneBacks", name := "lay", desc := "(I)I" } : Jvm.MethodName)) ∈ lw_all := lw_g (lw_at lw_m7 145 rfl) rfl
theorem q1701 : (Jvm.Cond.methodLink "StoneBacksLaw" (182 : Nat) ({ cls := "StoneBacksLaw", name := "lift", desc := "(LStoneBacks;II[J)I" } : Jvm.MethodName)) ∈ lw_all := lw_g (lw_at lw_m7 149 rfl) rfl
theorem q1702 : (Jvm.Cond.static ({ cls := "StoneBacksLaw", name := "lift", desc := "(LStoneBacks;II[J)I" } : Jvm.MethodName)) ∈ lw_all := lw_g (lw_at lw_m7 150 rfl) rfl
theorem q1703 : (Jvm.Cond.codeWith ({ cls := "StoneBacksLaw", name := "lift", desc := "(LStoneBacks;II[J)I" } : Jvm.MethodName) method_14_code (5 : Nat) (Option.some Jvm.ClassFile.FieldType.int) [((0 : Nat), (10 : Nat), (13 : Nat), (24 : Nat)), ((0 : Nat), (10 : Nat), (17 : Nat), (41 : Nat))]) ∈ lw_all := lw_g (lw_at lw_m7 151 rfl) rfl
theorem q1704 : (Jvm.Cond.methodLink "StoneBacksLaw" (56 : Nat) ({ cls := "StoneBacks", name := "lift", desc := "(II)I" } : Jvm.MethodName)) ∈ lw_all := lw_g (lw_at lw_m7 152 rfl) rfl
theorem q1708 : (Jvm.Cond.methodLink "StoneBacksLaw" (185 : Nat) ({ cls := "StoneBacksLaw", name := "goal", desc := "(LStoneBacks;II[J)I" } : Jvm.MethodName)) ∈ lw_all := lw_g (lw_at lw_m7 156 rfl) rfl
theorem q1709 : (Jvm.Cond.static ({ cls := "StoneBacksLaw", name := "goal", desc := "(LStoneBacks;II[J)I" } : Jvm.MethodName)) ∈ lw_all := lw_g (lw_at lw_m7 157 rfl) rfl
theorem q1710 : (Jvm.Cond.codeWith ({ cls := "StoneBacksLaw", name := "goal", desc := "(LStoneBacks;II[J)I" } : Jvm.MethodName) method_15_code (5 : Nat) (Option.some Jvm.ClassFile.FieldType.int) [((0 : Nat), (10 : Nat), (13 : Nat), (24 : Nat))]) ∈ lw_all := lw_g (lw_at lw_m7 158 rfl) rfl
theorem q1711 : (Jvm.Cond.methodLink "StoneBacksLaw" (59 : Nat) ({ cls := "StoneBacks", name := "goal", desc := "(II)I" } : Jvm.MethodName)) ∈ lw_all := lw_g (lw_at lw_m7 159 rfl) rfl
theorem q1715 : (Jvm.Cond.methodLink "StoneBacksLaw" (188 : Nat) ({ cls := "StoneBacksLaw", name := "rest", desc := "(LStoneBacks;I[J)I" } : Jvm.MethodName)) ∈ lw_all := lw_g (lw_at lw_m7 163 rfl) rfl
theorem q1716 : (Jvm.Cond.static ({ cls := "StoneBacksLaw", name := "rest", desc := "(LStoneBacks;I[J)I" } : Jvm.MethodName)) ∈ lw_all := lw_g (lw_at lw_m7 164 rfl) rfl
theorem q1717 : (Jvm.Cond.codeWith ({ cls := "StoneBacksLaw", name := "rest", desc := "(LStoneBacks;I[J)I" } : Jvm.MethodName) method_16_code (4 : Nat) (Option.some Jvm.ClassFile.FieldType.int) [((0 : Nat), (9 : Nat), (12 : Nat), (24 : Nat))]) ∈ lw_all := lw_g (lw_at lw_m7 165 rfl) rfl
theorem q1718 : (Jvm.Cond.methodLink "StoneBacksLaw" (62 : Nat) ({ cls := "StoneBacks", name := "rest", desc := "(I)I" } : Jvm.MethodName)) ∈ lw_all := lw_g (lw_at lw_m7 166 rfl) rfl
theorem q1722 : (Jvm.Cond.methodLink "StoneBacksLaw" (191 : Nat) ({ cls := "StoneBacksLaw", name := "hours", desc := "(LStoneBacks;I[J)I" } : Jvm.MethodName)) ∈ lw_all := lw_g (lw_at lw_m7 170 rfl) rfl
theorem q1723 : (Jvm.Cond.static ({ cls := "StoneBacksLaw", name := "hours", desc := "(LStoneBacks;I[J)I" } : Jvm.MethodName)) ∈ lw_all := lw_g (lw_at lw_m7 171 rfl) rfl
theorem q1724 : (Jvm.Cond.codeWith ({ cls := "StoneBacksLaw", name := "hours", desc := "(LStoneBacks;I[J)I" } : Jvm.MethodName) method_17_code (4 : Nat) (Option.some Jvm.ClassFile.FieldType.int) [((0 : Nat), (9 : Nat), (12 : Nat), (13 : Nat))]) ∈ lw_all := lw_g (lw_at lw_m7 172 rfl) rfl
theorem q1725 : (Jvm.Cond.methodLink "StoneBacksLaw" (65 : Nat) ({ cls := "StoneBacks", name := "hours", desc := "(I)I" } : Jvm.MethodName)) ∈ lw_all := lw_g (lw_at lw_m7 173 rfl) rfl
theorem q1729 : (Jvm.Cond.methodLink "StoneBacksLaw" (194 : Nat) ({ cls := "StoneBacksLaw", name := "way", desc := "(LStoneBacks;II[J)I" } : Jvm.MethodName)) ∈ lw_all := lw_g (lw_at lw_m7 177 rfl) rfl
theorem q1730 : (Jvm.Cond.static ({ cls := "StoneBacksLaw", name := "way", desc := "(LStoneBacks;II[J)I" } : Jvm.MethodName)) ∈ lw_all := lw_g (lw_at lw_m7 178 rfl) rfl
theorem q1731 : (Jvm.Cond.codeWith ({ cls := "StoneBacksLaw", name := "way", desc := "(LStoneBacks;II[J)I" } : Jvm.MethodName) method_18_code (5 : Nat) (Option.some Jvm.ClassFile.FieldType.int) [((0 : Nat), (10 : Nat), (13 : Nat), (24 : Nat))]) ∈ lw_all := lw_g (lw_at lw_m7 179 rfl) rfl
theorem q1732 : (Jvm.Cond.methodLink "StoneBacksLaw" (68 : Nat) ({ cls := "StoneBacks", name := "way", desc := "(II)I" } : Jvm.MethodName)) ∈ lw_all := lw_g (lw_at lw_m7 180 rfl) rfl
theorem q1736 : (Jvm.Cond.methodLink "StoneBacksLaw" (197 : Nat) ({ cls := "StoneBacksLaw", name := "soonest", desc := "(LStoneBacks;I[J)I" } : Jvm.MethodName)) ∈ lw_all := lw_g (lw_at lw_m7 184 rfl) rfl
theorem q1737 : (Jvm.Cond.static ({ cls := "StoneBacksLaw", name := "soonest", desc := "(LStoneBacks;I[J)I" } : Jvm.MethodName)) ∈ lw_all := lw_g (lw_at lw_m7 185 rfl) rfl
theorem q1738 : (Jvm.Cond.codeWith ({ cls := "StoneBacksLaw", name := "soonest", desc := "(LStoneBacks;I[J)I" } : Jvm.MethodName) method_19_code (4 : Nat) (Option.some Jvm.ClassFile.FieldType.int) [((0 : Nat), (9 : Nat), (12 : Nat), (24 : Nat))]) ∈ lw_all := lw_g (lw_at lw_m7 186 rfl) rfl
theorem q1739 : (Jvm.Cond.methodLink "StoneBacksLaw" (71 : Nat) ({ cls := "StoneBacks", name := "soonest", desc := "(I)I" } : Jvm.MethodName)) ∈ lw_all := lw_g (lw_at lw_m7 187 rfl) rfl
theorem q1743 : (Jvm.Cond.methodLink "StoneBacksLaw" (200 : Nat) ({ cls := "StoneBacksLaw", name := "cross", desc := "(LStoneBacks;I[J)I" } : Jvm.MethodName)) ∈ lw_all := lw_g (lw_at lw_m7 191 rfl) rfl
theorem q1744 : (Jvm.Cond.static ({ cls := "StoneBacksLaw", name := "cross", desc := "(LStoneBacks;I[J)I" } : Jvm.MethodName)) ∈ lw_all := lw_g (lw_at lw_m7 192 rfl) rfl
theorem q1745 : (Jvm.Cond.codeWith ({ cls := "StoneBacksLaw", name := "cross", desc := "(LStoneBacks;I[J)I" } : Jvm.MethodName) method_20_code (4 : Nat) (Option.some Jvm.ClassFile.FieldType.int) [((0 : Nat), (16 : Nat), (19 : Nat), (24 : Nat))]) ∈ lw_all := lw_g (lw_at lw_m7 193 rfl) rfl
theorem q1746 : (Jvm.Cond.methodLink "StoneBacksLaw" (74 : Nat) ({ cls := "StoneBacks", name := "cross", desc := "(I)Z" } : Jvm.MethodName)) ∈ lw_all := lw_g (lw_at lw_m7 194 rfl) rfl
theorem q1750 : (Jvm.Cond.methodLink "StoneBacksLaw" (203 : Nat) ({ cls := "StoneBacksLaw", name := "shed", desc := "(LStoneBacks;I[J)I" } : Jvm.MethodName)) ∈ lw_all := lw_g (lw_at lw_m7 198 rfl) rfl
theorem q1751 : (Jvm.Cond.static ({ cls := "StoneBacksLaw", name := "shed", desc := "(LStoneBacks;I[J)I" } : Jvm.MethodName)) ∈ lw_all := lw_g (lw_at lw_m7 199 rfl) rfl
theorem q1752 : (Jvm.Cond.codeWith ({ cls := "StoneBacksLaw", name := "shed", desc := "(LStoneBacks;I[J)I" } : Jvm.MethodName) method_21_code (4 : Nat) (Option.some Jvm.ClassFile.FieldType.int) [((0 : Nat), (9 : Nat), (12 : Nat), (24 : Nat))]) ∈ lw_all := lw_g (lw_at lw_m7 200 rfl) rfl
theorem q1753 : (Jvm.Cond.methodLink "StoneBacksLaw" (78 : Nat) ({ cls := "StoneBacks", name := "shed", desc := "(I)I" } : Jvm.MethodName)) ∈ lw_all := lw_g (lw_at lw_m7 201 rfl) rfl
theorem q1763 : (Jvm.Cond.methodLink "StoneBacksLaw" (206 : Nat) ({ cls := "StoneBacksLaw", name := "share", desc := "(LStoneBacks;II[J)I" } : Jvm.MethodName)) ∈ lw_all := lw_g (lw_at lw_m7 211 rfl) rfl
theorem q1764 : (Jvm.Cond.static ({ cls := "StoneBacksLaw", name := "share", desc := "(LStoneBacks;II[J)I" } : Jvm.MethodName)) ∈ lw_all := lw_g (lw_at lw_m7 212 rfl) rfl
theorem q1765 : (Jvm.Cond.codeWith ({ cls := "StoneBacksLaw", name := "share", desc := "(LStoneBacks;II[J)I" } : Jvm.MethodName) method_22_code (5 : Nat) (Option.some Jvm.ClassFile.FieldType.int) [((0 : Nat), (10 : Nat), (13 : Nat), (24 : Nat))]) ∈ lw_all := lw_g (lw_at lw_m7 213 rfl) rfl
theorem q1766 : (Jvm.Cond.methodLink "StoneBacksLaw" (81 : Nat) ({ cls := "StoneBacks", name := "share", desc := "(II)I" } : Jvm.MethodName)) ∈ lw_all := lw_g (lw_at lw_m7 214 rfl) rfl
theorem q1818 : (Jvm.Cond.methodLink "StoneBacksLaw" (213 : Nat) ({ cls := "StoneBacksLaw", name := "pays", desc := "(LStoneBacks;IZ[J)I" } : Jvm.MethodName)) ∈ lw_all := lw_g (lw_at lw_m8 26 rfl) rfl
theorem q1819 : (Jvm.Cond.static ({ cls := "StoneBacksLaw", name := "pays", desc := "(LStoneBacks;IZ[J)I" } : Jvm.MethodName)) ∈ lw_all := lw_g (lw_at lw_m8 27 rfl) rfl
theorem q1820 : (Jvm.Cond.codeWith ({ cls := "StoneBacksLaw", name := "pays", desc := "(LStoneBacks;IZ[J)I" } : Jvm.MethodName) method_23_code (5 : Nat) (Option.some Jvm.ClassFile.FieldType.int) [((0 : Nat), (10 : Nat), (13 : Nat), (24 : Nat))]) ∈ lw_all := lw_g (lw_at lw_m8 28 rfl) rfl
theorem q1821 : (Jvm.Cond.methodLink "StoneBacksLaw" (84 : Nat) ({ cls := "StoneBacks", name := "pays", desc := "(IZ)I" } : Jvm.MethodName)) ∈ lw_all := lw_g (lw_at lw_m8 29 rfl) rfl
theorem q1825 : (Jvm.Cond.methodLink "StoneBacksLaw" (217 : Nat) ({ cls := "StoneBacksLaw", name := "first", desc := "(LStoneBacks;I[J)I" } : Jvm.MethodName)) ∈ lw_all := lw_g (lw_at lw_m8 33 rfl) rfl
theorem q1826 : (Jvm.Cond.static ({ cls := "StoneBacksLaw", name := "first", desc := "(LStoneBacks;I[J)I" } : Jvm.MethodName)) ∈ lw_all := lw_g (lw_at lw_m8 34 rfl) rfl
theorem q1827 : (Jvm.Cond.codeWith ({ cls := "StoneBacksLaw", name := "first", desc := "(LStoneBacks;I[J)I" } : Jvm.MethodName) method_24_code (4 : Nat) (Option.some Jvm.ClassFile.FieldType.int) [((0 : Nat), (9 : Nat), (12 : Nat), (24 : Nat))]) ∈ lw_all := lw_g (lw_at lw_m8 35 rfl) rfl
theorem q1828 : (Jvm.Cond.methodLink "StoneBacksLaw" (88 : Nat) ({ cls := "StoneBacks", name := "first", desc := "(I)I" } : Jvm.MethodName)) ∈ lw_all := lw_g (lw_at lw_m8 36 rfl) rfl
theorem q1832 : (Jvm.Cond.methodLink "StoneBacksLaw" (220 : Nat) ({ cls := "StoneBacksLaw", name := "owes", desc := "(LStoneBacks;II[J)I" } : Jvm.MethodName)) ∈ lw_all := lw_g (lw_at lw_m8 40 rfl) rfl
theorem q1833 : (Jvm.Cond.static ({ cls := "StoneBacksLaw", name := "owes", desc := "(LStoneBacks;II[J)I" } : Jvm.MethodName)) ∈ lw_all := lw_g (lw_at lw_m8 41 rfl) rfl
theorem q1834 : (Jvm.Cond.codeWith ({ cls := "StoneBacksLaw", name := "owes", desc := "(LStoneBacks;II[J)I" } : Jvm.MethodName) method_25_code (5 : Nat) (Option.some Jvm.ClassFile.FieldType.int) [((0 : Nat), (17 : Nat), (20 : Nat), (24 : Nat)), ((0 : Nat), (17 : Nat), (24 : Nat), (13 : Nat))]) ∈ lw_all := lw_g (lw_at lw_m8 42 rfl) rfl
theorem q1835 : (Jvm.Cond.methodLink "StoneBacksLaw" (91 : Nat) ({ cls := "StoneBacks", name := "owes", desc := "(II)Z" } : Jvm.MethodName)) ∈ lw_all := lw_g (lw_at lw_m8 43 rfl) rfl
theorem q1843 : (Jvm.Cond.methodLink "StoneBacksLaw" (223 : Nat) ({ cls := "StoneBacksLaw", name := "rests", desc := "(LStoneBacks;III[J)I" } : Jvm.MethodName)) ∈ lw_all := lw_g (lw_at lw_m8 51 rfl) rfl
theorem q1844 : (Jvm.Cond.static ({ cls := "StoneBacksLaw", name := "rests", desc := "(LStoneBacks;III[J)I" } : Jvm.MethodName)) ∈ lw_all := lw_g (lw_at lw_m8 52 rfl) rfl
theorem q1845 : (Jvm.Cond.codeWith ({ cls := "StoneBacksLaw", name := "rests", desc := "(LStoneBacks;III[J)I" } : Jvm.MethodName) method_26_code (6 : Nat) (Option.some Jvm.ClassFile.FieldType.int) [((0 : Nat), (12 : Nat), (15 : Nat), (24 : Nat)), ((0 : Nat), (12 : Nat), (19 : Nat), (13 : Nat))]) ∈ lw_all := lw_g (lw_at lw_m8 53 rfl) rfl
theorem q1846 : (Jvm.Cond.methodLink "StoneBacksLaw" (95 : Nat) ({ cls := "StoneBacks", name := "rests", desc := "(III)I" } : Jvm.MethodName)) ∈ lw_all := lw_g (lw_at lw_m8 54 rfl) rfl
theorem q1857 : (Jvm.Cond.methodLink "StoneBacksLaw" (226 : Nat) ({ cls := "StoneBacksLaw", name := "scales", desc := "(LStoneBacks;Z[J)I" } : Jvm.MethodName)) ∈ lw_all := lw_g (lw_at lw_m8 65 rfl) rfl
theorem q1858 : (Jvm.Cond.static ({ cls := "StoneBacksLaw", name := "scales", desc := "(LStoneBacks;Z[J)I" } : Jvm.MethodName)) ∈ lw_all := lw_g (lw_at lw_m8 66 rfl) rfl
theorem q1859 : (Jvm.Cond.codeWith ({ cls := "StoneBacksLaw", name := "scales", desc := "(LStoneBacks;Z[J)I" } : Jvm.MethodName) method_27_code (4 : Nat) (Option.some Jvm.ClassFile.FieldType.int) [((0 : Nat), (9 : Nat), (12 : Nat), (13 : Nat))]) ∈ lw_all := lw_g (lw_at lw_m8 67 rfl) rfl
theorem q1860 : (Jvm.Cond.methodLink "StoneBacksLaw" (98 : Nat) ({ cls := "StoneBacks", name := "scales", desc := "(Z)I" } : Jvm.MethodName)) ∈ lw_all := lw_g (lw_at lw_m8 68 rfl) rfl
theorem q1883 : (Jvm.Cond.methodLink "StoneBacksLaw" (230 : Nat) ({ cls := "StoneBacksLaw", name := "weigh", desc := "(LStoneBacks;[J)I" } : Jvm.MethodName)) ∈ lw_all := lw_g (lw_at lw_m8 91 rfl) rfl
theorem q1884 : (Jvm.Cond.static ({ cls := "StoneBacksLaw", name := "weigh", desc := "(LStoneBacks;[J)I" } : Jvm.MethodName)) ∈ lw_all := lw_g (lw_at lw_m8 92 rfl) rfl
theorem q1885 : (Jvm.Cond.codeWith ({ cls := "StoneBacksLaw", name := "weigh", desc := "(LStoneBacks;[J)I" } : Jvm.MethodName) method_28_code (3 : Nat) (Option.some Jvm.ClassFile.FieldType.int) [((0 : Nat), (8 : Nat), (11 : Nat), (13 : Nat))]) ∈ lw_all := lw_g (lw_at lw_m8 93 rfl) rfl
theorem q1886 : (Jvm.Cond.methodLink "StoneBacksLaw" (102 : Nat) ({ cls := "StoneBacks", name := "weigh", desc := "()I" } : Jvm.MethodName)) ∈ lw_all := lw_g (lw_at lw_m8 94 rfl) rfl
theorem q1894 : (Jvm.Cond.methodLink "StoneBacksLaw" (253 : Nat) ({ cls := "StoneBacksLaw", name := "gravel", desc := "(LStoneBacks;I[J)I" } : Jvm.MethodName)) ∈ lw_all := lw_g (lw_at lw_m8 102 rfl) rfl
theorem q1895 : (Jvm.Cond.static ({ cls := "StoneBacksLaw", name := "gravel", desc := "(LStoneBacks;I[J)I" } : Jvm.MethodName)) ∈ lw_all := lw_g (lw_at lw_m8 103 rfl) rfl
theorem q1896 : (Jvm.Cond.codeWith ({ cls := "StoneBacksLaw", name := "gravel", desc := "(LStoneBacks;I[J)I" } : Jvm.MethodName) method_29_code (4 : Nat) (Option.some Jvm.ClassFile.FieldType.int) [((0 : Nat), (9 : Nat), (12 : Nat), (13 : Nat))]) ∈ lw_all := lw_g (lw_at lw_m8 104 rfl) rfl
theorem q1897 : (Jvm.Cond.methodLink "StoneBacksLaw" (105 : Nat) ({ cls := "StoneBacks", name := "gravel", desc := "(I)I" } : Jvm.MethodName)) ∈ lw_all := lw_g (lw_at lw_m8 105 rfl) rfl
theorem q1905 : (Jvm.Cond.methodLink "StoneBacksLaw" (256 : Nat) ({ cls := "StoneBacksLaw", name := "ahead", desc := "(LStoneBacks;III[J)I" } : Jvm.MethodName)) ∈ lw_all := lw_g (lw_at lw_m8 113 rfl) rfl
theorem q1906 : (Jvm.Cond.static ({ cls := "StoneBacksLaw", name := "ahead", desc := "(LStoneBacks;III[J)I" } : Jvm.MethodName)) ∈ lw_all := lw_g (lw_at lw_m8 114 rfl) rfl
theorem q1907 : (Jvm.Cond.codeWith ({ cls := "StoneBacksLaw", name := "ahead", desc := "(LStoneBacks;III[J)I" } : Jvm.MethodName) method_30_code (6 : Nat) (Option.some Jvm.ClassFile.FieldType.int) [((0 : Nat), (12 : Nat), (15 : Nat), (24 : Nat)), ((0 : Nat), (12 : Nat), (19 : Nat), (13 : Nat)), ((0 : Nat), (12 : Nat), (23 : Nat), (26 : Nat))]) ∈ lw_all := lw_g (lw_at lw_m8 115 rfl) rfl
theorem q1908 : (Jvm.Cond.methodLink "StoneBacksLaw" (108 : Nat) ({ cls := "StoneBacks", name := "ahead", desc := "(III)I" } : Jvm.MethodName)) ∈ lw_all := lw_g (lw_at lw_m8 116 rfl) rfl
theorem q1912 : (Jvm.Cond.methodLink "StoneBacksLaw" (259 : Nat) ({ cls := "StoneBacksLaw", name := "trial", desc := "(LStoneBacks;IZ[J)I" } : Jvm.MethodName)) ∈ lw_all := lw_g (lw_at lw_m8 120 rfl) rfl
theorem q1913 : (Jvm.Cond.static ({ cls := "StoneBacksLaw", name := "trial", desc := "(LStoneBacks;IZ[J)I" } : Jvm.MethodName)) ∈ lw_all := lw_g (lw_at lw_m8 121 rfl) rfl
theorem q1914 : (Jvm.Cond.codeWith ({ cls := "StoneBacksLaw", name := "trial", desc := "(LStoneBacks;IZ[J)I" } : Jvm.MethodName) method_31_code (5 : Nat) (Option.some Jvm.ClassFile.FieldType.int) [((0 : Nat), (10 : Nat), (13 : Nat), (13 : Nat))]) ∈ lw_all := lw_g (lw_at lw_m8 122 rfl) rfl
theorem q1915 : (Jvm.Cond.methodLink "StoneBacksLaw" (111 : Nat) ({ cls := "StoneBacks", name := "trial", desc := "(IZ)I" } : Jvm.MethodName)) ∈ lw_all := lw_g (lw_at lw_m8 123 rfl) rfl
theorem q1923 : (Jvm.Cond.methodLink "StoneBacksLaw" (262 : Nat) ({ cls := "StoneBacksLaw", name := "span", desc := "(LStoneBacks;IZ[J)I" } : Jvm.MethodName)) ∈ lw_all := lw_g (lw_at lw_m8 131 rfl) rfl
theorem q1924 : (Jvm.Cond.static ({ cls := "StoneBacksLaw", name := "span", desc := "(LStoneBacks;IZ[J)I" } : Jvm.MethodName)) ∈ lw_all := lw_g (lw_at lw_m8 132 rfl) rfl
theorem q1925 : (Jvm.Cond.codeWith ({ cls := "StoneBacksLaw", name := "span", desc := "(LStoneBacks;IZ[J)I" } : Jvm.MethodName) method_32_code (5 : Nat) (Option.some Jvm.ClassFile.FieldType.int) [((0 : Nat), (10 : Nat), (13 : Nat), (13 : Nat))]) ∈ lw_all := lw_g (lw_at lw_m8 133 rfl) rfl
theorem q1926 : (Jvm.Cond.methodLink "StoneBacksLaw" (114 : Nat) ({ cls := "StoneBacks", name := "span", desc := "(IZ)I" } : Jvm.MethodName)) ∈ lw_all := lw_g (lw_at lw_m8 134 rfl) rfl
theorem q1930 : (Jvm.Cond.methodLink "StoneBacksLaw" (265 : Nat) ({ cls := "StoneBacksLaw", name := "led", desc := "(LStoneBacks;IZ[J)I" } : Jvm.MethodName)) ∈ lw_all := lw_g (lw_at lw_m8 138 rfl) rfl
theorem q1931 : (Jvm.Cond.static ({ cls := "StoneBacksLaw", name := "led", desc := "(LStoneBacks;IZ[J)I" } : Jvm.MethodName)) ∈ lw_all := lw_g (lw_at lw_m8 139 rfl) rfl
theorem q1932 : (Jvm.Cond.codeWith ({ cls := "StoneBacksLaw", name := "led", desc := "(LStoneBacks;IZ[J)I" } : Jvm.MethodName) method_33_code (5 : Nat) (Option.some Jvm.ClassFile.FieldType.int) [((0 : Nat), (10 : Nat), (13 : Nat), (24 : Nat))]) ∈ lw_all := lw_g (lw_at lw_m8 140 rfl) rfl
theorem q1933 : (Jvm.Cond.methodLink "StoneBacksLaw" (117 : Nat) ({ cls := "StoneBacks", name := "led", desc := "(IZ)I" } : Jvm.MethodName)) ∈ lw_all := lw_g (lw_at lw_m8 141 rfl) rfl
theorem q1941 : (Jvm.Cond.methodLink "StoneBacksLaw" (268 : Nat) ({ cls := "StoneBacksLaw", name := "log", desc := "(LStoneBacks;II[J)I" } : Jvm.MethodName)) ∈ lw_all := lw_g (lw_at lw_m8 149 rfl) rfl
theorem q1942 : (Jvm.Cond.static ({ cls := "StoneBacksLaw", name := "log", desc := "(LStoneBacks;II[J)I" } : Jvm.MethodName)) ∈ lw_all := lw_g (lw_at lw_m8 150 rfl) rfl
theorem q1943 : (Jvm.Cond.codeWith ({ cls := "StoneBacksLaw", name := "log", desc := "(LStoneBacks;II[J)I" } : Jvm.MethodName) method_34_code (5 : Nat) (Option.some Jvm.ClassFile.FieldType.int) [((0 : Nat), (10 : Nat), (13 : Nat), (26 : Nat))]) ∈ lw_all := lw_g (lw_at lw_m8 151 rfl) rfl
theorem q1944 : (Jvm.Cond.methodLink "StoneBacksLaw" (120 : Nat) ({ cls := "StoneBacks", name := "log", desc := "(II)I" } : Jvm.MethodName)) ∈ lw_all := lw_g (lw_at lw_m8 152 rfl) rfl
theorem q1948 : (Jvm.Cond.classLink "StoneBacksLaw" (124 : Nat) "StoneBacksModel") ∈ lw_all := lw_g (lw_at lw_m8 156 rfl) rfl
theorem q1950 : (Jvm.Cond.methodLink "StoneBacksLaw" (126 : Nat) ({ cls := "StoneBacksModel", name := "<init>", desc := "()V" } : Jvm.MethodName)) ∈ lw_all := lw_g (lw_at lw_m8 158 rfl) rfl
theorem q2024 : (Jvm.Cond.methodLink "StoneBacksLaw" (142 : Nat) ({ cls := "StoneBacksModel", name := "thrown", desc := "()I" } : Jvm.MethodName)) ∈ lw_all := lw_g (lw_at lw_m8 232 rfl) rfl
theorem q2028 : (Jvm.Cond.methodLink "StoneBacksLaw" (131 : Nat) ({ cls := "StoneBacksModel", name := "feed", desc := "(IIIII)I" } : Jvm.MethodName)) ∈ lw_all := lw_g (lw_at lw_m8 236 rfl) rfl
theorem q2032 : (Jvm.Cond.methodLink "StoneBacksLaw" (135 : Nat) ({ cls := "StoneBacksModel", name := "end", desc := "(I)Z" } : Jvm.MethodName)) ∈ lw_all := lw_g (lw_at lw_m9 0 rfl) rfl
theorem q2039 : (Jvm.Cond.methodLink "StoneBacksLaw" (141 : Nat) ({ cls := "StoneBacksModel", name := "valley", desc := "()I" } : Jvm.MethodName)) ∈ lw_all := lw_g (lw_at lw_m9 7 rfl) rfl
theorem q2189 : (Jvm.Cond.methodLink "StoneBacksLaw" (147 : Nat) ({ cls := "StoneBacksModel", name := "law", desc := "()I" } : Jvm.MethodName)) ∈ lw_all := lw_g (lw_at lw_m9 157 rfl) rfl
theorem q2193 : (Jvm.Cond.methodLink "StoneBacksLaw" (151 : Nat) ({ cls := "StoneBacksModel", name := "fault", desc := "()I" } : Jvm.MethodName)) ∈ lw_all := lw_g (lw_at lw_m9 161 rfl) rfl
theorem q2197 : (Jvm.Cond.methodLink "StoneBacksLaw" (155 : Nat) ({ cls := "StoneBacksModel", name := "person", desc := "(II)I" } : Jvm.MethodName)) ∈ lw_all := lw_g (lw_at lw_m9 165 rfl) rfl
theorem q2236 : (Jvm.Cond.methodLink "StoneBacksLaw" (158 : Nat) ({ cls := "StoneBacksModel", name := "does", desc := "(II)I" } : Jvm.MethodName)) ∈ lw_all := lw_g (lw_at lw_m9 204 rfl) rfl
theorem q2250 : (Jvm.Cond.methodLink "StoneBacksLaw" (161 : Nat) ({ cls := "StoneBacksModel", name := "stone", desc := "(II)I" } : Jvm.MethodName)) ∈ lw_all := lw_g (lw_at lw_m9 218 rfl) rfl
theorem q2258 : (Jvm.Cond.methodLink "StoneBacksLaw" (164 : Nat) ({ cls := "StoneBacksModel", name := "place", desc := "(II)I" } : Jvm.MethodName)) ∈ lw_all := lw_g (lw_at lw_m9 226 rfl) rfl
theorem q2273 : (Jvm.Cond.methodLink "StoneBacksLaw" (168 : Nat) ({ cls := "StoneBacksModel", name := "lend", desc := "(III)I" } : Jvm.MethodName)) ∈ lw_all := lw_g (lw_at lw_m10 1 rfl) rfl
theorem q2289 : (Jvm.Cond.methodLink "StoneBacksLaw" (172 : Nat) ({ cls := "StoneBacksModel", name := "pay", desc := "(I)I" } : Jvm.MethodName)) ∈ lw_all := lw_g (lw_at lw_m10 17 rfl) rfl
theorem q2293 : (Jvm.Cond.methodLink "StoneBacksLaw" (175 : Nat) ({ cls := "StoneBacksModel", name := "split", desc := "(I)I" } : Jvm.MethodName)) ∈ lw_all := lw_g (lw_at lw_m10 21 rfl) rfl
theorem q2297 : (Jvm.Cond.methodLink "StoneBacksLaw" (178 : Nat) ({ cls := "StoneBacksModel", name := "pass", desc := "(II)I" } : Jvm.MethodName)) ∈ lw_all := lw_g (lw_at lw_m10 25 rfl) rfl
theorem q2301 : (Jvm.Cond.methodLink "StoneBacksLaw" (181 : Nat) ({ cls := "StoneBacksModel", name := "lay", desc := "(I)I" } : Jvm.MethodName)) ∈ lw_all := lw_g (lw_at lw_m10 29 rfl) rfl
theorem q2305 : (Jvm.Cond.methodLink "StoneBacksLaw" (184 : Nat) ({ cls := "StoneBacksModel", name := "lift", desc := "(II)I" } : Jvm.MethodName)) ∈ lw_all := lw_g (lw_at lw_m10 33 rfl) rfl
theorem q2309 : (Jvm.Cond.methodLink "StoneBacksLaw" (187 : Nat) ({ cls := "StoneBacksModel", name := "goal", desc := "(II)I" } : Jvm.MethodName)) ∈ lw_all := lw_g (lw_at lw_m10 37 rfl) rfl
theorem q2313 : (Jvm.Cond.methodLink "StoneBacksLaw" (190 : Nat) ({ cls := "StoneBacksModel", name := "rest", desc := "(I)I" } : Jvm.MethodName)) ∈ lw_all := lw_g (lw_at lw_m10 41 rfl) rfl
theorem q2317 : (Jvm.Cond.methodLink "StoneBacksLaw" (193 : Nat) ({ cls := "StoneBacksModel", name := "hours", desc := "(I)I" } : Jvm.MethodName)) ∈ lw_all := lw_g (lw_at lw_m10 45 rfl) rfl
theorem q2342 : (Jvm.Cond.methodLink "StoneBacksLaw" (196 : Nat) ({ cls := "StoneBacksModel", name := "way", desc := "(II)I" } : Jvm.MethodName)) ∈ lw_all := lw_g (lw_at lw_m10 70 rfl) rfl
theorem q2350 : (Jvm.Cond.methodLink "StoneBacksLaw" (199 : Nat) ({ cls := "StoneBacksModel", name := "soonest", desc := "(I)I" } : Jvm.MethodName)) ∈ lw_all := lw_g (lw_at lw_m10 78 rfl) rfl
theorem q2354 : (Jvm.Cond.methodLink "StoneBacksLaw" (202 : Nat) ({ cls := "StoneBacksModel", name := "cross", desc := "(I)Z" } : Jvm.MethodName)) ∈ lw_all := lw_g (lw_at lw_m10 82 rfl) rfl
theorem q2358 : (Jvm.Cond.methodLink "StoneBacksLaw" (205 : Nat) ({ cls := "StoneBacksModel", name := "shed", desc := "(I)I" } : Jvm.MethodName)) ∈ lw_all := lw_g (lw_at lw_m10 86 rfl) rfl
theorem q2365 : (Jvm.Cond.methodLink "StoneBacksLaw" (208 : Nat) ({ cls := "StoneBacksModel", name := "share", desc := "(II)I" } : Jvm.MethodName)) ∈ lw_all := lw_g (lw_at lw_m10 93 rfl) rfl
theorem q2385 : (Jvm.Cond.methodLink "StoneBacksLaw" (212 : Nat) ({ cls := "StoneBacksModel", name := "goes", desc := "()I" } : Jvm.MethodName)) ∈ lw_all := lw_g (lw_at lw_m10 113 rfl) rfl
theorem q2389 : (Jvm.Cond.methodLink "StoneBacksLaw" (216 : Nat) ({ cls := "StoneBacksModel", name := "pays", desc := "(IZ)I" } : Jvm.MethodName)) ∈ lw_all := lw_g (lw_at lw_m10 117 rfl) rfl
theorem q2393 : (Jvm.Cond.methodLink "StoneBacksLaw" (219 : Nat) ({ cls := "StoneBacksModel", name := "first", desc := "(I)I" } : Jvm.MethodName)) ∈ lw_all := lw_g (lw_at lw_m10 121 rfl) rfl
theorem q2397 : (Jvm.Cond.methodLink "StoneBacksLaw" (222 : Nat) ({ cls := "StoneBacksModel", name := "owes", desc := "(II)Z" } : Jvm.MethodName)) ∈ lw_all := lw_g (lw_at lw_m10 125 rfl) rfl
theorem q2401 : (Jvm.Cond.methodLink "StoneBacksLaw" (225 : Nat) ({ cls := "StoneBacksModel", name := "rests", desc := "(III)I" } : Jvm.MethodName)) ∈ lw_all := lw_g (lw_at lw_m10 129 rfl) rfl
theorem q2412 : (Jvm.Cond.methodLink "StoneBacksLaw" (229 : Nat) ({ cls := "StoneBacksModel", name := "scales", desc := "(Z)I" } : Jvm.MethodName)) ∈ lw_all := lw_g (lw_at lw_m10 140 rfl) rfl
theorem q2424 : (Jvm.Cond.methodLink "StoneBacksLaw" (232 : Nat) ({ cls := "StoneBacksModel", name := "weigh", desc := "()I" } : Jvm.MethodName)) ∈ lw_all := lw_g (lw_at lw_m10 152 rfl) rfl
theorem q2428 : (Jvm.Cond.methodLink "StoneBacksLaw" (236 : Nat) ({ cls := "StoneBacksModel", name := "meet", desc := "()I" } : Jvm.MethodName)) ∈ lw_all := lw_g (lw_at lw_m10 156 rfl) rfl
theorem q2436 : (Jvm.Cond.methodLink "StoneBacksLaw" (240 : Nat) ({ cls := "StoneBacksModel", name := "last", desc := "(Z)I" } : Jvm.MethodName)) ∈ lw_all := lw_g (lw_at lw_m10 164 rfl) rfl
theorem q2440 : (Jvm.Cond.methodLink "StoneBacksLaw" (244 : Nat) ({ cls := "StoneBacksModel", name := "heap", desc := "()I" } : Jvm.MethodName)) ∈ lw_all := lw_g (lw_at lw_m10 168 rfl) rfl
theorem q2444 : (Jvm.Cond.methodLink "StoneBacksLaw" (248 : Nat) ({ cls := "StoneBacksModel", name := "pairs", desc := "()I" } : Jvm.MethodName)) ∈ lw_all := lw_g (lw_at lw_m10 172 rfl) rfl
theorem q2448 : (Jvm.Cond.methodLink "StoneBacksLaw" (252 : Nat) ({ cls := "StoneBacksModel", name := "heaviest", desc := "()I" } : Jvm.MethodName)) ∈ lw_all := lw_g (lw_at lw_m10 176 rfl) rfl
theorem q2452 : (Jvm.Cond.methodLink "StoneBacksLaw" (255 : Nat) ({ cls := "StoneBacksModel", name := "gravel", desc := "(I)I" } : Jvm.MethodName)) ∈ lw_all := lw_g (lw_at lw_m10 180 rfl) rfl
theorem q2460 : (Jvm.Cond.methodLink "StoneBacksLaw" (258 : Nat) ({ cls := "StoneBacksModel", name := "ahead", desc := "(III)I" } : Jvm.MethodName)) ∈ lw_all := lw_g (lw_at lw_m10 188 rfl) rfl
theorem q2464 : (Jvm.Cond.methodLink "StoneBacksLaw" (261 : Nat) ({ cls := "StoneBacksModel", name := "trial", desc := "(IZ)I" } : Jvm.MethodName)) ∈ lw_all := lw_g (lw_at lw_m10 192 rfl) rfl
theorem q2476 : (Jvm.Cond.methodLink "StoneBacksLaw" (264 : Nat) ({ cls := "StoneBacksModel", name := "span", desc := "(IZ)I" } : Jvm.MethodName)) ∈ lw_all := lw_g (lw_at lw_m10 204 rfl) rfl
theorem q2480 : (Jvm.Cond.methodLink "StoneBacksLaw" (267 : Nat) ({ cls := "StoneBacksModel", name := "led", desc := "(IZ)I" } : Jvm.MethodName)) ∈ lw_all := lw_g (lw_at lw_m10 208 rfl) rfl
theorem q2488 : (Jvm.Cond.methodLink "StoneBacksLaw" (270 : Nat) ({ cls := "StoneBacksModel", name := "log", desc := "(II)I" } : Jvm.MethodName)) ∈ lw_all := lw_g (lw_at lw_m10 216 rfl) rfl
theorem q2492 : (Jvm.Cond.methodLink "StoneBacksLaw" (274 : Nat) ({ cls := "StoneBacksModel", name := "seed", desc := "(I)I" } : Jvm.MethodName)) ∈ lw_all := lw_g (lw_at lw_m10 220 rfl) rfl
theorem q2496 : (Jvm.Cond.methodLink "StoneBacksLaw" (279 : Nat) ({ cls := "StoneBacksModel", name := "undo", desc := "()Z" } : Jvm.MethodName)) ∈ lw_all := lw_g (lw_at lw_m10 224 rfl) rfl
theorem q2500 : (Jvm.Cond.methodLink "StoneBacksLaw" (283 : Nat) ({ cls := "StoneBacksModel", name := "image", desc := "()V" } : Jvm.MethodName)) ∈ lw_all := lw_g (lw_at lw_m10 228 rfl) rfl
theorem q2504 : (Jvm.Cond.methodLink "StoneBacksLaw" (287 : Nat) ({ cls := "StoneBacksModel", name := "back", desc := "()Z" } : Jvm.MethodName)) ∈ lw_all := lw_g (lw_at lw_m10 232 rfl) rfl
theorem q2508 : (Jvm.Cond.methodLink "StoneBacksLaw" (291 : Nat) ({ cls := "StoneBacksModel", name := "count", desc := "(I)I" } : Jvm.MethodName)) ∈ lw_all := lw_g (lw_at lw_m10 236 rfl) rfl

/-! StoneBacks$Line -/
set_option maxRecDepth 100000
def RX10 : String := "StoneBacks$Line"
def TX10 : u_T := fun k => match k with
  | 0 => ("StoneBacks$Line", "kind", "LStoneBacks$Kind;", true)
  | 1 => ("StoneBacks$Line", "n", "I", true)
  | _ => ("StoneBacks$Line", "when", "LStoneBacks$Cond;", true)
def tyX10 : Nat → FieldType := fun k => match k with
  | 0 => .object "StoneBacks$Kind"
  | 1 => .int
  | _ => .object "StoneBacks$Cond"
abbrev wsX100 : List Cond := u_ws RX10 TX10 3
theorem nmX10 : ∀ a, a < 3 → ∀ b, b < 3 → a ≠ b → (TX10 a).2.1 ≠ (TX10 b).2.1 := by decide +kernel
theorem tyX10_ok : ∀ k, k < 3 → parseFieldDescriptor (TX10 k).2.2.1 = some (tyX10 k) := by decide +kernel
abbrev cX10_init : ByteArray := prog_7_method_1_code
def yX10_init : MethodName := ⟨RX10, "<init>", "(LStoneBacks$Kind;ILStoneBacks$Cond;)V"⟩
def dkwX10_init_0 : List UInt8 := [42, 183, 0, 1, 42, 43, 181, 0, 7, 42, 28, 181, 0, 13, 42, 45, 181, 0, 17, 177]
abbrev dktX10_init_0 : List UInt8 := dkwX10_init_0 ++ []
theorem dksX10_init_0 : cX10_init.data.toList.drop 0 = dktX10_init_0 := by decide +kernel
theorem dX10_init_0 : decode cX10_init 0 = .ok (.aload_n 0, 1) := dk_42 (dk_at dksX10_init_0 0 rfl rfl)
theorem dX10_init_1 : decode cX10_init 1 = .ok (.invokespecial 1, 3) := dk_183 0 1 (dk_at dksX10_init_0 1 rfl rfl)
theorem dX10_init_4 : decode cX10_init 4 = .ok (.aload_n 0, 1) := dk_42 (dk_at dksX10_init_0 4 rfl rfl)
theorem dX10_init_5 : decode cX10_init 5 = .ok (.aload_n 1, 1) := dk_43 (dk_at dksX10_init_0 5 rfl rfl)
theorem dX10_init_6 : decode cX10_init 6 = .ok (.putfield 7, 3) := dk_181 0 7 (dk_at dksX10_init_0 6 rfl rfl)
theorem dX10_init_9 : decode cX10_init 9 = .ok (.aload_n 0, 1) := dk_42 (dk_at dksX10_init_0 9 rfl rfl)
theorem dX10_init_10 : decode cX10_init 10 = .ok (.iload_n 2, 1) := dk_28 (dk_at dksX10_init_0 10 rfl rfl)
theorem dX10_init_11 : decode cX10_init 11 = .ok (.putfield 13, 3) := dk_181 0 13 (dk_at dksX10_init_0 11 rfl rfl)
theorem dX10_init_14 : decode cX10_init 14 = .ok (.aload_n 0, 1) := dk_42 (dk_at dksX10_init_0 14 rfl rfl)
theorem dX10_init_15 : decode cX10_init 15 = .ok (.aload_n 3, 1) := dk_45 (dk_at dksX10_init_0 15 rfl rfl)
theorem dX10_init_16 : decode cX10_init 16 = .ok (.putfield 17, 3) := dk_181 0 17 (dk_at dksX10_init_0 16 rfl rfl)
theorem dX10_init_19 : decode cX10_init 19 = .ok (.return_, 1) := dk_177 (dk_at dksX10_init_0 19 rfl rfl)
theorem q143 : (Jvm.Cond.initialized "StoneBacks$Line") ∈ lw_all := lw_g (lw_at lw_m1 31 rfl) rfl
theorem q1314 : (Jvm.Cond.instantiable "StoneBacks$Line" (3 : Nat)) ∈ lw_all := lw_g (lw_at lw_m6 2 rfl) rfl
theorem q1456 : (Jvm.Cond.selects "StoneBacks$Line" ({ cls := "java/lang/Object", name := "getClass", desc := "()Ljava/lang/Class;" } : Jvm.MethodName) ({ cls := "java/lang/Object", name := "getClass", desc := "()Ljava/lang/Class;" } : Jvm.MethodName)) ∈ lw_all := lw_g (lw_at lw_m6 144 rfl) rfl
theorem q1503 : (Jvm.Cond.instanceMethod ({ cls := "StoneBacks$Line", name := "<init>", desc := "(LStoneBacks$Kind;ILStoneBacks$Cond;)V" } : Jvm.MethodName)) ∈ lw_all := lw_g (lw_at lw_m6 191 rfl) rfl
theorem q1504 : (Jvm.Cond.code ({ cls := "StoneBacks$Line", name := "<init>", desc := "(LStoneBacks$Kind;ILStoneBacks$Cond;)V" } : Jvm.MethodName) prog_7_method_1_code (4 : Nat) (Option.none : Option Jvm.ClassFile.FieldType)) ∈ lw_all := lw_g (lw_at lw_m6 192 rfl) rfl
theorem q1505 : (Jvm.Cond.methodLink "StoneBacks$Line" (1 : Nat) ({ cls := "java/lang/Object", name := "<init>", desc := "()V" } : Jvm.MethodName)) ∈ lw_all := lw_g (lw_at lw_m6 193 rfl) rfl
theorem q1506 : (Jvm.Cond.fieldLink "StoneBacks$Line" (7 : Nat) "StoneBacks$Line" "kind" "LStoneBacks$Kind;") ∈ lw_all := lw_g (lw_at lw_m6 194 rfl) rfl
theorem q1508 : (Jvm.Cond.fieldLink "StoneBacks$Line" (13 : Nat) "StoneBacks$Line" "n" "I") ∈ lw_all := lw_g (lw_at lw_m6 196 rfl) rfl
theorem q1510 : (Jvm.Cond.fieldLink "StoneBacks$Line" (17 : Nat) "StoneBacks$Line" "when" "LStoneBacks$Cond;") ∈ lw_all := lw_g (lw_at lw_m6 198 rfl) rfl
theorem q1512 : (Jvm.Cond.laysFinal "StoneBacks$Line" "StoneBacks$Line" "kind" "LStoneBacks$Kind;") ∈ lw_all := lw_g (lw_at lw_m6 200 rfl) rfl
theorem q1513 : (Jvm.Cond.soleField "StoneBacks$Line" "kind") ∈ lw_all := lw_g (lw_at lw_m6 201 rfl) rfl
theorem q1514 : (Jvm.Cond.laysFinal "StoneBacks$Line" "StoneBacks$Line" "n" "I") ∈ lw_all := lw_g (lw_at lw_m6 202 rfl) rfl
theorem q1515 : (Jvm.Cond.soleField "StoneBacks$Line" "n") ∈ lw_all := lw_g (lw_at lw_m6 203 rfl) rfl
theorem q1516 : (Jvm.Cond.laysFinal "StoneBacks$Line" "StoneBacks$Line" "when" "LStoneBacks$Cond;") ∈ lw_all := lw_g (lw_at lw_m6 204 rfl) rfl
theorem q1517 : (Jvm.Cond.soleField "StoneBacks$Line" "when") ∈ lw_all := lw_g (lw_at lw_m6 205 rfl) rfl
theorem q1518 : (Jvm.Cond.superclass "StoneBacks$Line" "java/lang/Object") ∈ lw_all := lw_g (lw_at lw_m6 206 rfl) rfl
theorem q2545 : (Jvm.Cond.castable "StoneBacks$Line" "java/lang/Object") ∈ lw_tbl := lw_at lw_m11 33 rfl
theorem in_X10 : ∀ w ∈ wsX100, w ∈ lw_all := lw_in wsX100 [1512, 1514, 1516] (by decide +kernel) (by decide +kernel)

/-! StoneBacks$Row -/
set_option maxRecDepth 100000
def RX11 : String := "StoneBacks$Row"
def TX11 : u_T := fun k => match k with
  | 0 => ("StoneBacks$Row", "all", "Z", true)
  | _ => ("StoneBacks$Row", "row", "Ljava/util/ArrayList;", true)
def tyX11 : Nat → FieldType := fun k => match k with
  | 0 => .boolean
  | _ => .object "java/util/ArrayList"
abbrev wsX110 : List Cond := u_ws RX11 TX11 2
theorem nmX11 : ∀ a, a < 2 → ∀ b, b < 2 → a ≠ b → (TX11 a).2.1 ≠ (TX11 b).2.1 := by decide +kernel
theorem tyX11_ok : ∀ k, k < 2 → parseFieldDescriptor (TX11 k).2.2.1 = some (tyX11 k) := by decide +kernel
abbrev cX11_holds : ByteArray := prog_11_method_2_code
def yX11_holds : MethodName := ⟨RX11, "holds", "(LStoneBacks$Scene;)Z"⟩
def dkwX11_holds_2 : List UInt8 := [3, 172, 132, 2, 1, 167, 255, 205, 42, 180, 0, 16, 172]
abbrev dktX11_holds_2 : List UInt8 := dkwX11_holds_2 ++ []
def dkwX11_holds_1 : List UInt8 := [43, 185, 0, 30, 2, 0, 42, 180, 0, 16, 159, 0, 16, 42, 180, 0, 16, 154, 0, 7, 4, 167, 0, 4]
abbrev dktX11_holds_1 : List UInt8 := dkwX11_holds_1 ++ dktX11_holds_2
def dkwX11_holds_0 : List UInt8 := [3, 61, 28, 42, 180, 0, 10, 182, 0, 20, 162, 0, 46, 42, 180, 0, 10, 28, 182, 0, 24, 192, 0, 28]
abbrev dktX11_holds_0 : List UInt8 := dkwX11_holds_0 ++ dktX11_holds_1
theorem dksX11_holds_0 : cX11_holds.data.toList.drop 0 = dktX11_holds_0 := by decide +kernel
theorem dksX11_holds_1 : cX11_holds.data.toList.drop 24 = dktX11_holds_1 := dk_seg dksX11_holds_0 24 rfl rfl
theorem dksX11_holds_2 : cX11_holds.data.toList.drop 48 = dktX11_holds_2 := dk_seg dksX11_holds_1 24 rfl rfl
theorem dX11_holds_0 : decode cX11_holds 0 = .ok (.iconst 0, 1) := dk_3 (dk_at dksX11_holds_0 0 rfl rfl)
theorem dX11_holds_1 : decode cX11_holds 1 = .ok (.istore_n 2, 1) := dk_61 (dk_at dksX11_holds_0 1 rfl rfl)
theorem dX11_holds_2 : decode cX11_holds 2 = .ok (.iload_n 2, 1) := dk_28 (dk_at dksX11_holds_0 2 rfl rfl)
theorem dX11_holds_3 : decode cX11_holds 3 = .ok (.aload_n 0, 1) := dk_42 (dk_at dksX11_holds_0 3 rfl rfl)
theorem dX11_holds_4 : decode cX11_holds 4 = .ok (.getfield 10, 3) := dk_180 0 10 (dk_at dksX11_holds_0 4 rfl rfl)
theorem dX11_holds_7 : decode cX11_holds 7 = .ok (.invokevirtual 20, 3) := dk_182 0 20 (dk_at dksX11_holds_0 7 rfl rfl)
theorem dX11_holds_10 : decode cX11_holds 10 = .ok (.if_icmp .ge 46, 3) := dk_162 0 46 (dk_at dksX11_holds_0 10 rfl rfl)
theorem dX11_holds_13 : decode cX11_holds 13 = .ok (.aload_n 0, 1) := dk_42 (dk_at dksX11_holds_0 13 rfl rfl)
theorem dX11_holds_14 : decode cX11_holds 14 = .ok (.getfield 10, 3) := dk_180 0 10 (dk_at dksX11_holds_0 14 rfl rfl)
theorem dX11_holds_17 : decode cX11_holds 17 = .ok (.iload_n 2, 1) := dk_28 (dk_at dksX11_holds_0 17 rfl rfl)
theorem dX11_holds_18 : decode cX11_holds 18 = .ok (.invokevirtual 24, 3) := dk_182 0 24 (dk_at dksX11_holds_0 18 rfl rfl)
theorem dX11_holds_21 : decode cX11_holds 21 = .ok (.checkcast 28, 3) := dk_192 0 28 (dk_at dksX11_holds_0 21 rfl rfl)
theorem dX11_holds_24 : decode cX11_holds 24 = .ok (.aload_n 1, 1) := dk_43 (dk_at dksX11_holds_1 0 rfl rfl)
theorem dX11_holds_25 : decode cX11_holds 25 = .ok (.invokeinterface 30 2, 5) := by decide +kernel
theorem dX11_holds_30 : decode cX11_holds 30 = .ok (.aload_n 0, 1) := dk_42 (dk_at dksX11_holds_1 6 rfl rfl)
theorem dX11_holds_31 : decode cX11_holds 31 = .ok (.getfield 16, 3) := dk_180 0 16 (dk_at dksX11_holds_1 7 rfl rfl)
theorem dX11_holds_34 : decode cX11_holds 34 = .ok (.if_icmp .eq 16, 3) := dk_159 0 16 (dk_at dksX11_holds_1 10 rfl rfl)
theorem dX11_holds_37 : decode cX11_holds 37 = .ok (.aload_n 0, 1) := dk_42 (dk_at dksX11_holds_1 13 rfl rfl)
theorem dX11_holds_38 : decode cX11_holds 38 = .ok (.getfield 16, 3) := dk_180 0 16 (dk_at dksX11_holds_1 14 rfl rfl)
theorem dX11_holds_41 : decode cX11_holds 41 = .ok (.ifCond .ne 7, 3) := dk_154 0 7 (dk_at dksX11_holds_1 17 rfl rfl)
theorem dX11_holds_44 : decode cX11_holds 44 = .ok (.iconst 1, 1) := dk_4 (dk_at dksX11_holds_1 20 rfl rfl)
theorem dX11_holds_45 : decode cX11_holds 45 = .ok (.goto 4, 3) := dk_167 0 4 (dk_at dksX11_holds_1 21 rfl rfl)
theorem dX11_holds_48 : decode cX11_holds 48 = .ok (.iconst 0, 1) := dk_3 (dk_at dksX11_holds_2 0 rfl rfl)
theorem dX11_holds_49 : decode cX11_holds 49 = .ok (.ireturn, 1) := dk_172 (dk_at dksX11_holds_2 1 rfl rfl)
theorem dX11_holds_50 : decode cX11_holds 50 = .ok (.iinc 2 1, 3) := dk_132 2 1 (dk_at dksX11_holds_2 2 rfl rfl)
theorem dX11_holds_53 : decode cX11_holds 53 = .ok (.goto (-51), 3) := dk_167 255 205 (dk_at dksX11_holds_2 5 rfl rfl)
theorem dX11_holds_56 : decode cX11_holds 56 = .ok (.aload_n 0, 1) := dk_42 (dk_at dksX11_holds_2 8 rfl rfl)
theorem dX11_holds_57 : decode cX11_holds 57 = .ok (.getfield 16, 3) := dk_180 0 16 (dk_at dksX11_holds_2 9 rfl rfl)
theorem dX11_holds_60 : decode cX11_holds 60 = .ok (.ireturn, 1) := dk_172 (dk_at dksX11_holds_2 12 rfl rfl)
abbrev cX11_init : ByteArray := prog_11_method_1_code
def yX11_init : MethodName := ⟨RX11, "<init>", "(Z)V"⟩
def dkwX11_init_0 : List UInt8 := [42, 183, 0, 1, 42, 187, 0, 7, 89, 183, 0, 9, 181, 0, 10, 42, 27, 181, 0, 16, 177]
abbrev dktX11_init_0 : List UInt8 := dkwX11_init_0 ++ []
theorem dksX11_init_0 : cX11_init.data.toList.drop 0 = dktX11_init_0 := by decide +kernel
theorem dX11_init_0 : decode cX11_init 0 = .ok (.aload_n 0, 1) := dk_42 (dk_at dksX11_init_0 0 rfl rfl)
theorem dX11_init_1 : decode cX11_init 1 = .ok (.invokespecial 1, 3) := dk_183 0 1 (dk_at dksX11_init_0 1 rfl rfl)
theorem dX11_init_4 : decode cX11_init 4 = .ok (.aload_n 0, 1) := dk_42 (dk_at dksX11_init_0 4 rfl rfl)
theorem dX11_init_5 : decode cX11_init 5 = .ok (.new 7, 3) := dk_187 0 7 (dk_at dksX11_init_0 5 rfl rfl)
theorem dX11_init_8 : decode cX11_init 8 = .ok (.dup, 1) := dk_89 (dk_at dksX11_init_0 8 rfl rfl)
theorem dX11_init_9 : decode cX11_init 9 = .ok (.invokespecial 9, 3) := dk_183 0 9 (dk_at dksX11_init_0 9 rfl rfl)
theorem dX11_init_12 : decode cX11_init 12 = .ok (.putfield 10, 3) := dk_181 0 10 (dk_at dksX11_init_0 12 rfl rfl)
theorem dX11_init_15 : decode cX11_init 15 = .ok (.aload_n 0, 1) := dk_42 (dk_at dksX11_init_0 15 rfl rfl)
theorem dX11_init_16 : decode cX11_init 16 = .ok (.iload_n 1, 1) := dk_27 (dk_at dksX11_init_0 16 rfl rfl)
theorem dX11_init_17 : decode cX11_init 17 = .ok (.putfield 16, 3) := dk_181 0 16 (dk_at dksX11_init_0 17 rfl rfl)
theorem dX11_init_20 : decode cX11_init 20 = .ok (.return_, 1) := dk_177 (dk_at dksX11_init_0 20 rfl rfl)
theorem q144 : (Jvm.Cond.initialized "StoneBacks$Row") ∈ lw_all := lw_g (lw_at lw_m1 32 rfl) rfl
theorem q592 : (Jvm.Cond.castable "StoneBacks$Row" "StoneBacks$Cond") ∈ lw_tbl := lw_at lw_m3 0 rfl
theorem q593 : (Jvm.Cond.selects "StoneBacks$Row" ({ cls := "StoneBacks$Cond", name := "holds", desc := "(LStoneBacks$Scene;)Z" } : Jvm.MethodName) ({ cls := "StoneBacks$Row", name := "holds", desc := "(LStoneBacks$Scene;)Z" } : Jvm.MethodName)) ∈ lw_all := lw_g (lw_at lw_m3 1 rfl) rfl
theorem q594 : (Jvm.Cond.unhidden "StoneBacks$Row" "holds" "(LStoneBacks$Scene;)Z") ∈ lw_tbl := lw_at lw_m3 2 rfl
theorem q595 : (Jvm.Cond.instanceMethod ({ cls := "StoneBacks$Row", name := "holds", desc := "(LStoneBacks$Scene;)Z" } : Jvm.MethodName)) ∈ lw_all := lw_g (lw_at lw_m3 3 rfl) rfl
theorem q596 : (Jvm.Cond.publicMethod ({ cls := "StoneBacks$Row", name := "holds", desc := "(LStoneBacks$Scene;)Z" } : Jvm.MethodName)) ∈ lw_tbl := lw_at lw_m3 4 rfl
theorem q597 : (Jvm.Cond.code ({ cls := "StoneBacks$Row", name := "holds", desc := "(LStoneBacks$Scene;)Z" } : Jvm.MethodName) prog_11_method_2_code (3 : Nat) (Option.some Jvm.ClassFile.FieldType.boolean)) ∈ lw_all := lw_g (lw_at lw_m3 5 rfl) rfl
theorem q598 : (Jvm.Cond.methodLink "StoneBacks$Row" (20 : Nat) ({ cls := "java/util/ArrayList", name := "size", desc := "()I" } : Jvm.MethodName)) ∈ lw_all := lw_g (lw_at lw_m3 6 rfl) rfl
theorem q599 : (Jvm.Cond.methodLink "StoneBacks$Row" (24 : Nat) ({ cls := "java/util/ArrayList", name := "get", desc := "(I)Ljava/lang/Object;" } : Jvm.MethodName)) ∈ lw_all := lw_g (lw_at lw_m3 7 rfl) rfl
theorem q600 : (Jvm.Cond.classLink "StoneBacks$Row" (28 : Nat) "StoneBacks$Cond") ∈ lw_all := lw_g (lw_at lw_m3 8 rfl) rfl
theorem q601 : (Jvm.Cond.interfaceEntry "StoneBacks$Row" (30 : Nat)) ∈ lw_tbl := lw_at lw_m3 9 rfl
theorem q602 : (Jvm.Cond.methodLink "StoneBacks$Row" (30 : Nat) ({ cls := "StoneBacks$Cond", name := "holds", desc := "(LStoneBacks$Scene;)Z" } : Jvm.MethodName)) ∈ lw_all := lw_g (lw_at lw_m3 10 rfl) rfl
theorem q1321 : (Jvm.Cond.instantiable "StoneBacks$Row" (2 : Nat)) ∈ lw_all := lw_g (lw_at lw_m6 9 rfl) rfl
theorem q1323 : (Jvm.Cond.instanceMethod ({ cls := "StoneBacks$Row", name := "<init>", desc := "(Z)V" } : Jvm.MethodName)) ∈ lw_all := lw_g (lw_at lw_m6 11 rfl) rfl
theorem q1324 : (Jvm.Cond.code ({ cls := "StoneBacks$Row", name := "<init>", desc := "(Z)V" } : Jvm.MethodName) prog_11_method_1_code (2 : Nat) (Option.none : Option Jvm.ClassFile.FieldType)) ∈ lw_all := lw_g (lw_at lw_m6 12 rfl) rfl
theorem q1325 : (Jvm.Cond.methodLink "StoneBacks$Row" (1 : Nat) ({ cls := "java/lang/Object", name := "<init>", desc := "()V" } : Jvm.MethodName)) ∈ lw_all := lw_g (lw_at lw_m6 13 rfl) rfl
theorem q1326 : (Jvm.Cond.classLink "StoneBacks$Row" (7 : Nat) "java/util/ArrayList") ∈ lw_all := lw_g (lw_at lw_m6 14 rfl) rfl
theorem q1327 : (Jvm.Cond.methodLink "StoneBacks$Row" (9 : Nat) ({ cls := "java/util/ArrayList", name := "<init>", desc := "()V" } : Jvm.MethodName)) ∈ lw_all := lw_g (lw_at lw_m6 15 rfl) rfl
theorem q1328 : (Jvm.Cond.fieldLink "StoneBacks$Row" (16 : Nat) "StoneBacks$Row" "all" "Z") ∈ lw_all := lw_g (lw_at lw_m6 16 rfl) rfl
theorem q1329 : (Jvm.Cond.fieldLink "StoneBacks$Row" (10 : Nat) "StoneBacks$Row" "row" "Ljava/util/ArrayList;") ∈ lw_all := lw_g (lw_at lw_m6 17 rfl) rfl
theorem q1331 : (Jvm.Cond.laysFinal "StoneBacks$Row" "StoneBacks$Row" "all" "Z") ∈ lw_all := lw_g (lw_at lw_m6 19 rfl) rfl
theorem q1332 : (Jvm.Cond.soleField "StoneBacks$Row" "all") ∈ lw_all := lw_g (lw_at lw_m6 20 rfl) rfl
theorem q1333 : (Jvm.Cond.laysFinal "StoneBacks$Row" "StoneBacks$Row" "row" "Ljava/util/ArrayList;") ∈ lw_all := lw_g (lw_at lw_m6 21 rfl) rfl
theorem q1334 : (Jvm.Cond.soleField "StoneBacks$Row" "row") ∈ lw_all := lw_g (lw_at lw_m6 22 rfl) rfl
theorem q1335 : (Jvm.Cond.superclass "StoneBacks$Row" "java/lang/Object") ∈ lw_all := lw_g (lw_at lw_m6 23 rfl) rfl
theorem q1460 : (Jvm.Cond.selects "StoneBacks$Row" ({ cls := "java/lang/Object", name := "getClass", desc := "()Ljava/lang/Class;" } : Jvm.MethodName) ({ cls := "java/lang/Object", name := "getClass", desc := "()Ljava/lang/Class;" } : Jvm.MethodName)) ∈ lw_all := lw_g (lw_at lw_m6 148 rfl) rfl
theorem q2546 : (Jvm.Cond.castable "StoneBacks$Row" "java/lang/Object") ∈ lw_tbl := lw_at lw_m11 34 rfl
theorem in_X11 : ∀ w ∈ wsX110, w ∈ lw_all := lw_in wsX110 [1331, 1333] (by decide +kernel) (by decide +kernel)

/-! StoneBacks$Not -/
set_option maxRecDepth 100000
def RX12 : String := "StoneBacks$Not"
def TX12 : u_T := fun k => match k with
  | _ => ("StoneBacks$Not", "a", "LStoneBacks$Cond;", true)
def tyX12 : Nat → FieldType := fun k => match k with
  | _ => .object "StoneBacks$Cond"
abbrev wsX120 : List Cond := u_ws RX12 TX12 1
theorem nmX12 : ∀ a, a < 1 → ∀ b, b < 1 → a ≠ b → (TX12 a).2.1 ≠ (TX12 b).2.1 := by decide +kernel
theorem tyX12_ok : ∀ k, k < 1 → parseFieldDescriptor (TX12 k).2.2.1 = some (tyX12 k) := by decide +kernel
abbrev cX12_holds : ByteArray := prog_8_method_2_code
def yX12_holds : MethodName := ⟨RX12, "holds", "(LStoneBacks$Scene;)Z"⟩
def dkwX12_holds_0 : List UInt8 := [42, 180, 0, 7, 43, 185, 0, 13, 2, 0, 154, 0, 7, 4, 167, 0, 4, 3, 172]
abbrev dktX12_holds_0 : List UInt8 := dkwX12_holds_0 ++ []
theorem dksX12_holds_0 : cX12_holds.data.toList.drop 0 = dktX12_holds_0 := by decide +kernel
theorem dX12_holds_0 : decode cX12_holds 0 = .ok (.aload_n 0, 1) := dk_42 (dk_at dksX12_holds_0 0 rfl rfl)
theorem dX12_holds_1 : decode cX12_holds 1 = .ok (.getfield 7, 3) := dk_180 0 7 (dk_at dksX12_holds_0 1 rfl rfl)
theorem dX12_holds_4 : decode cX12_holds 4 = .ok (.aload_n 1, 1) := dk_43 (dk_at dksX12_holds_0 4 rfl rfl)
theorem dX12_holds_5 : decode cX12_holds 5 = .ok (.invokeinterface 13 2, 5) := by decide +kernel
theorem dX12_holds_10 : decode cX12_holds 10 = .ok (.ifCond .ne 7, 3) := dk_154 0 7 (dk_at dksX12_holds_0 10 rfl rfl)
theorem dX12_holds_13 : decode cX12_holds 13 = .ok (.iconst 1, 1) := dk_4 (dk_at dksX12_holds_0 13 rfl rfl)
theorem dX12_holds_14 : decode cX12_holds 14 = .ok (.goto 4, 3) := dk_167 0 4 (dk_at dksX12_holds_0 14 rfl rfl)
theorem dX12_holds_17 : decode cX12_holds 17 = .ok (.iconst 0, 1) := dk_3 (dk_at dksX12_holds_0 17 rfl rfl)
theorem dX12_holds_18 : decode cX12_holds 18 = .ok (.ireturn, 1) := dk_172 (dk_at dksX12_holds_0 18 rfl rfl)
abbrev cX12_init : ByteArray := prog_8_method_1_code
def yX12_init : MethodName := ⟨RX12, "<init>", "(LStoneBacks$Cond;)V"⟩
def dkwX12_init_0 : List UInt8 := [42, 183, 0, 1, 42, 43, 181, 0, 7, 177]
abbrev dktX12_init_0 : List UInt8 := dkwX12_init_0 ++ []
theorem dksX12_init_0 : cX12_init.data.toList.drop 0 = dktX12_init_0 := by decide +kernel
theorem dX12_init_0 : decode cX12_init 0 = .ok (.aload_n 0, 1) := dk_42 (dk_at dksX12_init_0 0 rfl rfl)
theorem dX12_init_1 : decode cX12_init 1 = .ok (.invokespecial 1, 3) := dk_183 0 1 (dk_at dksX12_init_0 1 rfl rfl)
theorem dX12_init_4 : decode cX12_init 4 = .ok (.aload_n 0, 1) := dk_42 (dk_at dksX12_init_0 4 rfl rfl)
theorem dX12_init_5 : decode cX12_init 5 = .ok (.aload_n 1, 1) := dk_43 (dk_at dksX12_init_0 5 rfl rfl)
theorem dX12_init_6 : decode cX12_init 6 = .ok (.putfield 7, 3) := dk_181 0 7 (dk_at dksX12_init_0 6 rfl rfl)
theorem dX12_init_9 : decode cX12_init 9 = .ok (.return_, 1) := dk_177 (dk_at dksX12_init_0 9 rfl rfl)
theorem q145 : (Jvm.Cond.initialized "StoneBacks$Not") ∈ lw_all := lw_g (lw_at lw_m1 33 rfl) rfl
theorem q584 : (Jvm.Cond.castable "StoneBacks$Not" "StoneBacks$Cond") ∈ lw_tbl := lw_at lw_m2 232 rfl
theorem q585 : (Jvm.Cond.selects "StoneBacks$Not" ({ cls := "StoneBacks$Cond", name := "holds", desc := "(LStoneBacks$Scene;)Z" } : Jvm.MethodName) ({ cls := "StoneBacks$Not", name := "holds", desc := "(LStoneBacks$Scene;)Z" } : Jvm.MethodName)) ∈ lw_all := lw_g (lw_at lw_m2 233 rfl) rfl
theorem q586 : (Jvm.Cond.unhidden "StoneBacks$Not" "holds" "(LStoneBacks$Scene;)Z") ∈ lw_tbl := lw_at lw_m2 234 rfl
theorem q587 : (Jvm.Cond.instanceMethod ({ cls := "StoneBacks$Not", name := "holds", desc := "(LStoneBacks$Scene;)Z" } : Jvm.MethodName)) ∈ lw_all := lw_g (lw_at lw_m2 235 rfl) rfl
theorem q588 : (Jvm.Cond.publicMethod ({ cls := "StoneBacks$Not", name := "holds", desc := "(LStoneBacks$Scene;)Z" } : Jvm.MethodName)) ∈ lw_tbl := lw_at lw_m2 236 rfl
theorem q589 : (Jvm.Cond.code ({ cls := "StoneBacks$Not", name := "holds", desc := "(LStoneBacks$Scene;)Z" } : Jvm.MethodName) prog_8_method_2_code (2 : Nat) (Option.some Jvm.ClassFile.FieldType.boolean)) ∈ lw_all := lw_g (lw_at lw_m2 237 rfl) rfl
theorem q590 : (Jvm.Cond.interfaceEntry "StoneBacks$Not" (13 : Nat)) ∈ lw_tbl := lw_at lw_m2 238 rfl
theorem q591 : (Jvm.Cond.methodLink "StoneBacks$Not" (13 : Nat) ({ cls := "StoneBacks$Cond", name := "holds", desc := "(LStoneBacks$Scene;)Z" } : Jvm.MethodName)) ∈ lw_all := lw_g (lw_at lw_m2 239 rfl) rfl
theorem q1354 : (Jvm.Cond.instantiable "StoneBacks$Not" (1 : Nat)) ∈ lw_all := lw_g (lw_at lw_m6 42 rfl) rfl
theorem q1356 : (Jvm.Cond.instanceMethod ({ cls := "StoneBacks$Not", name := "<init>", desc := "(LStoneBacks$Cond;)V" } : Jvm.MethodName)) ∈ lw_all := lw_g (lw_at lw_m6 44 rfl) rfl
theorem q1357 : (Jvm.Cond.code ({ cls := "StoneBacks$Not", name := "<init>", desc := "(LStoneBacks$Cond;)V" } : Jvm.MethodName) prog_8_method_1_code (2 : Nat) (Option.none : Option Jvm.ClassFile.FieldType)) ∈ lw_all := lw_g (lw_at lw_m6 45 rfl) rfl
theorem q1358 : (Jvm.Cond.methodLink "StoneBacks$Not" (1 : Nat) ({ cls := "java/lang/Object", name := "<init>", desc := "()V" } : Jvm.MethodName)) ∈ lw_all := lw_g (lw_at lw_m6 46 rfl) rfl
theorem q1359 : (Jvm.Cond.fieldLink "StoneBacks$Not" (7 : Nat) "StoneBacks$Not" "a" "LStoneBacks$Cond;") ∈ lw_all := lw_g (lw_at lw_m6 47 rfl) rfl
theorem q1360 : (Jvm.Cond.laysFinal "StoneBacks$Not" "StoneBacks$Not" "a" "LStoneBacks$Cond;") ∈ lw_all := lw_g (lw_at lw_m6 48 rfl) rfl
theorem q1361 : (Jvm.Cond.soleField "StoneBacks$Not" "a") ∈ lw_all := lw_g (lw_at lw_m6 49 rfl) rfl
theorem q1362 : (Jvm.Cond.superclass "StoneBacks$Not" "java/lang/Object") ∈ lw_all := lw_g (lw_at lw_m6 50 rfl) rfl
theorem q1457 : (Jvm.Cond.selects "StoneBacks$Not" ({ cls := "java/lang/Object", name := "getClass", desc := "()Ljava/lang/Class;" } : Jvm.MethodName) ({ cls := "java/lang/Object", name := "getClass", desc := "()Ljava/lang/Class;" } : Jvm.MethodName)) ∈ lw_all := lw_g (lw_at lw_m6 145 rfl) rfl
theorem q2547 : (Jvm.Cond.castable "StoneBacks$Not" "java/lang/Object") ∈ lw_tbl := lw_at lw_m11 35 rfl
theorem in_X12 : ∀ w ∈ wsX120, w ∈ lw_all := lw_in wsX120 [1360] (by decide +kernel) (by decide +kernel)

/-! StoneBacks$Tag -/
set_option maxRecDepth 100000
def RX13 : String := "StoneBacks$Tag"
def TX13 : u_T := fun k => match k with
  | _ => ("StoneBacks$Tag", "there", "Z", true)
def tyX13 : Nat → FieldType := fun k => match k with
  | _ => .boolean
abbrev wsX130 : List Cond := u_ws RX13 TX13 1
theorem nmX13 : ∀ a, a < 1 → ∀ b, b < 1 → a ≠ b → (TX13 a).2.1 ≠ (TX13 b).2.1 := by decide +kernel
theorem tyX13_ok : ∀ k, k < 1 → parseFieldDescriptor (TX13 k).2.2.1 = some (tyX13 k) := by decide +kernel
abbrev cX13_holds : ByteArray := prog_15_method_2_code
def yX13_holds : MethodName := ⟨RX13, "holds", "(LStoneBacks$Scene;)Z"⟩
def dkwX13_holds_1 : List UInt8 := [167, 0, 4, 3, 172]
abbrev dktX13_holds_1 : List UInt8 := dkwX13_holds_1 ++ []
def dkwX13_holds_0 : List UInt8 := [42, 180, 0, 7, 153, 0, 10, 43, 180, 0, 13, 167, 0, 15, 43, 180, 0, 16, 154, 0, 7, 4]
abbrev dktX13_holds_0 : List UInt8 := dkwX13_holds_0 ++ dktX13_holds_1
theorem dksX13_holds_0 : cX13_holds.data.toList.drop 0 = dktX13_holds_0 := by decide +kernel
theorem dksX13_holds_1 : cX13_holds.data.toList.drop 22 = dktX13_holds_1 := dk_seg dksX13_holds_0 22 rfl rfl
theorem dX13_holds_0 : decode cX13_holds 0 = .ok (.aload_n 0, 1) := dk_42 (dk_at dksX13_holds_0 0 rfl rfl)
theorem dX13_holds_1 : decode cX13_holds 1 = .ok (.getfield 7, 3) := dk_180 0 7 (dk_at dksX13_holds_0 1 rfl rfl)
theorem dX13_holds_4 : decode cX13_holds 4 = .ok (.ifCond .eq 10, 3) := dk_153 0 10 (dk_at dksX13_holds_0 4 rfl rfl)
theorem dX13_holds_7 : decode cX13_holds 7 = .ok (.aload_n 1, 1) := dk_43 (dk_at dksX13_holds_0 7 rfl rfl)
theorem dX13_holds_8 : decode cX13_holds 8 = .ok (.getfield 13, 3) := dk_180 0 13 (dk_at dksX13_holds_0 8 rfl rfl)
theorem dX13_holds_11 : decode cX13_holds 11 = .ok (.goto 15, 3) := dk_167 0 15 (dk_at dksX13_holds_0 11 rfl rfl)
theorem dX13_holds_14 : decode cX13_holds 14 = .ok (.aload_n 1, 1) := dk_43 (dk_at dksX13_holds_0 14 rfl rfl)
theorem dX13_holds_15 : decode cX13_holds 15 = .ok (.getfield 16, 3) := dk_180 0 16 (dk_at dksX13_holds_0 15 rfl rfl)
theorem dX13_holds_18 : decode cX13_holds 18 = .ok (.ifCond .ne 7, 3) := dk_154 0 7 (dk_at dksX13_holds_0 18 rfl rfl)
theorem dX13_holds_21 : decode cX13_holds 21 = .ok (.iconst 1, 1) := dk_4 (dk_at dksX13_holds_0 21 rfl rfl)
theorem dX13_holds_22 : decode cX13_holds 22 = .ok (.goto 4, 3) := dk_167 0 4 (dk_at dksX13_holds_1 0 rfl rfl)
theorem dX13_holds_25 : decode cX13_holds 25 = .ok (.iconst 0, 1) := dk_3 (dk_at dksX13_holds_1 3 rfl rfl)
theorem dX13_holds_26 : decode cX13_holds 26 = .ok (.ireturn, 1) := dk_172 (dk_at dksX13_holds_1 4 rfl rfl)
abbrev cX13_init : ByteArray := prog_15_method_1_code
def yX13_init : MethodName := ⟨RX13, "<init>", "(Z)V"⟩
def dkwX13_init_0 : List UInt8 := [42, 183, 0, 1, 42, 27, 181, 0, 7, 177]
abbrev dktX13_init_0 : List UInt8 := dkwX13_init_0 ++ []
theorem dksX13_init_0 : cX13_init.data.toList.drop 0 = dktX13_init_0 := by decide +kernel
theorem dX13_init_0 : decode cX13_init 0 = .ok (.aload_n 0, 1) := dk_42 (dk_at dksX13_init_0 0 rfl rfl)
theorem dX13_init_1 : decode cX13_init 1 = .ok (.invokespecial 1, 3) := dk_183 0 1 (dk_at dksX13_init_0 1 rfl rfl)
theorem dX13_init_4 : decode cX13_init 4 = .ok (.aload_n 0, 1) := dk_42 (dk_at dksX13_init_0 4 rfl rfl)
theorem dX13_init_5 : decode cX13_init 5 = .ok (.iload_n 1, 1) := dk_27 (dk_at dksX13_init_0 5 rfl rfl)
theorem dX13_init_6 : decode cX13_init 6 = .ok (.putfield 7, 3) := dk_181 0 7 (dk_at dksX13_init_0 6 rfl rfl)
theorem dX13_init_9 : decode cX13_init 9 = .ok (.return_, 1) := dk_177 (dk_at dksX13_init_0 9 rfl rfl)
theorem q146 : (Jvm.Cond.initialized "StoneBacks$Tag") ∈ lw_all := lw_g (lw_at lw_m1 34 rfl) rfl
theorem q305 : (Jvm.Cond.fieldLinkNest "StoneBacks$Tag" (16 : Nat) "StoneBacks$Scene" "load" "I" "StoneBacks") ∈ lw_tbl := lw_at lw_m1 193 rfl
theorem q318 : (Jvm.Cond.fieldLinkNest "StoneBacks$Tag" (13 : Nat) "StoneBacks$Scene" "there" "Z" "StoneBacks") ∈ lw_tbl := lw_at lw_m1 206 rfl
theorem q603 : (Jvm.Cond.castable "StoneBacks$Tag" "StoneBacks$Cond") ∈ lw_tbl := lw_at lw_m3 11 rfl
theorem q604 : (Jvm.Cond.selects "StoneBacks$Tag" ({ cls := "StoneBacks$Cond", name := "holds", desc := "(LStoneBacks$Scene;)Z" } : Jvm.MethodName) ({ cls := "StoneBacks$Tag", name := "holds", desc := "(LStoneBacks$Scene;)Z" } : Jvm.MethodName)) ∈ lw_all := lw_g (lw_at lw_m3 12 rfl) rfl
theorem q605 : (Jvm.Cond.unhidden "StoneBacks$Tag" "holds" "(LStoneBacks$Scene;)Z") ∈ lw_tbl := lw_at lw_m3 13 rfl
theorem q606 : (Jvm.Cond.instanceMethod ({ cls := "StoneBacks$Tag", name := "holds", desc := "(LStoneBacks$Scene;)Z" } : Jvm.MethodName)) ∈ lw_all := lw_g (lw_at lw_m3 14 rfl) rfl
theorem q607 : (Jvm.Cond.publicMethod ({ cls := "StoneBacks$Tag", name := "holds", desc := "(LStoneBacks$Scene;)Z" } : Jvm.MethodName)) ∈ lw_tbl := lw_at lw_m3 15 rfl
theorem q608 : (Jvm.Cond.code ({ cls := "StoneBacks$Tag", name := "holds", desc := "(LStoneBacks$Scene;)Z" } : Jvm.MethodName) prog_15_method_2_code (2 : Nat) (Option.some Jvm.ClassFile.FieldType.boolean)) ∈ lw_all := lw_g (lw_at lw_m3 16 rfl) rfl
theorem q1365 : (Jvm.Cond.instantiable "StoneBacks$Tag" (1 : Nat)) ∈ lw_all := lw_g (lw_at lw_m6 53 rfl) rfl
theorem q1367 : (Jvm.Cond.instanceMethod ({ cls := "StoneBacks$Tag", name := "<init>", desc := "(Z)V" } : Jvm.MethodName)) ∈ lw_all := lw_g (lw_at lw_m6 55 rfl) rfl
theorem q1368 : (Jvm.Cond.code ({ cls := "StoneBacks$Tag", name := "<init>", desc := "(Z)V" } : Jvm.MethodName) prog_15_method_1_code (2 : Nat) (Option.none : Option Jvm.ClassFile.FieldType)) ∈ lw_all := lw_g (lw_at lw_m6 56 rfl) rfl
theorem q1369 : (Jvm.Cond.methodLink "StoneBacks$Tag" (1 : Nat) ({ cls := "java/lang/Object", name := "<init>", desc := "()V" } : Jvm.MethodName)) ∈ lw_all := lw_g (lw_at lw_m6 57 rfl) rfl
theorem q1370 : (Jvm.Cond.fieldLink "StoneBacks$Tag" (7 : Nat) "StoneBacks$Tag" "there" "Z") ∈ lw_all := lw_g (lw_at lw_m6 58 rfl) rfl
theorem q1371 : (Jvm.Cond.laysFinal "StoneBacks$Tag" "StoneBacks$Tag" "there" "Z") ∈ lw_all := lw_g (lw_at lw_m6 59 rfl) rfl
theorem q1372 : (Jvm.Cond.soleField "StoneBacks$Tag" "there") ∈ lw_all := lw_g (lw_at lw_m6 60 rfl) rfl
theorem q1373 : (Jvm.Cond.superclass "StoneBacks$Tag" "java/lang/Object") ∈ lw_all := lw_g (lw_at lw_m6 61 rfl) rfl
theorem q1464 : (Jvm.Cond.selects "StoneBacks$Tag" ({ cls := "java/lang/Object", name := "getClass", desc := "()Ljava/lang/Class;" } : Jvm.MethodName) ({ cls := "java/lang/Object", name := "getClass", desc := "()Ljava/lang/Class;" } : Jvm.MethodName)) ∈ lw_all := lw_g (lw_at lw_m6 152 rfl) rfl
theorem q2548 : (Jvm.Cond.castable "StoneBacks$Tag" "java/lang/Object") ∈ lw_tbl := lw_at lw_m11 36 rfl
theorem in_X13 : ∀ w ∈ wsX130, w ∈ lw_all := lw_in wsX130 [1371] (by decide +kernel) (by decide +kernel)

/-! StoneBacks$Sum -/
set_option maxRecDepth 100000
def RX14 : String := "StoneBacks$Sum"
def TX14 : u_T := fun k => match k with
  | _ => ("StoneBacks$Sum", "parts", "Ljava/util/ArrayList;", true)
def tyX14 : Nat → FieldType := fun k => match k with
  | _ => .object "java/util/ArrayList"
abbrev wsX140 : List Cond := u_ws RX14 TX14 1
theorem nmX14 : ∀ a, a < 1 → ∀ b, b < 1 → a ≠ b → (TX14 a).2.1 ≠ (TX14 b).2.1 := by decide +kernel
theorem tyX14_ok : ∀ k, k < 1 → parseFieldDescriptor (TX14 k).2.2.1 = some (tyX14 k) := by decide +kernel
abbrev cX14_in : ByteArray := prog_14_method_2_code
def yX14_in : MethodName := ⟨RX14, "in", "(LStoneBacks$Scene;)I"⟩
def dkwX14_in_1 : List UInt8 := [192, 0, 24, 43, 182, 0, 26, 96, 61, 132, 3, 1, 167, 255, 224, 28, 172]
abbrev dktX14_in_1 : List UInt8 := dkwX14_in_1 ++ []
def dkwX14_in_0 : List UInt8 := [3, 61, 3, 62, 29, 42, 180, 0, 10, 182, 0, 16, 162, 0, 27, 28, 42, 180, 0, 10, 29, 182, 0, 20]
abbrev dktX14_in_0 : List UInt8 := dkwX14_in_0 ++ dktX14_in_1
theorem dksX14_in_0 : cX14_in.data.toList.drop 0 = dktX14_in_0 := by decide +kernel
theorem dksX14_in_1 : cX14_in.data.toList.drop 24 = dktX14_in_1 := dk_seg dksX14_in_0 24 rfl rfl
theorem dX14_in_0 : decode cX14_in 0 = .ok (.iconst 0, 1) := dk_3 (dk_at dksX14_in_0 0 rfl rfl)
theorem dX14_in_1 : decode cX14_in 1 = .ok (.istore_n 2, 1) := dk_61 (dk_at dksX14_in_0 1 rfl rfl)
theorem dX14_in_2 : decode cX14_in 2 = .ok (.iconst 0, 1) := dk_3 (dk_at dksX14_in_0 2 rfl rfl)
theorem dX14_in_3 : decode cX14_in 3 = .ok (.istore_n 3, 1) := dk_62 (dk_at dksX14_in_0 3 rfl rfl)
theorem dX14_in_4 : decode cX14_in 4 = .ok (.iload_n 3, 1) := dk_29 (dk_at dksX14_in_0 4 rfl rfl)
theorem dX14_in_5 : decode cX14_in 5 = .ok (.aload_n 0, 1) := dk_42 (dk_at dksX14_in_0 5 rfl rfl)
theorem dX14_in_6 : decode cX14_in 6 = .ok (.getfield 10, 3) := dk_180 0 10 (dk_at dksX14_in_0 6 rfl rfl)
theorem dX14_in_9 : decode cX14_in 9 = .ok (.invokevirtual 16, 3) := dk_182 0 16 (dk_at dksX14_in_0 9 rfl rfl)
theorem dX14_in_12 : decode cX14_in 12 = .ok (.if_icmp .ge 27, 3) := dk_162 0 27 (dk_at dksX14_in_0 12 rfl rfl)
theorem dX14_in_15 : decode cX14_in 15 = .ok (.iload_n 2, 1) := dk_28 (dk_at dksX14_in_0 15 rfl rfl)
theorem dX14_in_16 : decode cX14_in 16 = .ok (.aload_n 0, 1) := dk_42 (dk_at dksX14_in_0 16 rfl rfl)
theorem dX14_in_17 : decode cX14_in 17 = .ok (.getfield 10, 3) := dk_180 0 10 (dk_at dksX14_in_0 17 rfl rfl)
theorem dX14_in_20 : decode cX14_in 20 = .ok (.iload_n 3, 1) := dk_29 (dk_at dksX14_in_0 20 rfl rfl)
theorem dX14_in_21 : decode cX14_in 21 = .ok (.invokevirtual 20, 3) := dk_182 0 20 (dk_at dksX14_in_0 21 rfl rfl)
theorem dX14_in_24 : decode cX14_in 24 = .ok (.checkcast 24, 3) := dk_192 0 24 (dk_at dksX14_in_1 0 rfl rfl)
theorem dX14_in_27 : decode cX14_in 27 = .ok (.aload_n 1, 1) := dk_43 (dk_at dksX14_in_1 3 rfl rfl)
theorem dX14_in_28 : decode cX14_in 28 = .ok (.invokevirtual 26, 3) := dk_182 0 26 (dk_at dksX14_in_1 4 rfl rfl)
theorem dX14_in_31 : decode cX14_in 31 = .ok (.iadd, 1) := dk_96 (dk_at dksX14_in_1 7 rfl rfl)
theorem dX14_in_32 : decode cX14_in 32 = .ok (.istore_n 2, 1) := dk_61 (dk_at dksX14_in_1 8 rfl rfl)
theorem dX14_in_33 : decode cX14_in 33 = .ok (.iinc 3 1, 3) := dk_132 3 1 (dk_at dksX14_in_1 9 rfl rfl)
theorem dX14_in_36 : decode cX14_in 36 = .ok (.goto (-32), 3) := dk_167 255 224 (dk_at dksX14_in_1 12 rfl rfl)
theorem dX14_in_39 : decode cX14_in 39 = .ok (.iload_n 2, 1) := dk_28 (dk_at dksX14_in_1 15 rfl rfl)
theorem dX14_in_40 : decode cX14_in 40 = .ok (.ireturn, 1) := dk_172 (dk_at dksX14_in_1 16 rfl rfl)
abbrev cX14_init : ByteArray := prog_14_method_1_code
def yX14_init : MethodName := ⟨RX14, "<init>", "()V"⟩
def dkwX14_init_0 : List UInt8 := [42, 183, 0, 1, 42, 187, 0, 7, 89, 183, 0, 9, 181, 0, 10, 177]
abbrev dktX14_init_0 : List UInt8 := dkwX14_init_0 ++ []
theorem dksX14_init_0 : cX14_init.data.toList.drop 0 = dktX14_init_0 := by decide +kernel
theorem dX14_init_0 : decode cX14_init 0 = .ok (.aload_n 0, 1) := dk_42 (dk_at dksX14_init_0 0 rfl rfl)
theorem dX14_init_1 : decode cX14_init 1 = .ok (.invokespecial 1, 3) := dk_183 0 1 (dk_at dksX14_init_0 1 rfl rfl)
theorem dX14_init_4 : decode cX14_init 4 = .ok (.aload_n 0, 1) := dk_42 (dk_at dksX14_init_0 4 rfl rfl)
theorem dX14_init_5 : decode cX14_init 5 = .ok (.new 7, 3) := dk_187 0 7 (dk_at dksX14_init_0 5 rfl rfl)
theorem dX14_init_8 : decode cX14_init 8 = .ok (.dup, 1) := dk_89 (dk_at dksX14_init_0 8 rfl rfl)
theorem dX14_init_9 : decode cX14_init 9 = .ok (.invokespecial 9, 3) := dk_183 0 9 (dk_at dksX14_init_0 9 rfl rfl)
theorem dX14_init_12 : decode cX14_init 12 = .ok (.putfield 10, 3) := dk_181 0 10 (dk_at dksX14_init_0 12 rfl rfl)
theorem dX14_init_15 : decode cX14_init 15 = .ok (.return_, 1) := dk_177 (dk_at dksX14_init_0 15 rfl rfl)
theorem q147 : (Jvm.Cond.initialized "StoneBacks$Sum") ∈ lw_all := lw_g (lw_at lw_m1 35 rfl) rfl
theorem q564 : (Jvm.Cond.instanceMethod ({ cls := "StoneBacks$Sum", name := "in", desc := "(LStoneBacks$Scene;)I" } : Jvm.MethodName)) ∈ lw_all := lw_g (lw_at lw_m2 212 rfl) rfl
theorem q565 : (Jvm.Cond.selects "StoneBacks$Sum" ({ cls := "StoneBacks$Sum", name := "in", desc := "(LStoneBacks$Scene;)I" } : Jvm.MethodName) ({ cls := "StoneBacks$Sum", name := "in", desc := "(LStoneBacks$Scene;)I" } : Jvm.MethodName)) ∈ lw_all := lw_g (lw_at lw_m2 213 rfl) rfl
theorem q566 : (Jvm.Cond.code ({ cls := "StoneBacks$Sum", name := "in", desc := "(LStoneBacks$Scene;)I" } : Jvm.MethodName) prog_14_method_2_code (4 : Nat) (Option.some Jvm.ClassFile.FieldType.int)) ∈ lw_all := lw_g (lw_at lw_m2 214 rfl) rfl
theorem q567 : (Jvm.Cond.methodLink "StoneBacks$Sum" (16 : Nat) ({ cls := "java/util/ArrayList", name := "size", desc := "()I" } : Jvm.MethodName)) ∈ lw_all := lw_g (lw_at lw_m2 215 rfl) rfl
theorem q568 : (Jvm.Cond.methodLink "StoneBacks$Sum" (20 : Nat) ({ cls := "java/util/ArrayList", name := "get", desc := "(I)Ljava/lang/Object;" } : Jvm.MethodName)) ∈ lw_all := lw_g (lw_at lw_m2 216 rfl) rfl
theorem q569 : (Jvm.Cond.classLink "StoneBacks$Sum" (24 : Nat) "StoneBacks$Part") ∈ lw_all := lw_g (lw_at lw_m2 217 rfl) rfl
theorem q570 : (Jvm.Cond.methodLink "StoneBacks$Sum" (26 : Nat) ({ cls := "StoneBacks$Part", name := "in", desc := "(LStoneBacks$Scene;)I" } : Jvm.MethodName)) ∈ lw_all := lw_g (lw_at lw_m2 218 rfl) rfl
theorem q1380 : (Jvm.Cond.instantiable "StoneBacks$Sum" (1 : Nat)) ∈ lw_all := lw_g (lw_at lw_m6 68 rfl) rfl
theorem q1382 : (Jvm.Cond.instanceMethod ({ cls := "StoneBacks$Sum", name := "<init>", desc := "()V" } : Jvm.MethodName)) ∈ lw_all := lw_g (lw_at lw_m6 70 rfl) rfl
theorem q1383 : (Jvm.Cond.code ({ cls := "StoneBacks$Sum", name := "<init>", desc := "()V" } : Jvm.MethodName) prog_14_method_1_code (1 : Nat) (Option.none : Option Jvm.ClassFile.FieldType)) ∈ lw_all := lw_g (lw_at lw_m6 71 rfl) rfl
theorem q1384 : (Jvm.Cond.methodLink "StoneBacks$Sum" (1 : Nat) ({ cls := "java/lang/Object", name := "<init>", desc := "()V" } : Jvm.MethodName)) ∈ lw_all := lw_g (lw_at lw_m6 72 rfl) rfl
theorem q1385 : (Jvm.Cond.classLink "StoneBacks$Sum" (7 : Nat) "java/util/ArrayList") ∈ lw_all := lw_g (lw_at lw_m6 73 rfl) rfl
theorem q1386 : (Jvm.Cond.methodLink "StoneBacks$Sum" (9 : Nat) ({ cls := "java/util/ArrayList", name := "<init>", desc := "()V" } : Jvm.MethodName)) ∈ lw_all := lw_g (lw_at lw_m6 74 rfl) rfl
theorem q1387 : (Jvm.Cond.fieldLink "StoneBacks$Sum" (10 : Nat) "StoneBacks$Sum" "parts" "Ljava/util/ArrayList;") ∈ lw_all := lw_g (lw_at lw_m6 75 rfl) rfl
theorem q1389 : (Jvm.Cond.laysFinal "StoneBacks$Sum" "StoneBacks$Sum" "parts" "Ljava/util/ArrayList;") ∈ lw_all := lw_g (lw_at lw_m6 77 rfl) rfl
theorem q1390 : (Jvm.Cond.soleField "StoneBacks$Sum" "parts") ∈ lw_all := lw_g (lw_at lw_m6 78 rfl) rfl
theorem q1391 : (Jvm.Cond.superclass "StoneBacks$Sum" "java/lang/Object") ∈ lw_all := lw_g (lw_at lw_m6 79 rfl) rfl
theorem q1463 : (Jvm.Cond.selects "StoneBacks$Sum" ({ cls := "java/lang/Object", name := "getClass", desc := "()Ljava/lang/Class;" } : Jvm.MethodName) ({ cls := "java/lang/Object", name := "getClass", desc := "()Ljava/lang/Class;" } : Jvm.MethodName)) ∈ lw_all := lw_g (lw_at lw_m6 151 rfl) rfl
theorem q2549 : (Jvm.Cond.castable "StoneBacks$Sum" "java/lang/Object") ∈ lw_tbl := lw_at lw_m11 37 rfl
theorem in_X14 : ∀ w ∈ wsX140, w ∈ lw_all := lw_in wsX140 [1389] (by decide +kernel) (by decide +kernel)

/-! StoneBacks$Part -/
set_option maxRecDepth 100000
def RX15 : String := "StoneBacks$Part"
def TX15 : u_T := fun k => match k with
  | 0 => ("StoneBacks$Part", "n", "I", true)
  | _ => ("StoneBacks$Part", "fact", "LStoneBacks$Fact;", true)
def tyX15 : Nat → FieldType := fun k => match k with
  | 0 => .int
  | _ => .object "StoneBacks$Fact"
abbrev wsX150 : List Cond := u_ws RX15 TX15 2
theorem nmX15 : ∀ a, a < 2 → ∀ b, b < 2 → a ≠ b → (TX15 a).2.1 ≠ (TX15 b).2.1 := by decide +kernel
theorem tyX15_ok : ∀ k, k < 2 → parseFieldDescriptor (TX15 k).2.2.1 = some (tyX15 k) := by decide +kernel
abbrev cX15_in : ByteArray := prog_9_method_2_code
def yX15_in : MethodName := ⟨RX15, "in", "(LStoneBacks$Scene;)I"⟩
def dkwX15_in_0 : List UInt8 := [42, 180, 0, 13, 199, 0, 10, 42, 180, 0, 7, 167, 0, 11, 43, 42, 180, 0, 13, 182, 0, 17, 172]
abbrev dktX15_in_0 : List UInt8 := dkwX15_in_0 ++ []
theorem dksX15_in_0 : cX15_in.data.toList.drop 0 = dktX15_in_0 := by decide +kernel
theorem dX15_in_0 : decode cX15_in 0 = .ok (.aload_n 0, 1) := dk_42 (dk_at dksX15_in_0 0 rfl rfl)
theorem dX15_in_1 : decode cX15_in 1 = .ok (.getfield 13, 3) := dk_180 0 13 (dk_at dksX15_in_0 1 rfl rfl)
theorem dX15_in_4 : decode cX15_in 4 = .ok (.ifnonnull 10, 3) := dk_199 0 10 (dk_at dksX15_in_0 4 rfl rfl)
theorem dX15_in_7 : decode cX15_in 7 = .ok (.aload_n 0, 1) := dk_42 (dk_at dksX15_in_0 7 rfl rfl)
theorem dX15_in_8 : decode cX15_in 8 = .ok (.getfield 7, 3) := dk_180 0 7 (dk_at dksX15_in_0 8 rfl rfl)
theorem dX15_in_11 : decode cX15_in 11 = .ok (.goto 11, 3) := dk_167 0 11 (dk_at dksX15_in_0 11 rfl rfl)
theorem dX15_in_14 : decode cX15_in 14 = .ok (.aload_n 1, 1) := dk_43 (dk_at dksX15_in_0 14 rfl rfl)
theorem dX15_in_15 : decode cX15_in 15 = .ok (.aload_n 0, 1) := dk_42 (dk_at dksX15_in_0 15 rfl rfl)
theorem dX15_in_16 : decode cX15_in 16 = .ok (.getfield 13, 3) := dk_180 0 13 (dk_at dksX15_in_0 16 rfl rfl)
theorem dX15_in_19 : decode cX15_in 19 = .ok (.invokevirtual 17, 3) := dk_182 0 17 (dk_at dksX15_in_0 19 rfl rfl)
theorem dX15_in_22 : decode cX15_in 22 = .ok (.ireturn, 1) := dk_172 (dk_at dksX15_in_0 22 rfl rfl)
abbrev cX15_init : ByteArray := prog_9_method_1_code
def yX15_init : MethodName := ⟨RX15, "<init>", "(ILStoneBacks$Fact;)V"⟩
def dkwX15_init_0 : List UInt8 := [42, 183, 0, 1, 42, 27, 181, 0, 7, 42, 44, 181, 0, 13, 177]
abbrev dktX15_init_0 : List UInt8 := dkwX15_init_0 ++ []
theorem dksX15_init_0 : cX15_init.data.toList.drop 0 = dktX15_init_0 := by decide +kernel
theorem dX15_init_0 : decode cX15_init 0 = .ok (.aload_n 0, 1) := dk_42 (dk_at dksX15_init_0 0 rfl rfl)
theorem dX15_init_1 : decode cX15_init 1 = .ok (.invokespecial 1, 3) := dk_183 0 1 (dk_at dksX15_init_0 1 rfl rfl)
theorem dX15_init_4 : decode cX15_init 4 = .ok (.aload_n 0, 1) := dk_42 (dk_at dksX15_init_0 4 rfl rfl)
theorem dX15_init_5 : decode cX15_init 5 = .ok (.iload_n 1, 1) := dk_27 (dk_at dksX15_init_0 5 rfl rfl)
theorem dX15_init_6 : decode cX15_init 6 = .ok (.putfield 7, 3) := dk_181 0 7 (dk_at dksX15_init_0 6 rfl rfl)
theorem dX15_init_9 : decode cX15_init 9 = .ok (.aload_n 0, 1) := dk_42 (dk_at dksX15_init_0 9 rfl rfl)
theorem dX15_init_10 : decode cX15_init 10 = .ok (.aload_n 2, 1) := dk_44 (dk_at dksX15_init_0 10 rfl rfl)
theorem dX15_init_11 : decode cX15_init 11 = .ok (.putfield 13, 3) := dk_181 0 13 (dk_at dksX15_init_0 11 rfl rfl)
theorem dX15_init_14 : decode cX15_init 14 = .ok (.return_, 1) := dk_177 (dk_at dksX15_init_0 14 rfl rfl)
theorem q148 : (Jvm.Cond.initialized "StoneBacks$Part") ∈ lw_all := lw_g (lw_at lw_m1 36 rfl) rfl
theorem q571 : (Jvm.Cond.instanceMethod ({ cls := "StoneBacks$Part", name := "in", desc := "(LStoneBacks$Scene;)I" } : Jvm.MethodName)) ∈ lw_all := lw_g (lw_at lw_m2 219 rfl) rfl
theorem q572 : (Jvm.Cond.selects "StoneBacks$Part" ({ cls := "StoneBacks$Part", name := "in", desc := "(LStoneBacks$Scene;)I" } : Jvm.MethodName) ({ cls := "StoneBacks$Part", name := "in", desc := "(LStoneBacks$Scene;)I" } : Jvm.MethodName)) ∈ lw_all := lw_g (lw_at lw_m2 220 rfl) rfl
theorem q573 : (Jvm.Cond.code ({ cls := "StoneBacks$Part", name := "in", desc := "(LStoneBacks$Scene;)I" } : Jvm.MethodName) prog_9_method_2_code (2 : Nat) (Option.some Jvm.ClassFile.FieldType.int)) ∈ lw_all := lw_g (lw_at lw_m2 221 rfl) rfl
theorem q574 : (Jvm.Cond.methodLink "StoneBacks$Part" (17 : Nat) ({ cls := "StoneBacks$Scene", name := "of", desc := "(LStoneBacks$Fact;)I" } : Jvm.MethodName)) ∈ lw_all := lw_g (lw_at lw_m2 222 rfl) rfl
theorem q1401 : (Jvm.Cond.instantiable "StoneBacks$Part" (2 : Nat)) ∈ lw_all := lw_g (lw_at lw_m6 89 rfl) rfl
theorem q1403 : (Jvm.Cond.instanceMethod ({ cls := "StoneBacks$Part", name := "<init>", desc := "(ILStoneBacks$Fact;)V" } : Jvm.MethodName)) ∈ lw_all := lw_g (lw_at lw_m6 91 rfl) rfl
theorem q1404 : (Jvm.Cond.code ({ cls := "StoneBacks$Part", name := "<init>", desc := "(ILStoneBacks$Fact;)V" } : Jvm.MethodName) prog_9_method_1_code (3 : Nat) (Option.none : Option Jvm.ClassFile.FieldType)) ∈ lw_all := lw_g (lw_at lw_m6 92 rfl) rfl
theorem q1405 : (Jvm.Cond.methodLink "StoneBacks$Part" (1 : Nat) ({ cls := "java/lang/Object", name := "<init>", desc := "()V" } : Jvm.MethodName)) ∈ lw_all := lw_g (lw_at lw_m6 93 rfl) rfl
theorem q1406 : (Jvm.Cond.fieldLink "StoneBacks$Part" (7 : Nat) "StoneBacks$Part" "n" "I") ∈ lw_all := lw_g (lw_at lw_m6 94 rfl) rfl
theorem q1407 : (Jvm.Cond.fieldLink "StoneBacks$Part" (13 : Nat) "StoneBacks$Part" "fact" "LStoneBacks$Fact;") ∈ lw_all := lw_g (lw_at lw_m6 95 rfl) rfl
theorem q1408 : (Jvm.Cond.laysFinal "StoneBacks$Part" "StoneBacks$Part" "n" "I") ∈ lw_all := lw_g (lw_at lw_m6 96 rfl) rfl
theorem q1409 : (Jvm.Cond.soleField "StoneBacks$Part" "n") ∈ lw_all := lw_g (lw_at lw_m6 97 rfl) rfl
theorem q1410 : (Jvm.Cond.laysFinal "StoneBacks$Part" "StoneBacks$Part" "fact" "LStoneBacks$Fact;") ∈ lw_all := lw_g (lw_at lw_m6 98 rfl) rfl
theorem q1411 : (Jvm.Cond.soleField "StoneBacks$Part" "fact") ∈ lw_all := lw_g (lw_at lw_m6 99 rfl) rfl
theorem q1412 : (Jvm.Cond.superclass "StoneBacks$Part" "java/lang/Object") ∈ lw_all := lw_g (lw_at lw_m6 100 rfl) rfl
theorem q1458 : (Jvm.Cond.selects "StoneBacks$Part" ({ cls := "java/lang/Object", name := "getClass", desc := "()Ljava/lang/Class;" } : Jvm.MethodName) ({ cls := "java/lang/Object", name := "getClass", desc := "()Ljava/lang/Class;" } : Jvm.MethodName)) ∈ lw_all := lw_g (lw_at lw_m6 146 rfl) rfl
theorem q2550 : (Jvm.Cond.castable "StoneBacks$Part" "java/lang/Object") ∈ lw_tbl := lw_at lw_m11 38 rfl
theorem in_X15 : ∀ w ∈ wsX150, w ∈ lw_all := lw_in wsX150 [1408, 1410] (by decide +kernel) (by decide +kernel)

/-! StoneBacks$Fact -/
set_option maxRecDepth 100000
def RX16 : String := "StoneBacks$Fact"
abbrev cX16_of : ByteArray := prog_3_method_4_code
def yX16_of : MethodName := ⟨RX16, "of", "(Ljava/lang/String;)LStoneBacks$Fact;"⟩
def dkwX16_of_1 : List UInt8 := [42, 182, 0, 52, 153, 0, 6, 25, 4, 176, 132, 3, 1, 167, 255, 228, 1, 176]
abbrev dktX16_of_1 : List UInt8 := dkwX16_of_1 ++ []
def dkwX16_of_0 : List UInt8 := [184, 0, 48, 76, 43, 190, 61, 3, 62, 29, 28, 162, 0, 29, 43, 29, 50, 58, 4, 25, 4, 180, 0, 44]
abbrev dktX16_of_0 : List UInt8 := dkwX16_of_0 ++ dktX16_of_1
theorem dksX16_of_0 : cX16_of.data.toList.drop 0 = dktX16_of_0 := by decide +kernel
theorem dksX16_of_1 : cX16_of.data.toList.drop 24 = dktX16_of_1 := dk_seg dksX16_of_0 24 rfl rfl
theorem dX16_of_0 : decode cX16_of 0 = .ok (.invokestatic 48, 3) := dk_184 0 48 (dk_at dksX16_of_0 0 rfl rfl)
theorem dX16_of_3 : decode cX16_of 3 = .ok (.astore_n 1, 1) := dk_76 (dk_at dksX16_of_0 3 rfl rfl)
theorem dX16_of_4 : decode cX16_of 4 = .ok (.aload_n 1, 1) := dk_43 (dk_at dksX16_of_0 4 rfl rfl)
theorem dX16_of_5 : decode cX16_of 5 = .ok (.arraylength, 1) := dk_190 (dk_at dksX16_of_0 5 rfl rfl)
theorem dX16_of_6 : decode cX16_of 6 = .ok (.istore_n 2, 1) := dk_61 (dk_at dksX16_of_0 6 rfl rfl)
theorem dX16_of_7 : decode cX16_of 7 = .ok (.iconst 0, 1) := dk_3 (dk_at dksX16_of_0 7 rfl rfl)
theorem dX16_of_8 : decode cX16_of 8 = .ok (.istore_n 3, 1) := dk_62 (dk_at dksX16_of_0 8 rfl rfl)
theorem dX16_of_9 : decode cX16_of 9 = .ok (.iload_n 3, 1) := dk_29 (dk_at dksX16_of_0 9 rfl rfl)
theorem dX16_of_10 : decode cX16_of 10 = .ok (.iload_n 2, 1) := dk_28 (dk_at dksX16_of_0 10 rfl rfl)
theorem dX16_of_11 : decode cX16_of 11 = .ok (.if_icmp .ge 29, 3) := dk_162 0 29 (dk_at dksX16_of_0 11 rfl rfl)
theorem dX16_of_14 : decode cX16_of 14 = .ok (.aload_n 1, 1) := dk_43 (dk_at dksX16_of_0 14 rfl rfl)
theorem dX16_of_15 : decode cX16_of 15 = .ok (.iload_n 3, 1) := dk_29 (dk_at dksX16_of_0 15 rfl rfl)
theorem dX16_of_16 : decode cX16_of 16 = .ok (.aaload, 1) := dk_50 (dk_at dksX16_of_0 16 rfl rfl)
theorem dX16_of_17 : decode cX16_of 17 = .ok (.astore 4, 2) := dk_58 4 (dk_at dksX16_of_0 17 rfl rfl)
theorem dX16_of_19 : decode cX16_of 19 = .ok (.aload 4, 2) := dk_25 4 (dk_at dksX16_of_0 19 rfl rfl)
theorem dX16_of_21 : decode cX16_of 21 = .ok (.getfield 44, 3) := dk_180 0 44 (dk_at dksX16_of_0 21 rfl rfl)
theorem dX16_of_24 : decode cX16_of 24 = .ok (.aload_n 0, 1) := dk_42 (dk_at dksX16_of_1 0 rfl rfl)
theorem dX16_of_25 : decode cX16_of 25 = .ok (.invokevirtual 52, 3) := dk_182 0 52 (dk_at dksX16_of_1 1 rfl rfl)
theorem dX16_of_28 : decode cX16_of 28 = .ok (.ifCond .eq 6, 3) := dk_153 0 6 (dk_at dksX16_of_1 4 rfl rfl)
theorem dX16_of_31 : decode cX16_of 31 = .ok (.aload 4, 2) := dk_25 4 (dk_at dksX16_of_1 7 rfl rfl)
theorem dX16_of_33 : decode cX16_of 33 = .ok (.areturn, 1) := dk_176 (dk_at dksX16_of_1 9 rfl rfl)
theorem dX16_of_34 : decode cX16_of 34 = .ok (.iinc 3 1, 3) := dk_132 3 1 (dk_at dksX16_of_1 10 rfl rfl)
theorem dX16_of_37 : decode cX16_of 37 = .ok (.goto (-28), 3) := dk_167 255 228 (dk_at dksX16_of_1 13 rfl rfl)
theorem dX16_of_40 : decode cX16_of 40 = .ok (.aconst_null, 1) := dk_1 (dk_at dksX16_of_1 16 rfl rfl)
theorem dX16_of_41 : decode cX16_of 41 = .ok (.areturn, 1) := dk_176 (dk_at dksX16_of_1 17 rfl rfl)
abbrev cX16_values : ByteArray := prog_3_method_1_code
def yX16_values : MethodName := ⟨RX16, "values", "()[LStoneBacks$Fact;"⟩
def dkwX16_values_0 : List UInt8 := [178, 0, 25, 182, 0, 29, 192, 0, 30, 176]
abbrev dktX16_values_0 : List UInt8 := dkwX16_values_0 ++ []
theorem dksX16_values_0 : cX16_values.data.toList.drop 0 = dktX16_values_0 := by decide +kernel
theorem dX16_values_0 : decode cX16_values 0 = .ok (.getstatic 25, 3) := dk_178 0 25 (dk_at dksX16_values_0 0 rfl rfl)
theorem dX16_values_3 : decode cX16_values 3 = .ok (.invokevirtual 29, 3) := dk_182 0 29 (dk_at dksX16_values_0 3 rfl rfl)
theorem dX16_values_6 : decode cX16_values 6 = .ok (.checkcast 30, 3) := dk_192 0 30 (dk_at dksX16_values_0 6 rfl rfl)
theorem dX16_values_9 : decode cX16_values 9 = .ok (.areturn, 1) := dk_176 (dk_at dksX16_values_0 9 rfl rfl)
theorem q149 : (Jvm.Cond.initialized "StoneBacks$Fact") ∈ lw_all := lw_g (lw_at lw_m1 37 rfl) rfl
theorem q579 : (Jvm.Cond.sameMethod "StoneBacks$Fact" "java/lang/Enum" "ordinal" "()I") ∈ lw_all := lw_g (lw_at lw_m2 227 rfl) rfl
theorem q581 : (Jvm.Cond.selects "StoneBacks$Fact" ({ cls := "StoneBacks$Fact", name := "ordinal", desc := "()I" } : Jvm.MethodName) ({ cls := "java/lang/Enum", name := "ordinal", desc := "()I" } : Jvm.MethodName)) ∈ lw_all := lw_g (lw_at lw_m2 229 rfl) rfl
theorem q1414 : (Jvm.Cond.static ({ cls := "StoneBacks$Fact", name := "of", desc := "(Ljava/lang/String;)LStoneBacks$Fact;" } : Jvm.MethodName)) ∈ lw_all := lw_g (lw_at lw_m6 102 rfl) rfl
theorem q1415 : (Jvm.Cond.code ({ cls := "StoneBacks$Fact", name := "of", desc := "(Ljava/lang/String;)LStoneBacks$Fact;" } : Jvm.MethodName) prog_3_method_4_code (5 : Nat) (Option.some (Jvm.ClassFile.FieldType.object "StoneBacks$Fact"))) ∈ lw_all := lw_g (lw_at lw_m6 103 rfl) rfl
theorem q1416 : (Jvm.Cond.methodLink "StoneBacks$Fact" (48 : Nat) ({ cls := "StoneBacks$Fact", name := "values", desc := "()[LStoneBacks$Fact;" } : Jvm.MethodName)) ∈ lw_all := lw_g (lw_at lw_m6 104 rfl) rfl
theorem q1417 : (Jvm.Cond.static ({ cls := "StoneBacks$Fact", name := "values", desc := "()[LStoneBacks$Fact;" } : Jvm.MethodName)) ∈ lw_all := lw_g (lw_at lw_m6 105 rfl) rfl
theorem q1418 : (Jvm.Cond.code ({ cls := "StoneBacks$Fact", name := "values", desc := "()[LStoneBacks$Fact;" } : Jvm.MethodName) prog_3_method_1_code (0 : Nat) (Option.some (Jvm.ClassFile.FieldType.array (Jvm.ClassFile.FieldType.object "StoneBacks$Fact")))) ∈ lw_all := lw_g (lw_at lw_m6 106 rfl) rfl
theorem q1419 : (Jvm.Cond.fieldLink "StoneBacks$Fact" (25 : Nat) "StoneBacks$Fact" "$VALUES" "[LStoneBacks$Fact;") ∈ lw_all := lw_g (lw_at lw_m6 107 rfl) rfl
theorem q1420 : (Jvm.Cond.laysStatic "StoneBacks$Fact" "$VALUES" "[LStoneBacks$Fact;") ∈ lw_tbl := lw_at lw_m6 108 rfl
theorem q1421 : (Jvm.Cond.methodLink "StoneBacks$Fact" (29 : Nat) ({ cls := "[LStoneBacks$Fact;", name := "clone", desc := "()Ljava/lang/Object;" } : Jvm.MethodName)) ∈ lw_all := lw_g (lw_at lw_m6 109 rfl) rfl
theorem q1426 : (Jvm.Cond.classLink "StoneBacks$Fact" (30 : Nat) "[LStoneBacks$Fact;") ∈ lw_all := lw_g (lw_at lw_m6 114 rfl) rfl
theorem q1427 : (Jvm.Cond.methodLink "StoneBacks$Fact" (52 : Nat) ({ cls := "java/lang/String", name := "equals", desc := "(Ljava/lang/Object;)Z" } : Jvm.MethodName)) ∈ lw_all := lw_g (lw_at lw_m6 115 rfl) rfl
theorem q1452 : (Jvm.Cond.selects "StoneBacks$Fact" ({ cls := "java/lang/Object", name := "getClass", desc := "()Ljava/lang/Class;" } : Jvm.MethodName) ({ cls := "java/lang/Object", name := "getClass", desc := "()Ljava/lang/Class;" } : Jvm.MethodName)) ∈ lw_all := lw_g (lw_at lw_m6 140 rfl) rfl
theorem q2530 : (Jvm.Cond.castable "StoneBacks$Fact" "java/lang/Object") ∈ lw_tbl := lw_at lw_m11 18 rfl
theorem q2570 : (Jvm.Cond.fieldLink "StoneBacks$Fact" (44 : Nat) "StoneBacks$Fact" "told" "Ljava/lang/String;") ∈ lw_all := lw_g (lw_at lw_m11 58 rfl) rfl
theorem q2575 : (Jvm.Cond.laysStatic "StoneBacks$Fact" "WHO" "LStoneBacks$Fact;") ∈ lw_tbl := lw_at lw_m11 63 rfl
theorem q2576 : (Jvm.Cond.laysStatic "StoneBacks$Fact" "LOAD" "LStoneBacks$Fact;") ∈ lw_tbl := lw_at lw_m11 64 rfl
theorem q2577 : (Jvm.Cond.laysStatic "StoneBacks$Fact" "BACK" "LStoneBacks$Fact;") ∈ lw_tbl := lw_at lw_m11 65 rfl
theorem q2578 : (Jvm.Cond.laysStatic "StoneBacks$Fact" "PLACE" "LStoneBacks$Fact;") ∈ lw_tbl := lw_at lw_m11 66 rfl
theorem q2579 : (Jvm.Cond.laysStatic "StoneBacks$Fact" "SLOPE" "LStoneBacks$Fact;") ∈ lw_tbl := lw_at lw_m11 67 rfl
theorem q2580 : (Jvm.Cond.laysStatic "StoneBacks$Fact" "TIRED" "LStoneBacks$Fact;") ∈ lw_tbl := lw_at lw_m11 68 rfl
theorem q2581 : (Jvm.Cond.laysStatic "StoneBacks$Fact" "HOUR" "LStoneBacks$Fact;") ∈ lw_tbl := lw_at lw_m11 69 rfl
theorem q2582 : (Jvm.Cond.stringRef "StoneBacks$Fact" (59 : Nat) "who") ∈ lw_tbl := lw_at lw_m11 70 rfl
theorem q2583 : (Jvm.Cond.stringRef "StoneBacks$Fact" (65 : Nat) "load") ∈ lw_tbl := lw_at lw_m11 71 rfl
theorem q2584 : (Jvm.Cond.stringRef "StoneBacks$Fact" (68 : Nat) "back") ∈ lw_tbl := lw_at lw_m11 72 rfl
theorem q2585 : (Jvm.Cond.stringRef "StoneBacks$Fact" (71 : Nat) "place") ∈ lw_tbl := lw_at lw_m11 73 rfl
theorem q2586 : (Jvm.Cond.stringRef "StoneBacks$Fact" (74 : Nat) "slope") ∈ lw_tbl := lw_at lw_m11 74 rfl
theorem q2587 : (Jvm.Cond.stringRef "StoneBacks$Fact" (77 : Nat) "tired") ∈ lw_tbl := lw_at lw_m11 75 rfl
theorem q2588 : (Jvm.Cond.stringRef "StoneBacks$Fact" (80 : Nat) "hour") ∈ lw_tbl := lw_at lw_m11 76 rfl

/-! StoneBacks$Less -/
set_option maxRecDepth 100000
def RX17 : String := "StoneBacks$Less"
def TX17 : u_T := fun k => match k with
  | 0 => ("StoneBacks$Less", "a", "LStoneBacks$Sum;", true)
  | _ => ("StoneBacks$Less", "b", "LStoneBacks$Sum;", true)
def tyX17 : Nat → FieldType := fun k => match k with
  | 0 => .object "StoneBacks$Sum"
  | _ => .object "StoneBacks$Sum"
abbrev wsX170 : List Cond := u_ws RX17 TX17 2
theorem nmX17 : ∀ a, a < 2 → ∀ b, b < 2 → a ≠ b → (TX17 a).2.1 ≠ (TX17 b).2.1 := by decide +kernel
theorem tyX17_ok : ∀ k, k < 2 → parseFieldDescriptor (TX17 k).2.2.1 = some (tyX17 k) := by decide +kernel
abbrev cX17_holds : ByteArray := prog_6_method_2_code
def yX17_holds : MethodName := ⟨RX17, "holds", "(LStoneBacks$Scene;)Z"⟩
def dkwX17_holds_1 : List UInt8 := [172]
abbrev dktX17_holds_1 : List UInt8 := dkwX17_holds_1 ++ []
def dkwX17_holds_0 : List UInt8 := [42, 180, 0, 7, 43, 182, 0, 16, 42, 180, 0, 13, 43, 182, 0, 16, 162, 0, 7, 4, 167, 0, 4, 3]
abbrev dktX17_holds_0 : List UInt8 := dkwX17_holds_0 ++ dktX17_holds_1
theorem dksX17_holds_0 : cX17_holds.data.toList.drop 0 = dktX17_holds_0 := by decide +kernel
theorem dksX17_holds_1 : cX17_holds.data.toList.drop 24 = dktX17_holds_1 := dk_seg dksX17_holds_0 24 rfl rfl
theorem dX17_holds_0 : decode cX17_holds 0 = .ok (.aload_n 0, 1) := dk_42 (dk_at dksX17_holds_0 0 rfl rfl)
theorem dX17_holds_1 : decode cX17_holds 1 = .ok (.getfield 7, 3) := dk_180 0 7 (dk_at dksX17_holds_0 1 rfl rfl)
theorem dX17_holds_4 : decode cX17_holds 4 = .ok (.aload_n 1, 1) := dk_43 (dk_at dksX17_holds_0 4 rfl rfl)
theorem dX17_holds_5 : decode cX17_holds 5 = .ok (.invokevirtual 16, 3) := dk_182 0 16 (dk_at dksX17_holds_0 5 rfl rfl)
theorem dX17_holds_8 : decode cX17_holds 8 = .ok (.aload_n 0, 1) := dk_42 (dk_at dksX17_holds_0 8 rfl rfl)
theorem dX17_holds_9 : decode cX17_holds 9 = .ok (.getfield 13, 3) := dk_180 0 13 (dk_at dksX17_holds_0 9 rfl rfl)
theorem dX17_holds_12 : decode cX17_holds 12 = .ok (.aload_n 1, 1) := dk_43 (dk_at dksX17_holds_0 12 rfl rfl)
theorem dX17_holds_13 : decode cX17_holds 13 = .ok (.invokevirtual 16, 3) := dk_182 0 16 (dk_at dksX17_holds_0 13 rfl rfl)
theorem dX17_holds_16 : decode cX17_holds 16 = .ok (.if_icmp .ge 7, 3) := dk_162 0 7 (dk_at dksX17_holds_0 16 rfl rfl)
theorem dX17_holds_19 : decode cX17_holds 19 = .ok (.iconst 1, 1) := dk_4 (dk_at dksX17_holds_0 19 rfl rfl)
theorem dX17_holds_20 : decode cX17_holds 20 = .ok (.goto 4, 3) := dk_167 0 4 (dk_at dksX17_holds_0 20 rfl rfl)
theorem dX17_holds_23 : decode cX17_holds 23 = .ok (.iconst 0, 1) := dk_3 (dk_at dksX17_holds_0 23 rfl rfl)
theorem dX17_holds_24 : decode cX17_holds 24 = .ok (.ireturn, 1) := dk_172 (dk_at dksX17_holds_1 0 rfl rfl)
abbrev cX17_init : ByteArray := prog_6_method_1_code
def yX17_init : MethodName := ⟨RX17, "<init>", "(LStoneBacks$Sum;LStoneBacks$Sum;)V"⟩
def dkwX17_init_0 : List UInt8 := [42, 183, 0, 1, 42, 43, 181, 0, 7, 42, 44, 181, 0, 13, 177]
abbrev dktX17_init_0 : List UInt8 := dkwX17_init_0 ++ []
theorem dksX17_init_0 : cX17_init.data.toList.drop 0 = dktX17_init_0 := by decide +kernel
theorem dX17_init_0 : decode cX17_init 0 = .ok (.aload_n 0, 1) := dk_42 (dk_at dksX17_init_0 0 rfl rfl)
theorem dX17_init_1 : decode cX17_init 1 = .ok (.invokespecial 1, 3) := dk_183 0 1 (dk_at dksX17_init_0 1 rfl rfl)
theorem dX17_init_4 : decode cX17_init 4 = .ok (.aload_n 0, 1) := dk_42 (dk_at dksX17_init_0 4 rfl rfl)
theorem dX17_init_5 : decode cX17_init 5 = .ok (.aload_n 1, 1) := dk_43 (dk_at dksX17_init_0 5 rfl rfl)
theorem dX17_init_6 : decode cX17_init 6 = .ok (.putfield 7, 3) := dk_181 0 7 (dk_at dksX17_init_0 6 rfl rfl)
theorem dX17_init_9 : decode cX17_init 9 = .ok (.aload_n 0, 1) := dk_42 (dk_at dksX17_init_0 9 rfl rfl)
theorem dX17_init_10 : decode cX17_init 10 = .ok (.aload_n 2, 1) := dk_44 (dk_at dksX17_init_0 10 rfl rfl)
theorem dX17_init_11 : decode cX17_init 11 = .ok (.putfield 13, 3) := dk_181 0 13 (dk_at dksX17_init_0 11 rfl rfl)
theorem dX17_init_14 : decode cX17_init 14 = .ok (.return_, 1) := dk_177 (dk_at dksX17_init_0 14 rfl rfl)
theorem q150 : (Jvm.Cond.initialized "StoneBacks$Less") ∈ lw_all := lw_g (lw_at lw_m1 38 rfl) rfl
theorem q557 : (Jvm.Cond.castable "StoneBacks$Less" "StoneBacks$Cond") ∈ lw_tbl := lw_at lw_m2 205 rfl
theorem q558 : (Jvm.Cond.selects "StoneBacks$Less" ({ cls := "StoneBacks$Cond", name := "holds", desc := "(LStoneBacks$Scene;)Z" } : Jvm.MethodName) ({ cls := "StoneBacks$Less", name := "holds", desc := "(LStoneBacks$Scene;)Z" } : Jvm.MethodName)) ∈ lw_all := lw_g (lw_at lw_m2 206 rfl) rfl
theorem q559 : (Jvm.Cond.unhidden "StoneBacks$Less" "holds" "(LStoneBacks$Scene;)Z") ∈ lw_tbl := lw_at lw_m2 207 rfl
theorem q560 : (Jvm.Cond.instanceMethod ({ cls := "StoneBacks$Less", name := "holds", desc := "(LStoneBacks$Scene;)Z" } : Jvm.MethodName)) ∈ lw_all := lw_g (lw_at lw_m2 208 rfl) rfl
theorem q561 : (Jvm.Cond.publicMethod ({ cls := "StoneBacks$Less", name := "holds", desc := "(LStoneBacks$Scene;)Z" } : Jvm.MethodName)) ∈ lw_tbl := lw_at lw_m2 209 rfl
theorem q562 : (Jvm.Cond.code ({ cls := "StoneBacks$Less", name := "holds", desc := "(LStoneBacks$Scene;)Z" } : Jvm.MethodName) prog_6_method_2_code (2 : Nat) (Option.some Jvm.ClassFile.FieldType.boolean)) ∈ lw_all := lw_g (lw_at lw_m2 210 rfl) rfl
theorem q563 : (Jvm.Cond.methodLink "StoneBacks$Less" (16 : Nat) ({ cls := "StoneBacks$Sum", name := "in", desc := "(LStoneBacks$Scene;)I" } : Jvm.MethodName)) ∈ lw_all := lw_g (lw_at lw_m2 211 rfl) rfl
theorem q1455 : (Jvm.Cond.selects "StoneBacks$Less" ({ cls := "java/lang/Object", name := "getClass", desc := "()Ljava/lang/Class;" } : Jvm.MethodName) ({ cls := "java/lang/Object", name := "getClass", desc := "()Ljava/lang/Class;" } : Jvm.MethodName)) ∈ lw_all := lw_g (lw_at lw_m6 143 rfl) rfl
theorem q1488 : (Jvm.Cond.instantiable "StoneBacks$Less" (2 : Nat)) ∈ lw_all := lw_g (lw_at lw_m6 176 rfl) rfl
theorem q1490 : (Jvm.Cond.instanceMethod ({ cls := "StoneBacks$Less", name := "<init>", desc := "(LStoneBacks$Sum;LStoneBacks$Sum;)V" } : Jvm.MethodName)) ∈ lw_all := lw_g (lw_at lw_m6 178 rfl) rfl
theorem q1491 : (Jvm.Cond.code ({ cls := "StoneBacks$Less", name := "<init>", desc := "(LStoneBacks$Sum;LStoneBacks$Sum;)V" } : Jvm.MethodName) prog_6_method_1_code (3 : Nat) (Option.none : Option Jvm.ClassFile.FieldType)) ∈ lw_all := lw_g (lw_at lw_m6 179 rfl) rfl
theorem q1492 : (Jvm.Cond.methodLink "StoneBacks$Less" (1 : Nat) ({ cls := "java/lang/Object", name := "<init>", desc := "()V" } : Jvm.MethodName)) ∈ lw_all := lw_g (lw_at lw_m6 180 rfl) rfl
theorem q1493 : (Jvm.Cond.fieldLink "StoneBacks$Less" (7 : Nat) "StoneBacks$Less" "a" "LStoneBacks$Sum;") ∈ lw_all := lw_g (lw_at lw_m6 181 rfl) rfl
theorem q1494 : (Jvm.Cond.fieldLink "StoneBacks$Less" (13 : Nat) "StoneBacks$Less" "b" "LStoneBacks$Sum;") ∈ lw_all := lw_g (lw_at lw_m6 182 rfl) rfl
theorem q1495 : (Jvm.Cond.laysFinal "StoneBacks$Less" "StoneBacks$Less" "a" "LStoneBacks$Sum;") ∈ lw_all := lw_g (lw_at lw_m6 183 rfl) rfl
theorem q1496 : (Jvm.Cond.soleField "StoneBacks$Less" "a") ∈ lw_all := lw_g (lw_at lw_m6 184 rfl) rfl
theorem q1497 : (Jvm.Cond.laysFinal "StoneBacks$Less" "StoneBacks$Less" "b" "LStoneBacks$Sum;") ∈ lw_all := lw_g (lw_at lw_m6 185 rfl) rfl
theorem q1498 : (Jvm.Cond.soleField "StoneBacks$Less" "b") ∈ lw_all := lw_g (lw_at lw_m6 186 rfl) rfl
theorem q1499 : (Jvm.Cond.superclass "StoneBacks$Less" "java/lang/Object") ∈ lw_all := lw_g (lw_at lw_m6 187 rfl) rfl
theorem q2551 : (Jvm.Cond.castable "StoneBacks$Less" "java/lang/Object") ∈ lw_tbl := lw_at lw_m11 39 rfl
theorem in_X17 : ∀ w ∈ wsX170, w ∈ lw_all := lw_in wsX170 [1495, 1497] (by decide +kernel) (by decide +kernel)

/-! StoneBacks$World -/
set_option maxRecDepth 100000
def RX2 : String := "StoneBacks$World"
def TX2 : u_T := fun k => match k with
  | 0 => ("StoneBacks$World", "texts", "I", false)
  | 1 => ("StoneBacks$World", "people", "I", false)
  | 2 => ("StoneBacks$World", "stones", "I", false)
  | 3 => ("StoneBacks$World", "limit", "I", false)
  | 4 => ("StoneBacks$World", "hour", "I", false)
  | 5 => ("StoneBacks$World", "logged", "I", false)
  | 6 => ("StoneBacks$World", "seed", "I", false)
  | 7 => ("StoneBacks$World", "purse", "[I", true)
  | 8 => ("StoneBacks$World", "back", "[I", true)
  | 9 => ("StoneBacks$World", "at", "[I", true)
  | 10 => ("StoneBacks$World", "goal", "[I", true)
  | 11 => ("StoneBacks$World", "tired", "[I", true)
  | 12 => ("StoneBacks$World", "hurt", "[Z", true)
  | 13 => ("StoneBacks$World", "porch", "[Z", true)
  | 14 => ("StoneBacks$World", "slope", "[I", true)
  | 15 => ("StoneBacks$World", "debtor", "[I", true)
  | 16 => ("StoneBacks$World", "lender", "[I", true)
  | 17 => ("StoneBacks$World", "weight", "[I", true)
  | 18 => ("StoneBacks$World", "state", "[I", true)
  | 19 => ("StoneBacks$World", "by", "[I", true)
  | 20 => ("StoneBacks$World", "log", "[I", true)
  | _ => ("StoneBacks$World", "law", "LStoneBacks$Law;", false)
def tyX2 : Nat → FieldType := fun k => match k with
  | 0 => .int
  | 1 => .int
  | 2 => .int
  | 3 => .int
  | 4 => .int
  | 5 => .int
  | 6 => .int
  | 7 => .array .int
  | 8 => .array .int
  | 9 => .array .int
  | 10 => .array .int
  | 11 => .array .int
  | 12 => .array .boolean
  | 13 => .array .boolean
  | 14 => .array .int
  | 15 => .array .int
  | 16 => .array .int
  | 17 => .array .int
  | 18 => .array .int
  | 19 => .array .int
  | 20 => .array .int
  | _ => .object "StoneBacks$Law"
abbrev wsX20 : List Cond := u_ws RX2 TX2 22
set_option maxRecDepth 100000 in
theorem nmX2 : ∀ a, a < 22 → ∀ b, b < 22 → a ≠ b → (TX2 a).2.1 ≠ (TX2 b).2.1 := by decide +kernel
set_option maxRecDepth 100000 in
theorem tyX2_ok : ∀ k, k < 22 → parseFieldDescriptor (TX2 k).2.2.1 = some (tyX2 k) := by decide +kernel
abbrev cX2_init : ByteArray := prog_16_method_1_code
def yX2_init : MethodName := ⟨RX2, "<init>", "()V"⟩
def dkwX2_init_5 : List UInt8 := [17, 0, 240, 188, 10, 181, 0, 59, 177]
abbrev dktX2_init_5 : List UInt8 := dkwX2_init_5 ++ []
def dkwX2_init_4 : List UInt8 := [16, 10, 188, 10, 181, 0, 50, 42, 16, 10, 188, 10, 181, 0, 53, 42, 16, 10, 188, 10, 181, 0, 56, 42]
abbrev dktX2_init_4 : List UInt8 := dkwX2_init_4 ++ dktX2_init_5
def dkwX2_init_3 : List UInt8 := [16, 12, 188, 10, 181, 0, 41, 42, 16, 10, 188, 10, 181, 0, 44, 42, 16, 10, 188, 10, 181, 0, 47, 42]
abbrev dktX2_init_3 : List UInt8 := dkwX2_init_3 ++ dktX2_init_4
def dkwX2_init_2 : List UInt8 := [16, 6, 188, 10, 181, 0, 31, 42, 16, 6, 188, 4, 181, 0, 34, 42, 16, 12, 188, 4, 181, 0, 38, 42]
abbrev dktX2_init_2 : List UInt8 := dkwX2_init_2 ++ dktX2_init_3
def dkwX2_init_1 : List UInt8 := [16, 6, 188, 10, 181, 0, 22, 42, 16, 6, 188, 10, 181, 0, 25, 42, 16, 6, 188, 10, 181, 0, 28, 42]
abbrev dktX2_init_1 : List UInt8 := dkwX2_init_1 ++ dktX2_init_2
def dkwX2_init_0 : List UInt8 := [42, 183, 0, 3, 42, 16, 40, 181, 0, 9, 42, 4, 181, 0, 15, 42, 16, 6, 188, 10, 181, 0, 18, 42]
abbrev dktX2_init_0 : List UInt8 := dkwX2_init_0 ++ dktX2_init_1
theorem dksX2_init_0 : cX2_init.data.toList.drop 0 = dktX2_init_0 := by decide +kernel
theorem dksX2_init_1 : cX2_init.data.toList.drop 24 = dktX2_init_1 := dk_seg dksX2_init_0 24 rfl rfl
theorem dksX2_init_2 : cX2_init.data.toList.drop 48 = dktX2_init_2 := dk_seg dksX2_init_1 24 rfl rfl
theorem dksX2_init_3 : cX2_init.data.toList.drop 72 = dktX2_init_3 := dk_seg dksX2_init_2 24 rfl rfl
theorem dksX2_init_4 : cX2_init.data.toList.drop 96 = dktX2_init_4 := dk_seg dksX2_init_3 24 rfl rfl
theorem dksX2_init_5 : cX2_init.data.toList.drop 120 = dktX2_init_5 := dk_seg dksX2_init_4 24 rfl rfl
theorem dX2_init_0 : decode cX2_init 0 = .ok (.aload_n 0, 1) := dk_42 (dk_at dksX2_init_0 0 rfl rfl)
theorem dX2_init_1 : decode cX2_init 1 = .ok (.invokespecial 3, 3) := dk_183 0 3 (dk_at dksX2_init_0 1 rfl rfl)
theorem dX2_init_4 : decode cX2_init 4 = .ok (.aload_n 0, 1) := dk_42 (dk_at dksX2_init_0 4 rfl rfl)
theorem dX2_init_5 : decode cX2_init 5 = .ok (.bipush 40, 2) := dk_16 40 (dk_at dksX2_init_0 5 rfl rfl)
theorem dX2_init_7 : decode cX2_init 7 = .ok (.putfield 9, 3) := dk_181 0 9 (dk_at dksX2_init_0 7 rfl rfl)
theorem dX2_init_10 : decode cX2_init 10 = .ok (.aload_n 0, 1) := dk_42 (dk_at dksX2_init_0 10 rfl rfl)
theorem dX2_init_11 : decode cX2_init 11 = .ok (.iconst 1, 1) := dk_4 (dk_at dksX2_init_0 11 rfl rfl)
theorem dX2_init_12 : decode cX2_init 12 = .ok (.putfield 15, 3) := dk_181 0 15 (dk_at dksX2_init_0 12 rfl rfl)
theorem dX2_init_15 : decode cX2_init 15 = .ok (.aload_n 0, 1) := dk_42 (dk_at dksX2_init_0 15 rfl rfl)
theorem dX2_init_16 : decode cX2_init 16 = .ok (.bipush 6, 2) := dk_16 6 (dk_at dksX2_init_0 16 rfl rfl)
theorem dX2_init_18 : decode cX2_init 18 = .ok (.newarray .int, 2) := dk_188_10 (dk_at dksX2_init_0 18 rfl rfl)
theorem dX2_init_20 : decode cX2_init 20 = .ok (.putfield 18, 3) := dk_181 0 18 (dk_at dksX2_init_0 20 rfl rfl)
theorem dX2_init_23 : decode cX2_init 23 = .ok (.aload_n 0, 1) := dk_42 (dk_at dksX2_init_0 23 rfl rfl)
theorem dX2_init_24 : decode cX2_init 24 = .ok (.bipush 6, 2) := dk_16 6 (dk_at dksX2_init_1 0 rfl rfl)
theorem dX2_init_26 : decode cX2_init 26 = .ok (.newarray .int, 2) := dk_188_10 (dk_at dksX2_init_1 2 rfl rfl)
theorem dX2_init_28 : decode cX2_init 28 = .ok (.putfield 22, 3) := dk_181 0 22 (dk_at dksX2_init_1 4 rfl rfl)
theorem dX2_init_31 : decode cX2_init 31 = .ok (.aload_n 0, 1) := dk_42 (dk_at dksX2_init_1 7 rfl rfl)
theorem dX2_init_32 : decode cX2_init 32 = .ok (.bipush 6, 2) := dk_16 6 (dk_at dksX2_init_1 8 rfl rfl)
theorem dX2_init_34 : decode cX2_init 34 = .ok (.newarray .int, 2) := dk_188_10 (dk_at dksX2_init_1 10 rfl rfl)
theorem dX2_init_36 : decode cX2_init 36 = .ok (.putfield 25, 3) := dk_181 0 25 (dk_at dksX2_init_1 12 rfl rfl)
theorem dX2_init_39 : decode cX2_init 39 = .ok (.aload_n 0, 1) := dk_42 (dk_at dksX2_init_1 15 rfl rfl)
theorem dX2_init_40 : decode cX2_init 40 = .ok (.bipush 6, 2) := dk_16 6 (dk_at dksX2_init_1 16 rfl rfl)
theorem dX2_init_42 : decode cX2_init 42 = .ok (.newarray .int, 2) := dk_188_10 (dk_at dksX2_init_1 18 rfl rfl)
theorem dX2_init_44 : decode cX2_init 44 = .ok (.putfield 28, 3) := dk_181 0 28 (dk_at dksX2_init_1 20 rfl rfl)
theorem dX2_init_47 : decode cX2_init 47 = .ok (.aload_n 0, 1) := dk_42 (dk_at dksX2_init_1 23 rfl rfl)
theorem dX2_init_48 : decode cX2_init 48 = .ok (.bipush 6, 2) := dk_16 6 (dk_at dksX2_init_2 0 rfl rfl)
theorem dX2_init_50 : decode cX2_init 50 = .ok (.newarray .int, 2) := dk_188_10 (dk_at dksX2_init_2 2 rfl rfl)
theorem dX2_init_52 : decode cX2_init 52 = .ok (.putfield 31, 3) := dk_181 0 31 (dk_at dksX2_init_2 4 rfl rfl)
theorem dX2_init_55 : decode cX2_init 55 = .ok (.aload_n 0, 1) := dk_42 (dk_at dksX2_init_2 7 rfl rfl)
theorem dX2_init_56 : decode cX2_init 56 = .ok (.bipush 6, 2) := dk_16 6 (dk_at dksX2_init_2 8 rfl rfl)
theorem dX2_init_58 : decode cX2_init 58 = .ok (.newarray .boolean, 2) := dk_188_4 (dk_at dksX2_init_2 10 rfl rfl)
theorem dX2_init_60 : decode cX2_init 60 = .ok (.putfield 34, 3) := dk_181 0 34 (dk_at dksX2_init_2 12 rfl rfl)
theorem dX2_init_63 : decode cX2_init 63 = .ok (.aload_n 0, 1) := dk_42 (dk_at dksX2_init_2 15 rfl rfl)
theorem dX2_init_64 : decode cX2_init 64 = .ok (.bipush 12, 2) := dk_16 12 (dk_at dksX2_init_2 16 rfl rfl)
theorem dX2_init_66 : decode cX2_init 66 = .ok (.newarray .boolean, 2) := dk_188_4 (dk_at dksX2_init_2 18 rfl rfl)
theorem dX2_init_68 : decode cX2_init 68 = .ok (.putfield 38, 3) := dk_181 0 38 (dk_at dksX2_init_2 20 rfl rfl)
theorem dX2_init_71 : decode cX2_init 71 = .ok (.aload_n 0, 1) := dk_42 (dk_at dksX2_init_2 23 rfl rfl)
theorem dX2_init_72 : decode cX2_init 72 = .ok (.bipush 12, 2) := dk_16 12 (dk_at dksX2_init_3 0 rfl rfl)
theorem dX2_init_74 : decode cX2_init 74 = .ok (.newarray .int, 2) := dk_188_10 (dk_at dksX2_init_3 2 rfl rfl)
theorem dX2_init_76 : decode cX2_init 76 = .ok (.putfield 41, 3) := dk_181 0 41 (dk_at dksX2_init_3 4 rfl rfl)
theorem dX2_init_79 : decode cX2_init 79 = .ok (.aload_n 0, 1) := dk_42 (dk_at dksX2_init_3 7 rfl rfl)
theorem dX2_init_80 : decode cX2_init 80 = .ok (.bipush 10, 2) := dk_16 10 (dk_at dksX2_init_3 8 rfl rfl)
theorem dX2_init_82 : decode cX2_init 82 = .ok (.newarray .int, 2) := dk_188_10 (dk_at dksX2_init_3 10 rfl rfl)
theorem dX2_init_84 : decode cX2_init 84 = .ok (.putfield 44, 3) := dk_181 0 44 (dk_at dksX2_init_3 12 rfl rfl)
theorem dX2_init_87 : decode cX2_init 87 = .ok (.aload_n 0, 1) := dk_42 (dk_at dksX2_init_3 15 rfl rfl)
theorem dX2_init_88 : decode cX2_init 88 = .ok (.bipush 10, 2) := dk_16 10 (dk_at dksX2_init_3 16 rfl rfl)
theorem dX2_init_90 : decode cX2_init 90 = .ok (.newarray .int, 2) := dk_188_10 (dk_at dksX2_init_3 18 rfl rfl)
theorem dX2_init_92 : decode cX2_init 92 = .ok (.putfield 47, 3) := dk_181 0 47 (dk_at dksX2_init_3 20 rfl rfl)
theorem dX2_init_95 : decode cX2_init 95 = .ok (.aload_n 0, 1) := dk_42 (dk_at dksX2_init_3 23 rfl rfl)
theorem dX2_init_96 : decode cX2_init 96 = .ok (.bipush 10, 2) := dk_16 10 (dk_at dksX2_init_4 0 rfl rfl)
theorem dX2_init_98 : decode cX2_init 98 = .ok (.newarray .int, 2) := dk_188_10 (dk_at dksX2_init_4 2 rfl rfl)
theorem dX2_init_100 : decode cX2_init 100 = .ok (.putfield 50, 3) := dk_181 0 50 (dk_at dksX2_init_4 4 rfl rfl)
theorem dX2_init_103 : decode cX2_init 103 = .ok (.aload_n 0, 1) := dk_42 (dk_at dksX2_init_4 7 rfl rfl)
theorem dX2_init_104 : decode cX2_init 104 = .ok (.bipush 10, 2) := dk_16 10 (dk_at dksX2_init_4 8 rfl rfl)
theorem dX2_init_106 : decode cX2_init 106 = .ok (.newarray .int, 2) := dk_188_10 (dk_at dksX2_init_4 10 rfl rfl)
theorem dX2_init_108 : decode cX2_init 108 = .ok (.putfield 53, 3) := dk_181 0 53 (dk_at dksX2_init_4 12 rfl rfl)
theorem dX2_init_111 : decode cX2_init 111 = .ok (.aload_n 0, 1) := dk_42 (dk_at dksX2_init_4 15 rfl rfl)
theorem dX2_init_112 : decode cX2_init 112 = .ok (.bipush 10, 2) := dk_16 10 (dk_at dksX2_init_4 16 rfl rfl)
theorem dX2_init_114 : decode cX2_init 114 = .ok (.newarray .int, 2) := dk_188_10 (dk_at dksX2_init_4 18 rfl rfl)
theorem dX2_init_116 : decode cX2_init 116 = .ok (.putfield 56, 3) := dk_181 0 56 (dk_at dksX2_init_4 20 rfl rfl)
theorem dX2_init_119 : decode cX2_init 119 = .ok (.aload_n 0, 1) := dk_42 (dk_at dksX2_init_4 23 rfl rfl)
theorem dX2_init_120 : decode cX2_init 120 = .ok (.sipush 240, 3) := dk_17 0 240 (dk_at dksX2_init_5 0 rfl rfl)
theorem dX2_init_123 : decode cX2_init 123 = .ok (.newarray .int, 2) := dk_188_10 (dk_at dksX2_init_5 3 rfl rfl)
theorem dX2_init_125 : decode cX2_init 125 = .ok (.putfield 59, 3) := dk_181 0 59 (dk_at dksX2_init_5 5 rfl rfl)
theorem dX2_init_128 : decode cX2_init 128 = .ok (.return_, 1) := dk_177 (dk_at dksX2_init_5 8 rfl rfl)
abbrev cX2_load : ByteArray := prog_16_method_7_code
def yX2_load : MethodName := ⟨RX2, "load", "(I)I"⟩
def dkwX2_load_0 : List UInt8 := [42, 42, 27, 182, 0, 96, 182, 0, 100, 172]
abbrev dktX2_load_0 : List UInt8 := dkwX2_load_0 ++ []
theorem dksX2_load_0 : cX2_load.data.toList.drop 0 = dktX2_load_0 := by decide +kernel
theorem dX2_load_0 : decode cX2_load 0 = .ok (.aload_n 0, 1) := dk_42 (dk_at dksX2_load_0 0 rfl rfl)
theorem dX2_load_1 : decode cX2_load 1 = .ok (.aload_n 0, 1) := dk_42 (dk_at dksX2_load_0 1 rfl rfl)
theorem dX2_load_2 : decode cX2_load 2 = .ok (.iload_n 1, 1) := dk_27 (dk_at dksX2_load_0 2 rfl rfl)
theorem dX2_load_3 : decode cX2_load 3 = .ok (.invokevirtual 96, 3) := dk_182 0 96 (dk_at dksX2_load_0 3 rfl rfl)
theorem dX2_load_6 : decode cX2_load 6 = .ok (.invokevirtual 100, 3) := dk_182 0 100 (dk_at dksX2_load_0 6 rfl rfl)
theorem dX2_load_9 : decode cX2_load 9 = .ok (.ireturn, 1) := dk_172 (dk_at dksX2_load_0 9 rfl rfl)
abbrev cX2_wornBy : ByteArray := prog_16_method_5_code
def yX2_wornBy : MethodName := ⟨RX2, "wornBy", "(I)I"⟩
def dkwX2_wornBy_2 : List UInt8 := [28, 172]
abbrev dktX2_wornBy_2 : List UInt8 := dkwX2_wornBy_2 ++ []
def dkwX2_wornBy_1 : List UInt8 := [180, 0, 56, 29, 46, 27, 160, 0, 9, 4, 29, 120, 167, 0, 4, 3, 128, 61, 132, 3, 1, 167, 255, 216]
abbrev dktX2_wornBy_1 : List UInt8 := dkwX2_wornBy_1 ++ dktX2_wornBy_2
def dkwX2_wornBy_0 : List UInt8 := [3, 61, 3, 62, 29, 42, 180, 0, 68, 162, 0, 38, 28, 42, 180, 0, 53, 29, 46, 154, 0, 19, 42]
abbrev dktX2_wornBy_0 : List UInt8 := dkwX2_wornBy_0 ++ dktX2_wornBy_1
theorem dksX2_wornBy_0 : cX2_wornBy.data.toList.drop 0 = dktX2_wornBy_0 := by decide +kernel
theorem dksX2_wornBy_1 : cX2_wornBy.data.toList.drop 23 = dktX2_wornBy_1 := dk_seg dksX2_wornBy_0 23 rfl rfl
theorem dksX2_wornBy_2 : cX2_wornBy.data.toList.drop 47 = dktX2_wornBy_2 := dk_seg dksX2_wornBy_1 24 rfl rfl
theorem dX2_wornBy_0 : decode cX2_wornBy 0 = .ok (.iconst 0, 1) := dk_3 (dk_at dksX2_wornBy_0 0 rfl rfl)
theorem dX2_wornBy_1 : decode cX2_wornBy 1 = .ok (.istore_n 2, 1) := dk_61 (dk_at dksX2_wornBy_0 1 rfl rfl)
theorem dX2_wornBy_2 : decode cX2_wornBy 2 = .ok (.iconst 0, 1) := dk_3 (dk_at dksX2_wornBy_0 2 rfl rfl)
theorem dX2_wornBy_3 : decode cX2_wornBy 3 = .ok (.istore_n 3, 1) := dk_62 (dk_at dksX2_wornBy_0 3 rfl rfl)
theorem dX2_wornBy_4 : decode cX2_wornBy 4 = .ok (.iload_n 3, 1) := dk_29 (dk_at dksX2_wornBy_0 4 rfl rfl)
theorem dX2_wornBy_5 : decode cX2_wornBy 5 = .ok (.aload_n 0, 1) := dk_42 (dk_at dksX2_wornBy_0 5 rfl rfl)
theorem dX2_wornBy_6 : decode cX2_wornBy 6 = .ok (.getfield 68, 3) := dk_180 0 68 (dk_at dksX2_wornBy_0 6 rfl rfl)
theorem dX2_wornBy_9 : decode cX2_wornBy 9 = .ok (.if_icmp .ge 38, 3) := dk_162 0 38 (dk_at dksX2_wornBy_0 9 rfl rfl)
theorem dX2_wornBy_12 : decode cX2_wornBy 12 = .ok (.iload_n 2, 1) := dk_28 (dk_at dksX2_wornBy_0 12 rfl rfl)
theorem dX2_wornBy_13 : decode cX2_wornBy 13 = .ok (.aload_n 0, 1) := dk_42 (dk_at dksX2_wornBy_0 13 rfl rfl)
theorem dX2_wornBy_14 : decode cX2_wornBy 14 = .ok (.getfield 53, 3) := dk_180 0 53 (dk_at dksX2_wornBy_0 14 rfl rfl)
theorem dX2_wornBy_17 : decode cX2_wornBy 17 = .ok (.iload_n 3, 1) := dk_29 (dk_at dksX2_wornBy_0 17 rfl rfl)
theorem dX2_wornBy_18 : decode cX2_wornBy 18 = .ok (.iaload, 1) := dk_46 (dk_at dksX2_wornBy_0 18 rfl rfl)
theorem dX2_wornBy_19 : decode cX2_wornBy 19 = .ok (.ifCond .ne 19, 3) := dk_154 0 19 (dk_at dksX2_wornBy_0 19 rfl rfl)
theorem dX2_wornBy_22 : decode cX2_wornBy 22 = .ok (.aload_n 0, 1) := dk_42 (dk_at dksX2_wornBy_0 22 rfl rfl)
theorem dX2_wornBy_23 : decode cX2_wornBy 23 = .ok (.getfield 56, 3) := dk_180 0 56 (dk_at dksX2_wornBy_1 0 rfl rfl)
theorem dX2_wornBy_26 : decode cX2_wornBy 26 = .ok (.iload_n 3, 1) := dk_29 (dk_at dksX2_wornBy_1 3 rfl rfl)
theorem dX2_wornBy_27 : decode cX2_wornBy 27 = .ok (.iaload, 1) := dk_46 (dk_at dksX2_wornBy_1 4 rfl rfl)
theorem dX2_wornBy_28 : decode cX2_wornBy 28 = .ok (.iload_n 1, 1) := dk_27 (dk_at dksX2_wornBy_1 5 rfl rfl)
theorem dX2_wornBy_29 : decode cX2_wornBy 29 = .ok (.if_icmp .ne 9, 3) := dk_160 0 9 (dk_at dksX2_wornBy_1 6 rfl rfl)
theorem dX2_wornBy_32 : decode cX2_wornBy 32 = .ok (.iconst 1, 1) := dk_4 (dk_at dksX2_wornBy_1 9 rfl rfl)
theorem dX2_wornBy_33 : decode cX2_wornBy 33 = .ok (.iload_n 3, 1) := dk_29 (dk_at dksX2_wornBy_1 10 rfl rfl)
theorem dX2_wornBy_34 : decode cX2_wornBy 34 = .ok (.ishl, 1) := dk_120 (dk_at dksX2_wornBy_1 11 rfl rfl)
theorem dX2_wornBy_35 : decode cX2_wornBy 35 = .ok (.goto 4, 3) := dk_167 0 4 (dk_at dksX2_wornBy_1 12 rfl rfl)
theorem dX2_wornBy_38 : decode cX2_wornBy 38 = .ok (.iconst 0, 1) := dk_3 (dk_at dksX2_wornBy_1 15 rfl rfl)
theorem dX2_wornBy_39 : decode cX2_wornBy 39 = .ok (.ior, 1) := dk_128 (dk_at dksX2_wornBy_1 16 rfl rfl)
theorem dX2_wornBy_40 : decode cX2_wornBy 40 = .ok (.istore_n 2, 1) := dk_61 (dk_at dksX2_wornBy_1 17 rfl rfl)
theorem dX2_wornBy_41 : decode cX2_wornBy 41 = .ok (.iinc 3 1, 3) := dk_132 3 1 (dk_at dksX2_wornBy_1 18 rfl rfl)
theorem dX2_wornBy_44 : decode cX2_wornBy 44 = .ok (.goto (-40), 3) := dk_167 255 216 (dk_at dksX2_wornBy_1 21 rfl rfl)
theorem dX2_wornBy_47 : decode cX2_wornBy 47 = .ok (.iload_n 2, 1) := dk_28 (dk_at dksX2_wornBy_2 0 rfl rfl)
theorem dX2_wornBy_48 : decode cX2_wornBy 48 = .ok (.ireturn, 1) := dk_172 (dk_at dksX2_wornBy_2 1 rfl rfl)
abbrev cX2_weightOf : ByteArray := prog_16_method_6_code
def yX2_weightOf : MethodName := ⟨RX2, "weightOf", "(I)I"⟩
def dkwX2_weightOf_1 : List UInt8 := [180, 0, 50, 29, 46, 167, 0, 4, 3, 96, 61, 132, 3, 1, 167, 255, 224, 28, 172]
abbrev dktX2_weightOf_1 : List UInt8 := dkwX2_weightOf_1 ++ []
def dkwX2_weightOf_0 : List UInt8 := [3, 61, 3, 62, 29, 42, 180, 0, 68, 162, 0, 30, 28, 27, 29, 184, 0, 92, 153, 0, 12, 42]
abbrev dktX2_weightOf_0 : List UInt8 := dkwX2_weightOf_0 ++ dktX2_weightOf_1
theorem dksX2_weightOf_0 : cX2_weightOf.data.toList.drop 0 = dktX2_weightOf_0 := by decide +kernel
theorem dksX2_weightOf_1 : cX2_weightOf.data.toList.drop 22 = dktX2_weightOf_1 := dk_seg dksX2_weightOf_0 22 rfl rfl
theorem dX2_weightOf_0 : decode cX2_weightOf 0 = .ok (.iconst 0, 1) := dk_3 (dk_at dksX2_weightOf_0 0 rfl rfl)
theorem dX2_weightOf_1 : decode cX2_weightOf 1 = .ok (.istore_n 2, 1) := dk_61 (dk_at dksX2_weightOf_0 1 rfl rfl)
theorem dX2_weightOf_2 : decode cX2_weightOf 2 = .ok (.iconst 0, 1) := dk_3 (dk_at dksX2_weightOf_0 2 rfl rfl)
theorem dX2_weightOf_3 : decode cX2_weightOf 3 = .ok (.istore_n 3, 1) := dk_62 (dk_at dksX2_weightOf_0 3 rfl rfl)
theorem dX2_weightOf_4 : decode cX2_weightOf 4 = .ok (.iload_n 3, 1) := dk_29 (dk_at dksX2_weightOf_0 4 rfl rfl)
theorem dX2_weightOf_5 : decode cX2_weightOf 5 = .ok (.aload_n 0, 1) := dk_42 (dk_at dksX2_weightOf_0 5 rfl rfl)
theorem dX2_weightOf_6 : decode cX2_weightOf 6 = .ok (.getfield 68, 3) := dk_180 0 68 (dk_at dksX2_weightOf_0 6 rfl rfl)
theorem dX2_weightOf_9 : decode cX2_weightOf 9 = .ok (.if_icmp .ge 30, 3) := dk_162 0 30 (dk_at dksX2_weightOf_0 9 rfl rfl)
theorem dX2_weightOf_12 : decode cX2_weightOf 12 = .ok (.iload_n 2, 1) := dk_28 (dk_at dksX2_weightOf_0 12 rfl rfl)
theorem dX2_weightOf_13 : decode cX2_weightOf 13 = .ok (.iload_n 1, 1) := dk_27 (dk_at dksX2_weightOf_0 13 rfl rfl)
theorem dX2_weightOf_14 : decode cX2_weightOf 14 = .ok (.iload_n 3, 1) := dk_29 (dk_at dksX2_weightOf_0 14 rfl rfl)
theorem dX2_weightOf_15 : decode cX2_weightOf 15 = .ok (.invokestatic 92, 3) := dk_184 0 92 (dk_at dksX2_weightOf_0 15 rfl rfl)
theorem dX2_weightOf_18 : decode cX2_weightOf 18 = .ok (.ifCond .eq 12, 3) := dk_153 0 12 (dk_at dksX2_weightOf_0 18 rfl rfl)
theorem dX2_weightOf_21 : decode cX2_weightOf 21 = .ok (.aload_n 0, 1) := dk_42 (dk_at dksX2_weightOf_0 21 rfl rfl)
theorem dX2_weightOf_22 : decode cX2_weightOf 22 = .ok (.getfield 50, 3) := dk_180 0 50 (dk_at dksX2_weightOf_1 0 rfl rfl)
theorem dX2_weightOf_25 : decode cX2_weightOf 25 = .ok (.iload_n 3, 1) := dk_29 (dk_at dksX2_weightOf_1 3 rfl rfl)
theorem dX2_weightOf_26 : decode cX2_weightOf 26 = .ok (.iaload, 1) := dk_46 (dk_at dksX2_weightOf_1 4 rfl rfl)
theorem dX2_weightOf_27 : decode cX2_weightOf 27 = .ok (.goto 4, 3) := dk_167 0 4 (dk_at dksX2_weightOf_1 5 rfl rfl)
theorem dX2_weightOf_30 : decode cX2_weightOf 30 = .ok (.iconst 0, 1) := dk_3 (dk_at dksX2_weightOf_1 8 rfl rfl)
theorem dX2_weightOf_31 : decode cX2_weightOf 31 = .ok (.iadd, 1) := dk_96 (dk_at dksX2_weightOf_1 9 rfl rfl)
theorem dX2_weightOf_32 : decode cX2_weightOf 32 = .ok (.istore_n 2, 1) := dk_61 (dk_at dksX2_weightOf_1 10 rfl rfl)
theorem dX2_weightOf_33 : decode cX2_weightOf 33 = .ok (.iinc 3 1, 3) := dk_132 3 1 (dk_at dksX2_weightOf_1 11 rfl rfl)
theorem dX2_weightOf_36 : decode cX2_weightOf 36 = .ok (.goto (-32), 3) := dk_167 255 224 (dk_at dksX2_weightOf_1 14 rfl rfl)
theorem dX2_weightOf_39 : decode cX2_weightOf 39 = .ok (.iload_n 2, 1) := dk_28 (dk_at dksX2_weightOf_1 17 rfl rfl)
theorem dX2_weightOf_40 : decode cX2_weightOf 40 = .ok (.ireturn, 1) := dk_172 (dk_at dksX2_weightOf_1 18 rfl rfl)
abbrev cX2_likens : ByteArray := prog_16_method_2_code
def yX2_likens : MethodName := ⟨RX2, "likens", "(LStoneBacks$World;)LStoneBacks$World;"⟩
def dkwX2_likens_9 : List UInt8 := [180, 0, 56, 184, 0, 81, 43, 180, 0, 59, 42, 180, 0, 59, 184, 0, 81, 42, 176]
abbrev dktX2_likens_9 : List UInt8 := dkwX2_likens_9 ++ []
def dkwX2_likens_8 : List UInt8 := [180, 0, 50, 184, 0, 81, 43, 180, 0, 53, 42, 180, 0, 53, 184, 0, 81, 43, 180, 0, 56, 42]
abbrev dktX2_likens_8 : List UInt8 := dkwX2_likens_8 ++ dktX2_likens_9
def dkwX2_likens_7 : List UInt8 := [42, 180, 0, 44, 184, 0, 81, 43, 180, 0, 47, 42, 180, 0, 47, 184, 0, 81, 43, 180, 0, 50, 42]
abbrev dktX2_likens_7 : List UInt8 := dkwX2_likens_7 ++ dktX2_likens_8
def dkwX2_likens_6 : List UInt8 := [180, 0, 38, 3, 16, 12, 184, 0, 85, 43, 180, 0, 41, 42, 180, 0, 41, 184, 0, 81, 43, 180, 0, 44]
abbrev dktX2_likens_6 : List UInt8 := dkwX2_likens_6 ++ dktX2_likens_7
def dkwX2_likens_5 : List UInt8 := [184, 0, 81, 43, 180, 0, 34, 3, 42, 180, 0, 34, 3, 16, 6, 184, 0, 85, 43, 180, 0, 38, 3, 42]
abbrev dktX2_likens_5 : List UInt8 := dkwX2_likens_5 ++ dktX2_likens_6
def dkwX2_likens_4 : List UInt8 := [184, 0, 81, 43, 180, 0, 28, 42, 180, 0, 28, 184, 0, 81, 43, 180, 0, 31, 42, 180, 0, 31]
abbrev dktX2_likens_4 : List UInt8 := dkwX2_likens_4 ++ dktX2_likens_5
def dkwX2_likens_3 : List UInt8 := [184, 0, 81, 43, 180, 0, 22, 42, 180, 0, 22, 184, 0, 81, 43, 180, 0, 25, 42, 180, 0, 25]
abbrev dktX2_likens_3 : List UInt8 := dkwX2_likens_3 ++ dktX2_likens_4
def dkwX2_likens_2 : List UInt8 := [42, 43, 180, 0, 15, 181, 0, 15, 42, 43, 180, 0, 77, 181, 0, 77, 43, 180, 0, 18, 42, 180, 0, 18]
abbrev dktX2_likens_2 : List UInt8 := dkwX2_likens_2 ++ dktX2_likens_3
def dkwX2_likens_1 : List UInt8 := [42, 43, 180, 0, 9, 181, 0, 9, 42, 43, 180, 0, 71, 181, 0, 71, 42, 43, 180, 0, 74, 181, 0, 74]
abbrev dktX2_likens_1 : List UInt8 := dkwX2_likens_1 ++ dktX2_likens_2
def dkwX2_likens_0 : List UInt8 := [42, 43, 180, 0, 62, 181, 0, 62, 42, 43, 180, 0, 65, 181, 0, 65, 42, 43, 180, 0, 68, 181, 0, 68]
abbrev dktX2_likens_0 : List UInt8 := dkwX2_likens_0 ++ dktX2_likens_1
theorem dksX2_likens_0 : cX2_likens.data.toList.drop 0 = dktX2_likens_0 := by decide +kernel
theorem dksX2_likens_1 : cX2_likens.data.toList.drop 24 = dktX2_likens_1 := dk_seg dksX2_likens_0 24 rfl rfl
theorem dksX2_likens_2 : cX2_likens.data.toList.drop 48 = dktX2_likens_2 := dk_seg dksX2_likens_1 24 rfl rfl
theorem dksX2_likens_3 : cX2_likens.data.toList.drop 72 = dktX2_likens_3 := dk_seg dksX2_likens_2 24 rfl rfl
theorem dksX2_likens_4 : cX2_likens.data.toList.drop 94 = dktX2_likens_4 := dk_seg dksX2_likens_3 22 rfl rfl
theorem dksX2_likens_5 : cX2_likens.data.toList.drop 116 = dktX2_likens_5 := dk_seg dksX2_likens_4 22 rfl rfl
theorem dksX2_likens_6 : cX2_likens.data.toList.drop 140 = dktX2_likens_6 := dk_seg dksX2_likens_5 24 rfl rfl
theorem dksX2_likens_7 : cX2_likens.data.toList.drop 164 = dktX2_likens_7 := dk_seg dksX2_likens_6 24 rfl rfl
theorem dksX2_likens_8 : cX2_likens.data.toList.drop 187 = dktX2_likens_8 := dk_seg dksX2_likens_7 23 rfl rfl
theorem dksX2_likens_9 : cX2_likens.data.toList.drop 209 = dktX2_likens_9 := dk_seg dksX2_likens_8 22 rfl rfl
theorem dX2_likens_0 : decode cX2_likens 0 = .ok (.aload_n 0, 1) := dk_42 (dk_at dksX2_likens_0 0 rfl rfl)
theorem dX2_likens_1 : decode cX2_likens 1 = .ok (.aload_n 1, 1) := dk_43 (dk_at dksX2_likens_0 1 rfl rfl)
theorem dX2_likens_2 : decode cX2_likens 2 = .ok (.getfield 62, 3) := dk_180 0 62 (dk_at dksX2_likens_0 2 rfl rfl)
theorem dX2_likens_5 : decode cX2_likens 5 = .ok (.putfield 62, 3) := dk_181 0 62 (dk_at dksX2_likens_0 5 rfl rfl)
theorem dX2_likens_8 : decode cX2_likens 8 = .ok (.aload_n 0, 1) := dk_42 (dk_at dksX2_likens_0 8 rfl rfl)
theorem dX2_likens_9 : decode cX2_likens 9 = .ok (.aload_n 1, 1) := dk_43 (dk_at dksX2_likens_0 9 rfl rfl)
theorem dX2_likens_10 : decode cX2_likens 10 = .ok (.getfield 65, 3) := dk_180 0 65 (dk_at dksX2_likens_0 10 rfl rfl)
theorem dX2_likens_13 : decode cX2_likens 13 = .ok (.putfield 65, 3) := dk_181 0 65 (dk_at dksX2_likens_0 13 rfl rfl)
theorem dX2_likens_16 : decode cX2_likens 16 = .ok (.aload_n 0, 1) := dk_42 (dk_at dksX2_likens_0 16 rfl rfl)
theorem dX2_likens_17 : decode cX2_likens 17 = .ok (.aload_n 1, 1) := dk_43 (dk_at dksX2_likens_0 17 rfl rfl)
theorem dX2_likens_18 : decode cX2_likens 18 = .ok (.getfield 68, 3) := dk_180 0 68 (dk_at dksX2_likens_0 18 rfl rfl)
theorem dX2_likens_21 : decode cX2_likens 21 = .ok (.putfield 68, 3) := dk_181 0 68 (dk_at dksX2_likens_0 21 rfl rfl)
theorem dX2_likens_24 : decode cX2_likens 24 = .ok (.aload_n 0, 1) := dk_42 (dk_at dksX2_likens_1 0 rfl rfl)
theorem dX2_likens_25 : decode cX2_likens 25 = .ok (.aload_n 1, 1) := dk_43 (dk_at dksX2_likens_1 1 rfl rfl)
theorem dX2_likens_26 : decode cX2_likens 26 = .ok (.getfield 9, 3) := dk_180 0 9 (dk_at dksX2_likens_1 2 rfl rfl)
theorem dX2_likens_29 : decode cX2_likens 29 = .ok (.putfield 9, 3) := dk_181 0 9 (dk_at dksX2_likens_1 5 rfl rfl)
theorem dX2_likens_32 : decode cX2_likens 32 = .ok (.aload_n 0, 1) := dk_42 (dk_at dksX2_likens_1 8 rfl rfl)
theorem dX2_likens_33 : decode cX2_likens 33 = .ok (.aload_n 1, 1) := dk_43 (dk_at dksX2_likens_1 9 rfl rfl)
theorem dX2_likens_34 : decode cX2_likens 34 = .ok (.getfield 71, 3) := dk_180 0 71 (dk_at dksX2_likens_1 10 rfl rfl)
theorem dX2_likens_37 : decode cX2_likens 37 = .ok (.putfield 71, 3) := dk_181 0 71 (dk_at dksX2_likens_1 13 rfl rfl)
theorem dX2_likens_40 : decode cX2_likens 40 = .ok (.aload_n 0, 1) := dk_42 (dk_at dksX2_likens_1 16 rfl rfl)
theorem dX2_likens_41 : decode cX2_likens 41 = .ok (.aload_n 1, 1) := dk_43 (dk_at dksX2_likens_1 17 rfl rfl)
theorem dX2_likens_42 : decode cX2_likens 42 = .ok (.getfield 74, 3) := dk_180 0 74 (dk_at dksX2_likens_1 18 rfl rfl)
theorem dX2_likens_45 : decode cX2_likens 45 = .ok (.putfield 74, 3) := dk_181 0 74 (dk_at dksX2_likens_1 21 rfl rfl)
theorem dX2_likens_48 : decode cX2_likens 48 = .ok (.aload_n 0, 1) := dk_42 (dk_at dksX2_likens_2 0 rfl rfl)
theorem dX2_likens_49 : decode cX2_likens 49 = .ok (.aload_n 1, 1) := dk_43 (dk_at dksX2_likens_2 1 rfl rfl)
theorem dX2_likens_50 : decode cX2_likens 50 = .ok (.getfield 15, 3) := dk_180 0 15 (dk_at dksX2_likens_2 2 rfl rfl)
theorem dX2_likens_53 : decode cX2_likens 53 = .ok (.putfield 15, 3) := dk_181 0 15 (dk_at dksX2_likens_2 5 rfl rfl)
theorem dX2_likens_56 : decode cX2_likens 56 = .ok (.aload_n 0, 1) := dk_42 (dk_at dksX2_likens_2 8 rfl rfl)
theorem dX2_likens_57 : decode cX2_likens 57 = .ok (.aload_n 1, 1) := dk_43 (dk_at dksX2_likens_2 9 rfl rfl)
theorem dX2_likens_58 : decode cX2_likens 58 = .ok (.getfield 77, 3) := dk_180 0 77 (dk_at dksX2_likens_2 10 rfl rfl)
theorem dX2_likens_61 : decode cX2_likens 61 = .ok (.putfield 77, 3) := dk_181 0 77 (dk_at dksX2_likens_2 13 rfl rfl)
theorem dX2_likens_64 : decode cX2_likens 64 = .ok (.aload_n 1, 1) := dk_43 (dk_at dksX2_likens_2 16 rfl rfl)
theorem dX2_likens_65 : decode cX2_likens 65 = .ok (.getfield 18, 3) := dk_180 0 18 (dk_at dksX2_likens_2 17 rfl rfl)
theorem dX2_likens_68 : decode cX2_likens 68 = .ok (.aload_n 0, 1) := dk_42 (dk_at dksX2_likens_2 20 rfl rfl)
theorem dX2_likens_69 : decode cX2_likens 69 = .ok (.getfield 18, 3) := dk_180 0 18 (dk_at dksX2_likens_2 21 rfl rfl)
theorem dX2_likens_72 : decode cX2_likens 72 = .ok (.invokestatic 81, 3) := dk_184 0 81 (dk_at dksX2_likens_3 0 rfl rfl)
theorem dX2_likens_75 : decode cX2_likens 75 = .ok (.aload_n 1, 1) := dk_43 (dk_at dksX2_likens_3 3 rfl rfl)
theorem dX2_likens_76 : decode cX2_likens 76 = .ok (.getfield 22, 3) := dk_180 0 22 (dk_at dksX2_likens_3 4 rfl rfl)
theorem dX2_likens_79 : decode cX2_likens 79 = .ok (.aload_n 0, 1) := dk_42 (dk_at dksX2_likens_3 7 rfl rfl)
theorem dX2_likens_80 : decode cX2_likens 80 = .ok (.getfield 22, 3) := dk_180 0 22 (dk_at dksX2_likens_3 8 rfl rfl)
theorem dX2_likens_83 : decode cX2_likens 83 = .ok (.invokestatic 81, 3) := dk_184 0 81 (dk_at dksX2_likens_3 11 rfl rfl)
theorem dX2_likens_86 : decode cX2_likens 86 = .ok (.aload_n 1, 1) := dk_43 (dk_at dksX2_likens_3 14 rfl rfl)
theorem dX2_likens_87 : decode cX2_likens 87 = .ok (.getfield 25, 3) := dk_180 0 25 (dk_at dksX2_likens_3 15 rfl rfl)
theorem dX2_likens_90 : decode cX2_likens 90 = .ok (.aload_n 0, 1) := dk_42 (dk_at dksX2_likens_3 18 rfl rfl)
theorem dX2_likens_91 : decode cX2_likens 91 = .ok (.getfield 25, 3) := dk_180 0 25 (dk_at dksX2_likens_3 19 rfl rfl)
theorem dX2_likens_94 : decode cX2_likens 94 = .ok (.invokestatic 81, 3) := dk_184 0 81 (dk_at dksX2_likens_4 0 rfl rfl)
theorem dX2_likens_97 : decode cX2_likens 97 = .ok (.aload_n 1, 1) := dk_43 (dk_at dksX2_likens_4 3 rfl rfl)
theorem dX2_likens_98 : decode cX2_likens 98 = .ok (.getfield 28, 3) := dk_180 0 28 (dk_at dksX2_likens_4 4 rfl rfl)
theorem dX2_likens_101 : decode cX2_likens 101 = .ok (.aload_n 0, 1) := dk_42 (dk_at dksX2_likens_4 7 rfl rfl)
theorem dX2_likens_102 : decode cX2_likens 102 = .ok (.getfield 28, 3) := dk_180 0 28 (dk_at dksX2_likens_4 8 rfl rfl)
theorem dX2_likens_105 : decode cX2_likens 105 = .ok (.invokestatic 81, 3) := dk_184 0 81 (dk_at dksX2_likens_4 11 rfl rfl)
theorem dX2_likens_108 : decode cX2_likens 108 = .ok (.aload_n 1, 1) := dk_43 (dk_at dksX2_likens_4 14 rfl rfl)
theorem dX2_likens_109 : decode cX2_likens 109 = .ok (.getfield 31, 3) := dk_180 0 31 (dk_at dksX2_likens_4 15 rfl rfl)
theorem dX2_likens_112 : decode cX2_likens 112 = .ok (.aload_n 0, 1) := dk_42 (dk_at dksX2_likens_4 18 rfl rfl)
theorem dX2_likens_113 : decode cX2_likens 113 = .ok (.getfield 31, 3) := dk_180 0 31 (dk_at dksX2_likens_4 19 rfl rfl)
theorem dX2_likens_116 : decode cX2_likens 116 = .ok (.invokestatic 81, 3) := dk_184 0 81 (dk_at dksX2_likens_5 0 rfl rfl)
theorem dX2_likens_119 : decode cX2_likens 119 = .ok (.aload_n 1, 1) := dk_43 (dk_at dksX2_likens_5 3 rfl rfl)
theorem dX2_likens_120 : decode cX2_likens 120 = .ok (.getfield 34, 3) := dk_180 0 34 (dk_at dksX2_likens_5 4 rfl rfl)
theorem dX2_likens_123 : decode cX2_likens 123 = .ok (.iconst 0, 1) := dk_3 (dk_at dksX2_likens_5 7 rfl rfl)
theorem dX2_likens_124 : decode cX2_likens 124 = .ok (.aload_n 0, 1) := dk_42 (dk_at dksX2_likens_5 8 rfl rfl)
theorem dX2_likens_125 : decode cX2_likens 125 = .ok (.getfield 34, 3) := dk_180 0 34 (dk_at dksX2_likens_5 9 rfl rfl)
theorem dX2_likens_128 : decode cX2_likens 128 = .ok (.iconst 0, 1) := dk_3 (dk_at dksX2_likens_5 12 rfl rfl)
theorem dX2_likens_129 : decode cX2_likens 129 = .ok (.bipush 6, 2) := dk_16 6 (dk_at dksX2_likens_5 13 rfl rfl)
theorem dX2_likens_131 : decode cX2_likens 131 = .ok (.invokestatic 85, 3) := dk_184 0 85 (dk_at dksX2_likens_5 15 rfl rfl)
theorem dX2_likens_134 : decode cX2_likens 134 = .ok (.aload_n 1, 1) := dk_43 (dk_at dksX2_likens_5 18 rfl rfl)
theorem dX2_likens_135 : decode cX2_likens 135 = .ok (.getfield 38, 3) := dk_180 0 38 (dk_at dksX2_likens_5 19 rfl rfl)
theorem dX2_likens_138 : decode cX2_likens 138 = .ok (.iconst 0, 1) := dk_3 (dk_at dksX2_likens_5 22 rfl rfl)
theorem dX2_likens_139 : decode cX2_likens 139 = .ok (.aload_n 0, 1) := dk_42 (dk_at dksX2_likens_5 23 rfl rfl)
theorem dX2_likens_140 : decode cX2_likens 140 = .ok (.getfield 38, 3) := dk_180 0 38 (dk_at dksX2_likens_6 0 rfl rfl)
theorem dX2_likens_143 : decode cX2_likens 143 = .ok (.iconst 0, 1) := dk_3 (dk_at dksX2_likens_6 3 rfl rfl)
theorem dX2_likens_144 : decode cX2_likens 144 = .ok (.bipush 12, 2) := dk_16 12 (dk_at dksX2_likens_6 4 rfl rfl)
theorem dX2_likens_146 : decode cX2_likens 146 = .ok (.invokestatic 85, 3) := dk_184 0 85 (dk_at dksX2_likens_6 6 rfl rfl)
theorem dX2_likens_149 : decode cX2_likens 149 = .ok (.aload_n 1, 1) := dk_43 (dk_at dksX2_likens_6 9 rfl rfl)
theorem dX2_likens_150 : decode cX2_likens 150 = .ok (.getfield 41, 3) := dk_180 0 41 (dk_at dksX2_likens_6 10 rfl rfl)
theorem dX2_likens_153 : decode cX2_likens 153 = .ok (.aload_n 0, 1) := dk_42 (dk_at dksX2_likens_6 13 rfl rfl)
theorem dX2_likens_154 : decode cX2_likens 154 = .ok (.getfield 41, 3) := dk_180 0 41 (dk_at dksX2_likens_6 14 rfl rfl)
theorem dX2_likens_157 : decode cX2_likens 157 = .ok (.invokestatic 81, 3) := dk_184 0 81 (dk_at dksX2_likens_6 17 rfl rfl)
theorem dX2_likens_160 : decode cX2_likens 160 = .ok (.aload_n 1, 1) := dk_43 (dk_at dksX2_likens_6 20 rfl rfl)
theorem dX2_likens_161 : decode cX2_likens 161 = .ok (.getfield 44, 3) := dk_180 0 44 (dk_at dksX2_likens_6 21 rfl rfl)
theorem dX2_likens_164 : decode cX2_likens 164 = .ok (.aload_n 0, 1) := dk_42 (dk_at dksX2_likens_7 0 rfl rfl)
theorem dX2_likens_165 : decode cX2_likens 165 = .ok (.getfield 44, 3) := dk_180 0 44 (dk_at dksX2_likens_7 1 rfl rfl)
theorem dX2_likens_168 : decode cX2_likens 168 = .ok (.invokestatic 81, 3) := dk_184 0 81 (dk_at dksX2_likens_7 4 rfl rfl)
theorem dX2_likens_171 : decode cX2_likens 171 = .ok (.aload_n 1, 1) := dk_43 (dk_at dksX2_likens_7 7 rfl rfl)
theorem dX2_likens_172 : decode cX2_likens 172 = .ok (.getfield 47, 3) := dk_180 0 47 (dk_at dksX2_likens_7 8 rfl rfl)
theorem dX2_likens_175 : decode cX2_likens 175 = .ok (.aload_n 0, 1) := dk_42 (dk_at dksX2_likens_7 11 rfl rfl)
theorem dX2_likens_176 : decode cX2_likens 176 = .ok (.getfield 47, 3) := dk_180 0 47 (dk_at dksX2_likens_7 12 rfl rfl)
theorem dX2_likens_179 : decode cX2_likens 179 = .ok (.invokestatic 81, 3) := dk_184 0 81 (dk_at dksX2_likens_7 15 rfl rfl)
theorem dX2_likens_182 : decode cX2_likens 182 = .ok (.aload_n 1, 1) := dk_43 (dk_at dksX2_likens_7 18 rfl rfl)
theorem dX2_likens_183 : decode cX2_likens 183 = .ok (.getfield 50, 3) := dk_180 0 50 (dk_at dksX2_likens_7 19 rfl rfl)
theorem dX2_likens_186 : decode cX2_likens 186 = .ok (.aload_n 0, 1) := dk_42 (dk_at dksX2_likens_7 22 rfl rfl)
theorem dX2_likens_187 : decode cX2_likens 187 = .ok (.getfield 50, 3) := dk_180 0 50 (dk_at dksX2_likens_8 0 rfl rfl)
theorem dX2_likens_190 : decode cX2_likens 190 = .ok (.invokestatic 81, 3) := dk_184 0 81 (dk_at dksX2_likens_8 3 rfl rfl)
theorem dX2_likens_193 : decode cX2_likens 193 = .ok (.aload_n 1, 1) := dk_43 (dk_at dksX2_likens_8 6 rfl rfl)
theorem dX2_likens_194 : decode cX2_likens 194 = .ok (.getfield 53, 3) := dk_180 0 53 (dk_at dksX2_likens_8 7 rfl rfl)
theorem dX2_likens_197 : decode cX2_likens 197 = .ok (.aload_n 0, 1) := dk_42 (dk_at dksX2_likens_8 10 rfl rfl)
theorem dX2_likens_198 : decode cX2_likens 198 = .ok (.getfield 53, 3) := dk_180 0 53 (dk_at dksX2_likens_8 11 rfl rfl)
theorem dX2_likens_201 : decode cX2_likens 201 = .ok (.invokestatic 81, 3) := dk_184 0 81 (dk_at dksX2_likens_8 14 rfl rfl)
theorem dX2_likens_204 : decode cX2_likens 204 = .ok (.aload_n 1, 1) := dk_43 (dk_at dksX2_likens_8 17 rfl rfl)
theorem dX2_likens_205 : decode cX2_likens 205 = .ok (.getfield 56, 3) := dk_180 0 56 (dk_at dksX2_likens_8 18 rfl rfl)
theorem dX2_likens_208 : decode cX2_likens 208 = .ok (.aload_n 0, 1) := dk_42 (dk_at dksX2_likens_8 21 rfl rfl)
theorem dX2_likens_209 : decode cX2_likens 209 = .ok (.getfield 56, 3) := dk_180 0 56 (dk_at dksX2_likens_9 0 rfl rfl)
theorem dX2_likens_212 : decode cX2_likens 212 = .ok (.invokestatic 81, 3) := dk_184 0 81 (dk_at dksX2_likens_9 3 rfl rfl)
theorem dX2_likens_215 : decode cX2_likens 215 = .ok (.aload_n 1, 1) := dk_43 (dk_at dksX2_likens_9 6 rfl rfl)
theorem dX2_likens_216 : decode cX2_likens 216 = .ok (.getfield 59, 3) := dk_180 0 59 (dk_at dksX2_likens_9 7 rfl rfl)
theorem dX2_likens_219 : decode cX2_likens 219 = .ok (.aload_n 0, 1) := dk_42 (dk_at dksX2_likens_9 10 rfl rfl)
theorem dX2_likens_220 : decode cX2_likens 220 = .ok (.getfield 59, 3) := dk_180 0 59 (dk_at dksX2_likens_9 11 rfl rfl)
theorem dX2_likens_223 : decode cX2_likens 223 = .ok (.invokestatic 81, 3) := dk_184 0 81 (dk_at dksX2_likens_9 14 rfl rfl)
theorem dX2_likens_226 : decode cX2_likens 226 = .ok (.aload_n 0, 1) := dk_42 (dk_at dksX2_likens_9 17 rfl rfl)
theorem dX2_likens_227 : decode cX2_likens 227 = .ok (.areturn, 1) := dk_176 (dk_at dksX2_likens_9 18 rfl rfl)
abbrev cX2_row : ByteArray := prog_16_method_3_code
def yX2_row : MethodName := ⟨RX2, "row", "([I[I)V"⟩
def dkwX2_row_0 : List UInt8 := [42, 3, 43, 3, 43, 190, 184, 0, 85, 177]
abbrev dktX2_row_0 : List UInt8 := dkwX2_row_0 ++ []
theorem dksX2_row_0 : cX2_row.data.toList.drop 0 = dktX2_row_0 := by decide +kernel
theorem dX2_row_0 : decode cX2_row 0 = .ok (.aload_n 0, 1) := dk_42 (dk_at dksX2_row_0 0 rfl rfl)
theorem dX2_row_1 : decode cX2_row 1 = .ok (.iconst 0, 1) := dk_3 (dk_at dksX2_row_0 1 rfl rfl)
theorem dX2_row_2 : decode cX2_row 2 = .ok (.aload_n 1, 1) := dk_43 (dk_at dksX2_row_0 2 rfl rfl)
theorem dX2_row_3 : decode cX2_row 3 = .ok (.iconst 0, 1) := dk_3 (dk_at dksX2_row_0 3 rfl rfl)
theorem dX2_row_4 : decode cX2_row 4 = .ok (.aload_n 1, 1) := dk_43 (dk_at dksX2_row_0 4 rfl rfl)
theorem dX2_row_5 : decode cX2_row 5 = .ok (.arraylength, 1) := dk_190 (dk_at dksX2_row_0 5 rfl rfl)
theorem dX2_row_6 : decode cX2_row 6 = .ok (.invokestatic 85, 3) := dk_184 0 85 (dk_at dksX2_row_0 6 rfl rfl)
theorem dX2_row_9 : decode cX2_row 9 = .ok (.return_, 1) := dk_177 (dk_at dksX2_row_0 9 rfl rfl)
abbrev cX2_isBowed : ByteArray := prog_16_method_15_code
def yX2_isBowed : MethodName := ⟨RX2, "isBowed", "(I)Z"⟩
def dkwX2_isBowed_1 : List UInt8 := [182, 0, 106, 42, 180, 0, 22, 27, 46, 164, 0, 7, 4, 167, 0, 4, 3, 172]
abbrev dktX2_isBowed_1 : List UInt8 := dkwX2_isBowed_1 ++ []
def dkwX2_isBowed_0 : List UInt8 := [42, 180, 0, 34, 27, 51, 154, 0, 28, 42, 180, 0, 31, 27, 46, 16, 99, 159, 0, 17, 42, 27]
abbrev dktX2_isBowed_0 : List UInt8 := dkwX2_isBowed_0 ++ dktX2_isBowed_1
theorem dksX2_isBowed_0 : cX2_isBowed.data.toList.drop 0 = dktX2_isBowed_0 := by decide +kernel
theorem dksX2_isBowed_1 : cX2_isBowed.data.toList.drop 22 = dktX2_isBowed_1 := dk_seg dksX2_isBowed_0 22 rfl rfl
theorem dX2_isBowed_0 : decode cX2_isBowed 0 = .ok (.aload_n 0, 1) := dk_42 (dk_at dksX2_isBowed_0 0 rfl rfl)
theorem dX2_isBowed_1 : decode cX2_isBowed 1 = .ok (.getfield 34, 3) := dk_180 0 34 (dk_at dksX2_isBowed_0 1 rfl rfl)
theorem dX2_isBowed_4 : decode cX2_isBowed 4 = .ok (.iload_n 1, 1) := dk_27 (dk_at dksX2_isBowed_0 4 rfl rfl)
theorem dX2_isBowed_5 : decode cX2_isBowed 5 = .ok (.baload, 1) := dk_51 (dk_at dksX2_isBowed_0 5 rfl rfl)
theorem dX2_isBowed_6 : decode cX2_isBowed 6 = .ok (.ifCond .ne 28, 3) := dk_154 0 28 (dk_at dksX2_isBowed_0 6 rfl rfl)
theorem dX2_isBowed_9 : decode cX2_isBowed 9 = .ok (.aload_n 0, 1) := dk_42 (dk_at dksX2_isBowed_0 9 rfl rfl)
theorem dX2_isBowed_10 : decode cX2_isBowed 10 = .ok (.getfield 31, 3) := dk_180 0 31 (dk_at dksX2_isBowed_0 10 rfl rfl)
theorem dX2_isBowed_13 : decode cX2_isBowed 13 = .ok (.iload_n 1, 1) := dk_27 (dk_at dksX2_isBowed_0 13 rfl rfl)
theorem dX2_isBowed_14 : decode cX2_isBowed 14 = .ok (.iaload, 1) := dk_46 (dk_at dksX2_isBowed_0 14 rfl rfl)
theorem dX2_isBowed_15 : decode cX2_isBowed 15 = .ok (.bipush 99, 2) := dk_16 99 (dk_at dksX2_isBowed_0 15 rfl rfl)
theorem dX2_isBowed_17 : decode cX2_isBowed 17 = .ok (.if_icmp .eq 17, 3) := dk_159 0 17 (dk_at dksX2_isBowed_0 17 rfl rfl)
theorem dX2_isBowed_20 : decode cX2_isBowed 20 = .ok (.aload_n 0, 1) := dk_42 (dk_at dksX2_isBowed_0 20 rfl rfl)
theorem dX2_isBowed_21 : decode cX2_isBowed 21 = .ok (.iload_n 1, 1) := dk_27 (dk_at dksX2_isBowed_0 21 rfl rfl)
theorem dX2_isBowed_22 : decode cX2_isBowed 22 = .ok (.invokevirtual 106, 3) := dk_182 0 106 (dk_at dksX2_isBowed_1 0 rfl rfl)
theorem dX2_isBowed_25 : decode cX2_isBowed 25 = .ok (.aload_n 0, 1) := dk_42 (dk_at dksX2_isBowed_1 3 rfl rfl)
theorem dX2_isBowed_26 : decode cX2_isBowed 26 = .ok (.getfield 22, 3) := dk_180 0 22 (dk_at dksX2_isBowed_1 4 rfl rfl)
theorem dX2_isBowed_29 : decode cX2_isBowed 29 = .ok (.iload_n 1, 1) := dk_27 (dk_at dksX2_isBowed_1 7 rfl rfl)
theorem dX2_isBowed_30 : decode cX2_isBowed 30 = .ok (.iaload, 1) := dk_46 (dk_at dksX2_isBowed_1 8 rfl rfl)
theorem dX2_isBowed_31 : decode cX2_isBowed 31 = .ok (.if_icmp .le 7, 3) := dk_164 0 7 (dk_at dksX2_isBowed_1 9 rfl rfl)
theorem dX2_isBowed_34 : decode cX2_isBowed 34 = .ok (.iconst 1, 1) := dk_4 (dk_at dksX2_isBowed_1 12 rfl rfl)
theorem dX2_isBowed_35 : decode cX2_isBowed 35 = .ok (.goto 4, 3) := dk_167 0 4 (dk_at dksX2_isBowed_1 13 rfl rfl)
theorem dX2_isBowed_38 : decode cX2_isBowed 38 = .ok (.iconst 0, 1) := dk_3 (dk_at dksX2_isBowed_1 16 rfl rfl)
theorem dX2_isBowed_39 : decode cX2_isBowed 39 = .ok (.ireturn, 1) := dk_172 (dk_at dksX2_isBowed_1 17 rfl rfl)
abbrev cX2_gets : ByteArray := prog_16_method_17_code
def yX2_gets : MethodName := ⟨RX2, "gets", "(II)V"⟩
def dkwX2_gets_0 : List UInt8 := [42, 180, 0, 18, 27, 17, 39, 15, 42, 180, 0, 18, 27, 46, 28, 96, 184, 0, 109, 79, 177]
abbrev dktX2_gets_0 : List UInt8 := dkwX2_gets_0 ++ []
theorem dksX2_gets_0 : cX2_gets.data.toList.drop 0 = dktX2_gets_0 := by decide +kernel
theorem dX2_gets_0 : decode cX2_gets 0 = .ok (.aload_n 0, 1) := dk_42 (dk_at dksX2_gets_0 0 rfl rfl)
theorem dX2_gets_1 : decode cX2_gets 1 = .ok (.getfield 18, 3) := dk_180 0 18 (dk_at dksX2_gets_0 1 rfl rfl)
theorem dX2_gets_4 : decode cX2_gets 4 = .ok (.iload_n 1, 1) := dk_27 (dk_at dksX2_gets_0 4 rfl rfl)
theorem dX2_gets_5 : decode cX2_gets 5 = .ok (.sipush 9999, 3) := dk_17 39 15 (dk_at dksX2_gets_0 5 rfl rfl)
theorem dX2_gets_8 : decode cX2_gets 8 = .ok (.aload_n 0, 1) := dk_42 (dk_at dksX2_gets_0 8 rfl rfl)
theorem dX2_gets_9 : decode cX2_gets 9 = .ok (.getfield 18, 3) := dk_180 0 18 (dk_at dksX2_gets_0 9 rfl rfl)
theorem dX2_gets_12 : decode cX2_gets 12 = .ok (.iload_n 1, 1) := dk_27 (dk_at dksX2_gets_0 12 rfl rfl)
theorem dX2_gets_13 : decode cX2_gets 13 = .ok (.iaload, 1) := dk_46 (dk_at dksX2_gets_0 13 rfl rfl)
theorem dX2_gets_14 : decode cX2_gets 14 = .ok (.iload_n 2, 1) := dk_28 (dk_at dksX2_gets_0 14 rfl rfl)
theorem dX2_gets_15 : decode cX2_gets 15 = .ok (.iadd, 1) := dk_96 (dk_at dksX2_gets_0 15 rfl rfl)
theorem dX2_gets_16 : decode cX2_gets 16 = .ok (.invokestatic 109, 3) := dk_184 0 109 (dk_at dksX2_gets_0 16 rfl rfl)
theorem dX2_gets_19 : decode cX2_gets 19 = .ok (.iastore, 1) := dk_79 (dk_at dksX2_gets_0 19 rfl rfl)
theorem dX2_gets_20 : decode cX2_gets 20 = .ok (.return_, 1) := dk_177 (dk_at dksX2_gets_0 20 rfl rfl)
abbrev cX2_walks : ByteArray := prog_16_method_18_code
def yX2_walks : MethodName := ⟨RX2, "walks", "(I)V"⟩
def dkwX2_walks_3 : List UInt8 := [164, 0, 4, 177, 42, 180, 0, 25, 27, 29, 79, 177]
abbrev dktX2_walks_3 : List UInt8 := dkwX2_walks_3 ++ []
def dkwX2_walks_2 : List UInt8 := [42, 180, 0, 25, 27, 46, 184, 0, 115, 16, 6, 160, 0, 16, 42, 27, 182, 0, 106, 42, 180, 0, 9]
abbrev dktX2_walks_2 : List UInt8 := dkwX2_walks_2 ++ dktX2_walks_3
def dkwX2_walks_1 : List UInt8 := [153, 0, 14, 42, 180, 0, 25, 27, 46, 4, 96, 167, 0, 11, 42, 180, 0, 25, 27, 46, 4, 100, 62, 29]
abbrev dktX2_walks_1 : List UInt8 := dkwX2_walks_1 ++ dktX2_walks_2
def dkwX2_walks_0 : List UInt8 := [42, 180, 0, 28, 27, 46, 42, 180, 0, 25, 27, 46, 164, 0, 7, 4, 167, 0, 4, 3, 61, 28]
abbrev dktX2_walks_0 : List UInt8 := dkwX2_walks_0 ++ dktX2_walks_1
theorem dksX2_walks_0 : cX2_walks.data.toList.drop 0 = dktX2_walks_0 := by decide +kernel
theorem dksX2_walks_1 : cX2_walks.data.toList.drop 22 = dktX2_walks_1 := dk_seg dksX2_walks_0 22 rfl rfl
theorem dksX2_walks_2 : cX2_walks.data.toList.drop 46 = dktX2_walks_2 := dk_seg dksX2_walks_1 24 rfl rfl
theorem dksX2_walks_3 : cX2_walks.data.toList.drop 69 = dktX2_walks_3 := dk_seg dksX2_walks_2 23 rfl rfl
theorem dX2_walks_0 : decode cX2_walks 0 = .ok (.aload_n 0, 1) := dk_42 (dk_at dksX2_walks_0 0 rfl rfl)
theorem dX2_walks_1 : decode cX2_walks 1 = .ok (.getfield 28, 3) := dk_180 0 28 (dk_at dksX2_walks_0 1 rfl rfl)
theorem dX2_walks_4 : decode cX2_walks 4 = .ok (.iload_n 1, 1) := dk_27 (dk_at dksX2_walks_0 4 rfl rfl)
theorem dX2_walks_5 : decode cX2_walks 5 = .ok (.iaload, 1) := dk_46 (dk_at dksX2_walks_0 5 rfl rfl)
theorem dX2_walks_6 : decode cX2_walks 6 = .ok (.aload_n 0, 1) := dk_42 (dk_at dksX2_walks_0 6 rfl rfl)
theorem dX2_walks_7 : decode cX2_walks 7 = .ok (.getfield 25, 3) := dk_180 0 25 (dk_at dksX2_walks_0 7 rfl rfl)
theorem dX2_walks_10 : decode cX2_walks 10 = .ok (.iload_n 1, 1) := dk_27 (dk_at dksX2_walks_0 10 rfl rfl)
theorem dX2_walks_11 : decode cX2_walks 11 = .ok (.iaload, 1) := dk_46 (dk_at dksX2_walks_0 11 rfl rfl)
theorem dX2_walks_12 : decode cX2_walks 12 = .ok (.if_icmp .le 7, 3) := dk_164 0 7 (dk_at dksX2_walks_0 12 rfl rfl)
theorem dX2_walks_15 : decode cX2_walks 15 = .ok (.iconst 1, 1) := dk_4 (dk_at dksX2_walks_0 15 rfl rfl)
theorem dX2_walks_16 : decode cX2_walks 16 = .ok (.goto 4, 3) := dk_167 0 4 (dk_at dksX2_walks_0 16 rfl rfl)
theorem dX2_walks_19 : decode cX2_walks 19 = .ok (.iconst 0, 1) := dk_3 (dk_at dksX2_walks_0 19 rfl rfl)
theorem dX2_walks_20 : decode cX2_walks 20 = .ok (.istore_n 2, 1) := dk_61 (dk_at dksX2_walks_0 20 rfl rfl)
theorem dX2_walks_21 : decode cX2_walks 21 = .ok (.iload_n 2, 1) := dk_28 (dk_at dksX2_walks_0 21 rfl rfl)
theorem dX2_walks_22 : decode cX2_walks 22 = .ok (.ifCond .eq 14, 3) := dk_153 0 14 (dk_at dksX2_walks_1 0 rfl rfl)
theorem dX2_walks_25 : decode cX2_walks 25 = .ok (.aload_n 0, 1) := dk_42 (dk_at dksX2_walks_1 3 rfl rfl)
theorem dX2_walks_26 : decode cX2_walks 26 = .ok (.getfield 25, 3) := dk_180 0 25 (dk_at dksX2_walks_1 4 rfl rfl)
theorem dX2_walks_29 : decode cX2_walks 29 = .ok (.iload_n 1, 1) := dk_27 (dk_at dksX2_walks_1 7 rfl rfl)
theorem dX2_walks_30 : decode cX2_walks 30 = .ok (.iaload, 1) := dk_46 (dk_at dksX2_walks_1 8 rfl rfl)
theorem dX2_walks_31 : decode cX2_walks 31 = .ok (.iconst 1, 1) := dk_4 (dk_at dksX2_walks_1 9 rfl rfl)
theorem dX2_walks_32 : decode cX2_walks 32 = .ok (.iadd, 1) := dk_96 (dk_at dksX2_walks_1 10 rfl rfl)
theorem dX2_walks_33 : decode cX2_walks 33 = .ok (.goto 11, 3) := dk_167 0 11 (dk_at dksX2_walks_1 11 rfl rfl)
theorem dX2_walks_36 : decode cX2_walks 36 = .ok (.aload_n 0, 1) := dk_42 (dk_at dksX2_walks_1 14 rfl rfl)
theorem dX2_walks_37 : decode cX2_walks 37 = .ok (.getfield 25, 3) := dk_180 0 25 (dk_at dksX2_walks_1 15 rfl rfl)
theorem dX2_walks_40 : decode cX2_walks 40 = .ok (.iload_n 1, 1) := dk_27 (dk_at dksX2_walks_1 18 rfl rfl)
theorem dX2_walks_41 : decode cX2_walks 41 = .ok (.iaload, 1) := dk_46 (dk_at dksX2_walks_1 19 rfl rfl)
theorem dX2_walks_42 : decode cX2_walks 42 = .ok (.iconst 1, 1) := dk_4 (dk_at dksX2_walks_1 20 rfl rfl)
theorem dX2_walks_43 : decode cX2_walks 43 = .ok (.isub, 1) := dk_100 (dk_at dksX2_walks_1 21 rfl rfl)
theorem dX2_walks_44 : decode cX2_walks 44 = .ok (.istore_n 3, 1) := dk_62 (dk_at dksX2_walks_1 22 rfl rfl)
theorem dX2_walks_45 : decode cX2_walks 45 = .ok (.iload_n 3, 1) := dk_29 (dk_at dksX2_walks_1 23 rfl rfl)
theorem dX2_walks_46 : decode cX2_walks 46 = .ok (.aload_n 0, 1) := dk_42 (dk_at dksX2_walks_2 0 rfl rfl)
theorem dX2_walks_47 : decode cX2_walks 47 = .ok (.getfield 25, 3) := dk_180 0 25 (dk_at dksX2_walks_2 1 rfl rfl)
theorem dX2_walks_50 : decode cX2_walks 50 = .ok (.iload_n 1, 1) := dk_27 (dk_at dksX2_walks_2 4 rfl rfl)
theorem dX2_walks_51 : decode cX2_walks 51 = .ok (.iaload, 1) := dk_46 (dk_at dksX2_walks_2 5 rfl rfl)
theorem dX2_walks_52 : decode cX2_walks 52 = .ok (.invokestatic 115, 3) := dk_184 0 115 (dk_at dksX2_walks_2 6 rfl rfl)
theorem dX2_walks_55 : decode cX2_walks 55 = .ok (.bipush 6, 2) := dk_16 6 (dk_at dksX2_walks_2 9 rfl rfl)
theorem dX2_walks_57 : decode cX2_walks 57 = .ok (.if_icmp .ne 16, 3) := dk_160 0 16 (dk_at dksX2_walks_2 11 rfl rfl)
theorem dX2_walks_60 : decode cX2_walks 60 = .ok (.aload_n 0, 1) := dk_42 (dk_at dksX2_walks_2 14 rfl rfl)
theorem dX2_walks_61 : decode cX2_walks 61 = .ok (.iload_n 1, 1) := dk_27 (dk_at dksX2_walks_2 15 rfl rfl)
theorem dX2_walks_62 : decode cX2_walks 62 = .ok (.invokevirtual 106, 3) := dk_182 0 106 (dk_at dksX2_walks_2 16 rfl rfl)
theorem dX2_walks_65 : decode cX2_walks 65 = .ok (.aload_n 0, 1) := dk_42 (dk_at dksX2_walks_2 19 rfl rfl)
theorem dX2_walks_66 : decode cX2_walks 66 = .ok (.getfield 9, 3) := dk_180 0 9 (dk_at dksX2_walks_2 20 rfl rfl)
theorem dX2_walks_69 : decode cX2_walks 69 = .ok (.if_icmp .le 4, 3) := dk_164 0 4 (dk_at dksX2_walks_3 0 rfl rfl)
theorem dX2_walks_72 : decode cX2_walks 72 = .ok (.return_, 1) := dk_177 (dk_at dksX2_walks_3 3 rfl rfl)
theorem dX2_walks_73 : decode cX2_walks 73 = .ok (.aload_n 0, 1) := dk_42 (dk_at dksX2_walks_3 4 rfl rfl)
theorem dX2_walks_74 : decode cX2_walks 74 = .ok (.getfield 25, 3) := dk_180 0 25 (dk_at dksX2_walks_3 5 rfl rfl)
theorem dX2_walks_77 : decode cX2_walks 77 = .ok (.iload_n 1, 1) := dk_27 (dk_at dksX2_walks_3 8 rfl rfl)
theorem dX2_walks_78 : decode cX2_walks 78 = .ok (.iload_n 3, 1) := dk_29 (dk_at dksX2_walks_3 9 rfl rfl)
theorem dX2_walks_79 : decode cX2_walks 79 = .ok (.iastore, 1) := dk_79 (dk_at dksX2_walks_3 10 rfl rfl)
theorem dX2_walks_80 : decode cX2_walks 80 = .ok (.return_, 1) := dk_177 (dk_at dksX2_walks_3 11 rfl rfl)
abbrev cX2_draw : ByteArray := prog_16_method_4_code
def yX2_draw : MethodName := ⟨RX2, "draw", "(I)I"⟩
def dkwX2_draw_1 : List UInt8 := [17, 127, 255, 126, 27, 112, 172]
abbrev dktX2_draw_1 : List UInt8 := dkwX2_draw_1 ++ []
def dkwX2_draw_0 : List UInt8 := [42, 18, 91, 42, 180, 0, 15, 104, 17, 48, 57, 96, 181, 0, 15, 42, 180, 0, 15, 16, 16, 124]
abbrev dktX2_draw_0 : List UInt8 := dkwX2_draw_0 ++ dktX2_draw_1
theorem dksX2_draw_0 : cX2_draw.data.toList.drop 0 = dktX2_draw_0 := by decide +kernel
theorem dksX2_draw_1 : cX2_draw.data.toList.drop 22 = dktX2_draw_1 := dk_seg dksX2_draw_0 22 rfl rfl
theorem dX2_draw_0 : decode cX2_draw 0 = .ok (.aload_n 0, 1) := dk_42 (dk_at dksX2_draw_0 0 rfl rfl)
theorem dX2_draw_1 : decode cX2_draw 1 = .ok (.ldc 91, 2) := dk_18 91 (dk_at dksX2_draw_0 1 rfl rfl)
theorem dX2_draw_3 : decode cX2_draw 3 = .ok (.aload_n 0, 1) := dk_42 (dk_at dksX2_draw_0 3 rfl rfl)
theorem dX2_draw_4 : decode cX2_draw 4 = .ok (.getfield 15, 3) := dk_180 0 15 (dk_at dksX2_draw_0 4 rfl rfl)
theorem dX2_draw_7 : decode cX2_draw 7 = .ok (.imul, 1) := dk_104 (dk_at dksX2_draw_0 7 rfl rfl)
theorem dX2_draw_8 : decode cX2_draw 8 = .ok (.sipush 12345, 3) := dk_17 48 57 (dk_at dksX2_draw_0 8 rfl rfl)
theorem dX2_draw_11 : decode cX2_draw 11 = .ok (.iadd, 1) := dk_96 (dk_at dksX2_draw_0 11 rfl rfl)
theorem dX2_draw_12 : decode cX2_draw 12 = .ok (.putfield 15, 3) := dk_181 0 15 (dk_at dksX2_draw_0 12 rfl rfl)
theorem dX2_draw_15 : decode cX2_draw 15 = .ok (.aload_n 0, 1) := dk_42 (dk_at dksX2_draw_0 15 rfl rfl)
theorem dX2_draw_16 : decode cX2_draw 16 = .ok (.getfield 15, 3) := dk_180 0 15 (dk_at dksX2_draw_0 16 rfl rfl)
theorem dX2_draw_19 : decode cX2_draw 19 = .ok (.bipush 16, 2) := dk_16 16 (dk_at dksX2_draw_0 19 rfl rfl)
theorem dX2_draw_21 : decode cX2_draw 21 = .ok (.iushr, 1) := dk_124 (dk_at dksX2_draw_0 21 rfl rfl)
theorem dX2_draw_22 : decode cX2_draw 22 = .ok (.sipush 32767, 3) := dk_17 127 255 (dk_at dksX2_draw_1 0 rfl rfl)
theorem dX2_draw_25 : decode cX2_draw 25 = .ok (.iand, 1) := dk_126 (dk_at dksX2_draw_1 3 rfl rfl)
theorem dX2_draw_26 : decode cX2_draw 26 = .ok (.iload_n 1, 1) := dk_27 (dk_at dksX2_draw_1 4 rfl rfl)
theorem dX2_draw_27 : decode cX2_draw 27 = .ok (.irem, 1) := dk_112 (dk_at dksX2_draw_1 5 rfl rfl)
theorem dX2_draw_28 : decode cX2_draw 28 = .ok (.ireturn, 1) := dk_172 (dk_at dksX2_draw_1 6 rfl rfl)
abbrev cX2_ends : ByteArray := prog_16_method_19_code
def yX2_ends : MethodName := ⟨RX2, "ends", "()V"⟩
def dkwX2_ends_4 : List UInt8 := [5, 108, 79, 132, 1, 1, 167, 255, 235, 177]
abbrev dktX2_ends_4 : List UInt8 := dkwX2_ends_4 ++ []
def dkwX2_ends_3 : List UInt8 := [79, 132, 1, 1, 167, 255, 216, 3, 60, 27, 42, 180, 0, 65, 162, 0, 19, 42, 180, 0, 31, 27, 92, 46]
abbrev dktX2_ends_3 : List UInt8 := dkwX2_ends_3 ++ dktX2_ends_4
def dkwX2_ends_2 : List UInt8 := [27, 46, 5, 159, 0, 22, 42, 180, 0, 50, 27, 16, 40, 42, 180, 0, 50, 27, 46, 4, 96, 184, 0, 109]
abbrev dktX2_ends_2 : List UInt8 := dkwX2_ends_2 ++ dktX2_ends_3
def dkwX2_ends_1 : List UInt8 := [180, 0, 71, 16, 24, 112, 153, 0, 4, 177, 3, 60, 27, 42, 180, 0, 68, 162, 0, 38, 42, 180, 0, 53]
abbrev dktX2_ends_1 : List UInt8 := dkwX2_ends_1 ++ dktX2_ends_2
def dkwX2_ends_0 : List UInt8 := [42, 180, 0, 71, 17, 39, 15, 160, 0, 4, 177, 42, 89, 180, 0, 71, 4, 96, 181, 0, 71, 42]
abbrev dktX2_ends_0 : List UInt8 := dkwX2_ends_0 ++ dktX2_ends_1
theorem dksX2_ends_0 : cX2_ends.data.toList.drop 0 = dktX2_ends_0 := by decide +kernel
theorem dksX2_ends_1 : cX2_ends.data.toList.drop 22 = dktX2_ends_1 := dk_seg dksX2_ends_0 22 rfl rfl
theorem dksX2_ends_2 : cX2_ends.data.toList.drop 46 = dktX2_ends_2 := dk_seg dksX2_ends_1 24 rfl rfl
theorem dksX2_ends_3 : cX2_ends.data.toList.drop 70 = dktX2_ends_3 := dk_seg dksX2_ends_2 24 rfl rfl
theorem dksX2_ends_4 : cX2_ends.data.toList.drop 94 = dktX2_ends_4 := dk_seg dksX2_ends_3 24 rfl rfl
theorem dX2_ends_0 : decode cX2_ends 0 = .ok (.aload_n 0, 1) := dk_42 (dk_at dksX2_ends_0 0 rfl rfl)
theorem dX2_ends_1 : decode cX2_ends 1 = .ok (.getfield 71, 3) := dk_180 0 71 (dk_at dksX2_ends_0 1 rfl rfl)
theorem dX2_ends_4 : decode cX2_ends 4 = .ok (.sipush 9999, 3) := dk_17 39 15 (dk_at dksX2_ends_0 4 rfl rfl)
theorem dX2_ends_7 : decode cX2_ends 7 = .ok (.if_icmp .ne 4, 3) := dk_160 0 4 (dk_at dksX2_ends_0 7 rfl rfl)
theorem dX2_ends_10 : decode cX2_ends 10 = .ok (.return_, 1) := dk_177 (dk_at dksX2_ends_0 10 rfl rfl)
theorem dX2_ends_11 : decode cX2_ends 11 = .ok (.aload_n 0, 1) := dk_42 (dk_at dksX2_ends_0 11 rfl rfl)
theorem dX2_ends_12 : decode cX2_ends 12 = .ok (.dup, 1) := dk_89 (dk_at dksX2_ends_0 12 rfl rfl)
theorem dX2_ends_13 : decode cX2_ends 13 = .ok (.getfield 71, 3) := dk_180 0 71 (dk_at dksX2_ends_0 13 rfl rfl)
theorem dX2_ends_16 : decode cX2_ends 16 = .ok (.iconst 1, 1) := dk_4 (dk_at dksX2_ends_0 16 rfl rfl)
theorem dX2_ends_17 : decode cX2_ends 17 = .ok (.iadd, 1) := dk_96 (dk_at dksX2_ends_0 17 rfl rfl)
theorem dX2_ends_18 : decode cX2_ends 18 = .ok (.putfield 71, 3) := dk_181 0 71 (dk_at dksX2_ends_0 18 rfl rfl)
theorem dX2_ends_21 : decode cX2_ends 21 = .ok (.aload_n 0, 1) := dk_42 (dk_at dksX2_ends_0 21 rfl rfl)
theorem dX2_ends_22 : decode cX2_ends 22 = .ok (.getfield 71, 3) := dk_180 0 71 (dk_at dksX2_ends_1 0 rfl rfl)
theorem dX2_ends_25 : decode cX2_ends 25 = .ok (.bipush 24, 2) := dk_16 24 (dk_at dksX2_ends_1 3 rfl rfl)
theorem dX2_ends_27 : decode cX2_ends 27 = .ok (.irem, 1) := dk_112 (dk_at dksX2_ends_1 5 rfl rfl)
theorem dX2_ends_28 : decode cX2_ends 28 = .ok (.ifCond .eq 4, 3) := dk_153 0 4 (dk_at dksX2_ends_1 6 rfl rfl)
theorem dX2_ends_31 : decode cX2_ends 31 = .ok (.return_, 1) := dk_177 (dk_at dksX2_ends_1 9 rfl rfl)
theorem dX2_ends_32 : decode cX2_ends 32 = .ok (.iconst 0, 1) := dk_3 (dk_at dksX2_ends_1 10 rfl rfl)
theorem dX2_ends_33 : decode cX2_ends 33 = .ok (.istore_n 1, 1) := dk_60 (dk_at dksX2_ends_1 11 rfl rfl)
theorem dX2_ends_34 : decode cX2_ends 34 = .ok (.iload_n 1, 1) := dk_27 (dk_at dksX2_ends_1 12 rfl rfl)
theorem dX2_ends_35 : decode cX2_ends 35 = .ok (.aload_n 0, 1) := dk_42 (dk_at dksX2_ends_1 13 rfl rfl)
theorem dX2_ends_36 : decode cX2_ends 36 = .ok (.getfield 68, 3) := dk_180 0 68 (dk_at dksX2_ends_1 14 rfl rfl)
theorem dX2_ends_39 : decode cX2_ends 39 = .ok (.if_icmp .ge 38, 3) := dk_162 0 38 (dk_at dksX2_ends_1 17 rfl rfl)
theorem dX2_ends_42 : decode cX2_ends 42 = .ok (.aload_n 0, 1) := dk_42 (dk_at dksX2_ends_1 20 rfl rfl)
theorem dX2_ends_43 : decode cX2_ends 43 = .ok (.getfield 53, 3) := dk_180 0 53 (dk_at dksX2_ends_1 21 rfl rfl)
theorem dX2_ends_46 : decode cX2_ends 46 = .ok (.iload_n 1, 1) := dk_27 (dk_at dksX2_ends_2 0 rfl rfl)
theorem dX2_ends_47 : decode cX2_ends 47 = .ok (.iaload, 1) := dk_46 (dk_at dksX2_ends_2 1 rfl rfl)
theorem dX2_ends_48 : decode cX2_ends 48 = .ok (.iconst 2, 1) := dk_5 (dk_at dksX2_ends_2 2 rfl rfl)
theorem dX2_ends_49 : decode cX2_ends 49 = .ok (.if_icmp .eq 22, 3) := dk_159 0 22 (dk_at dksX2_ends_2 3 rfl rfl)
theorem dX2_ends_52 : decode cX2_ends 52 = .ok (.aload_n 0, 1) := dk_42 (dk_at dksX2_ends_2 6 rfl rfl)
theorem dX2_ends_53 : decode cX2_ends 53 = .ok (.getfield 50, 3) := dk_180 0 50 (dk_at dksX2_ends_2 7 rfl rfl)
theorem dX2_ends_56 : decode cX2_ends 56 = .ok (.iload_n 1, 1) := dk_27 (dk_at dksX2_ends_2 10 rfl rfl)
theorem dX2_ends_57 : decode cX2_ends 57 = .ok (.bipush 40, 2) := dk_16 40 (dk_at dksX2_ends_2 11 rfl rfl)
theorem dX2_ends_59 : decode cX2_ends 59 = .ok (.aload_n 0, 1) := dk_42 (dk_at dksX2_ends_2 13 rfl rfl)
theorem dX2_ends_60 : decode cX2_ends 60 = .ok (.getfield 50, 3) := dk_180 0 50 (dk_at dksX2_ends_2 14 rfl rfl)
theorem dX2_ends_63 : decode cX2_ends 63 = .ok (.iload_n 1, 1) := dk_27 (dk_at dksX2_ends_2 17 rfl rfl)
theorem dX2_ends_64 : decode cX2_ends 64 = .ok (.iaload, 1) := dk_46 (dk_at dksX2_ends_2 18 rfl rfl)
theorem dX2_ends_65 : decode cX2_ends 65 = .ok (.iconst 1, 1) := dk_4 (dk_at dksX2_ends_2 19 rfl rfl)
theorem dX2_ends_66 : decode cX2_ends 66 = .ok (.iadd, 1) := dk_96 (dk_at dksX2_ends_2 20 rfl rfl)
theorem dX2_ends_67 : decode cX2_ends 67 = .ok (.invokestatic 109, 3) := dk_184 0 109 (dk_at dksX2_ends_2 21 rfl rfl)
theorem dX2_ends_70 : decode cX2_ends 70 = .ok (.iastore, 1) := dk_79 (dk_at dksX2_ends_3 0 rfl rfl)
theorem dX2_ends_71 : decode cX2_ends 71 = .ok (.iinc 1 1, 3) := dk_132 1 1 (dk_at dksX2_ends_3 1 rfl rfl)
theorem dX2_ends_74 : decode cX2_ends 74 = .ok (.goto (-40), 3) := dk_167 255 216 (dk_at dksX2_ends_3 4 rfl rfl)
theorem dX2_ends_77 : decode cX2_ends 77 = .ok (.iconst 0, 1) := dk_3 (dk_at dksX2_ends_3 7 rfl rfl)
theorem dX2_ends_78 : decode cX2_ends 78 = .ok (.istore_n 1, 1) := dk_60 (dk_at dksX2_ends_3 8 rfl rfl)
theorem dX2_ends_79 : decode cX2_ends 79 = .ok (.iload_n 1, 1) := dk_27 (dk_at dksX2_ends_3 9 rfl rfl)
theorem dX2_ends_80 : decode cX2_ends 80 = .ok (.aload_n 0, 1) := dk_42 (dk_at dksX2_ends_3 10 rfl rfl)
theorem dX2_ends_81 : decode cX2_ends 81 = .ok (.getfield 65, 3) := dk_180 0 65 (dk_at dksX2_ends_3 11 rfl rfl)
theorem dX2_ends_84 : decode cX2_ends 84 = .ok (.if_icmp .ge 19, 3) := dk_162 0 19 (dk_at dksX2_ends_3 14 rfl rfl)
theorem dX2_ends_87 : decode cX2_ends 87 = .ok (.aload_n 0, 1) := dk_42 (dk_at dksX2_ends_3 17 rfl rfl)
theorem dX2_ends_88 : decode cX2_ends 88 = .ok (.getfield 31, 3) := dk_180 0 31 (dk_at dksX2_ends_3 18 rfl rfl)
theorem dX2_ends_91 : decode cX2_ends 91 = .ok (.iload_n 1, 1) := dk_27 (dk_at dksX2_ends_3 21 rfl rfl)
theorem dX2_ends_92 : decode cX2_ends 92 = .ok (.dup2, 1) := dk_92 (dk_at dksX2_ends_3 22 rfl rfl)
theorem dX2_ends_93 : decode cX2_ends 93 = .ok (.iaload, 1) := dk_46 (dk_at dksX2_ends_3 23 rfl rfl)
theorem dX2_ends_94 : decode cX2_ends 94 = .ok (.iconst 2, 1) := dk_5 (dk_at dksX2_ends_4 0 rfl rfl)
theorem dX2_ends_95 : decode cX2_ends 95 = .ok (.idiv, 1) := dk_108 (dk_at dksX2_ends_4 1 rfl rfl)
theorem dX2_ends_96 : decode cX2_ends 96 = .ok (.iastore, 1) := dk_79 (dk_at dksX2_ends_4 2 rfl rfl)
theorem dX2_ends_97 : decode cX2_ends 97 = .ok (.iinc 1 1, 3) := dk_132 1 1 (dk_at dksX2_ends_4 3 rfl rfl)
theorem dX2_ends_100 : decode cX2_ends 100 = .ok (.goto (-21), 3) := dk_167 255 235 (dk_at dksX2_ends_4 6 rfl rfl)
theorem dX2_ends_103 : decode cX2_ends 103 = .ok (.return_, 1) := dk_177 (dk_at dksX2_ends_4 9 rfl rfl)
abbrev cX2_laidAt : ByteArray := prog_16_method_13_code
def yX2_laidAt : MethodName := ⟨RX2, "laidAt", "(I)I"⟩
def dkwX2_laidAt_2 : List UInt8 := [28, 172]
abbrev dktX2_laidAt_2 : List UInt8 := dkwX2_laidAt_2 ++ []
def dkwX2_laidAt_1 : List UInt8 := [180, 0, 56, 29, 46, 27, 160, 0, 9, 4, 29, 120, 167, 0, 4, 3, 128, 61, 132, 3, 1, 167, 255, 215]
abbrev dktX2_laidAt_1 : List UInt8 := dkwX2_laidAt_1 ++ dktX2_laidAt_2
def dkwX2_laidAt_0 : List UInt8 := [3, 61, 3, 62, 29, 42, 180, 0, 68, 162, 0, 39, 28, 42, 180, 0, 53, 29, 46, 4, 160, 0, 19, 42]
abbrev dktX2_laidAt_0 : List UInt8 := dkwX2_laidAt_0 ++ dktX2_laidAt_1
theorem dksX2_laidAt_0 : cX2_laidAt.data.toList.drop 0 = dktX2_laidAt_0 := by decide +kernel
theorem dksX2_laidAt_1 : cX2_laidAt.data.toList.drop 24 = dktX2_laidAt_1 := dk_seg dksX2_laidAt_0 24 rfl rfl
theorem dksX2_laidAt_2 : cX2_laidAt.data.toList.drop 48 = dktX2_laidAt_2 := dk_seg dksX2_laidAt_1 24 rfl rfl
theorem dX2_laidAt_0 : decode cX2_laidAt 0 = .ok (.iconst 0, 1) := dk_3 (dk_at dksX2_laidAt_0 0 rfl rfl)
theorem dX2_laidAt_1 : decode cX2_laidAt 1 = .ok (.istore_n 2, 1) := dk_61 (dk_at dksX2_laidAt_0 1 rfl rfl)
theorem dX2_laidAt_2 : decode cX2_laidAt 2 = .ok (.iconst 0, 1) := dk_3 (dk_at dksX2_laidAt_0 2 rfl rfl)
theorem dX2_laidAt_3 : decode cX2_laidAt 3 = .ok (.istore_n 3, 1) := dk_62 (dk_at dksX2_laidAt_0 3 rfl rfl)
theorem dX2_laidAt_4 : decode cX2_laidAt 4 = .ok (.iload_n 3, 1) := dk_29 (dk_at dksX2_laidAt_0 4 rfl rfl)
theorem dX2_laidAt_5 : decode cX2_laidAt 5 = .ok (.aload_n 0, 1) := dk_42 (dk_at dksX2_laidAt_0 5 rfl rfl)
theorem dX2_laidAt_6 : decode cX2_laidAt 6 = .ok (.getfield 68, 3) := dk_180 0 68 (dk_at dksX2_laidAt_0 6 rfl rfl)
theorem dX2_laidAt_9 : decode cX2_laidAt 9 = .ok (.if_icmp .ge 39, 3) := dk_162 0 39 (dk_at dksX2_laidAt_0 9 rfl rfl)
theorem dX2_laidAt_12 : decode cX2_laidAt 12 = .ok (.iload_n 2, 1) := dk_28 (dk_at dksX2_laidAt_0 12 rfl rfl)
theorem dX2_laidAt_13 : decode cX2_laidAt 13 = .ok (.aload_n 0, 1) := dk_42 (dk_at dksX2_laidAt_0 13 rfl rfl)
theorem dX2_laidAt_14 : decode cX2_laidAt 14 = .ok (.getfield 53, 3) := dk_180 0 53 (dk_at dksX2_laidAt_0 14 rfl rfl)
theorem dX2_laidAt_17 : decode cX2_laidAt 17 = .ok (.iload_n 3, 1) := dk_29 (dk_at dksX2_laidAt_0 17 rfl rfl)
theorem dX2_laidAt_18 : decode cX2_laidAt 18 = .ok (.iaload, 1) := dk_46 (dk_at dksX2_laidAt_0 18 rfl rfl)
theorem dX2_laidAt_19 : decode cX2_laidAt 19 = .ok (.iconst 1, 1) := dk_4 (dk_at dksX2_laidAt_0 19 rfl rfl)
theorem dX2_laidAt_20 : decode cX2_laidAt 20 = .ok (.if_icmp .ne 19, 3) := dk_160 0 19 (dk_at dksX2_laidAt_0 20 rfl rfl)
theorem dX2_laidAt_23 : decode cX2_laidAt 23 = .ok (.aload_n 0, 1) := dk_42 (dk_at dksX2_laidAt_0 23 rfl rfl)
theorem dX2_laidAt_24 : decode cX2_laidAt 24 = .ok (.getfield 56, 3) := dk_180 0 56 (dk_at dksX2_laidAt_1 0 rfl rfl)
theorem dX2_laidAt_27 : decode cX2_laidAt 27 = .ok (.iload_n 3, 1) := dk_29 (dk_at dksX2_laidAt_1 3 rfl rfl)
theorem dX2_laidAt_28 : decode cX2_laidAt 28 = .ok (.iaload, 1) := dk_46 (dk_at dksX2_laidAt_1 4 rfl rfl)
theorem dX2_laidAt_29 : decode cX2_laidAt 29 = .ok (.iload_n 1, 1) := dk_27 (dk_at dksX2_laidAt_1 5 rfl rfl)
theorem dX2_laidAt_30 : decode cX2_laidAt 30 = .ok (.if_icmp .ne 9, 3) := dk_160 0 9 (dk_at dksX2_laidAt_1 6 rfl rfl)
theorem dX2_laidAt_33 : decode cX2_laidAt 33 = .ok (.iconst 1, 1) := dk_4 (dk_at dksX2_laidAt_1 9 rfl rfl)
theorem dX2_laidAt_34 : decode cX2_laidAt 34 = .ok (.iload_n 3, 1) := dk_29 (dk_at dksX2_laidAt_1 10 rfl rfl)
theorem dX2_laidAt_35 : decode cX2_laidAt 35 = .ok (.ishl, 1) := dk_120 (dk_at dksX2_laidAt_1 11 rfl rfl)
theorem dX2_laidAt_36 : decode cX2_laidAt 36 = .ok (.goto 4, 3) := dk_167 0 4 (dk_at dksX2_laidAt_1 12 rfl rfl)
theorem dX2_laidAt_39 : decode cX2_laidAt 39 = .ok (.iconst 0, 1) := dk_3 (dk_at dksX2_laidAt_1 15 rfl rfl)
theorem dX2_laidAt_40 : decode cX2_laidAt 40 = .ok (.ior, 1) := dk_128 (dk_at dksX2_laidAt_1 16 rfl rfl)
theorem dX2_laidAt_41 : decode cX2_laidAt 41 = .ok (.istore_n 2, 1) := dk_61 (dk_at dksX2_laidAt_1 17 rfl rfl)
theorem dX2_laidAt_42 : decode cX2_laidAt 42 = .ok (.iinc 3 1, 3) := dk_132 3 1 (dk_at dksX2_laidAt_1 18 rfl rfl)
theorem dX2_laidAt_45 : decode cX2_laidAt 45 = .ok (.goto (-41), 3) := dk_167 255 215 (dk_at dksX2_laidAt_1 21 rfl rfl)
theorem dX2_laidAt_48 : decode cX2_laidAt 48 = .ok (.iload_n 2, 1) := dk_28 (dk_at dksX2_laidAt_2 0 rfl rfl)
theorem dX2_laidAt_49 : decode cX2_laidAt 49 = .ok (.ireturn, 1) := dk_172 (dk_at dksX2_laidAt_2 1 rfl rfl)
abbrev cX2_purses : ByteArray := prog_16_method_22_code
def yX2_purses : MethodName := ⟨RX2, "purses", "()I"⟩
def dkwX2_purses_1 : List UInt8 := [167, 255, 236, 27, 172]
abbrev dktX2_purses_1 : List UInt8 := dkwX2_purses_1 ++ []
def dkwX2_purses_0 : List UInt8 := [3, 60, 3, 61, 28, 42, 180, 0, 65, 162, 0, 18, 27, 42, 180, 0, 18, 28, 46, 96, 60, 132, 2, 1]
abbrev dktX2_purses_0 : List UInt8 := dkwX2_purses_0 ++ dktX2_purses_1
theorem dksX2_purses_0 : cX2_purses.data.toList.drop 0 = dktX2_purses_0 := by decide +kernel
theorem dksX2_purses_1 : cX2_purses.data.toList.drop 24 = dktX2_purses_1 := dk_seg dksX2_purses_0 24 rfl rfl
theorem dX2_purses_0 : decode cX2_purses 0 = .ok (.iconst 0, 1) := dk_3 (dk_at dksX2_purses_0 0 rfl rfl)
theorem dX2_purses_1 : decode cX2_purses 1 = .ok (.istore_n 1, 1) := dk_60 (dk_at dksX2_purses_0 1 rfl rfl)
theorem dX2_purses_2 : decode cX2_purses 2 = .ok (.iconst 0, 1) := dk_3 (dk_at dksX2_purses_0 2 rfl rfl)
theorem dX2_purses_3 : decode cX2_purses 3 = .ok (.istore_n 2, 1) := dk_61 (dk_at dksX2_purses_0 3 rfl rfl)
theorem dX2_purses_4 : decode cX2_purses 4 = .ok (.iload_n 2, 1) := dk_28 (dk_at dksX2_purses_0 4 rfl rfl)
theorem dX2_purses_5 : decode cX2_purses 5 = .ok (.aload_n 0, 1) := dk_42 (dk_at dksX2_purses_0 5 rfl rfl)
theorem dX2_purses_6 : decode cX2_purses 6 = .ok (.getfield 65, 3) := dk_180 0 65 (dk_at dksX2_purses_0 6 rfl rfl)
theorem dX2_purses_9 : decode cX2_purses 9 = .ok (.if_icmp .ge 18, 3) := dk_162 0 18 (dk_at dksX2_purses_0 9 rfl rfl)
theorem dX2_purses_12 : decode cX2_purses 12 = .ok (.iload_n 1, 1) := dk_27 (dk_at dksX2_purses_0 12 rfl rfl)
theorem dX2_purses_13 : decode cX2_purses 13 = .ok (.aload_n 0, 1) := dk_42 (dk_at dksX2_purses_0 13 rfl rfl)
theorem dX2_purses_14 : decode cX2_purses 14 = .ok (.getfield 18, 3) := dk_180 0 18 (dk_at dksX2_purses_0 14 rfl rfl)
theorem dX2_purses_17 : decode cX2_purses 17 = .ok (.iload_n 2, 1) := dk_28 (dk_at dksX2_purses_0 17 rfl rfl)
theorem dX2_purses_18 : decode cX2_purses 18 = .ok (.iaload, 1) := dk_46 (dk_at dksX2_purses_0 18 rfl rfl)
theorem dX2_purses_19 : decode cX2_purses 19 = .ok (.iadd, 1) := dk_96 (dk_at dksX2_purses_0 19 rfl rfl)
theorem dX2_purses_20 : decode cX2_purses 20 = .ok (.istore_n 1, 1) := dk_60 (dk_at dksX2_purses_0 20 rfl rfl)
theorem dX2_purses_21 : decode cX2_purses 21 = .ok (.iinc 2 1, 3) := dk_132 2 1 (dk_at dksX2_purses_0 21 rfl rfl)
theorem dX2_purses_24 : decode cX2_purses 24 = .ok (.goto (-20), 3) := dk_167 255 236 (dk_at dksX2_purses_1 0 rfl rfl)
theorem dX2_purses_27 : decode cX2_purses 27 = .ok (.iload_n 1, 1) := dk_27 (dk_at dksX2_purses_1 3 rfl rfl)
theorem dX2_purses_28 : decode cX2_purses 28 = .ok (.ireturn, 1) := dk_172 (dk_at dksX2_purses_1 4 rfl rfl)
abbrev cX2_ofState : ByteArray := prog_16_method_8_code
def yX2_ofState : MethodName := ⟨RX2, "ofState", "(I)I"⟩
def dkwX2_ofState_1 : List UInt8 := [29, 120, 167, 0, 4, 3, 128, 61, 132, 3, 1, 167, 255, 225, 28, 172]
abbrev dktX2_ofState_1 : List UInt8 := dkwX2_ofState_1 ++ []
def dkwX2_ofState_0 : List UInt8 := [3, 61, 3, 62, 29, 42, 180, 0, 68, 162, 0, 29, 28, 42, 180, 0, 53, 29, 46, 27, 160, 0, 9, 4]
abbrev dktX2_ofState_0 : List UInt8 := dkwX2_ofState_0 ++ dktX2_ofState_1
theorem dksX2_ofState_0 : cX2_ofState.data.toList.drop 0 = dktX2_ofState_0 := by decide +kernel
theorem dksX2_ofState_1 : cX2_ofState.data.toList.drop 24 = dktX2_ofState_1 := dk_seg dksX2_ofState_0 24 rfl rfl
theorem dX2_ofState_0 : decode cX2_ofState 0 = .ok (.iconst 0, 1) := dk_3 (dk_at dksX2_ofState_0 0 rfl rfl)
theorem dX2_ofState_1 : decode cX2_ofState 1 = .ok (.istore_n 2, 1) := dk_61 (dk_at dksX2_ofState_0 1 rfl rfl)
theorem dX2_ofState_2 : decode cX2_ofState 2 = .ok (.iconst 0, 1) := dk_3 (dk_at dksX2_ofState_0 2 rfl rfl)
theorem dX2_ofState_3 : decode cX2_ofState 3 = .ok (.istore_n 3, 1) := dk_62 (dk_at dksX2_ofState_0 3 rfl rfl)
theorem dX2_ofState_4 : decode cX2_ofState 4 = .ok (.iload_n 3, 1) := dk_29 (dk_at dksX2_ofState_0 4 rfl rfl)
theorem dX2_ofState_5 : decode cX2_ofState 5 = .ok (.aload_n 0, 1) := dk_42 (dk_at dksX2_ofState_0 5 rfl rfl)
theorem dX2_ofState_6 : decode cX2_ofState 6 = .ok (.getfield 68, 3) := dk_180 0 68 (dk_at dksX2_ofState_0 6 rfl rfl)
theorem dX2_ofState_9 : decode cX2_ofState 9 = .ok (.if_icmp .ge 29, 3) := dk_162 0 29 (dk_at dksX2_ofState_0 9 rfl rfl)
theorem dX2_ofState_12 : decode cX2_ofState 12 = .ok (.iload_n 2, 1) := dk_28 (dk_at dksX2_ofState_0 12 rfl rfl)
theorem dX2_ofState_13 : decode cX2_ofState 13 = .ok (.aload_n 0, 1) := dk_42 (dk_at dksX2_ofState_0 13 rfl rfl)
theorem dX2_ofState_14 : decode cX2_ofState 14 = .ok (.getfield 53, 3) := dk_180 0 53 (dk_at dksX2_ofState_0 14 rfl rfl)
theorem dX2_ofState_17 : decode cX2_ofState 17 = .ok (.iload_n 3, 1) := dk_29 (dk_at dksX2_ofState_0 17 rfl rfl)
theorem dX2_ofState_18 : decode cX2_ofState 18 = .ok (.iaload, 1) := dk_46 (dk_at dksX2_ofState_0 18 rfl rfl)
theorem dX2_ofState_19 : decode cX2_ofState 19 = .ok (.iload_n 1, 1) := dk_27 (dk_at dksX2_ofState_0 19 rfl rfl)
theorem dX2_ofState_20 : decode cX2_ofState 20 = .ok (.if_icmp .ne 9, 3) := dk_160 0 9 (dk_at dksX2_ofState_0 20 rfl rfl)
theorem dX2_ofState_23 : decode cX2_ofState 23 = .ok (.iconst 1, 1) := dk_4 (dk_at dksX2_ofState_0 23 rfl rfl)
theorem dX2_ofState_24 : decode cX2_ofState 24 = .ok (.iload_n 3, 1) := dk_29 (dk_at dksX2_ofState_1 0 rfl rfl)
theorem dX2_ofState_25 : decode cX2_ofState 25 = .ok (.ishl, 1) := dk_120 (dk_at dksX2_ofState_1 1 rfl rfl)
theorem dX2_ofState_26 : decode cX2_ofState 26 = .ok (.goto 4, 3) := dk_167 0 4 (dk_at dksX2_ofState_1 2 rfl rfl)
theorem dX2_ofState_29 : decode cX2_ofState 29 = .ok (.iconst 0, 1) := dk_3 (dk_at dksX2_ofState_1 5 rfl rfl)
theorem dX2_ofState_30 : decode cX2_ofState 30 = .ok (.ior, 1) := dk_128 (dk_at dksX2_ofState_1 6 rfl rfl)
theorem dX2_ofState_31 : decode cX2_ofState 31 = .ok (.istore_n 2, 1) := dk_61 (dk_at dksX2_ofState_1 7 rfl rfl)
theorem dX2_ofState_32 : decode cX2_ofState 32 = .ok (.iinc 3 1, 3) := dk_132 3 1 (dk_at dksX2_ofState_1 8 rfl rfl)
theorem dX2_ofState_35 : decode cX2_ofState 35 = .ok (.goto (-31), 3) := dk_167 255 225 (dk_at dksX2_ofState_1 11 rfl rfl)
theorem dX2_ofState_38 : decode cX2_ofState 38 = .ok (.iload_n 2, 1) := dk_28 (dk_at dksX2_ofState_1 14 rfl rfl)
theorem dX2_ofState_39 : decode cX2_ofState 39 = .ok (.ireturn, 1) := dk_172 (dk_at dksX2_ofState_1 15 rfl rfl)
abbrev cX2_unpaid : ByteArray := prog_16_method_9_code
def yX2_unpaid : MethodName := ⟨RX2, "unpaid", "()I"⟩
def dkwX2_unpaid_0 : List UInt8 := [42, 3, 182, 0, 103, 42, 4, 182, 0, 103, 128, 172]
abbrev dktX2_unpaid_0 : List UInt8 := dkwX2_unpaid_0 ++ []
theorem dksX2_unpaid_0 : cX2_unpaid.data.toList.drop 0 = dktX2_unpaid_0 := by decide +kernel
theorem dX2_unpaid_0 : decode cX2_unpaid 0 = .ok (.aload_n 0, 1) := dk_42 (dk_at dksX2_unpaid_0 0 rfl rfl)
theorem dX2_unpaid_1 : decode cX2_unpaid 1 = .ok (.iconst 0, 1) := dk_3 (dk_at dksX2_unpaid_0 1 rfl rfl)
theorem dX2_unpaid_2 : decode cX2_unpaid 2 = .ok (.invokevirtual 103, 3) := dk_182 0 103 (dk_at dksX2_unpaid_0 2 rfl rfl)
theorem dX2_unpaid_5 : decode cX2_unpaid 5 = .ok (.aload_n 0, 1) := dk_42 (dk_at dksX2_unpaid_0 5 rfl rfl)
theorem dX2_unpaid_6 : decode cX2_unpaid 6 = .ok (.iconst 1, 1) := dk_4 (dk_at dksX2_unpaid_0 6 rfl rfl)
theorem dX2_unpaid_7 : decode cX2_unpaid 7 = .ok (.invokevirtual 103, 3) := dk_182 0 103 (dk_at dksX2_unpaid_0 7 rfl rfl)
theorem dX2_unpaid_10 : decode cX2_unpaid 10 = .ok (.ior, 1) := dk_128 (dk_at dksX2_unpaid_0 10 rfl rfl)
theorem dX2_unpaid_11 : decode cX2_unpaid 11 = .ok (.ireturn, 1) := dk_172 (dk_at dksX2_unpaid_0 11 rfl rfl)
abbrev cX2_hurtOnes : ByteArray := prog_16_method_16_code
def yX2_hurtOnes : MethodName := ⟨RX2, "hurtOnes", "()I"⟩
def dkwX2_hurtOnes_1 : List UInt8 := [120, 167, 0, 4, 3, 128, 60, 132, 2, 1, 167, 255, 226, 27, 172]
abbrev dktX2_hurtOnes_1 : List UInt8 := dkwX2_hurtOnes_1 ++ []
def dkwX2_hurtOnes_0 : List UInt8 := [3, 60, 3, 61, 28, 42, 180, 0, 65, 162, 0, 28, 27, 42, 180, 0, 34, 28, 51, 153, 0, 9, 4, 28]
abbrev dktX2_hurtOnes_0 : List UInt8 := dkwX2_hurtOnes_0 ++ dktX2_hurtOnes_1
theorem dksX2_hurtOnes_0 : cX2_hurtOnes.data.toList.drop 0 = dktX2_hurtOnes_0 := by decide +kernel
theorem dksX2_hurtOnes_1 : cX2_hurtOnes.data.toList.drop 24 = dktX2_hurtOnes_1 := dk_seg dksX2_hurtOnes_0 24 rfl rfl
theorem dX2_hurtOnes_0 : decode cX2_hurtOnes 0 = .ok (.iconst 0, 1) := dk_3 (dk_at dksX2_hurtOnes_0 0 rfl rfl)
theorem dX2_hurtOnes_1 : decode cX2_hurtOnes 1 = .ok (.istore_n 1, 1) := dk_60 (dk_at dksX2_hurtOnes_0 1 rfl rfl)
theorem dX2_hurtOnes_2 : decode cX2_hurtOnes 2 = .ok (.iconst 0, 1) := dk_3 (dk_at dksX2_hurtOnes_0 2 rfl rfl)
theorem dX2_hurtOnes_3 : decode cX2_hurtOnes 3 = .ok (.istore_n 2, 1) := dk_61 (dk_at dksX2_hurtOnes_0 3 rfl rfl)
theorem dX2_hurtOnes_4 : decode cX2_hurtOnes 4 = .ok (.iload_n 2, 1) := dk_28 (dk_at dksX2_hurtOnes_0 4 rfl rfl)
theorem dX2_hurtOnes_5 : decode cX2_hurtOnes 5 = .ok (.aload_n 0, 1) := dk_42 (dk_at dksX2_hurtOnes_0 5 rfl rfl)
theorem dX2_hurtOnes_6 : decode cX2_hurtOnes 6 = .ok (.getfield 65, 3) := dk_180 0 65 (dk_at dksX2_hurtOnes_0 6 rfl rfl)
theorem dX2_hurtOnes_9 : decode cX2_hurtOnes 9 = .ok (.if_icmp .ge 28, 3) := dk_162 0 28 (dk_at dksX2_hurtOnes_0 9 rfl rfl)
theorem dX2_hurtOnes_12 : decode cX2_hurtOnes 12 = .ok (.iload_n 1, 1) := dk_27 (dk_at dksX2_hurtOnes_0 12 rfl rfl)
theorem dX2_hurtOnes_13 : decode cX2_hurtOnes 13 = .ok (.aload_n 0, 1) := dk_42 (dk_at dksX2_hurtOnes_0 13 rfl rfl)
theorem dX2_hurtOnes_14 : decode cX2_hurtOnes 14 = .ok (.getfield 34, 3) := dk_180 0 34 (dk_at dksX2_hurtOnes_0 14 rfl rfl)
theorem dX2_hurtOnes_17 : decode cX2_hurtOnes 17 = .ok (.iload_n 2, 1) := dk_28 (dk_at dksX2_hurtOnes_0 17 rfl rfl)
theorem dX2_hurtOnes_18 : decode cX2_hurtOnes 18 = .ok (.baload, 1) := dk_51 (dk_at dksX2_hurtOnes_0 18 rfl rfl)
theorem dX2_hurtOnes_19 : decode cX2_hurtOnes 19 = .ok (.ifCond .eq 9, 3) := dk_153 0 9 (dk_at dksX2_hurtOnes_0 19 rfl rfl)
theorem dX2_hurtOnes_22 : decode cX2_hurtOnes 22 = .ok (.iconst 1, 1) := dk_4 (dk_at dksX2_hurtOnes_0 22 rfl rfl)
theorem dX2_hurtOnes_23 : decode cX2_hurtOnes 23 = .ok (.iload_n 2, 1) := dk_28 (dk_at dksX2_hurtOnes_0 23 rfl rfl)
theorem dX2_hurtOnes_24 : decode cX2_hurtOnes 24 = .ok (.ishl, 1) := dk_120 (dk_at dksX2_hurtOnes_1 0 rfl rfl)
theorem dX2_hurtOnes_25 : decode cX2_hurtOnes 25 = .ok (.goto 4, 3) := dk_167 0 4 (dk_at dksX2_hurtOnes_1 1 rfl rfl)
theorem dX2_hurtOnes_28 : decode cX2_hurtOnes 28 = .ok (.iconst 0, 1) := dk_3 (dk_at dksX2_hurtOnes_1 4 rfl rfl)
theorem dX2_hurtOnes_29 : decode cX2_hurtOnes 29 = .ok (.ior, 1) := dk_128 (dk_at dksX2_hurtOnes_1 5 rfl rfl)
theorem dX2_hurtOnes_30 : decode cX2_hurtOnes 30 = .ok (.istore_n 1, 1) := dk_60 (dk_at dksX2_hurtOnes_1 6 rfl rfl)
theorem dX2_hurtOnes_31 : decode cX2_hurtOnes 31 = .ok (.iinc 2 1, 3) := dk_132 2 1 (dk_at dksX2_hurtOnes_1 7 rfl rfl)
theorem dX2_hurtOnes_34 : decode cX2_hurtOnes 34 = .ok (.goto (-30), 3) := dk_167 255 226 (dk_at dksX2_hurtOnes_1 10 rfl rfl)
theorem dX2_hurtOnes_37 : decode cX2_hurtOnes 37 = .ok (.iload_n 1, 1) := dk_27 (dk_at dksX2_hurtOnes_1 13 rfl rfl)
theorem dX2_hurtOnes_38 : decode cX2_hurtOnes 38 = .ok (.ireturn, 1) := dk_172 (dk_at dksX2_hurtOnes_1 14 rfl rfl)
abbrev cX2_adds : ByteArray := prog_16_method_21_code
def yX2_adds : MethodName := ⟨RX2, "adds", "(IIII)I"⟩
def dkwX2_adds_2 : List UInt8 := [42, 89, 180, 0, 68, 4, 96, 181, 0, 68, 21, 5, 172]
abbrev dktX2_adds_2 : List UInt8 := dkwX2_adds_2 ++ []
def dkwX2_adds_1 : List UInt8 := [180, 0, 50, 21, 5, 29, 79, 42, 180, 0, 53, 21, 5, 3, 79, 42, 180, 0, 56, 21, 5, 21, 4, 79]
abbrev dktX2_adds_1 : List UInt8 := dkwX2_adds_1 ++ dktX2_adds_2
def dkwX2_adds_0 : List UInt8 := [42, 180, 0, 68, 54, 5, 42, 180, 0, 44, 21, 5, 27, 79, 42, 180, 0, 47, 21, 5, 28, 79, 42]
abbrev dktX2_adds_0 : List UInt8 := dkwX2_adds_0 ++ dktX2_adds_1
theorem dksX2_adds_0 : cX2_adds.data.toList.drop 0 = dktX2_adds_0 := by decide +kernel
theorem dksX2_adds_1 : cX2_adds.data.toList.drop 23 = dktX2_adds_1 := dk_seg dksX2_adds_0 23 rfl rfl
theorem dksX2_adds_2 : cX2_adds.data.toList.drop 47 = dktX2_adds_2 := dk_seg dksX2_adds_1 24 rfl rfl
theorem dX2_adds_0 : decode cX2_adds 0 = .ok (.aload_n 0, 1) := dk_42 (dk_at dksX2_adds_0 0 rfl rfl)
theorem dX2_adds_1 : decode cX2_adds 1 = .ok (.getfield 68, 3) := dk_180 0 68 (dk_at dksX2_adds_0 1 rfl rfl)
theorem dX2_adds_4 : decode cX2_adds 4 = .ok (.istore 5, 2) := dk_54 5 (dk_at dksX2_adds_0 4 rfl rfl)
theorem dX2_adds_6 : decode cX2_adds 6 = .ok (.aload_n 0, 1) := dk_42 (dk_at dksX2_adds_0 6 rfl rfl)
theorem dX2_adds_7 : decode cX2_adds 7 = .ok (.getfield 44, 3) := dk_180 0 44 (dk_at dksX2_adds_0 7 rfl rfl)
theorem dX2_adds_10 : decode cX2_adds 10 = .ok (.iload 5, 2) := dk_21 5 (dk_at dksX2_adds_0 10 rfl rfl)
theorem dX2_adds_12 : decode cX2_adds 12 = .ok (.iload_n 1, 1) := dk_27 (dk_at dksX2_adds_0 12 rfl rfl)
theorem dX2_adds_13 : decode cX2_adds 13 = .ok (.iastore, 1) := dk_79 (dk_at dksX2_adds_0 13 rfl rfl)
theorem dX2_adds_14 : decode cX2_adds 14 = .ok (.aload_n 0, 1) := dk_42 (dk_at dksX2_adds_0 14 rfl rfl)
theorem dX2_adds_15 : decode cX2_adds 15 = .ok (.getfield 47, 3) := dk_180 0 47 (dk_at dksX2_adds_0 15 rfl rfl)
theorem dX2_adds_18 : decode cX2_adds 18 = .ok (.iload 5, 2) := dk_21 5 (dk_at dksX2_adds_0 18 rfl rfl)
theorem dX2_adds_20 : decode cX2_adds 20 = .ok (.iload_n 2, 1) := dk_28 (dk_at dksX2_adds_0 20 rfl rfl)
theorem dX2_adds_21 : decode cX2_adds 21 = .ok (.iastore, 1) := dk_79 (dk_at dksX2_adds_0 21 rfl rfl)
theorem dX2_adds_22 : decode cX2_adds 22 = .ok (.aload_n 0, 1) := dk_42 (dk_at dksX2_adds_0 22 rfl rfl)
theorem dX2_adds_23 : decode cX2_adds 23 = .ok (.getfield 50, 3) := dk_180 0 50 (dk_at dksX2_adds_1 0 rfl rfl)
theorem dX2_adds_26 : decode cX2_adds 26 = .ok (.iload 5, 2) := dk_21 5 (dk_at dksX2_adds_1 3 rfl rfl)
theorem dX2_adds_28 : decode cX2_adds 28 = .ok (.iload_n 3, 1) := dk_29 (dk_at dksX2_adds_1 5 rfl rfl)
theorem dX2_adds_29 : decode cX2_adds 29 = .ok (.iastore, 1) := dk_79 (dk_at dksX2_adds_1 6 rfl rfl)
theorem dX2_adds_30 : decode cX2_adds 30 = .ok (.aload_n 0, 1) := dk_42 (dk_at dksX2_adds_1 7 rfl rfl)
theorem dX2_adds_31 : decode cX2_adds 31 = .ok (.getfield 53, 3) := dk_180 0 53 (dk_at dksX2_adds_1 8 rfl rfl)
theorem dX2_adds_34 : decode cX2_adds 34 = .ok (.iload 5, 2) := dk_21 5 (dk_at dksX2_adds_1 11 rfl rfl)
theorem dX2_adds_36 : decode cX2_adds 36 = .ok (.iconst 0, 1) := dk_3 (dk_at dksX2_adds_1 13 rfl rfl)
theorem dX2_adds_37 : decode cX2_adds 37 = .ok (.iastore, 1) := dk_79 (dk_at dksX2_adds_1 14 rfl rfl)
theorem dX2_adds_38 : decode cX2_adds 38 = .ok (.aload_n 0, 1) := dk_42 (dk_at dksX2_adds_1 15 rfl rfl)
theorem dX2_adds_39 : decode cX2_adds 39 = .ok (.getfield 56, 3) := dk_180 0 56 (dk_at dksX2_adds_1 16 rfl rfl)
theorem dX2_adds_42 : decode cX2_adds 42 = .ok (.iload 5, 2) := dk_21 5 (dk_at dksX2_adds_1 19 rfl rfl)
theorem dX2_adds_44 : decode cX2_adds 44 = .ok (.iload 4, 2) := dk_21 4 (dk_at dksX2_adds_1 21 rfl rfl)
theorem dX2_adds_46 : decode cX2_adds 46 = .ok (.iastore, 1) := dk_79 (dk_at dksX2_adds_1 23 rfl rfl)
theorem dX2_adds_47 : decode cX2_adds 47 = .ok (.aload_n 0, 1) := dk_42 (dk_at dksX2_adds_2 0 rfl rfl)
theorem dX2_adds_48 : decode cX2_adds 48 = .ok (.dup, 1) := dk_89 (dk_at dksX2_adds_2 1 rfl rfl)
theorem dX2_adds_49 : decode cX2_adds 49 = .ok (.getfield 68, 3) := dk_180 0 68 (dk_at dksX2_adds_2 2 rfl rfl)
theorem dX2_adds_52 : decode cX2_adds 52 = .ok (.iconst 1, 1) := dk_4 (dk_at dksX2_adds_2 5 rfl rfl)
theorem dX2_adds_53 : decode cX2_adds 53 = .ok (.iadd, 1) := dk_96 (dk_at dksX2_adds_2 6 rfl rfl)
theorem dX2_adds_54 : decode cX2_adds 54 = .ok (.putfield 68, 3) := dk_181 0 68 (dk_at dksX2_adds_2 7 rfl rfl)
theorem dX2_adds_57 : decode cX2_adds 57 = .ok (.iload 5, 2) := dk_21 5 (dk_at dksX2_adds_2 10 rfl rfl)
theorem dX2_adds_59 : decode cX2_adds 59 = .ok (.ireturn, 1) := dk_172 (dk_at dksX2_adds_2 12 rfl rfl)
abbrev cX2_owedBy : ByteArray := prog_16_method_10_code
def yX2_owedBy : MethodName := ⟨RX2, "owedBy", "(I)I"⟩
def dkwX2_owedBy_2 : List UInt8 := [28, 172]
abbrev dktX2_owedBy_2 : List UInt8 := dkwX2_owedBy_2 ++ []
def dkwX2_owedBy_1 : List UInt8 := [180, 0, 44, 29, 46, 27, 160, 0, 9, 4, 29, 120, 167, 0, 4, 3, 128, 61, 132, 3, 1, 167, 255, 215]
abbrev dktX2_owedBy_1 : List UInt8 := dkwX2_owedBy_1 ++ dktX2_owedBy_2
def dkwX2_owedBy_0 : List UInt8 := [3, 61, 3, 62, 29, 42, 180, 0, 68, 162, 0, 39, 28, 42, 180, 0, 53, 29, 46, 5, 159, 0, 19, 42]
abbrev dktX2_owedBy_0 : List UInt8 := dkwX2_owedBy_0 ++ dktX2_owedBy_1
theorem dksX2_owedBy_0 : cX2_owedBy.data.toList.drop 0 = dktX2_owedBy_0 := by decide +kernel
theorem dksX2_owedBy_1 : cX2_owedBy.data.toList.drop 24 = dktX2_owedBy_1 := dk_seg dksX2_owedBy_0 24 rfl rfl
theorem dksX2_owedBy_2 : cX2_owedBy.data.toList.drop 48 = dktX2_owedBy_2 := dk_seg dksX2_owedBy_1 24 rfl rfl
theorem dX2_owedBy_0 : decode cX2_owedBy 0 = .ok (.iconst 0, 1) := dk_3 (dk_at dksX2_owedBy_0 0 rfl rfl)
theorem dX2_owedBy_1 : decode cX2_owedBy 1 = .ok (.istore_n 2, 1) := dk_61 (dk_at dksX2_owedBy_0 1 rfl rfl)
theorem dX2_owedBy_2 : decode cX2_owedBy 2 = .ok (.iconst 0, 1) := dk_3 (dk_at dksX2_owedBy_0 2 rfl rfl)
theorem dX2_owedBy_3 : decode cX2_owedBy 3 = .ok (.istore_n 3, 1) := dk_62 (dk_at dksX2_owedBy_0 3 rfl rfl)
theorem dX2_owedBy_4 : decode cX2_owedBy 4 = .ok (.iload_n 3, 1) := dk_29 (dk_at dksX2_owedBy_0 4 rfl rfl)
theorem dX2_owedBy_5 : decode cX2_owedBy 5 = .ok (.aload_n 0, 1) := dk_42 (dk_at dksX2_owedBy_0 5 rfl rfl)
theorem dX2_owedBy_6 : decode cX2_owedBy 6 = .ok (.getfield 68, 3) := dk_180 0 68 (dk_at dksX2_owedBy_0 6 rfl rfl)
theorem dX2_owedBy_9 : decode cX2_owedBy 9 = .ok (.if_icmp .ge 39, 3) := dk_162 0 39 (dk_at dksX2_owedBy_0 9 rfl rfl)
theorem dX2_owedBy_12 : decode cX2_owedBy 12 = .ok (.iload_n 2, 1) := dk_28 (dk_at dksX2_owedBy_0 12 rfl rfl)
theorem dX2_owedBy_13 : decode cX2_owedBy 13 = .ok (.aload_n 0, 1) := dk_42 (dk_at dksX2_owedBy_0 13 rfl rfl)
theorem dX2_owedBy_14 : decode cX2_owedBy 14 = .ok (.getfield 53, 3) := dk_180 0 53 (dk_at dksX2_owedBy_0 14 rfl rfl)
theorem dX2_owedBy_17 : decode cX2_owedBy 17 = .ok (.iload_n 3, 1) := dk_29 (dk_at dksX2_owedBy_0 17 rfl rfl)
theorem dX2_owedBy_18 : decode cX2_owedBy 18 = .ok (.iaload, 1) := dk_46 (dk_at dksX2_owedBy_0 18 rfl rfl)
theorem dX2_owedBy_19 : decode cX2_owedBy 19 = .ok (.iconst 2, 1) := dk_5 (dk_at dksX2_owedBy_0 19 rfl rfl)
theorem dX2_owedBy_20 : decode cX2_owedBy 20 = .ok (.if_icmp .eq 19, 3) := dk_159 0 19 (dk_at dksX2_owedBy_0 20 rfl rfl)
theorem dX2_owedBy_23 : decode cX2_owedBy 23 = .ok (.aload_n 0, 1) := dk_42 (dk_at dksX2_owedBy_0 23 rfl rfl)
theorem dX2_owedBy_24 : decode cX2_owedBy 24 = .ok (.getfield 44, 3) := dk_180 0 44 (dk_at dksX2_owedBy_1 0 rfl rfl)
theorem dX2_owedBy_27 : decode cX2_owedBy 27 = .ok (.iload_n 3, 1) := dk_29 (dk_at dksX2_owedBy_1 3 rfl rfl)
theorem dX2_owedBy_28 : decode cX2_owedBy 28 = .ok (.iaload, 1) := dk_46 (dk_at dksX2_owedBy_1 4 rfl rfl)
theorem dX2_owedBy_29 : decode cX2_owedBy 29 = .ok (.iload_n 1, 1) := dk_27 (dk_at dksX2_owedBy_1 5 rfl rfl)
theorem dX2_owedBy_30 : decode cX2_owedBy 30 = .ok (.if_icmp .ne 9, 3) := dk_160 0 9 (dk_at dksX2_owedBy_1 6 rfl rfl)
theorem dX2_owedBy_33 : decode cX2_owedBy 33 = .ok (.iconst 1, 1) := dk_4 (dk_at dksX2_owedBy_1 9 rfl rfl)
theorem dX2_owedBy_34 : decode cX2_owedBy 34 = .ok (.iload_n 3, 1) := dk_29 (dk_at dksX2_owedBy_1 10 rfl rfl)
theorem dX2_owedBy_35 : decode cX2_owedBy 35 = .ok (.ishl, 1) := dk_120 (dk_at dksX2_owedBy_1 11 rfl rfl)
theorem dX2_owedBy_36 : decode cX2_owedBy 36 = .ok (.goto 4, 3) := dk_167 0 4 (dk_at dksX2_owedBy_1 12 rfl rfl)
theorem dX2_owedBy_39 : decode cX2_owedBy 39 = .ok (.iconst 0, 1) := dk_3 (dk_at dksX2_owedBy_1 15 rfl rfl)
theorem dX2_owedBy_40 : decode cX2_owedBy 40 = .ok (.ior, 1) := dk_128 (dk_at dksX2_owedBy_1 16 rfl rfl)
theorem dX2_owedBy_41 : decode cX2_owedBy 41 = .ok (.istore_n 2, 1) := dk_61 (dk_at dksX2_owedBy_1 17 rfl rfl)
theorem dX2_owedBy_42 : decode cX2_owedBy 42 = .ok (.iinc 3 1, 3) := dk_132 3 1 (dk_at dksX2_owedBy_1 18 rfl rfl)
theorem dX2_owedBy_45 : decode cX2_owedBy 45 = .ok (.goto (-41), 3) := dk_167 255 215 (dk_at dksX2_owedBy_1 21 rfl rfl)
theorem dX2_owedBy_48 : decode cX2_owedBy 48 = .ok (.iload_n 2, 1) := dk_28 (dk_at dksX2_owedBy_2 0 rfl rfl)
theorem dX2_owedBy_49 : decode cX2_owedBy 49 = .ok (.ireturn, 1) := dk_172 (dk_at dksX2_owedBy_2 1 rfl rfl)
abbrev cX2_dueTo : ByteArray := prog_16_method_11_code
def yX2_dueTo : MethodName := ⟨RX2, "dueTo", "(I)I"⟩
def dkwX2_dueTo_2 : List UInt8 := [28, 172]
abbrev dktX2_dueTo_2 : List UInt8 := dkwX2_dueTo_2 ++ []
def dkwX2_dueTo_1 : List UInt8 := [180, 0, 47, 29, 46, 27, 160, 0, 9, 4, 29, 120, 167, 0, 4, 3, 128, 61, 132, 3, 1, 167, 255, 215]
abbrev dktX2_dueTo_1 : List UInt8 := dkwX2_dueTo_1 ++ dktX2_dueTo_2
def dkwX2_dueTo_0 : List UInt8 := [3, 61, 3, 62, 29, 42, 180, 0, 68, 162, 0, 39, 28, 42, 180, 0, 53, 29, 46, 5, 159, 0, 19, 42]
abbrev dktX2_dueTo_0 : List UInt8 := dkwX2_dueTo_0 ++ dktX2_dueTo_1
theorem dksX2_dueTo_0 : cX2_dueTo.data.toList.drop 0 = dktX2_dueTo_0 := by decide +kernel
theorem dksX2_dueTo_1 : cX2_dueTo.data.toList.drop 24 = dktX2_dueTo_1 := dk_seg dksX2_dueTo_0 24 rfl rfl
theorem dksX2_dueTo_2 : cX2_dueTo.data.toList.drop 48 = dktX2_dueTo_2 := dk_seg dksX2_dueTo_1 24 rfl rfl
theorem dX2_dueTo_0 : decode cX2_dueTo 0 = .ok (.iconst 0, 1) := dk_3 (dk_at dksX2_dueTo_0 0 rfl rfl)
theorem dX2_dueTo_1 : decode cX2_dueTo 1 = .ok (.istore_n 2, 1) := dk_61 (dk_at dksX2_dueTo_0 1 rfl rfl)
theorem dX2_dueTo_2 : decode cX2_dueTo 2 = .ok (.iconst 0, 1) := dk_3 (dk_at dksX2_dueTo_0 2 rfl rfl)
theorem dX2_dueTo_3 : decode cX2_dueTo 3 = .ok (.istore_n 3, 1) := dk_62 (dk_at dksX2_dueTo_0 3 rfl rfl)
theorem dX2_dueTo_4 : decode cX2_dueTo 4 = .ok (.iload_n 3, 1) := dk_29 (dk_at dksX2_dueTo_0 4 rfl rfl)
theorem dX2_dueTo_5 : decode cX2_dueTo 5 = .ok (.aload_n 0, 1) := dk_42 (dk_at dksX2_dueTo_0 5 rfl rfl)
theorem dX2_dueTo_6 : decode cX2_dueTo 6 = .ok (.getfield 68, 3) := dk_180 0 68 (dk_at dksX2_dueTo_0 6 rfl rfl)
theorem dX2_dueTo_9 : decode cX2_dueTo 9 = .ok (.if_icmp .ge 39, 3) := dk_162 0 39 (dk_at dksX2_dueTo_0 9 rfl rfl)
theorem dX2_dueTo_12 : decode cX2_dueTo 12 = .ok (.iload_n 2, 1) := dk_28 (dk_at dksX2_dueTo_0 12 rfl rfl)
theorem dX2_dueTo_13 : decode cX2_dueTo 13 = .ok (.aload_n 0, 1) := dk_42 (dk_at dksX2_dueTo_0 13 rfl rfl)
theorem dX2_dueTo_14 : decode cX2_dueTo 14 = .ok (.getfield 53, 3) := dk_180 0 53 (dk_at dksX2_dueTo_0 14 rfl rfl)
theorem dX2_dueTo_17 : decode cX2_dueTo 17 = .ok (.iload_n 3, 1) := dk_29 (dk_at dksX2_dueTo_0 17 rfl rfl)
theorem dX2_dueTo_18 : decode cX2_dueTo 18 = .ok (.iaload, 1) := dk_46 (dk_at dksX2_dueTo_0 18 rfl rfl)
theorem dX2_dueTo_19 : decode cX2_dueTo 19 = .ok (.iconst 2, 1) := dk_5 (dk_at dksX2_dueTo_0 19 rfl rfl)
theorem dX2_dueTo_20 : decode cX2_dueTo 20 = .ok (.if_icmp .eq 19, 3) := dk_159 0 19 (dk_at dksX2_dueTo_0 20 rfl rfl)
theorem dX2_dueTo_23 : decode cX2_dueTo 23 = .ok (.aload_n 0, 1) := dk_42 (dk_at dksX2_dueTo_0 23 rfl rfl)
theorem dX2_dueTo_24 : decode cX2_dueTo 24 = .ok (.getfield 47, 3) := dk_180 0 47 (dk_at dksX2_dueTo_1 0 rfl rfl)
theorem dX2_dueTo_27 : decode cX2_dueTo 27 = .ok (.iload_n 3, 1) := dk_29 (dk_at dksX2_dueTo_1 3 rfl rfl)
theorem dX2_dueTo_28 : decode cX2_dueTo 28 = .ok (.iaload, 1) := dk_46 (dk_at dksX2_dueTo_1 4 rfl rfl)
theorem dX2_dueTo_29 : decode cX2_dueTo 29 = .ok (.iload_n 1, 1) := dk_27 (dk_at dksX2_dueTo_1 5 rfl rfl)
theorem dX2_dueTo_30 : decode cX2_dueTo 30 = .ok (.if_icmp .ne 9, 3) := dk_160 0 9 (dk_at dksX2_dueTo_1 6 rfl rfl)
theorem dX2_dueTo_33 : decode cX2_dueTo 33 = .ok (.iconst 1, 1) := dk_4 (dk_at dksX2_dueTo_1 9 rfl rfl)
theorem dX2_dueTo_34 : decode cX2_dueTo 34 = .ok (.iload_n 3, 1) := dk_29 (dk_at dksX2_dueTo_1 10 rfl rfl)
theorem dX2_dueTo_35 : decode cX2_dueTo 35 = .ok (.ishl, 1) := dk_120 (dk_at dksX2_dueTo_1 11 rfl rfl)
theorem dX2_dueTo_36 : decode cX2_dueTo 36 = .ok (.goto 4, 3) := dk_167 0 4 (dk_at dksX2_dueTo_1 12 rfl rfl)
theorem dX2_dueTo_39 : decode cX2_dueTo 39 = .ok (.iconst 0, 1) := dk_3 (dk_at dksX2_dueTo_1 15 rfl rfl)
theorem dX2_dueTo_40 : decode cX2_dueTo 40 = .ok (.ior, 1) := dk_128 (dk_at dksX2_dueTo_1 16 rfl rfl)
theorem dX2_dueTo_41 : decode cX2_dueTo 41 = .ok (.istore_n 2, 1) := dk_61 (dk_at dksX2_dueTo_1 17 rfl rfl)
theorem dX2_dueTo_42 : decode cX2_dueTo 42 = .ok (.iinc 3 1, 3) := dk_132 3 1 (dk_at dksX2_dueTo_1 18 rfl rfl)
theorem dX2_dueTo_45 : decode cX2_dueTo 45 = .ok (.goto (-41), 3) := dk_167 255 215 (dk_at dksX2_dueTo_1 21 rfl rfl)
theorem dX2_dueTo_48 : decode cX2_dueTo 48 = .ok (.iload_n 2, 1) := dk_28 (dk_at dksX2_dueTo_2 0 rfl rfl)
theorem dX2_dueTo_49 : decode cX2_dueTo 49 = .ok (.ireturn, 1) := dk_172 (dk_at dksX2_dueTo_2 1 rfl rfl)
abbrev cX2_placeOf : ByteArray := prog_16_method_12_code
def yX2_placeOf : MethodName := ⟨RX2, "placeOf", "(I)I"⟩
def dkwX2_placeOf_1 : List UInt8 := [42, 180, 0, 56, 27, 46, 167, 0, 14, 42, 180, 0, 25, 42, 180, 0, 56, 27, 46, 46, 172]
abbrev dktX2_placeOf_1 : List UInt8 := dkwX2_placeOf_1 ++ []
def dkwX2_placeOf_0 : List UInt8 := [42, 180, 0, 53, 27, 46, 5, 160, 0, 7, 2, 167, 0, 33, 42, 180, 0, 53, 27, 46, 4, 160, 0, 12]
abbrev dktX2_placeOf_0 : List UInt8 := dkwX2_placeOf_0 ++ dktX2_placeOf_1
theorem dksX2_placeOf_0 : cX2_placeOf.data.toList.drop 0 = dktX2_placeOf_0 := by decide +kernel
theorem dksX2_placeOf_1 : cX2_placeOf.data.toList.drop 24 = dktX2_placeOf_1 := dk_seg dksX2_placeOf_0 24 rfl rfl
theorem dX2_placeOf_0 : decode cX2_placeOf 0 = .ok (.aload_n 0, 1) := dk_42 (dk_at dksX2_placeOf_0 0 rfl rfl)
theorem dX2_placeOf_1 : decode cX2_placeOf 1 = .ok (.getfield 53, 3) := dk_180 0 53 (dk_at dksX2_placeOf_0 1 rfl rfl)
theorem dX2_placeOf_4 : decode cX2_placeOf 4 = .ok (.iload_n 1, 1) := dk_27 (dk_at dksX2_placeOf_0 4 rfl rfl)
theorem dX2_placeOf_5 : decode cX2_placeOf 5 = .ok (.iaload, 1) := dk_46 (dk_at dksX2_placeOf_0 5 rfl rfl)
theorem dX2_placeOf_6 : decode cX2_placeOf 6 = .ok (.iconst 2, 1) := dk_5 (dk_at dksX2_placeOf_0 6 rfl rfl)
theorem dX2_placeOf_7 : decode cX2_placeOf 7 = .ok (.if_icmp .ne 7, 3) := dk_160 0 7 (dk_at dksX2_placeOf_0 7 rfl rfl)
theorem dX2_placeOf_10 : decode cX2_placeOf 10 = .ok (.iconst (-1), 1) := dk_2 (dk_at dksX2_placeOf_0 10 rfl rfl)
theorem dX2_placeOf_11 : decode cX2_placeOf 11 = .ok (.goto 33, 3) := dk_167 0 33 (dk_at dksX2_placeOf_0 11 rfl rfl)
theorem dX2_placeOf_14 : decode cX2_placeOf 14 = .ok (.aload_n 0, 1) := dk_42 (dk_at dksX2_placeOf_0 14 rfl rfl)
theorem dX2_placeOf_15 : decode cX2_placeOf 15 = .ok (.getfield 53, 3) := dk_180 0 53 (dk_at dksX2_placeOf_0 15 rfl rfl)
theorem dX2_placeOf_18 : decode cX2_placeOf 18 = .ok (.iload_n 1, 1) := dk_27 (dk_at dksX2_placeOf_0 18 rfl rfl)
theorem dX2_placeOf_19 : decode cX2_placeOf 19 = .ok (.iaload, 1) := dk_46 (dk_at dksX2_placeOf_0 19 rfl rfl)
theorem dX2_placeOf_20 : decode cX2_placeOf 20 = .ok (.iconst 1, 1) := dk_4 (dk_at dksX2_placeOf_0 20 rfl rfl)
theorem dX2_placeOf_21 : decode cX2_placeOf 21 = .ok (.if_icmp .ne 12, 3) := dk_160 0 12 (dk_at dksX2_placeOf_0 21 rfl rfl)
theorem dX2_placeOf_24 : decode cX2_placeOf 24 = .ok (.aload_n 0, 1) := dk_42 (dk_at dksX2_placeOf_1 0 rfl rfl)
theorem dX2_placeOf_25 : decode cX2_placeOf 25 = .ok (.getfield 56, 3) := dk_180 0 56 (dk_at dksX2_placeOf_1 1 rfl rfl)
theorem dX2_placeOf_28 : decode cX2_placeOf 28 = .ok (.iload_n 1, 1) := dk_27 (dk_at dksX2_placeOf_1 4 rfl rfl)
theorem dX2_placeOf_29 : decode cX2_placeOf 29 = .ok (.iaload, 1) := dk_46 (dk_at dksX2_placeOf_1 5 rfl rfl)
theorem dX2_placeOf_30 : decode cX2_placeOf 30 = .ok (.goto 14, 3) := dk_167 0 14 (dk_at dksX2_placeOf_1 6 rfl rfl)
theorem dX2_placeOf_33 : decode cX2_placeOf 33 = .ok (.aload_n 0, 1) := dk_42 (dk_at dksX2_placeOf_1 9 rfl rfl)
theorem dX2_placeOf_34 : decode cX2_placeOf 34 = .ok (.getfield 25, 3) := dk_180 0 25 (dk_at dksX2_placeOf_1 10 rfl rfl)
theorem dX2_placeOf_37 : decode cX2_placeOf 37 = .ok (.aload_n 0, 1) := dk_42 (dk_at dksX2_placeOf_1 13 rfl rfl)
theorem dX2_placeOf_38 : decode cX2_placeOf 38 = .ok (.getfield 56, 3) := dk_180 0 56 (dk_at dksX2_placeOf_1 14 rfl rfl)
theorem dX2_placeOf_41 : decode cX2_placeOf 41 = .ok (.iload_n 1, 1) := dk_27 (dk_at dksX2_placeOf_1 17 rfl rfl)
theorem dX2_placeOf_42 : decode cX2_placeOf 42 = .ok (.iaload, 1) := dk_46 (dk_at dksX2_placeOf_1 18 rfl rfl)
theorem dX2_placeOf_43 : decode cX2_placeOf 43 = .ok (.iaload, 1) := dk_46 (dk_at dksX2_placeOf_1 19 rfl rfl)
theorem dX2_placeOf_44 : decode cX2_placeOf 44 = .ok (.ireturn, 1) := dk_172 (dk_at dksX2_placeOf_1 20 rfl rfl)
abbrev cX2_peopleAt : ByteArray := prog_16_method_14_code
def yX2_peopleAt : MethodName := ⟨RX2, "peopleAt", "(I)I"⟩
def dkwX2_peopleAt_1 : List UInt8 := [29, 120, 167, 0, 4, 3, 128, 61, 132, 3, 1, 167, 255, 225, 28, 172]
abbrev dktX2_peopleAt_1 : List UInt8 := dkwX2_peopleAt_1 ++ []
def dkwX2_peopleAt_0 : List UInt8 := [3, 61, 3, 62, 29, 42, 180, 0, 65, 162, 0, 29, 28, 42, 180, 0, 25, 29, 46, 27, 160, 0, 9, 4]
abbrev dktX2_peopleAt_0 : List UInt8 := dkwX2_peopleAt_0 ++ dktX2_peopleAt_1
theorem dksX2_peopleAt_0 : cX2_peopleAt.data.toList.drop 0 = dktX2_peopleAt_0 := by decide +kernel
theorem dksX2_peopleAt_1 : cX2_peopleAt.data.toList.drop 24 = dktX2_peopleAt_1 := dk_seg dksX2_peopleAt_0 24 rfl rfl
theorem dX2_peopleAt_0 : decode cX2_peopleAt 0 = .ok (.iconst 0, 1) := dk_3 (dk_at dksX2_peopleAt_0 0 rfl rfl)
theorem dX2_peopleAt_1 : decode cX2_peopleAt 1 = .ok (.istore_n 2, 1) := dk_61 (dk_at dksX2_peopleAt_0 1 rfl rfl)
theorem dX2_peopleAt_2 : decode cX2_peopleAt 2 = .ok (.iconst 0, 1) := dk_3 (dk_at dksX2_peopleAt_0 2 rfl rfl)
theorem dX2_peopleAt_3 : decode cX2_peopleAt 3 = .ok (.istore_n 3, 1) := dk_62 (dk_at dksX2_peopleAt_0 3 rfl rfl)
theorem dX2_peopleAt_4 : decode cX2_peopleAt 4 = .ok (.iload_n 3, 1) := dk_29 (dk_at dksX2_peopleAt_0 4 rfl rfl)
theorem dX2_peopleAt_5 : decode cX2_peopleAt 5 = .ok (.aload_n 0, 1) := dk_42 (dk_at dksX2_peopleAt_0 5 rfl rfl)
theorem dX2_peopleAt_6 : decode cX2_peopleAt 6 = .ok (.getfield 65, 3) := dk_180 0 65 (dk_at dksX2_peopleAt_0 6 rfl rfl)
theorem dX2_peopleAt_9 : decode cX2_peopleAt 9 = .ok (.if_icmp .ge 29, 3) := dk_162 0 29 (dk_at dksX2_peopleAt_0 9 rfl rfl)
theorem dX2_peopleAt_12 : decode cX2_peopleAt 12 = .ok (.iload_n 2, 1) := dk_28 (dk_at dksX2_peopleAt_0 12 rfl rfl)
theorem dX2_peopleAt_13 : decode cX2_peopleAt 13 = .ok (.aload_n 0, 1) := dk_42 (dk_at dksX2_peopleAt_0 13 rfl rfl)
theorem dX2_peopleAt_14 : decode cX2_peopleAt 14 = .ok (.getfield 25, 3) := dk_180 0 25 (dk_at dksX2_peopleAt_0 14 rfl rfl)
theorem dX2_peopleAt_17 : decode cX2_peopleAt 17 = .ok (.iload_n 3, 1) := dk_29 (dk_at dksX2_peopleAt_0 17 rfl rfl)
theorem dX2_peopleAt_18 : decode cX2_peopleAt 18 = .ok (.iaload, 1) := dk_46 (dk_at dksX2_peopleAt_0 18 rfl rfl)
theorem dX2_peopleAt_19 : decode cX2_peopleAt 19 = .ok (.iload_n 1, 1) := dk_27 (dk_at dksX2_peopleAt_0 19 rfl rfl)
theorem dX2_peopleAt_20 : decode cX2_peopleAt 20 = .ok (.if_icmp .ne 9, 3) := dk_160 0 9 (dk_at dksX2_peopleAt_0 20 rfl rfl)
theorem dX2_peopleAt_23 : decode cX2_peopleAt 23 = .ok (.iconst 1, 1) := dk_4 (dk_at dksX2_peopleAt_0 23 rfl rfl)
theorem dX2_peopleAt_24 : decode cX2_peopleAt 24 = .ok (.iload_n 3, 1) := dk_29 (dk_at dksX2_peopleAt_1 0 rfl rfl)
theorem dX2_peopleAt_25 : decode cX2_peopleAt 25 = .ok (.ishl, 1) := dk_120 (dk_at dksX2_peopleAt_1 1 rfl rfl)
theorem dX2_peopleAt_26 : decode cX2_peopleAt 26 = .ok (.goto 4, 3) := dk_167 0 4 (dk_at dksX2_peopleAt_1 2 rfl rfl)
theorem dX2_peopleAt_29 : decode cX2_peopleAt 29 = .ok (.iconst 0, 1) := dk_3 (dk_at dksX2_peopleAt_1 5 rfl rfl)
theorem dX2_peopleAt_30 : decode cX2_peopleAt 30 = .ok (.ior, 1) := dk_128 (dk_at dksX2_peopleAt_1 6 rfl rfl)
theorem dX2_peopleAt_31 : decode cX2_peopleAt 31 = .ok (.istore_n 2, 1) := dk_61 (dk_at dksX2_peopleAt_1 7 rfl rfl)
theorem dX2_peopleAt_32 : decode cX2_peopleAt 32 = .ok (.iinc 3 1, 3) := dk_132 3 1 (dk_at dksX2_peopleAt_1 8 rfl rfl)
theorem dX2_peopleAt_35 : decode cX2_peopleAt 35 = .ok (.goto (-31), 3) := dk_167 255 225 (dk_at dksX2_peopleAt_1 11 rfl rfl)
theorem dX2_peopleAt_38 : decode cX2_peopleAt 38 = .ok (.iload_n 2, 1) := dk_28 (dk_at dksX2_peopleAt_1 14 rfl rfl)
theorem dX2_peopleAt_39 : decode cX2_peopleAt 39 = .ok (.ireturn, 1) := dk_172 (dk_at dksX2_peopleAt_1 15 rfl rfl)
abbrev cX2_tells : ByteArray := prog_16_method_20_code
def yX2_tells : MethodName := ⟨RX2, "tells", "(III)V"⟩
def dkwX2_tells_2 : List UInt8 := [6, 29, 79, 42, 16, 60, 42, 180, 0, 74, 4, 96, 184, 0, 109, 181, 0, 74, 177]
abbrev dktX2_tells_2 : List UInt8 := dkwX2_tells_2 ++ []
def dkwX2_tells_1 : List UInt8 := [3, 42, 180, 0, 71, 79, 42, 180, 0, 59, 4, 27, 79, 42, 180, 0, 59, 5, 28, 79, 42, 180, 0, 59]
abbrev dktX2_tells_1 : List UInt8 := dkwX2_tells_1 ++ dktX2_tells_2
def dkwX2_tells_0 : List UInt8 := [42, 180, 0, 59, 3, 42, 180, 0, 59, 7, 42, 180, 0, 59, 190, 7, 100, 184, 0, 85, 42, 180, 0, 59]
abbrev dktX2_tells_0 : List UInt8 := dkwX2_tells_0 ++ dktX2_tells_1
theorem dksX2_tells_0 : cX2_tells.data.toList.drop 0 = dktX2_tells_0 := by decide +kernel
theorem dksX2_tells_1 : cX2_tells.data.toList.drop 24 = dktX2_tells_1 := dk_seg dksX2_tells_0 24 rfl rfl
theorem dksX2_tells_2 : cX2_tells.data.toList.drop 48 = dktX2_tells_2 := dk_seg dksX2_tells_1 24 rfl rfl
theorem dX2_tells_0 : decode cX2_tells 0 = .ok (.aload_n 0, 1) := dk_42 (dk_at dksX2_tells_0 0 rfl rfl)
theorem dX2_tells_1 : decode cX2_tells 1 = .ok (.getfield 59, 3) := dk_180 0 59 (dk_at dksX2_tells_0 1 rfl rfl)
theorem dX2_tells_4 : decode cX2_tells 4 = .ok (.iconst 0, 1) := dk_3 (dk_at dksX2_tells_0 4 rfl rfl)
theorem dX2_tells_5 : decode cX2_tells 5 = .ok (.aload_n 0, 1) := dk_42 (dk_at dksX2_tells_0 5 rfl rfl)
theorem dX2_tells_6 : decode cX2_tells 6 = .ok (.getfield 59, 3) := dk_180 0 59 (dk_at dksX2_tells_0 6 rfl rfl)
theorem dX2_tells_9 : decode cX2_tells 9 = .ok (.iconst 4, 1) := dk_7 (dk_at dksX2_tells_0 9 rfl rfl)
theorem dX2_tells_10 : decode cX2_tells 10 = .ok (.aload_n 0, 1) := dk_42 (dk_at dksX2_tells_0 10 rfl rfl)
theorem dX2_tells_11 : decode cX2_tells 11 = .ok (.getfield 59, 3) := dk_180 0 59 (dk_at dksX2_tells_0 11 rfl rfl)
theorem dX2_tells_14 : decode cX2_tells 14 = .ok (.arraylength, 1) := dk_190 (dk_at dksX2_tells_0 14 rfl rfl)
theorem dX2_tells_15 : decode cX2_tells 15 = .ok (.iconst 4, 1) := dk_7 (dk_at dksX2_tells_0 15 rfl rfl)
theorem dX2_tells_16 : decode cX2_tells 16 = .ok (.isub, 1) := dk_100 (dk_at dksX2_tells_0 16 rfl rfl)
theorem dX2_tells_17 : decode cX2_tells 17 = .ok (.invokestatic 85, 3) := dk_184 0 85 (dk_at dksX2_tells_0 17 rfl rfl)
theorem dX2_tells_20 : decode cX2_tells 20 = .ok (.aload_n 0, 1) := dk_42 (dk_at dksX2_tells_0 20 rfl rfl)
theorem dX2_tells_21 : decode cX2_tells 21 = .ok (.getfield 59, 3) := dk_180 0 59 (dk_at dksX2_tells_0 21 rfl rfl)
theorem dX2_tells_24 : decode cX2_tells 24 = .ok (.iconst 0, 1) := dk_3 (dk_at dksX2_tells_1 0 rfl rfl)
theorem dX2_tells_25 : decode cX2_tells 25 = .ok (.aload_n 0, 1) := dk_42 (dk_at dksX2_tells_1 1 rfl rfl)
theorem dX2_tells_26 : decode cX2_tells 26 = .ok (.getfield 71, 3) := dk_180 0 71 (dk_at dksX2_tells_1 2 rfl rfl)
theorem dX2_tells_29 : decode cX2_tells 29 = .ok (.iastore, 1) := dk_79 (dk_at dksX2_tells_1 5 rfl rfl)
theorem dX2_tells_30 : decode cX2_tells 30 = .ok (.aload_n 0, 1) := dk_42 (dk_at dksX2_tells_1 6 rfl rfl)
theorem dX2_tells_31 : decode cX2_tells 31 = .ok (.getfield 59, 3) := dk_180 0 59 (dk_at dksX2_tells_1 7 rfl rfl)
theorem dX2_tells_34 : decode cX2_tells 34 = .ok (.iconst 1, 1) := dk_4 (dk_at dksX2_tells_1 10 rfl rfl)
theorem dX2_tells_35 : decode cX2_tells 35 = .ok (.iload_n 1, 1) := dk_27 (dk_at dksX2_tells_1 11 rfl rfl)
theorem dX2_tells_36 : decode cX2_tells 36 = .ok (.iastore, 1) := dk_79 (dk_at dksX2_tells_1 12 rfl rfl)
theorem dX2_tells_37 : decode cX2_tells 37 = .ok (.aload_n 0, 1) := dk_42 (dk_at dksX2_tells_1 13 rfl rfl)
theorem dX2_tells_38 : decode cX2_tells 38 = .ok (.getfield 59, 3) := dk_180 0 59 (dk_at dksX2_tells_1 14 rfl rfl)
theorem dX2_tells_41 : decode cX2_tells 41 = .ok (.iconst 2, 1) := dk_5 (dk_at dksX2_tells_1 17 rfl rfl)
theorem dX2_tells_42 : decode cX2_tells 42 = .ok (.iload_n 2, 1) := dk_28 (dk_at dksX2_tells_1 18 rfl rfl)
theorem dX2_tells_43 : decode cX2_tells 43 = .ok (.iastore, 1) := dk_79 (dk_at dksX2_tells_1 19 rfl rfl)
theorem dX2_tells_44 : decode cX2_tells 44 = .ok (.aload_n 0, 1) := dk_42 (dk_at dksX2_tells_1 20 rfl rfl)
theorem dX2_tells_45 : decode cX2_tells 45 = .ok (.getfield 59, 3) := dk_180 0 59 (dk_at dksX2_tells_1 21 rfl rfl)
theorem dX2_tells_48 : decode cX2_tells 48 = .ok (.iconst 3, 1) := dk_6 (dk_at dksX2_tells_2 0 rfl rfl)
theorem dX2_tells_49 : decode cX2_tells 49 = .ok (.iload_n 3, 1) := dk_29 (dk_at dksX2_tells_2 1 rfl rfl)
theorem dX2_tells_50 : decode cX2_tells 50 = .ok (.iastore, 1) := dk_79 (dk_at dksX2_tells_2 2 rfl rfl)
theorem dX2_tells_51 : decode cX2_tells 51 = .ok (.aload_n 0, 1) := dk_42 (dk_at dksX2_tells_2 3 rfl rfl)
theorem dX2_tells_52 : decode cX2_tells 52 = .ok (.bipush 60, 2) := dk_16 60 (dk_at dksX2_tells_2 4 rfl rfl)
theorem dX2_tells_54 : decode cX2_tells 54 = .ok (.aload_n 0, 1) := dk_42 (dk_at dksX2_tells_2 6 rfl rfl)
theorem dX2_tells_55 : decode cX2_tells 55 = .ok (.getfield 74, 3) := dk_180 0 74 (dk_at dksX2_tells_2 7 rfl rfl)
theorem dX2_tells_58 : decode cX2_tells 58 = .ok (.iconst 1, 1) := dk_4 (dk_at dksX2_tells_2 10 rfl rfl)
theorem dX2_tells_59 : decode cX2_tells 59 = .ok (.iadd, 1) := dk_96 (dk_at dksX2_tells_2 11 rfl rfl)
theorem dX2_tells_60 : decode cX2_tells 60 = .ok (.invokestatic 109, 3) := dk_184 0 109 (dk_at dksX2_tells_2 12 rfl rfl)
theorem dX2_tells_63 : decode cX2_tells 63 = .ok (.putfield 74, 3) := dk_181 0 74 (dk_at dksX2_tells_2 15 rfl rfl)
theorem dX2_tells_66 : decode cX2_tells 66 = .ok (.return_, 1) := dk_177 (dk_at dksX2_tells_2 18 rfl rfl)
theorem q114 : (Jvm.Cond.initialized "StoneBacks$World") ∈ lw_all := lw_g (lw_at lw_m1 2 rfl) rfl
theorem q165 : (Jvm.Cond.instantiable "StoneBacks$World" (22 : Nat)) ∈ lw_all := lw_g (lw_at lw_m1 53 rfl) rfl
theorem q167 : (Jvm.Cond.instanceMethod ({ cls := "StoneBacks$World", name := "<init>", desc := "()V" } : Jvm.MethodName)) ∈ lw_all := lw_g (lw_at lw_m1 55 rfl) rfl
theorem q168 : (Jvm.Cond.code ({ cls := "StoneBacks$World", name := "<init>", desc := "()V" } : Jvm.MethodName) prog_16_method_1_code (1 : Nat) (Option.none : Option Jvm.ClassFile.FieldType)) ∈ lw_all := lw_g (lw_at lw_m1 56 rfl) rfl
theorem q169 : (Jvm.Cond.methodLink "StoneBacks$World" (3 : Nat) ({ cls := "java/lang/Object", name := "<init>", desc := "()V" } : Jvm.MethodName)) ∈ lw_all := lw_g (lw_at lw_m1 57 rfl) rfl
theorem q170 : (Jvm.Cond.fieldLink "StoneBacks$World" (62 : Nat) "StoneBacks$World" "texts" "I") ∈ lw_all := lw_g (lw_at lw_m1 58 rfl) rfl
theorem q172 : (Jvm.Cond.fieldLink "StoneBacks$World" (65 : Nat) "StoneBacks$World" "people" "I") ∈ lw_all := lw_g (lw_at lw_m1 60 rfl) rfl
theorem q175 : (Jvm.Cond.fieldLink "StoneBacks$World" (68 : Nat) "StoneBacks$World" "stones" "I") ∈ lw_all := lw_g (lw_at lw_m1 63 rfl) rfl
theorem q177 : (Jvm.Cond.fieldLink "StoneBacks$World" (9 : Nat) "StoneBacks$World" "limit" "I") ∈ lw_all := lw_g (lw_at lw_m1 65 rfl) rfl
theorem q179 : (Jvm.Cond.fieldLink "StoneBacks$World" (71 : Nat) "StoneBacks$World" "hour" "I") ∈ lw_all := lw_g (lw_at lw_m1 67 rfl) rfl
theorem q181 : (Jvm.Cond.fieldLink "StoneBacks$World" (74 : Nat) "StoneBacks$World" "logged" "I") ∈ lw_all := lw_g (lw_at lw_m1 69 rfl) rfl
theorem q183 : (Jvm.Cond.fieldLink "StoneBacks$World" (15 : Nat) "StoneBacks$World" "seed" "I") ∈ lw_all := lw_g (lw_at lw_m1 71 rfl) rfl
theorem q185 : (Jvm.Cond.fieldLink "StoneBacks$World" (18 : Nat) "StoneBacks$World" "purse" "[I") ∈ lw_all := lw_g (lw_at lw_m1 73 rfl) rfl
theorem q187 : (Jvm.Cond.fieldLink "StoneBacks$World" (22 : Nat) "StoneBacks$World" "back" "[I") ∈ lw_all := lw_g (lw_at lw_m1 75 rfl) rfl
theorem q189 : (Jvm.Cond.fieldLink "StoneBacks$World" (25 : Nat) "StoneBacks$World" "at" "[I") ∈ lw_all := lw_g (lw_at lw_m1 77 rfl) rfl
theorem q192 : (Jvm.Cond.fieldLink "StoneBacks$World" (28 : Nat) "StoneBacks$World" "goal" "[I") ∈ lw_all := lw_g (lw_at lw_m1 80 rfl) rfl
theorem q194 : (Jvm.Cond.fieldLink "StoneBacks$World" (31 : Nat) "StoneBacks$World" "tired" "[I") ∈ lw_all := lw_g (lw_at lw_m1 82 rfl) rfl
theorem q196 : (Jvm.Cond.fieldLink "StoneBacks$World" (34 : Nat) "StoneBacks$World" "hurt" "[Z") ∈ lw_all := lw_g (lw_at lw_m1 84 rfl) rfl
theorem q198 : (Jvm.Cond.fieldLink "StoneBacks$World" (38 : Nat) "StoneBacks$World" "porch" "[Z") ∈ lw_all := lw_g (lw_at lw_m1 86 rfl) rfl
theorem q200 : (Jvm.Cond.fieldLink "StoneBacks$World" (41 : Nat) "StoneBacks$World" "slope" "[I") ∈ lw_all := lw_g (lw_at lw_m1 88 rfl) rfl
theorem q202 : (Jvm.Cond.fieldLink "StoneBacks$World" (44 : Nat) "StoneBacks$World" "debtor" "[I") ∈ lw_all := lw_g (lw_at lw_m1 90 rfl) rfl
theorem q204 : (Jvm.Cond.fieldLink "StoneBacks$World" (47 : Nat) "StoneBacks$World" "lender" "[I") ∈ lw_all := lw_g (lw_at lw_m1 92 rfl) rfl
theorem q206 : (Jvm.Cond.fieldLink "StoneBacks$World" (50 : Nat) "StoneBacks$World" "weight" "[I") ∈ lw_all := lw_g (lw_at lw_m1 94 rfl) rfl
theorem q209 : (Jvm.Cond.fieldLink "StoneBacks$World" (53 : Nat) "StoneBacks$World" "state" "[I") ∈ lw_all := lw_g (lw_at lw_m1 97 rfl) rfl
theorem q211 : (Jvm.Cond.fieldLink "StoneBacks$World" (56 : Nat) "StoneBacks$World" "by" "[I") ∈ lw_all := lw_g (lw_at lw_m1 99 rfl) rfl
theorem q213 : (Jvm.Cond.fieldLink "StoneBacks$World" (59 : Nat) "StoneBacks$World" "log" "[I") ∈ lw_all := lw_g (lw_at lw_m1 101 rfl) rfl
theorem q215 : (Jvm.Cond.fieldLink "StoneBacks$World" (77 : Nat) "StoneBacks$World" "law" "LStoneBacks$Law;") ∈ lw_all := lw_g (lw_at lw_m1 103 rfl) rfl
theorem q217 : (Jvm.Cond.lays "StoneBacks$World" "StoneBacks$World" "texts" "I") ∈ lw_all := lw_g (lw_at lw_m1 105 rfl) rfl
theorem q218 : (Jvm.Cond.soleField "StoneBacks$World" "texts") ∈ lw_all := lw_g (lw_at lw_m1 106 rfl) rfl
theorem q219 : (Jvm.Cond.lays "StoneBacks$World" "StoneBacks$World" "people" "I") ∈ lw_all := lw_g (lw_at lw_m1 107 rfl) rfl
theorem q220 : (Jvm.Cond.soleField "StoneBacks$World" "people") ∈ lw_all := lw_g (lw_at lw_m1 108 rfl) rfl
theorem q221 : (Jvm.Cond.lays "StoneBacks$World" "StoneBacks$World" "stones" "I") ∈ lw_all := lw_g (lw_at lw_m1 109 rfl) rfl
theorem q222 : (Jvm.Cond.soleField "StoneBacks$World" "stones") ∈ lw_all := lw_g (lw_at lw_m1 110 rfl) rfl
theorem q223 : (Jvm.Cond.lays "StoneBacks$World" "StoneBacks$World" "limit" "I") ∈ lw_all := lw_g (lw_at lw_m1 111 rfl) rfl
theorem q224 : (Jvm.Cond.soleField "StoneBacks$World" "limit") ∈ lw_all := lw_g (lw_at lw_m1 112 rfl) rfl
theorem q225 : (Jvm.Cond.lays "StoneBacks$World" "StoneBacks$World" "hour" "I") ∈ lw_all := lw_g (lw_at lw_m1 113 rfl) rfl
theorem q226 : (Jvm.Cond.soleField "StoneBacks$World" "hour") ∈ lw_all := lw_g (lw_at lw_m1 114 rfl) rfl
theorem q227 : (Jvm.Cond.lays "StoneBacks$World" "StoneBacks$World" "logged" "I") ∈ lw_all := lw_g (lw_at lw_m1 115 rfl) rfl
theorem q228 : (Jvm.Cond.soleField "StoneBacks$World" "logged") ∈ lw_all := lw_g (lw_at lw_m1 116 rfl) rfl
theorem q229 : (Jvm.Cond.lays "StoneBacks$World" "StoneBacks$World" "seed" "I") ∈ lw_all := lw_g (lw_at lw_m1 117 rfl) rfl
theorem q230 : (Jvm.Cond.soleField "StoneBacks$World" "seed") ∈ lw_all := lw_g (lw_at lw_m1 118 rfl) rfl
theorem q231 : (Jvm.Cond.laysFinal "StoneBacks$World" "StoneBacks$World" "purse" "[I") ∈ lw_all := lw_g (lw_at lw_m1 119 rfl) rfl
theorem q232 : (Jvm.Cond.soleField "StoneBacks$World" "purse") ∈ lw_all := lw_g (lw_at lw_m1 120 rfl) rfl
theorem q233 : (Jvm.Cond.laysFinal "StoneBacks$World" "StoneBacks$World" "back" "[I") ∈ lw_all := lw_g (lw_at lw_m1 121 rfl) rfl
theorem q234 : (Jvm.Cond.soleField "StoneBacks$World" "back") ∈ lw_all := lw_g (lw_at lw_m1 122 rfl) rfl
theorem q235 : (Jvm.Cond.laysFinal "StoneBacks$World" "StoneBacks$World" "at" "[I") ∈ lw_all := lw_g (lw_at lw_m1 123 rfl) rfl
theorem q236 : (Jvm.Cond.soleField "StoneBacks$World" "at") ∈ lw_all := lw_g (lw_at lw_m1 124 rfl) rfl
theorem q237 : (Jvm.Cond.laysFinal "StoneBacks$World" "StoneBacks$World" "goal" "[I") ∈ lw_all := lw_g (lw_at lw_m1 125 rfl) rfl
theorem q238 : (Jvm.Cond.soleField "StoneBacks$World" "goal") ∈ lw_all := lw_g (lw_at lw_m1 126 rfl) rfl
theorem q239 : (Jvm.Cond.laysFinal "StoneBacks$World" "StoneBacks$World" "tired" "[I") ∈ lw_all := lw_g (lw_at lw_m1 127 rfl) rfl
theorem q240 : (Jvm.Cond.soleField "StoneBacks$World" "tired") ∈ lw_all := lw_g (lw_at lw_m1 128 rfl) rfl
theorem q241 : (Jvm.Cond.laysFinal "StoneBacks$World" "StoneBacks$World" "hurt" "[Z") ∈ lw_all := lw_g (lw_at lw_m1 129 rfl) rfl
theorem q242 : (Jvm.Cond.soleField "StoneBacks$World" "hurt") ∈ lw_all := lw_g (lw_at lw_m1 130 rfl) rfl
theorem q243 : (Jvm.Cond.laysFinal "StoneBacks$World" "StoneBacks$World" "porch" "[Z") ∈ lw_all := lw_g (lw_at lw_m1 131 rfl) rfl
theorem q244 : (Jvm.Cond.soleField "StoneBacks$World" "porch") ∈ lw_all := lw_g (lw_at lw_m1 132 rfl) rfl
theorem q245 : (Jvm.Cond.laysFinal "StoneBacks$World" "StoneBacks$World" "slope" "[I") ∈ lw_all := lw_g (lw_at lw_m1 133 rfl) rfl
theorem q246 : (Jvm.Cond.soleField "StoneBacks$World" "slope") ∈ lw_all := lw_g (lw_at lw_m1 134 rfl) rfl
theorem q247 : (Jvm.Cond.laysFinal "StoneBacks$World" "StoneBacks$World" "debtor" "[I") ∈ lw_all := lw_g (lw_at lw_m1 135 rfl) rfl
theorem q248 : (Jvm.Cond.soleField "StoneBacks$World" "debtor") ∈ lw_all := lw_g (lw_at lw_m1 136 rfl) rfl
theorem q249 : (Jvm.Cond.laysFinal "StoneBacks$World" "StoneBacks$World" "lender" "[I") ∈ lw_all := lw_g (lw_at lw_m1 137 rfl) rfl
theorem q250 : (Jvm.Cond.soleField "StoneBacks$World" "lender") ∈ lw_all := lw_g (lw_at lw_m1 138 rfl) rfl
theorem q251 : (Jvm.Cond.laysFinal "StoneBacks$World" "StoneBacks$World" "weight" "[I") ∈ lw_all := lw_g (lw_at lw_m1 139 rfl) rfl
theorem q252 : (Jvm.Cond.soleField "StoneBacks$World" "weight") ∈ lw_all := lw_g (lw_at lw_m1 140 rfl) rfl
theorem q253 : (Jvm.Cond.laysFinal "StoneBacks$World" "StoneBacks$World" "state" "[I") ∈ lw_all := lw_g (lw_at lw_m1 141 rfl) rfl
theorem q254 : (Jvm.Cond.soleField "StoneBacks$World" "state") ∈ lw_all := lw_g (lw_at lw_m1 142 rfl) rfl
theorem q255 : (Jvm.Cond.laysFinal "StoneBacks$World" "StoneBacks$World" "by" "[I") ∈ lw_all := lw_g (lw_at lw_m1 143 rfl) rfl
theorem q256 : (Jvm.Cond.soleField "StoneBacks$World" "by") ∈ lw_all := lw_g (lw_at lw_m1 144 rfl) rfl
theorem q257 : (Jvm.Cond.laysFinal "StoneBacks$World" "StoneBacks$World" "log" "[I") ∈ lw_all := lw_g (lw_at lw_m1 145 rfl) rfl
theorem q258 : (Jvm.Cond.soleField "StoneBacks$World" "log") ∈ lw_all := lw_g (lw_at lw_m1 146 rfl) rfl
theorem q259 : (Jvm.Cond.lays "StoneBacks$World" "StoneBacks$World" "law" "LStoneBacks$Law;") ∈ lw_all := lw_g (lw_at lw_m1 147 rfl) rfl
theorem q260 : (Jvm.Cond.soleField "StoneBacks$World" "law") ∈ lw_all := lw_g (lw_at lw_m1 148 rfl) rfl
theorem q261 : (Jvm.Cond.superclass "StoneBacks$World" "java/lang/Object") ∈ lw_all := lw_g (lw_at lw_m1 149 rfl) rfl
theorem q467 : (Jvm.Cond.instanceMethod ({ cls := "StoneBacks$World", name := "load", desc := "(I)I" } : Jvm.MethodName)) ∈ lw_all := lw_g (lw_at lw_m2 115 rfl) rfl
theorem q468 : (Jvm.Cond.selects "StoneBacks$World" ({ cls := "StoneBacks$World", name := "load", desc := "(I)I" } : Jvm.MethodName) ({ cls := "StoneBacks$World", name := "load", desc := "(I)I" } : Jvm.MethodName)) ∈ lw_all := lw_g (lw_at lw_m2 116 rfl) rfl
theorem q469 : (Jvm.Cond.code ({ cls := "StoneBacks$World", name := "load", desc := "(I)I" } : Jvm.MethodName) prog_16_method_7_code (2 : Nat) (Option.some Jvm.ClassFile.FieldType.int)) ∈ lw_all := lw_g (lw_at lw_m2 117 rfl) rfl
theorem q470 : (Jvm.Cond.methodLink "StoneBacks$World" (96 : Nat) ({ cls := "StoneBacks$World", name := "wornBy", desc := "(I)I" } : Jvm.MethodName)) ∈ lw_all := lw_g (lw_at lw_m2 118 rfl) rfl
theorem q471 : (Jvm.Cond.instanceMethod ({ cls := "StoneBacks$World", name := "wornBy", desc := "(I)I" } : Jvm.MethodName)) ∈ lw_all := lw_g (lw_at lw_m2 119 rfl) rfl
theorem q472 : (Jvm.Cond.selects "StoneBacks$World" ({ cls := "StoneBacks$World", name := "wornBy", desc := "(I)I" } : Jvm.MethodName) ({ cls := "StoneBacks$World", name := "wornBy", desc := "(I)I" } : Jvm.MethodName)) ∈ lw_all := lw_g (lw_at lw_m2 120 rfl) rfl
theorem q473 : (Jvm.Cond.code ({ cls := "StoneBacks$World", name := "wornBy", desc := "(I)I" } : Jvm.MethodName) prog_16_method_5_code (4 : Nat) (Option.some Jvm.ClassFile.FieldType.int)) ∈ lw_all := lw_g (lw_at lw_m2 121 rfl) rfl
theorem q474 : (Jvm.Cond.methodLink "StoneBacks$World" (100 : Nat) ({ cls := "StoneBacks$World", name := "weightOf", desc := "(I)I" } : Jvm.MethodName)) ∈ lw_all := lw_g (lw_at lw_m2 122 rfl) rfl
theorem q475 : (Jvm.Cond.instanceMethod ({ cls := "StoneBacks$World", name := "weightOf", desc := "(I)I" } : Jvm.MethodName)) ∈ lw_all := lw_g (lw_at lw_m2 123 rfl) rfl
theorem q476 : (Jvm.Cond.selects "StoneBacks$World" ({ cls := "StoneBacks$World", name := "weightOf", desc := "(I)I" } : Jvm.MethodName) ({ cls := "StoneBacks$World", name := "weightOf", desc := "(I)I" } : Jvm.MethodName)) ∈ lw_all := lw_g (lw_at lw_m2 124 rfl) rfl
theorem q477 : (Jvm.Cond.code ({ cls := "StoneBacks$World", name := "weightOf", desc := "(I)I" } : Jvm.MethodName) prog_16_method_6_code (4 : Nat) (Option.some Jvm.ClassFile.FieldType.int)) ∈ lw_all := lw_g (lw_at lw_m2 125 rfl) rfl
theorem q478 : (Jvm.Cond.methodLinkNest "StoneBacks$World" (92 : Nat) ({ cls := "StoneBacks", name := "has", desc := "(II)Z" } : Jvm.MethodName) "StoneBacks") ∈ lw_tbl := lw_at lw_m2 126 rfl
theorem q498 : (Jvm.Cond.instanceMethod ({ cls := "StoneBacks$World", name := "likens", desc := "(LStoneBacks$World;)LStoneBacks$World;" } : Jvm.MethodName)) ∈ lw_all := lw_g (lw_at lw_m2 146 rfl) rfl
theorem q499 : (Jvm.Cond.selects "StoneBacks$World" ({ cls := "StoneBacks$World", name := "likens", desc := "(LStoneBacks$World;)LStoneBacks$World;" } : Jvm.MethodName) ({ cls := "StoneBacks$World", name := "likens", desc := "(LStoneBacks$World;)LStoneBacks$World;" } : Jvm.MethodName)) ∈ lw_all := lw_g (lw_at lw_m2 147 rfl) rfl
theorem q500 : (Jvm.Cond.code ({ cls := "StoneBacks$World", name := "likens", desc := "(LStoneBacks$World;)LStoneBacks$World;" } : Jvm.MethodName) prog_16_method_2_code (2 : Nat) (Option.some (Jvm.ClassFile.FieldType.object "StoneBacks$World"))) ∈ lw_all := lw_g (lw_at lw_m2 148 rfl) rfl
theorem q501 : (Jvm.Cond.methodLink "StoneBacks$World" (81 : Nat) ({ cls := "StoneBacks$World", name := "row", desc := "([I[I)V" } : Jvm.MethodName)) ∈ lw_all := lw_g (lw_at lw_m2 149 rfl) rfl
theorem q502 : (Jvm.Cond.static ({ cls := "StoneBacks$World", name := "row", desc := "([I[I)V" } : Jvm.MethodName)) ∈ lw_all := lw_g (lw_at lw_m2 150 rfl) rfl
theorem q503 : (Jvm.Cond.code ({ cls := "StoneBacks$World", name := "row", desc := "([I[I)V" } : Jvm.MethodName) prog_16_method_3_code (2 : Nat) (Option.none : Option Jvm.ClassFile.FieldType)) ∈ lw_all := lw_g (lw_at lw_m2 151 rfl) rfl
theorem q504 : (Jvm.Cond.methodLink "StoneBacks$World" (85 : Nat) ({ cls := "java/lang/System", name := "arraycopy", desc := "(Ljava/lang/Object;ILjava/lang/Object;II)V" } : Jvm.MethodName)) ∈ lw_all := lw_g (lw_at lw_m2 152 rfl) rfl
theorem q508 : (Jvm.Cond.instanceMethod ({ cls := "StoneBacks$World", name := "isBowed", desc := "(I)Z" } : Jvm.MethodName)) ∈ lw_all := lw_g (lw_at lw_m2 156 rfl) rfl
theorem q509 : (Jvm.Cond.selects "StoneBacks$World" ({ cls := "StoneBacks$World", name := "isBowed", desc := "(I)Z" } : Jvm.MethodName) ({ cls := "StoneBacks$World", name := "isBowed", desc := "(I)Z" } : Jvm.MethodName)) ∈ lw_all := lw_g (lw_at lw_m2 157 rfl) rfl
theorem q510 : (Jvm.Cond.code ({ cls := "StoneBacks$World", name := "isBowed", desc := "(I)Z" } : Jvm.MethodName) prog_16_method_15_code (2 : Nat) (Option.some Jvm.ClassFile.FieldType.boolean)) ∈ lw_all := lw_g (lw_at lw_m2 158 rfl) rfl
theorem q511 : (Jvm.Cond.methodLink "StoneBacks$World" (106 : Nat) ({ cls := "StoneBacks$World", name := "load", desc := "(I)I" } : Jvm.MethodName)) ∈ lw_all := lw_g (lw_at lw_m2 159 rfl) rfl
theorem q610 : (Jvm.Cond.instanceMethod ({ cls := "StoneBacks$World", name := "gets", desc := "(II)V" } : Jvm.MethodName)) ∈ lw_all := lw_g (lw_at lw_m3 18 rfl) rfl
theorem q611 : (Jvm.Cond.selects "StoneBacks$World" ({ cls := "StoneBacks$World", name := "gets", desc := "(II)V" } : Jvm.MethodName) ({ cls := "StoneBacks$World", name := "gets", desc := "(II)V" } : Jvm.MethodName)) ∈ lw_all := lw_g (lw_at lw_m3 19 rfl) rfl
theorem q612 : (Jvm.Cond.code ({ cls := "StoneBacks$World", name := "gets", desc := "(II)V" } : Jvm.MethodName) prog_16_method_17_code (3 : Nat) (Option.none : Option Jvm.ClassFile.FieldType)) ∈ lw_all := lw_g (lw_at lw_m3 20 rfl) rfl
theorem q613 : (Jvm.Cond.methodLink "StoneBacks$World" (109 : Nat) ({ cls := "java/lang/Math", name := "min", desc := "(II)I" } : Jvm.MethodName)) ∈ lw_all := lw_g (lw_at lw_m3 21 rfl) rfl
theorem q615 : (Jvm.Cond.instanceMethod ({ cls := "StoneBacks$World", name := "walks", desc := "(I)V" } : Jvm.MethodName)) ∈ lw_all := lw_g (lw_at lw_m3 23 rfl) rfl
theorem q616 : (Jvm.Cond.selects "StoneBacks$World" ({ cls := "StoneBacks$World", name := "walks", desc := "(I)V" } : Jvm.MethodName) ({ cls := "StoneBacks$World", name := "walks", desc := "(I)V" } : Jvm.MethodName)) ∈ lw_all := lw_g (lw_at lw_m3 24 rfl) rfl
theorem q617 : (Jvm.Cond.code ({ cls := "StoneBacks$World", name := "walks", desc := "(I)V" } : Jvm.MethodName) prog_16_method_18_code (4 : Nat) (Option.none : Option Jvm.ClassFile.FieldType)) ∈ lw_all := lw_g (lw_at lw_m3 25 rfl) rfl
theorem q618 : (Jvm.Cond.methodLink "StoneBacks$World" (115 : Nat) ({ cls := "java/lang/Math", name := "max", desc := "(II)I" } : Jvm.MethodName)) ∈ lw_all := lw_g (lw_at lw_m3 26 rfl) rfl
theorem q630 : (Jvm.Cond.instanceMethod ({ cls := "StoneBacks$World", name := "draw", desc := "(I)I" } : Jvm.MethodName)) ∈ lw_all := lw_g (lw_at lw_m3 38 rfl) rfl
theorem q631 : (Jvm.Cond.selects "StoneBacks$World" ({ cls := "StoneBacks$World", name := "draw", desc := "(I)I" } : Jvm.MethodName) ({ cls := "StoneBacks$World", name := "draw", desc := "(I)I" } : Jvm.MethodName)) ∈ lw_all := lw_g (lw_at lw_m3 39 rfl) rfl
theorem q632 : (Jvm.Cond.code ({ cls := "StoneBacks$World", name := "draw", desc := "(I)I" } : Jvm.MethodName) prog_16_method_4_code (2 : Nat) (Option.some Jvm.ClassFile.FieldType.int)) ∈ lw_all := lw_g (lw_at lw_m3 40 rfl) rfl
theorem q633 : (Jvm.Cond.constant "StoneBacks$World" (91 : Nat) (1103515245 : Int32)) ∈ lw_all := lw_g (lw_at lw_m3 41 rfl) rfl
theorem q641 : (Jvm.Cond.instanceMethod ({ cls := "StoneBacks$World", name := "ends", desc := "()V" } : Jvm.MethodName)) ∈ lw_all := lw_g (lw_at lw_m3 49 rfl) rfl
theorem q642 : (Jvm.Cond.selects "StoneBacks$World" ({ cls := "StoneBacks$World", name := "ends", desc := "()V" } : Jvm.MethodName) ({ cls := "StoneBacks$World", name := "ends", desc := "()V" } : Jvm.MethodName)) ∈ lw_all := lw_g (lw_at lw_m3 50 rfl) rfl
theorem q643 : (Jvm.Cond.code ({ cls := "StoneBacks$World", name := "ends", desc := "()V" } : Jvm.MethodName) prog_16_method_19_code (2 : Nat) (Option.none : Option Jvm.ClassFile.FieldType)) ∈ lw_all := lw_g (lw_at lw_m3 51 rfl) rfl
theorem q649 : (Jvm.Cond.instanceMethod ({ cls := "StoneBacks$World", name := "laidAt", desc := "(I)I" } : Jvm.MethodName)) ∈ lw_all := lw_g (lw_at lw_m3 57 rfl) rfl
theorem q650 : (Jvm.Cond.selects "StoneBacks$World" ({ cls := "StoneBacks$World", name := "laidAt", desc := "(I)I" } : Jvm.MethodName) ({ cls := "StoneBacks$World", name := "laidAt", desc := "(I)I" } : Jvm.MethodName)) ∈ lw_all := lw_g (lw_at lw_m3 58 rfl) rfl
theorem q651 : (Jvm.Cond.code ({ cls := "StoneBacks$World", name := "laidAt", desc := "(I)I" } : Jvm.MethodName) prog_16_method_13_code (4 : Nat) (Option.some Jvm.ClassFile.FieldType.int)) ∈ lw_all := lw_g (lw_at lw_m3 59 rfl) rfl
theorem q700 : (Jvm.Cond.instanceMethod ({ cls := "StoneBacks$World", name := "purses", desc := "()I" } : Jvm.MethodName)) ∈ lw_all := lw_g (lw_at lw_m3 108 rfl) rfl
theorem q701 : (Jvm.Cond.selects "StoneBacks$World" ({ cls := "StoneBacks$World", name := "purses", desc := "()I" } : Jvm.MethodName) ({ cls := "StoneBacks$World", name := "purses", desc := "()I" } : Jvm.MethodName)) ∈ lw_all := lw_g (lw_at lw_m3 109 rfl) rfl
theorem q702 : (Jvm.Cond.code ({ cls := "StoneBacks$World", name := "purses", desc := "()I" } : Jvm.MethodName) prog_16_method_22_code (3 : Nat) (Option.some Jvm.ClassFile.FieldType.int)) ∈ lw_all := lw_g (lw_at lw_m3 110 rfl) rfl
theorem q704 : (Jvm.Cond.instanceMethod ({ cls := "StoneBacks$World", name := "ofState", desc := "(I)I" } : Jvm.MethodName)) ∈ lw_all := lw_g (lw_at lw_m3 112 rfl) rfl
theorem q705 : (Jvm.Cond.selects "StoneBacks$World" ({ cls := "StoneBacks$World", name := "ofState", desc := "(I)I" } : Jvm.MethodName) ({ cls := "StoneBacks$World", name := "ofState", desc := "(I)I" } : Jvm.MethodName)) ∈ lw_all := lw_g (lw_at lw_m3 113 rfl) rfl
theorem q706 : (Jvm.Cond.code ({ cls := "StoneBacks$World", name := "ofState", desc := "(I)I" } : Jvm.MethodName) prog_16_method_8_code (4 : Nat) (Option.some Jvm.ClassFile.FieldType.int)) ∈ lw_all := lw_g (lw_at lw_m3 114 rfl) rfl
theorem q708 : (Jvm.Cond.instanceMethod ({ cls := "StoneBacks$World", name := "unpaid", desc := "()I" } : Jvm.MethodName)) ∈ lw_all := lw_g (lw_at lw_m3 116 rfl) rfl
theorem q709 : (Jvm.Cond.selects "StoneBacks$World" ({ cls := "StoneBacks$World", name := "unpaid", desc := "()I" } : Jvm.MethodName) ({ cls := "StoneBacks$World", name := "unpaid", desc := "()I" } : Jvm.MethodName)) ∈ lw_all := lw_g (lw_at lw_m3 117 rfl) rfl
theorem q710 : (Jvm.Cond.code ({ cls := "StoneBacks$World", name := "unpaid", desc := "()I" } : Jvm.MethodName) prog_16_method_9_code (1 : Nat) (Option.some Jvm.ClassFile.FieldType.int)) ∈ lw_all := lw_g (lw_at lw_m3 118 rfl) rfl
theorem q711 : (Jvm.Cond.methodLink "StoneBacks$World" (103 : Nat) ({ cls := "StoneBacks$World", name := "ofState", desc := "(I)I" } : Jvm.MethodName)) ∈ lw_all := lw_g (lw_at lw_m3 119 rfl) rfl
theorem q713 : (Jvm.Cond.instanceMethod ({ cls := "StoneBacks$World", name := "hurtOnes", desc := "()I" } : Jvm.MethodName)) ∈ lw_all := lw_g (lw_at lw_m3 121 rfl) rfl
theorem q714 : (Jvm.Cond.selects "StoneBacks$World" ({ cls := "StoneBacks$World", name := "hurtOnes", desc := "()I" } : Jvm.MethodName) ({ cls := "StoneBacks$World", name := "hurtOnes", desc := "()I" } : Jvm.MethodName)) ∈ lw_all := lw_g (lw_at lw_m3 122 rfl) rfl
theorem q715 : (Jvm.Cond.code ({ cls := "StoneBacks$World", name := "hurtOnes", desc := "()I" } : Jvm.MethodName) prog_16_method_16_code (3 : Nat) (Option.some Jvm.ClassFile.FieldType.int)) ∈ lw_all := lw_g (lw_at lw_m3 123 rfl) rfl
theorem q1229 : (Jvm.Cond.instanceMethod ({ cls := "StoneBacks$World", name := "adds", desc := "(IIII)I" } : Jvm.MethodName)) ∈ lw_all := lw_g (lw_at lw_m5 157 rfl) rfl
theorem q1230 : (Jvm.Cond.selects "StoneBacks$World" ({ cls := "StoneBacks$World", name := "adds", desc := "(IIII)I" } : Jvm.MethodName) ({ cls := "StoneBacks$World", name := "adds", desc := "(IIII)I" } : Jvm.MethodName)) ∈ lw_all := lw_g (lw_at lw_m5 158 rfl) rfl
theorem q1231 : (Jvm.Cond.code ({ cls := "StoneBacks$World", name := "adds", desc := "(IIII)I" } : Jvm.MethodName) prog_16_method_21_code (6 : Nat) (Option.some Jvm.ClassFile.FieldType.int)) ∈ lw_all := lw_g (lw_at lw_m5 159 rfl) rfl
theorem q1465 : (Jvm.Cond.selects "StoneBacks$World" ({ cls := "java/lang/Object", name := "getClass", desc := "()Ljava/lang/Class;" } : Jvm.MethodName) ({ cls := "java/lang/Object", name := "getClass", desc := "()Ljava/lang/Class;" } : Jvm.MethodName)) ∈ lw_all := lw_g (lw_at lw_m6 153 rfl) rfl
theorem q1589 : (Jvm.Cond.instanceMethod ({ cls := "StoneBacks$World", name := "owedBy", desc := "(I)I" } : Jvm.MethodName)) ∈ lw_all := lw_g (lw_at lw_m7 37 rfl) rfl
theorem q1590 : (Jvm.Cond.selects "StoneBacks$World" ({ cls := "StoneBacks$World", name := "owedBy", desc := "(I)I" } : Jvm.MethodName) ({ cls := "StoneBacks$World", name := "owedBy", desc := "(I)I" } : Jvm.MethodName)) ∈ lw_all := lw_g (lw_at lw_m7 38 rfl) rfl
theorem q1591 : (Jvm.Cond.code ({ cls := "StoneBacks$World", name := "owedBy", desc := "(I)I" } : Jvm.MethodName) prog_16_method_10_code (4 : Nat) (Option.some Jvm.ClassFile.FieldType.int)) ∈ lw_all := lw_g (lw_at lw_m7 39 rfl) rfl
theorem q1593 : (Jvm.Cond.instanceMethod ({ cls := "StoneBacks$World", name := "dueTo", desc := "(I)I" } : Jvm.MethodName)) ∈ lw_all := lw_g (lw_at lw_m7 41 rfl) rfl
theorem q1594 : (Jvm.Cond.selects "StoneBacks$World" ({ cls := "StoneBacks$World", name := "dueTo", desc := "(I)I" } : Jvm.MethodName) ({ cls := "StoneBacks$World", name := "dueTo", desc := "(I)I" } : Jvm.MethodName)) ∈ lw_all := lw_g (lw_at lw_m7 42 rfl) rfl
theorem q1595 : (Jvm.Cond.code ({ cls := "StoneBacks$World", name := "dueTo", desc := "(I)I" } : Jvm.MethodName) prog_16_method_11_code (4 : Nat) (Option.some Jvm.ClassFile.FieldType.int)) ∈ lw_all := lw_g (lw_at lw_m7 43 rfl) rfl
theorem q1619 : (Jvm.Cond.instanceMethod ({ cls := "StoneBacks$World", name := "placeOf", desc := "(I)I" } : Jvm.MethodName)) ∈ lw_all := lw_g (lw_at lw_m7 67 rfl) rfl
theorem q1620 : (Jvm.Cond.selects "StoneBacks$World" ({ cls := "StoneBacks$World", name := "placeOf", desc := "(I)I" } : Jvm.MethodName) ({ cls := "StoneBacks$World", name := "placeOf", desc := "(I)I" } : Jvm.MethodName)) ∈ lw_all := lw_g (lw_at lw_m7 68 rfl) rfl
theorem q1621 : (Jvm.Cond.code ({ cls := "StoneBacks$World", name := "placeOf", desc := "(I)I" } : Jvm.MethodName) prog_16_method_12_code (2 : Nat) (Option.some Jvm.ClassFile.FieldType.int)) ∈ lw_all := lw_g (lw_at lw_m7 69 rfl) rfl
theorem q1633 : (Jvm.Cond.instanceMethod ({ cls := "StoneBacks$World", name := "peopleAt", desc := "(I)I" } : Jvm.MethodName)) ∈ lw_all := lw_g (lw_at lw_m7 81 rfl) rfl
theorem q1634 : (Jvm.Cond.selects "StoneBacks$World" ({ cls := "StoneBacks$World", name := "peopleAt", desc := "(I)I" } : Jvm.MethodName) ({ cls := "StoneBacks$World", name := "peopleAt", desc := "(I)I" } : Jvm.MethodName)) ∈ lw_all := lw_g (lw_at lw_m7 82 rfl) rfl
theorem q1635 : (Jvm.Cond.code ({ cls := "StoneBacks$World", name := "peopleAt", desc := "(I)I" } : Jvm.MethodName) prog_16_method_14_code (4 : Nat) (Option.some Jvm.ClassFile.FieldType.int)) ∈ lw_all := lw_g (lw_at lw_m7 83 rfl) rfl
theorem q1670 : (Jvm.Cond.instanceMethod ({ cls := "StoneBacks$World", name := "tells", desc := "(III)V" } : Jvm.MethodName)) ∈ lw_all := lw_g (lw_at lw_m7 118 rfl) rfl
theorem q1671 : (Jvm.Cond.selects "StoneBacks$World" ({ cls := "StoneBacks$World", name := "tells", desc := "(III)V" } : Jvm.MethodName) ({ cls := "StoneBacks$World", name := "tells", desc := "(III)V" } : Jvm.MethodName)) ∈ lw_all := lw_g (lw_at lw_m7 119 rfl) rfl
theorem q1672 : (Jvm.Cond.code ({ cls := "StoneBacks$World", name := "tells", desc := "(III)V" } : Jvm.MethodName) prog_16_method_20_code (4 : Nat) (Option.none : Option Jvm.ClassFile.FieldType)) ∈ lw_all := lw_g (lw_at lw_m7 120 rfl) rfl
theorem q2532 : (Jvm.Cond.castable "StoneBacks$World" "java/lang/Object") ∈ lw_tbl := lw_at lw_m11 20 rfl
theorem in_X2 : ∀ w ∈ wsX20, w ∈ lw_all := lw_in wsX20 [217, 219, 221, 223, 225, 227, 229, 231, 233, 235, 237, 239, 241, 243, 245, 247, 249, 251, 253, 255, 257, 259] (by decide +kernel) (by decide +kernel)

/-! StoneBacks$Reader -/
set_option maxRecDepth 100000
def RX3 : String := "StoneBacks$Reader"
def TX3 : u_T := fun k => match k with
  | 0 => ("StoneBacks$Reader", "tape", "[B", true)
  | 1 => ("StoneBacks$Reader", "length", "I", false)
  | 2 => ("StoneBacks$Reader", "end", "I", false)
  | 3 => ("StoneBacks$Reader", "at", "I", false)
  | 4 => ("StoneBacks$Reader", "begin", "I", false)
  | 5 => ("StoneBacks$Reader", "fault", "I", false)
  | _ => ("StoneBacks$Reader", "deep", "I", false)
def tyX3 : Nat → FieldType := fun k => match k with
  | 0 => .array .byte
  | 1 => .int
  | 2 => .int
  | 3 => .int
  | 4 => .int
  | 5 => .int
  | _ => .int
abbrev wsX30 : List Cond := u_ws RX3 TX3 7
theorem nmX3 : ∀ a, a < 7 → ∀ b, b < 7 → a ≠ b → (TX3 a).2.1 ≠ (TX3 b).2.1 := by decide +kernel
theorem tyX3_ok : ∀ k, k < 7 → parseFieldDescriptor (TX3 k).2.2.1 = some (tyX3 k) := by decide +kernel
abbrev cX3_init : ByteArray := prog_10_method_1_code
def yX3_init : MethodName := ⟨RX3, "<init>", "()V"⟩
def dkwX3_init_0 : List UInt8 := [42, 183, 0, 3, 42, 17, 1, 144, 188, 8, 181, 0, 9, 42, 2, 181, 0, 15, 177]
abbrev dktX3_init_0 : List UInt8 := dkwX3_init_0 ++ []
theorem dksX3_init_0 : cX3_init.data.toList.drop 0 = dktX3_init_0 := by decide +kernel
theorem dX3_init_0 : decode cX3_init 0 = .ok (.aload_n 0, 1) := dk_42 (dk_at dksX3_init_0 0 rfl rfl)
theorem dX3_init_1 : decode cX3_init 1 = .ok (.invokespecial 3, 3) := dk_183 0 3 (dk_at dksX3_init_0 1 rfl rfl)
theorem dX3_init_4 : decode cX3_init 4 = .ok (.aload_n 0, 1) := dk_42 (dk_at dksX3_init_0 4 rfl rfl)
theorem dX3_init_5 : decode cX3_init 5 = .ok (.sipush 400, 3) := dk_17 1 144 (dk_at dksX3_init_0 5 rfl rfl)
theorem dX3_init_8 : decode cX3_init 8 = .ok (.newarray .byte, 2) := dk_188_8 (dk_at dksX3_init_0 8 rfl rfl)
theorem dX3_init_10 : decode cX3_init 10 = .ok (.putfield 9, 3) := dk_181 0 9 (dk_at dksX3_init_0 10 rfl rfl)
theorem dX3_init_13 : decode cX3_init 13 = .ok (.aload_n 0, 1) := dk_42 (dk_at dksX3_init_0 13 rfl rfl)
theorem dX3_init_14 : decode cX3_init 14 = .ok (.iconst (-1), 1) := dk_2 (dk_at dksX3_init_0 14 rfl rfl)
theorem dX3_init_15 : decode cX3_init 15 = .ok (.putfield 15, 3) := dk_181 0 15 (dk_at dksX3_init_0 15 rfl rfl)
theorem dX3_init_18 : decode cX3_init 18 = .ok (.return_, 1) := dk_177 (dk_at dksX3_init_0 18 rfl rfl)
abbrev cX3_add : ByteArray := prog_10_method_2_code
def yX3_add : MethodName := ⟨RX3, "add", "([I)I"⟩
def dkwX3_add_3 : List UInt8 := [132, 6, 248, 167, 255, 223, 132, 4, 1, 167, 255, 201, 42, 180, 0, 19, 172]
abbrev dktX3_add_3 : List UInt8 := dkwX3_add_3 ++ []
def dkwX3_add_2 : List UInt8 := [180, 0, 9, 42, 180, 0, 19, 21, 5, 21, 6, 122, 145, 84, 42, 89, 180, 0, 19, 4, 96, 181, 0, 19]
abbrev dktX3_add_2 : List UInt8 := dkwX3_add_2 ++ dktX3_add_3
def dkwX3_add_1 : List UInt8 := [21, 4, 29, 162, 0, 55, 44, 21, 4, 46, 54, 5, 16, 24, 54, 6, 21, 6, 155, 0, 34, 42]
abbrev dktX3_add_1 : List UInt8 := dkwX3_add_1 ++ dktX3_add_2
def dkwX3_add_0 : List UInt8 := [42, 180, 0, 19, 16, 20, 96, 17, 1, 144, 164, 0, 5, 2, 172, 43, 77, 44, 190, 62, 3, 54, 4]
abbrev dktX3_add_0 : List UInt8 := dkwX3_add_0 ++ dktX3_add_1
theorem dksX3_add_0 : cX3_add.data.toList.drop 0 = dktX3_add_0 := by decide +kernel
theorem dksX3_add_1 : cX3_add.data.toList.drop 23 = dktX3_add_1 := dk_seg dksX3_add_0 23 rfl rfl
theorem dksX3_add_2 : cX3_add.data.toList.drop 45 = dktX3_add_2 := dk_seg dksX3_add_1 22 rfl rfl
theorem dksX3_add_3 : cX3_add.data.toList.drop 69 = dktX3_add_3 := dk_seg dksX3_add_2 24 rfl rfl
theorem dX3_add_0 : decode cX3_add 0 = .ok (.aload_n 0, 1) := dk_42 (dk_at dksX3_add_0 0 rfl rfl)
theorem dX3_add_1 : decode cX3_add 1 = .ok (.getfield 19, 3) := dk_180 0 19 (dk_at dksX3_add_0 1 rfl rfl)
theorem dX3_add_4 : decode cX3_add 4 = .ok (.bipush 20, 2) := dk_16 20 (dk_at dksX3_add_0 4 rfl rfl)
theorem dX3_add_6 : decode cX3_add 6 = .ok (.iadd, 1) := dk_96 (dk_at dksX3_add_0 6 rfl rfl)
theorem dX3_add_7 : decode cX3_add 7 = .ok (.sipush 400, 3) := dk_17 1 144 (dk_at dksX3_add_0 7 rfl rfl)
theorem dX3_add_10 : decode cX3_add 10 = .ok (.if_icmp .le 5, 3) := dk_164 0 5 (dk_at dksX3_add_0 10 rfl rfl)
theorem dX3_add_13 : decode cX3_add 13 = .ok (.iconst (-1), 1) := dk_2 (dk_at dksX3_add_0 13 rfl rfl)
theorem dX3_add_14 : decode cX3_add 14 = .ok (.ireturn, 1) := dk_172 (dk_at dksX3_add_0 14 rfl rfl)
theorem dX3_add_15 : decode cX3_add 15 = .ok (.aload_n 1, 1) := dk_43 (dk_at dksX3_add_0 15 rfl rfl)
theorem dX3_add_16 : decode cX3_add 16 = .ok (.astore_n 2, 1) := dk_77 (dk_at dksX3_add_0 16 rfl rfl)
theorem dX3_add_17 : decode cX3_add 17 = .ok (.aload_n 2, 1) := dk_44 (dk_at dksX3_add_0 17 rfl rfl)
theorem dX3_add_18 : decode cX3_add 18 = .ok (.arraylength, 1) := dk_190 (dk_at dksX3_add_0 18 rfl rfl)
theorem dX3_add_19 : decode cX3_add 19 = .ok (.istore_n 3, 1) := dk_62 (dk_at dksX3_add_0 19 rfl rfl)
theorem dX3_add_20 : decode cX3_add 20 = .ok (.iconst 0, 1) := dk_3 (dk_at dksX3_add_0 20 rfl rfl)
theorem dX3_add_21 : decode cX3_add 21 = .ok (.istore 4, 2) := dk_54 4 (dk_at dksX3_add_0 21 rfl rfl)
theorem dX3_add_23 : decode cX3_add 23 = .ok (.iload 4, 2) := dk_21 4 (dk_at dksX3_add_1 0 rfl rfl)
theorem dX3_add_25 : decode cX3_add 25 = .ok (.iload_n 3, 1) := dk_29 (dk_at dksX3_add_1 2 rfl rfl)
theorem dX3_add_26 : decode cX3_add 26 = .ok (.if_icmp .ge 55, 3) := dk_162 0 55 (dk_at dksX3_add_1 3 rfl rfl)
theorem dX3_add_29 : decode cX3_add 29 = .ok (.aload_n 2, 1) := dk_44 (dk_at dksX3_add_1 6 rfl rfl)
theorem dX3_add_30 : decode cX3_add 30 = .ok (.iload 4, 2) := dk_21 4 (dk_at dksX3_add_1 7 rfl rfl)
theorem dX3_add_32 : decode cX3_add 32 = .ok (.iaload, 1) := dk_46 (dk_at dksX3_add_1 9 rfl rfl)
theorem dX3_add_33 : decode cX3_add 33 = .ok (.istore 5, 2) := dk_54 5 (dk_at dksX3_add_1 10 rfl rfl)
theorem dX3_add_35 : decode cX3_add 35 = .ok (.bipush 24, 2) := dk_16 24 (dk_at dksX3_add_1 12 rfl rfl)
theorem dX3_add_37 : decode cX3_add 37 = .ok (.istore 6, 2) := dk_54 6 (dk_at dksX3_add_1 14 rfl rfl)
theorem dX3_add_39 : decode cX3_add 39 = .ok (.iload 6, 2) := dk_21 6 (dk_at dksX3_add_1 16 rfl rfl)
theorem dX3_add_41 : decode cX3_add 41 = .ok (.ifCond .lt 34, 3) := dk_155 0 34 (dk_at dksX3_add_1 18 rfl rfl)
theorem dX3_add_44 : decode cX3_add 44 = .ok (.aload_n 0, 1) := dk_42 (dk_at dksX3_add_1 21 rfl rfl)
theorem dX3_add_45 : decode cX3_add 45 = .ok (.getfield 9, 3) := dk_180 0 9 (dk_at dksX3_add_2 0 rfl rfl)
theorem dX3_add_48 : decode cX3_add 48 = .ok (.aload_n 0, 1) := dk_42 (dk_at dksX3_add_2 3 rfl rfl)
theorem dX3_add_49 : decode cX3_add 49 = .ok (.getfield 19, 3) := dk_180 0 19 (dk_at dksX3_add_2 4 rfl rfl)
theorem dX3_add_52 : decode cX3_add 52 = .ok (.iload 5, 2) := dk_21 5 (dk_at dksX3_add_2 7 rfl rfl)
theorem dX3_add_54 : decode cX3_add 54 = .ok (.iload 6, 2) := dk_21 6 (dk_at dksX3_add_2 9 rfl rfl)
theorem dX3_add_56 : decode cX3_add 56 = .ok (.ishr, 1) := dk_122 (dk_at dksX3_add_2 11 rfl rfl)
theorem dX3_add_57 : decode cX3_add 57 = .ok (.i2b, 1) := dk_145 (dk_at dksX3_add_2 12 rfl rfl)
theorem dX3_add_58 : decode cX3_add 58 = .ok (.bastore, 1) := dk_84 (dk_at dksX3_add_2 13 rfl rfl)
theorem dX3_add_59 : decode cX3_add 59 = .ok (.aload_n 0, 1) := dk_42 (dk_at dksX3_add_2 14 rfl rfl)
theorem dX3_add_60 : decode cX3_add 60 = .ok (.dup, 1) := dk_89 (dk_at dksX3_add_2 15 rfl rfl)
theorem dX3_add_61 : decode cX3_add 61 = .ok (.getfield 19, 3) := dk_180 0 19 (dk_at dksX3_add_2 16 rfl rfl)
theorem dX3_add_64 : decode cX3_add 64 = .ok (.iconst 1, 1) := dk_4 (dk_at dksX3_add_2 19 rfl rfl)
theorem dX3_add_65 : decode cX3_add 65 = .ok (.iadd, 1) := dk_96 (dk_at dksX3_add_2 20 rfl rfl)
theorem dX3_add_66 : decode cX3_add 66 = .ok (.putfield 19, 3) := dk_181 0 19 (dk_at dksX3_add_2 21 rfl rfl)
theorem dX3_add_69 : decode cX3_add 69 = .ok (.iinc 6 (-8), 3) := dk_132 6 248 (dk_at dksX3_add_3 0 rfl rfl)
theorem dX3_add_72 : decode cX3_add 72 = .ok (.goto (-33), 3) := dk_167 255 223 (dk_at dksX3_add_3 3 rfl rfl)
theorem dX3_add_75 : decode cX3_add 75 = .ok (.iinc 4 1, 3) := dk_132 4 1 (dk_at dksX3_add_3 6 rfl rfl)
theorem dX3_add_78 : decode cX3_add 78 = .ok (.goto (-55), 3) := dk_167 255 201 (dk_at dksX3_add_3 9 rfl rfl)
theorem dX3_add_81 : decode cX3_add 81 = .ok (.aload_n 0, 1) := dk_42 (dk_at dksX3_add_3 12 rfl rfl)
theorem dX3_add_82 : decode cX3_add 82 = .ok (.getfield 19, 3) := dk_180 0 19 (dk_at dksX3_add_3 13 rfl rfl)
theorem dX3_add_85 : decode cX3_add 85 = .ok (.ireturn, 1) := dk_172 (dk_at dksX3_add_3 16 rfl rfl)
abbrev cX3_cut : ByteArray := prog_10_method_3_code
def yX3_cut : MethodName := ⟨RX3, "cut", "(I)Z"⟩
def dkwX3_cut_0 : List UInt8 := [27, 155, 0, 11, 27, 42, 180, 0, 19, 164, 0, 5, 3, 172, 42, 27, 181, 0, 19, 4, 172]
abbrev dktX3_cut_0 : List UInt8 := dkwX3_cut_0 ++ []
theorem dksX3_cut_0 : cX3_cut.data.toList.drop 0 = dktX3_cut_0 := by decide +kernel
theorem dX3_cut_0 : decode cX3_cut 0 = .ok (.iload_n 1, 1) := dk_27 (dk_at dksX3_cut_0 0 rfl rfl)
theorem dX3_cut_1 : decode cX3_cut 1 = .ok (.ifCond .lt 11, 3) := dk_155 0 11 (dk_at dksX3_cut_0 1 rfl rfl)
theorem dX3_cut_4 : decode cX3_cut 4 = .ok (.iload_n 1, 1) := dk_27 (dk_at dksX3_cut_0 4 rfl rfl)
theorem dX3_cut_5 : decode cX3_cut 5 = .ok (.aload_n 0, 1) := dk_42 (dk_at dksX3_cut_0 5 rfl rfl)
theorem dX3_cut_6 : decode cX3_cut 6 = .ok (.getfield 19, 3) := dk_180 0 19 (dk_at dksX3_cut_0 6 rfl rfl)
theorem dX3_cut_9 : decode cX3_cut 9 = .ok (.if_icmp .le 5, 3) := dk_164 0 5 (dk_at dksX3_cut_0 9 rfl rfl)
theorem dX3_cut_12 : decode cX3_cut 12 = .ok (.iconst 0, 1) := dk_3 (dk_at dksX3_cut_0 12 rfl rfl)
theorem dX3_cut_13 : decode cX3_cut 13 = .ok (.ireturn, 1) := dk_172 (dk_at dksX3_cut_0 13 rfl rfl)
theorem dX3_cut_14 : decode cX3_cut 14 = .ok (.aload_n 0, 1) := dk_42 (dk_at dksX3_cut_0 14 rfl rfl)
theorem dX3_cut_15 : decode cX3_cut 15 = .ok (.iload_n 1, 1) := dk_27 (dk_at dksX3_cut_0 15 rfl rfl)
theorem dX3_cut_16 : decode cX3_cut 16 = .ok (.putfield 19, 3) := dk_181 0 19 (dk_at dksX3_cut_0 16 rfl rfl)
theorem dX3_cut_19 : decode cX3_cut 19 = .ok (.iconst 1, 1) := dk_4 (dk_at dksX3_cut_0 19 rfl rfl)
theorem dX3_cut_20 : decode cX3_cut 20 = .ok (.ireturn, 1) := dk_172 (dk_at dksX3_cut_0 20 rfl rfl)
abbrev cX3_begins : ByteArray := prog_10_method_4_code
def yX3_begins : MethodName := ⟨RX3, "begins", "()V"⟩
def dkwX3_begins_0 : List UInt8 := [42, 42, 180, 0, 19, 181, 0, 22, 42, 3, 181, 0, 19, 42, 3, 181, 0, 25, 42, 3, 181, 0, 28, 177]
abbrev dktX3_begins_0 : List UInt8 := dkwX3_begins_0 ++ []
theorem dksX3_begins_0 : cX3_begins.data.toList.drop 0 = dktX3_begins_0 := by decide +kernel
theorem dX3_begins_0 : decode cX3_begins 0 = .ok (.aload_n 0, 1) := dk_42 (dk_at dksX3_begins_0 0 rfl rfl)
theorem dX3_begins_1 : decode cX3_begins 1 = .ok (.aload_n 0, 1) := dk_42 (dk_at dksX3_begins_0 1 rfl rfl)
theorem dX3_begins_2 : decode cX3_begins 2 = .ok (.getfield 19, 3) := dk_180 0 19 (dk_at dksX3_begins_0 2 rfl rfl)
theorem dX3_begins_5 : decode cX3_begins 5 = .ok (.putfield 22, 3) := dk_181 0 22 (dk_at dksX3_begins_0 5 rfl rfl)
theorem dX3_begins_8 : decode cX3_begins 8 = .ok (.aload_n 0, 1) := dk_42 (dk_at dksX3_begins_0 8 rfl rfl)
theorem dX3_begins_9 : decode cX3_begins 9 = .ok (.iconst 0, 1) := dk_3 (dk_at dksX3_begins_0 9 rfl rfl)
theorem dX3_begins_10 : decode cX3_begins 10 = .ok (.putfield 19, 3) := dk_181 0 19 (dk_at dksX3_begins_0 10 rfl rfl)
theorem dX3_begins_13 : decode cX3_begins 13 = .ok (.aload_n 0, 1) := dk_42 (dk_at dksX3_begins_0 13 rfl rfl)
theorem dX3_begins_14 : decode cX3_begins 14 = .ok (.iconst 0, 1) := dk_3 (dk_at dksX3_begins_0 14 rfl rfl)
theorem dX3_begins_15 : decode cX3_begins 15 = .ok (.putfield 25, 3) := dk_181 0 25 (dk_at dksX3_begins_0 15 rfl rfl)
theorem dX3_begins_18 : decode cX3_begins 18 = .ok (.aload_n 0, 1) := dk_42 (dk_at dksX3_begins_0 18 rfl rfl)
theorem dX3_begins_19 : decode cX3_begins 19 = .ok (.iconst 0, 1) := dk_3 (dk_at dksX3_begins_0 19 rfl rfl)
theorem dX3_begins_20 : decode cX3_begins 20 = .ok (.putfield 28, 3) := dk_181 0 28 (dk_at dksX3_begins_0 20 rfl rfl)
theorem dX3_begins_23 : decode cX3_begins 23 = .ok (.return_, 1) := dk_177 (dk_at dksX3_begins_0 23 rfl rfl)
abbrev cX3_isOver : ByteArray := prog_10_method_7_code
def yX3_isOver : MethodName := ⟨RX3, "isOver", "()Z"⟩
def dkwX3_isOver_0 : List UInt8 := [42, 182, 0, 38, 42, 180, 0, 25, 42, 180, 0, 22, 160, 0, 7, 4, 167, 0, 4, 3, 172]
abbrev dktX3_isOver_0 : List UInt8 := dkwX3_isOver_0 ++ []
theorem dksX3_isOver_0 : cX3_isOver.data.toList.drop 0 = dktX3_isOver_0 := by decide +kernel
theorem dX3_isOver_0 : decode cX3_isOver 0 = .ok (.aload_n 0, 1) := dk_42 (dk_at dksX3_isOver_0 0 rfl rfl)
theorem dX3_isOver_1 : decode cX3_isOver 1 = .ok (.invokevirtual 38, 3) := dk_182 0 38 (dk_at dksX3_isOver_0 1 rfl rfl)
theorem dX3_isOver_4 : decode cX3_isOver 4 = .ok (.aload_n 0, 1) := dk_42 (dk_at dksX3_isOver_0 4 rfl rfl)
theorem dX3_isOver_5 : decode cX3_isOver 5 = .ok (.getfield 25, 3) := dk_180 0 25 (dk_at dksX3_isOver_0 5 rfl rfl)
theorem dX3_isOver_8 : decode cX3_isOver 8 = .ok (.aload_n 0, 1) := dk_42 (dk_at dksX3_isOver_0 8 rfl rfl)
theorem dX3_isOver_9 : decode cX3_isOver 9 = .ok (.getfield 22, 3) := dk_180 0 22 (dk_at dksX3_isOver_0 9 rfl rfl)
theorem dX3_isOver_12 : decode cX3_isOver 12 = .ok (.if_icmp .ne 7, 3) := dk_160 0 7 (dk_at dksX3_isOver_0 12 rfl rfl)
theorem dX3_isOver_15 : decode cX3_isOver 15 = .ok (.iconst 1, 1) := dk_4 (dk_at dksX3_isOver_0 15 rfl rfl)
theorem dX3_isOver_16 : decode cX3_isOver 16 = .ok (.goto 4, 3) := dk_167 0 4 (dk_at dksX3_isOver_0 16 rfl rfl)
theorem dX3_isOver_19 : decode cX3_isOver 19 = .ok (.iconst 0, 1) := dk_3 (dk_at dksX3_isOver_0 19 rfl rfl)
theorem dX3_isOver_20 : decode cX3_isOver 20 = .ok (.ireturn, 1) := dk_172 (dk_at dksX3_isOver_0 20 rfl rfl)
abbrev cX3_blanks : ByteArray := prog_10_method_6_code
def yX3_blanks : MethodName := ⟨RX3, "blanks", "()V"⟩
def dkwX3_blanks_1 : List UInt8 := [167, 255, 233, 42, 42, 180, 0, 25, 181, 0, 35, 177]
abbrev dktX3_blanks_1 : List UInt8 := dkwX3_blanks_1 ++ []
def dkwX3_blanks_0 : List UInt8 := [42, 42, 180, 0, 25, 182, 0, 31, 16, 32, 160, 0, 16, 42, 89, 180, 0, 25, 4, 96, 181, 0, 25]
abbrev dktX3_blanks_0 : List UInt8 := dkwX3_blanks_0 ++ dktX3_blanks_1
theorem dksX3_blanks_0 : cX3_blanks.data.toList.drop 0 = dktX3_blanks_0 := by decide +kernel
theorem dksX3_blanks_1 : cX3_blanks.data.toList.drop 23 = dktX3_blanks_1 := dk_seg dksX3_blanks_0 23 rfl rfl
theorem dX3_blanks_0 : decode cX3_blanks 0 = .ok (.aload_n 0, 1) := dk_42 (dk_at dksX3_blanks_0 0 rfl rfl)
theorem dX3_blanks_1 : decode cX3_blanks 1 = .ok (.aload_n 0, 1) := dk_42 (dk_at dksX3_blanks_0 1 rfl rfl)
theorem dX3_blanks_2 : decode cX3_blanks 2 = .ok (.getfield 25, 3) := dk_180 0 25 (dk_at dksX3_blanks_0 2 rfl rfl)
theorem dX3_blanks_5 : decode cX3_blanks 5 = .ok (.invokevirtual 31, 3) := dk_182 0 31 (dk_at dksX3_blanks_0 5 rfl rfl)
theorem dX3_blanks_8 : decode cX3_blanks 8 = .ok (.bipush 32, 2) := dk_16 32 (dk_at dksX3_blanks_0 8 rfl rfl)
theorem dX3_blanks_10 : decode cX3_blanks 10 = .ok (.if_icmp .ne 16, 3) := dk_160 0 16 (dk_at dksX3_blanks_0 10 rfl rfl)
theorem dX3_blanks_13 : decode cX3_blanks 13 = .ok (.aload_n 0, 1) := dk_42 (dk_at dksX3_blanks_0 13 rfl rfl)
theorem dX3_blanks_14 : decode cX3_blanks 14 = .ok (.dup, 1) := dk_89 (dk_at dksX3_blanks_0 14 rfl rfl)
theorem dX3_blanks_15 : decode cX3_blanks 15 = .ok (.getfield 25, 3) := dk_180 0 25 (dk_at dksX3_blanks_0 15 rfl rfl)
theorem dX3_blanks_18 : decode cX3_blanks 18 = .ok (.iconst 1, 1) := dk_4 (dk_at dksX3_blanks_0 18 rfl rfl)
theorem dX3_blanks_19 : decode cX3_blanks 19 = .ok (.iadd, 1) := dk_96 (dk_at dksX3_blanks_0 19 rfl rfl)
theorem dX3_blanks_20 : decode cX3_blanks 20 = .ok (.putfield 25, 3) := dk_181 0 25 (dk_at dksX3_blanks_0 20 rfl rfl)
theorem dX3_blanks_23 : decode cX3_blanks 23 = .ok (.goto (-23), 3) := dk_167 255 233 (dk_at dksX3_blanks_1 0 rfl rfl)
theorem dX3_blanks_26 : decode cX3_blanks 26 = .ok (.aload_n 0, 1) := dk_42 (dk_at dksX3_blanks_1 3 rfl rfl)
theorem dX3_blanks_27 : decode cX3_blanks 27 = .ok (.aload_n 0, 1) := dk_42 (dk_at dksX3_blanks_1 4 rfl rfl)
theorem dX3_blanks_28 : decode cX3_blanks 28 = .ok (.getfield 25, 3) := dk_180 0 25 (dk_at dksX3_blanks_1 5 rfl rfl)
theorem dX3_blanks_31 : decode cX3_blanks 31 = .ok (.putfield 35, 3) := dk_181 0 35 (dk_at dksX3_blanks_1 8 rfl rfl)
theorem dX3_blanks_34 : decode cX3_blanks 34 = .ok (.return_, 1) := dk_177 (dk_at dksX3_blanks_1 11 rfl rfl)
abbrev cX3_byteAt : ByteArray := prog_10_method_5_code
def yX3_byteAt : MethodName := ⟨RX3, "byteAt", "(I)I"⟩
def dkwX3_byteAt_0 : List UInt8 := [27, 42, 180, 0, 22, 162, 0, 12, 42, 180, 0, 9, 27, 51, 167, 0, 4, 2, 172]
abbrev dktX3_byteAt_0 : List UInt8 := dkwX3_byteAt_0 ++ []
theorem dksX3_byteAt_0 : cX3_byteAt.data.toList.drop 0 = dktX3_byteAt_0 := by decide +kernel
theorem dX3_byteAt_0 : decode cX3_byteAt 0 = .ok (.iload_n 1, 1) := dk_27 (dk_at dksX3_byteAt_0 0 rfl rfl)
theorem dX3_byteAt_1 : decode cX3_byteAt 1 = .ok (.aload_n 0, 1) := dk_42 (dk_at dksX3_byteAt_0 1 rfl rfl)
theorem dX3_byteAt_2 : decode cX3_byteAt 2 = .ok (.getfield 22, 3) := dk_180 0 22 (dk_at dksX3_byteAt_0 2 rfl rfl)
theorem dX3_byteAt_5 : decode cX3_byteAt 5 = .ok (.if_icmp .ge 12, 3) := dk_162 0 12 (dk_at dksX3_byteAt_0 5 rfl rfl)
theorem dX3_byteAt_8 : decode cX3_byteAt 8 = .ok (.aload_n 0, 1) := dk_42 (dk_at dksX3_byteAt_0 8 rfl rfl)
theorem dX3_byteAt_9 : decode cX3_byteAt 9 = .ok (.getfield 9, 3) := dk_180 0 9 (dk_at dksX3_byteAt_0 9 rfl rfl)
theorem dX3_byteAt_12 : decode cX3_byteAt 12 = .ok (.iload_n 1, 1) := dk_27 (dk_at dksX3_byteAt_0 12 rfl rfl)
theorem dX3_byteAt_13 : decode cX3_byteAt 13 = .ok (.baload, 1) := dk_51 (dk_at dksX3_byteAt_0 13 rfl rfl)
theorem dX3_byteAt_14 : decode cX3_byteAt 14 = .ok (.goto 4, 3) := dk_167 0 4 (dk_at dksX3_byteAt_0 14 rfl rfl)
theorem dX3_byteAt_17 : decode cX3_byteAt 17 = .ok (.iconst (-1), 1) := dk_2 (dk_at dksX3_byteAt_0 17 rfl rfl)
theorem dX3_byteAt_18 : decode cX3_byteAt 18 = .ok (.ireturn, 1) := dk_172 (dk_at dksX3_byteAt_0 18 rfl rfl)
abbrev cX3_word : ByteArray := prog_10_method_8_code
def yX3_word : MethodName := ⟨RX3, "word", "()Ljava/lang/String;"⟩
def dkwX3_word_3 : List UInt8 := [167, 255, 233, 43, 182, 0, 52, 176]
abbrev dktX3_word_3 : List UInt8 := dkwX3_word_3 ++ []
def dkwX3_word_2 : List UInt8 := [28, 42, 180, 0, 25, 162, 0, 21, 43, 42, 180, 0, 9, 28, 51, 146, 182, 0, 48, 87, 132, 2, 1]
abbrev dktX3_word_2 : List UInt8 := dkwX3_word_2 ++ dktX3_word_3
def dkwX3_word_1 : List UInt8 := [180, 0, 25, 4, 96, 181, 0, 25, 167, 255, 228, 187, 0, 45, 89, 183, 0, 47, 76, 42, 180, 0, 35, 61]
abbrev dktX3_word_1 : List UInt8 := dkwX3_word_1 ++ dktX3_word_2
def dkwX3_word_0 : List UInt8 := [42, 182, 0, 38, 42, 42, 180, 0, 25, 182, 0, 31, 16, 97, 16, 122, 184, 0, 41, 153, 0, 16, 42, 89]
abbrev dktX3_word_0 : List UInt8 := dkwX3_word_0 ++ dktX3_word_1
theorem dksX3_word_0 : cX3_word.data.toList.drop 0 = dktX3_word_0 := by decide +kernel
theorem dksX3_word_1 : cX3_word.data.toList.drop 24 = dktX3_word_1 := dk_seg dksX3_word_0 24 rfl rfl
theorem dksX3_word_2 : cX3_word.data.toList.drop 48 = dktX3_word_2 := dk_seg dksX3_word_1 24 rfl rfl
theorem dksX3_word_3 : cX3_word.data.toList.drop 71 = dktX3_word_3 := dk_seg dksX3_word_2 23 rfl rfl
theorem dX3_word_0 : decode cX3_word 0 = .ok (.aload_n 0, 1) := dk_42 (dk_at dksX3_word_0 0 rfl rfl)
theorem dX3_word_1 : decode cX3_word 1 = .ok (.invokevirtual 38, 3) := dk_182 0 38 (dk_at dksX3_word_0 1 rfl rfl)
theorem dX3_word_4 : decode cX3_word 4 = .ok (.aload_n 0, 1) := dk_42 (dk_at dksX3_word_0 4 rfl rfl)
theorem dX3_word_5 : decode cX3_word 5 = .ok (.aload_n 0, 1) := dk_42 (dk_at dksX3_word_0 5 rfl rfl)
theorem dX3_word_6 : decode cX3_word 6 = .ok (.getfield 25, 3) := dk_180 0 25 (dk_at dksX3_word_0 6 rfl rfl)
theorem dX3_word_9 : decode cX3_word 9 = .ok (.invokevirtual 31, 3) := dk_182 0 31 (dk_at dksX3_word_0 9 rfl rfl)
theorem dX3_word_12 : decode cX3_word 12 = .ok (.bipush 97, 2) := dk_16 97 (dk_at dksX3_word_0 12 rfl rfl)
theorem dX3_word_14 : decode cX3_word 14 = .ok (.bipush 122, 2) := dk_16 122 (dk_at dksX3_word_0 14 rfl rfl)
theorem dX3_word_16 : decode cX3_word 16 = .ok (.invokestatic 41, 3) := dk_184 0 41 (dk_at dksX3_word_0 16 rfl rfl)
theorem dX3_word_19 : decode cX3_word 19 = .ok (.ifCond .eq 16, 3) := dk_153 0 16 (dk_at dksX3_word_0 19 rfl rfl)
theorem dX3_word_22 : decode cX3_word 22 = .ok (.aload_n 0, 1) := dk_42 (dk_at dksX3_word_0 22 rfl rfl)
theorem dX3_word_23 : decode cX3_word 23 = .ok (.dup, 1) := dk_89 (dk_at dksX3_word_0 23 rfl rfl)
theorem dX3_word_24 : decode cX3_word 24 = .ok (.getfield 25, 3) := dk_180 0 25 (dk_at dksX3_word_1 0 rfl rfl)
theorem dX3_word_27 : decode cX3_word 27 = .ok (.iconst 1, 1) := dk_4 (dk_at dksX3_word_1 3 rfl rfl)
theorem dX3_word_28 : decode cX3_word 28 = .ok (.iadd, 1) := dk_96 (dk_at dksX3_word_1 4 rfl rfl)
theorem dX3_word_29 : decode cX3_word 29 = .ok (.putfield 25, 3) := dk_181 0 25 (dk_at dksX3_word_1 5 rfl rfl)
theorem dX3_word_32 : decode cX3_word 32 = .ok (.goto (-28), 3) := dk_167 255 228 (dk_at dksX3_word_1 8 rfl rfl)
theorem dX3_word_35 : decode cX3_word 35 = .ok (.new 45, 3) := dk_187 0 45 (dk_at dksX3_word_1 11 rfl rfl)
theorem dX3_word_38 : decode cX3_word 38 = .ok (.dup, 1) := dk_89 (dk_at dksX3_word_1 14 rfl rfl)
theorem dX3_word_39 : decode cX3_word 39 = .ok (.invokespecial 47, 3) := dk_183 0 47 (dk_at dksX3_word_1 15 rfl rfl)
theorem dX3_word_42 : decode cX3_word 42 = .ok (.astore_n 1, 1) := dk_76 (dk_at dksX3_word_1 18 rfl rfl)
theorem dX3_word_43 : decode cX3_word 43 = .ok (.aload_n 0, 1) := dk_42 (dk_at dksX3_word_1 19 rfl rfl)
theorem dX3_word_44 : decode cX3_word 44 = .ok (.getfield 35, 3) := dk_180 0 35 (dk_at dksX3_word_1 20 rfl rfl)
theorem dX3_word_47 : decode cX3_word 47 = .ok (.istore_n 2, 1) := dk_61 (dk_at dksX3_word_1 23 rfl rfl)
theorem dX3_word_48 : decode cX3_word 48 = .ok (.iload_n 2, 1) := dk_28 (dk_at dksX3_word_2 0 rfl rfl)
theorem dX3_word_49 : decode cX3_word 49 = .ok (.aload_n 0, 1) := dk_42 (dk_at dksX3_word_2 1 rfl rfl)
theorem dX3_word_50 : decode cX3_word 50 = .ok (.getfield 25, 3) := dk_180 0 25 (dk_at dksX3_word_2 2 rfl rfl)
theorem dX3_word_53 : decode cX3_word 53 = .ok (.if_icmp .ge 21, 3) := dk_162 0 21 (dk_at dksX3_word_2 5 rfl rfl)
theorem dX3_word_56 : decode cX3_word 56 = .ok (.aload_n 1, 1) := dk_43 (dk_at dksX3_word_2 8 rfl rfl)
theorem dX3_word_57 : decode cX3_word 57 = .ok (.aload_n 0, 1) := dk_42 (dk_at dksX3_word_2 9 rfl rfl)
theorem dX3_word_58 : decode cX3_word 58 = .ok (.getfield 9, 3) := dk_180 0 9 (dk_at dksX3_word_2 10 rfl rfl)
theorem dX3_word_61 : decode cX3_word 61 = .ok (.iload_n 2, 1) := dk_28 (dk_at dksX3_word_2 13 rfl rfl)
theorem dX3_word_62 : decode cX3_word 62 = .ok (.baload, 1) := dk_51 (dk_at dksX3_word_2 14 rfl rfl)
theorem dX3_word_63 : decode cX3_word 63 = .ok (.i2c, 1) := dk_146 (dk_at dksX3_word_2 15 rfl rfl)
theorem dX3_word_64 : decode cX3_word 64 = .ok (.invokevirtual 48, 3) := dk_182 0 48 (dk_at dksX3_word_2 16 rfl rfl)
theorem dX3_word_67 : decode cX3_word 67 = .ok (.pop, 1) := dk_87 (dk_at dksX3_word_2 19 rfl rfl)
theorem dX3_word_68 : decode cX3_word 68 = .ok (.iinc 2 1, 3) := dk_132 2 1 (dk_at dksX3_word_2 20 rfl rfl)
theorem dX3_word_71 : decode cX3_word 71 = .ok (.goto (-23), 3) := dk_167 255 233 (dk_at dksX3_word_3 0 rfl rfl)
theorem dX3_word_74 : decode cX3_word 74 = .ok (.aload_n 1, 1) := dk_43 (dk_at dksX3_word_3 3 rfl rfl)
theorem dX3_word_75 : decode cX3_word 75 = .ok (.invokevirtual 52, 3) := dk_182 0 52 (dk_at dksX3_word_3 4 rfl rfl)
theorem dX3_word_78 : decode cX3_word 78 = .ok (.areturn, 1) := dk_176 (dk_at dksX3_word_3 7 rfl rfl)
abbrev cX3_wrong : ByteArray := prog_10_method_14_code
def yX3_wrong : MethodName := ⟨RX3, "wrong", "()LStoneBacks$Wrong;"⟩
def dkwX3_wrong_0 : List UInt8 := [187, 0, 73, 89, 183, 0, 75, 176]
abbrev dktX3_wrong_0 : List UInt8 := dkwX3_wrong_0 ++ []
theorem dksX3_wrong_0 : cX3_wrong.data.toList.drop 0 = dktX3_wrong_0 := by decide +kernel
theorem dX3_wrong_0 : decode cX3_wrong 0 = .ok (.new 73, 3) := dk_187 0 73 (dk_at dksX3_wrong_0 0 rfl rfl)
theorem dX3_wrong_3 : decode cX3_wrong 3 = .ok (.dup, 1) := dk_89 (dk_at dksX3_wrong_0 3 rfl rfl)
theorem dX3_wrong_4 : decode cX3_wrong 4 = .ok (.invokespecial 75, 3) := dk_183 0 75 (dk_at dksX3_wrong_0 4 rfl rfl)
theorem dX3_wrong_7 : decode cX3_wrong 7 = .ok (.areturn, 1) := dk_176 (dk_at dksX3_wrong_0 7 rfl rfl)
abbrev cX3_number : ByteArray := prog_10_method_12_code
def yX3_number : MethodName := ⟨RX3, "number", "(II)I"⟩
def dkwX3_number_0 : List UInt8 := [42, 27, 28, 6, 182, 0, 65, 172]
abbrev dktX3_number_0 : List UInt8 := dkwX3_number_0 ++ []
theorem dksX3_number_0 : cX3_number.data.toList.drop 0 = dktX3_number_0 := by decide +kernel
theorem dX3_number_0 : decode cX3_number 0 = .ok (.aload_n 0, 1) := dk_42 (dk_at dksX3_number_0 0 rfl rfl)
theorem dX3_number_1 : decode cX3_number 1 = .ok (.iload_n 1, 1) := dk_27 (dk_at dksX3_number_0 1 rfl rfl)
theorem dX3_number_2 : decode cX3_number 2 = .ok (.iload_n 2, 1) := dk_28 (dk_at dksX3_number_0 2 rfl rfl)
theorem dX3_number_3 : decode cX3_number 3 = .ok (.iconst 3, 1) := dk_6 (dk_at dksX3_number_0 3 rfl rfl)
theorem dX3_number_4 : decode cX3_number 4 = .ok (.invokevirtual 65, 3) := dk_182 0 65 (dk_at dksX3_number_0 4 rfl rfl)
theorem dX3_number_7 : decode cX3_number 7 = .ok (.ireturn, 1) := dk_172 (dk_at dksX3_number_0 7 rfl rfl)
abbrev cX3_figures : ByteArray := prog_10_method_13_code
def yX3_figures : MethodName := ⟨RX3, "figures", "(III)I"⟩
def dkwX3_figures_5 : List UInt8 := [21, 4, 172]
abbrev dktX3_figures_5 : List UInt8 := dkwX3_figures_5 ++ []
def dkwX3_figures_4 : List UInt8 := [180, 0, 35, 100, 29, 163, 0, 13, 21, 4, 27, 28, 184, 0, 41, 154, 0, 8, 42, 182, 0, 69, 191]
abbrev dktX3_figures_4 : List UInt8 := dkwX3_figures_4 ++ dktX3_figures_5
def dkwX3_figures_3 : List UInt8 := [181, 0, 25, 167, 255, 191, 42, 180, 0, 25, 42, 180, 0, 35, 159, 0, 26, 42, 180, 0, 25, 42]
abbrev dktX3_figures_3 : List UInt8 := dkwX3_figures_3 ++ dktX3_figures_4
def dkwX3_figures_2 : List UInt8 := [180, 0, 25, 182, 0, 31, 96, 16, 48, 100, 167, 0, 5, 21, 4, 54, 4, 42, 89, 180, 0, 25, 4, 96]
abbrev dktX3_figures_2 : List UInt8 := dkwX3_figures_2 ++ dktX3_figures_3
def dkwX3_figures_1 : List UInt8 := [153, 0, 53, 42, 180, 0, 25, 42, 180, 0, 35, 100, 29, 162, 0, 23, 16, 10, 21, 4, 104, 42, 42]
abbrev dktX3_figures_1 : List UInt8 := dkwX3_figures_1 ++ dktX3_figures_2
def dkwX3_figures_0 : List UInt8 := [42, 182, 0, 38, 3, 54, 4, 42, 42, 180, 0, 25, 182, 0, 31, 16, 48, 16, 57, 184, 0, 41]
abbrev dktX3_figures_0 : List UInt8 := dkwX3_figures_0 ++ dktX3_figures_1
theorem dksX3_figures_0 : cX3_figures.data.toList.drop 0 = dktX3_figures_0 := by decide +kernel
theorem dksX3_figures_1 : cX3_figures.data.toList.drop 22 = dktX3_figures_1 := dk_seg dksX3_figures_0 22 rfl rfl
theorem dksX3_figures_2 : cX3_figures.data.toList.drop 45 = dktX3_figures_2 := dk_seg dksX3_figures_1 23 rfl rfl
theorem dksX3_figures_3 : cX3_figures.data.toList.drop 69 = dktX3_figures_3 := dk_seg dksX3_figures_2 24 rfl rfl
theorem dksX3_figures_4 : cX3_figures.data.toList.drop 91 = dktX3_figures_4 := dk_seg dksX3_figures_3 22 rfl rfl
theorem dksX3_figures_5 : cX3_figures.data.toList.drop 114 = dktX3_figures_5 := dk_seg dksX3_figures_4 23 rfl rfl
theorem dX3_figures_0 : decode cX3_figures 0 = .ok (.aload_n 0, 1) := dk_42 (dk_at dksX3_figures_0 0 rfl rfl)
theorem dX3_figures_1 : decode cX3_figures 1 = .ok (.invokevirtual 38, 3) := dk_182 0 38 (dk_at dksX3_figures_0 1 rfl rfl)
theorem dX3_figures_4 : decode cX3_figures 4 = .ok (.iconst 0, 1) := dk_3 (dk_at dksX3_figures_0 4 rfl rfl)
theorem dX3_figures_5 : decode cX3_figures 5 = .ok (.istore 4, 2) := dk_54 4 (dk_at dksX3_figures_0 5 rfl rfl)
theorem dX3_figures_7 : decode cX3_figures 7 = .ok (.aload_n 0, 1) := dk_42 (dk_at dksX3_figures_0 7 rfl rfl)
theorem dX3_figures_8 : decode cX3_figures 8 = .ok (.aload_n 0, 1) := dk_42 (dk_at dksX3_figures_0 8 rfl rfl)
theorem dX3_figures_9 : decode cX3_figures 9 = .ok (.getfield 25, 3) := dk_180 0 25 (dk_at dksX3_figures_0 9 rfl rfl)
theorem dX3_figures_12 : decode cX3_figures 12 = .ok (.invokevirtual 31, 3) := dk_182 0 31 (dk_at dksX3_figures_0 12 rfl rfl)
theorem dX3_figures_15 : decode cX3_figures 15 = .ok (.bipush 48, 2) := dk_16 48 (dk_at dksX3_figures_0 15 rfl rfl)
theorem dX3_figures_17 : decode cX3_figures 17 = .ok (.bipush 57, 2) := dk_16 57 (dk_at dksX3_figures_0 17 rfl rfl)
theorem dX3_figures_19 : decode cX3_figures 19 = .ok (.invokestatic 41, 3) := dk_184 0 41 (dk_at dksX3_figures_0 19 rfl rfl)
theorem dX3_figures_22 : decode cX3_figures 22 = .ok (.ifCond .eq 53, 3) := dk_153 0 53 (dk_at dksX3_figures_1 0 rfl rfl)
theorem dX3_figures_25 : decode cX3_figures 25 = .ok (.aload_n 0, 1) := dk_42 (dk_at dksX3_figures_1 3 rfl rfl)
theorem dX3_figures_26 : decode cX3_figures 26 = .ok (.getfield 25, 3) := dk_180 0 25 (dk_at dksX3_figures_1 4 rfl rfl)
theorem dX3_figures_29 : decode cX3_figures 29 = .ok (.aload_n 0, 1) := dk_42 (dk_at dksX3_figures_1 7 rfl rfl)
theorem dX3_figures_30 : decode cX3_figures 30 = .ok (.getfield 35, 3) := dk_180 0 35 (dk_at dksX3_figures_1 8 rfl rfl)
theorem dX3_figures_33 : decode cX3_figures 33 = .ok (.isub, 1) := dk_100 (dk_at dksX3_figures_1 11 rfl rfl)
theorem dX3_figures_34 : decode cX3_figures 34 = .ok (.iload_n 3, 1) := dk_29 (dk_at dksX3_figures_1 12 rfl rfl)
theorem dX3_figures_35 : decode cX3_figures 35 = .ok (.if_icmp .ge 23, 3) := dk_162 0 23 (dk_at dksX3_figures_1 13 rfl rfl)
theorem dX3_figures_38 : decode cX3_figures 38 = .ok (.bipush 10, 2) := dk_16 10 (dk_at dksX3_figures_1 16 rfl rfl)
theorem dX3_figures_40 : decode cX3_figures 40 = .ok (.iload 4, 2) := dk_21 4 (dk_at dksX3_figures_1 18 rfl rfl)
theorem dX3_figures_42 : decode cX3_figures 42 = .ok (.imul, 1) := dk_104 (dk_at dksX3_figures_1 20 rfl rfl)
theorem dX3_figures_43 : decode cX3_figures 43 = .ok (.aload_n 0, 1) := dk_42 (dk_at dksX3_figures_1 21 rfl rfl)
theorem dX3_figures_44 : decode cX3_figures 44 = .ok (.aload_n 0, 1) := dk_42 (dk_at dksX3_figures_1 22 rfl rfl)
theorem dX3_figures_45 : decode cX3_figures 45 = .ok (.getfield 25, 3) := dk_180 0 25 (dk_at dksX3_figures_2 0 rfl rfl)
theorem dX3_figures_48 : decode cX3_figures 48 = .ok (.invokevirtual 31, 3) := dk_182 0 31 (dk_at dksX3_figures_2 3 rfl rfl)
theorem dX3_figures_51 : decode cX3_figures 51 = .ok (.iadd, 1) := dk_96 (dk_at dksX3_figures_2 6 rfl rfl)
theorem dX3_figures_52 : decode cX3_figures 52 = .ok (.bipush 48, 2) := dk_16 48 (dk_at dksX3_figures_2 7 rfl rfl)
theorem dX3_figures_54 : decode cX3_figures 54 = .ok (.isub, 1) := dk_100 (dk_at dksX3_figures_2 9 rfl rfl)
theorem dX3_figures_55 : decode cX3_figures 55 = .ok (.goto 5, 3) := dk_167 0 5 (dk_at dksX3_figures_2 10 rfl rfl)
theorem dX3_figures_58 : decode cX3_figures 58 = .ok (.iload 4, 2) := dk_21 4 (dk_at dksX3_figures_2 13 rfl rfl)
theorem dX3_figures_60 : decode cX3_figures 60 = .ok (.istore 4, 2) := dk_54 4 (dk_at dksX3_figures_2 15 rfl rfl)
theorem dX3_figures_62 : decode cX3_figures 62 = .ok (.aload_n 0, 1) := dk_42 (dk_at dksX3_figures_2 17 rfl rfl)
theorem dX3_figures_63 : decode cX3_figures 63 = .ok (.dup, 1) := dk_89 (dk_at dksX3_figures_2 18 rfl rfl)
theorem dX3_figures_64 : decode cX3_figures 64 = .ok (.getfield 25, 3) := dk_180 0 25 (dk_at dksX3_figures_2 19 rfl rfl)
theorem dX3_figures_67 : decode cX3_figures 67 = .ok (.iconst 1, 1) := dk_4 (dk_at dksX3_figures_2 22 rfl rfl)
theorem dX3_figures_68 : decode cX3_figures 68 = .ok (.iadd, 1) := dk_96 (dk_at dksX3_figures_2 23 rfl rfl)
theorem dX3_figures_69 : decode cX3_figures 69 = .ok (.putfield 25, 3) := dk_181 0 25 (dk_at dksX3_figures_3 0 rfl rfl)
theorem dX3_figures_72 : decode cX3_figures 72 = .ok (.goto (-65), 3) := dk_167 255 191 (dk_at dksX3_figures_3 3 rfl rfl)
theorem dX3_figures_75 : decode cX3_figures 75 = .ok (.aload_n 0, 1) := dk_42 (dk_at dksX3_figures_3 6 rfl rfl)
theorem dX3_figures_76 : decode cX3_figures 76 = .ok (.getfield 25, 3) := dk_180 0 25 (dk_at dksX3_figures_3 7 rfl rfl)
theorem dX3_figures_79 : decode cX3_figures 79 = .ok (.aload_n 0, 1) := dk_42 (dk_at dksX3_figures_3 10 rfl rfl)
theorem dX3_figures_80 : decode cX3_figures 80 = .ok (.getfield 35, 3) := dk_180 0 35 (dk_at dksX3_figures_3 11 rfl rfl)
theorem dX3_figures_83 : decode cX3_figures 83 = .ok (.if_icmp .eq 26, 3) := dk_159 0 26 (dk_at dksX3_figures_3 14 rfl rfl)
theorem dX3_figures_86 : decode cX3_figures 86 = .ok (.aload_n 0, 1) := dk_42 (dk_at dksX3_figures_3 17 rfl rfl)
theorem dX3_figures_87 : decode cX3_figures 87 = .ok (.getfield 25, 3) := dk_180 0 25 (dk_at dksX3_figures_3 18 rfl rfl)
theorem dX3_figures_90 : decode cX3_figures 90 = .ok (.aload_n 0, 1) := dk_42 (dk_at dksX3_figures_3 21 rfl rfl)
theorem dX3_figures_91 : decode cX3_figures 91 = .ok (.getfield 35, 3) := dk_180 0 35 (dk_at dksX3_figures_4 0 rfl rfl)
theorem dX3_figures_94 : decode cX3_figures 94 = .ok (.isub, 1) := dk_100 (dk_at dksX3_figures_4 3 rfl rfl)
theorem dX3_figures_95 : decode cX3_figures 95 = .ok (.iload_n 3, 1) := dk_29 (dk_at dksX3_figures_4 4 rfl rfl)
theorem dX3_figures_96 : decode cX3_figures 96 = .ok (.if_icmp .gt 13, 3) := dk_163 0 13 (dk_at dksX3_figures_4 5 rfl rfl)
theorem dX3_figures_99 : decode cX3_figures 99 = .ok (.iload 4, 2) := dk_21 4 (dk_at dksX3_figures_4 8 rfl rfl)
theorem dX3_figures_101 : decode cX3_figures 101 = .ok (.iload_n 1, 1) := dk_27 (dk_at dksX3_figures_4 10 rfl rfl)
theorem dX3_figures_102 : decode cX3_figures 102 = .ok (.iload_n 2, 1) := dk_28 (dk_at dksX3_figures_4 11 rfl rfl)
theorem dX3_figures_103 : decode cX3_figures 103 = .ok (.invokestatic 41, 3) := dk_184 0 41 (dk_at dksX3_figures_4 12 rfl rfl)
theorem dX3_figures_106 : decode cX3_figures 106 = .ok (.ifCond .ne 8, 3) := dk_154 0 8 (dk_at dksX3_figures_4 15 rfl rfl)
theorem dX3_figures_109 : decode cX3_figures 109 = .ok (.aload_n 0, 1) := dk_42 (dk_at dksX3_figures_4 18 rfl rfl)
theorem dX3_figures_110 : decode cX3_figures 110 = .ok (.invokevirtual 69, 3) := dk_182 0 69 (dk_at dksX3_figures_4 19 rfl rfl)
theorem dX3_figures_113 : decode cX3_figures 113 = .ok (.athrow, 1) := dk_191 (dk_at dksX3_figures_4 22 rfl rfl)
theorem dX3_figures_114 : decode cX3_figures 114 = .ok (.iload 4, 2) := dk_21 4 (dk_at dksX3_figures_5 0 rfl rfl)
theorem dX3_figures_116 : decode cX3_figures 116 = .ok (.ireturn, 1) := dk_172 (dk_at dksX3_figures_5 2 rfl rfl)
abbrev cX3_passes : ByteArray := prog_10_method_9_code
def yX3_passes : MethodName := ⟨RX3, "passes", "(Ljava/lang/String;)Z"⟩
def dkwX3_passes_0 : List UInt8 := [42, 182, 0, 56, 43, 182, 0, 59, 153, 0, 5, 4, 172, 42, 42, 180, 0, 35, 181, 0, 25, 3, 172]
abbrev dktX3_passes_0 : List UInt8 := dkwX3_passes_0 ++ []
theorem dksX3_passes_0 : cX3_passes.data.toList.drop 0 = dktX3_passes_0 := by decide +kernel
theorem dX3_passes_0 : decode cX3_passes 0 = .ok (.aload_n 0, 1) := dk_42 (dk_at dksX3_passes_0 0 rfl rfl)
theorem dX3_passes_1 : decode cX3_passes 1 = .ok (.invokevirtual 56, 3) := dk_182 0 56 (dk_at dksX3_passes_0 1 rfl rfl)
theorem dX3_passes_4 : decode cX3_passes 4 = .ok (.aload_n 1, 1) := dk_43 (dk_at dksX3_passes_0 4 rfl rfl)
theorem dX3_passes_5 : decode cX3_passes 5 = .ok (.invokevirtual 59, 3) := dk_182 0 59 (dk_at dksX3_passes_0 5 rfl rfl)
theorem dX3_passes_8 : decode cX3_passes 8 = .ok (.ifCond .eq 5, 3) := dk_153 0 5 (dk_at dksX3_passes_0 8 rfl rfl)
theorem dX3_passes_11 : decode cX3_passes 11 = .ok (.iconst 1, 1) := dk_4 (dk_at dksX3_passes_0 11 rfl rfl)
theorem dX3_passes_12 : decode cX3_passes 12 = .ok (.ireturn, 1) := dk_172 (dk_at dksX3_passes_0 12 rfl rfl)
theorem dX3_passes_13 : decode cX3_passes 13 = .ok (.aload_n 0, 1) := dk_42 (dk_at dksX3_passes_0 13 rfl rfl)
theorem dX3_passes_14 : decode cX3_passes 14 = .ok (.aload_n 0, 1) := dk_42 (dk_at dksX3_passes_0 14 rfl rfl)
theorem dX3_passes_15 : decode cX3_passes 15 = .ok (.getfield 35, 3) := dk_180 0 35 (dk_at dksX3_passes_0 15 rfl rfl)
theorem dX3_passes_18 : decode cX3_passes 18 = .ok (.putfield 25, 3) := dk_181 0 25 (dk_at dksX3_passes_0 18 rfl rfl)
theorem dX3_passes_21 : decode cX3_passes 21 = .ok (.iconst 0, 1) := dk_3 (dk_at dksX3_passes_0 21 rfl rfl)
theorem dX3_passes_22 : decode cX3_passes 22 = .ok (.ireturn, 1) := dk_172 (dk_at dksX3_passes_0 22 rfl rfl)
abbrev cX3_sign : ByteArray := prog_10_method_10_code
def yX3_sign : MethodName := ⟨RX3, "sign", "(I)Z"⟩
def dkwX3_sign_1 : List UInt8 := [96, 181, 0, 25, 4, 172]
abbrev dktX3_sign_1 : List UInt8 := dkwX3_sign_1 ++ []
def dkwX3_sign_0 : List UInt8 := [42, 182, 0, 38, 42, 42, 180, 0, 25, 182, 0, 31, 27, 159, 0, 5, 3, 172, 42, 89, 180, 0, 25, 4]
abbrev dktX3_sign_0 : List UInt8 := dkwX3_sign_0 ++ dktX3_sign_1
theorem dksX3_sign_0 : cX3_sign.data.toList.drop 0 = dktX3_sign_0 := by decide +kernel
theorem dksX3_sign_1 : cX3_sign.data.toList.drop 24 = dktX3_sign_1 := dk_seg dksX3_sign_0 24 rfl rfl
theorem dX3_sign_0 : decode cX3_sign 0 = .ok (.aload_n 0, 1) := dk_42 (dk_at dksX3_sign_0 0 rfl rfl)
theorem dX3_sign_1 : decode cX3_sign 1 = .ok (.invokevirtual 38, 3) := dk_182 0 38 (dk_at dksX3_sign_0 1 rfl rfl)
theorem dX3_sign_4 : decode cX3_sign 4 = .ok (.aload_n 0, 1) := dk_42 (dk_at dksX3_sign_0 4 rfl rfl)
theorem dX3_sign_5 : decode cX3_sign 5 = .ok (.aload_n 0, 1) := dk_42 (dk_at dksX3_sign_0 5 rfl rfl)
theorem dX3_sign_6 : decode cX3_sign 6 = .ok (.getfield 25, 3) := dk_180 0 25 (dk_at dksX3_sign_0 6 rfl rfl)
theorem dX3_sign_9 : decode cX3_sign 9 = .ok (.invokevirtual 31, 3) := dk_182 0 31 (dk_at dksX3_sign_0 9 rfl rfl)
theorem dX3_sign_12 : decode cX3_sign 12 = .ok (.iload_n 1, 1) := dk_27 (dk_at dksX3_sign_0 12 rfl rfl)
theorem dX3_sign_13 : decode cX3_sign 13 = .ok (.if_icmp .eq 5, 3) := dk_159 0 5 (dk_at dksX3_sign_0 13 rfl rfl)
theorem dX3_sign_16 : decode cX3_sign 16 = .ok (.iconst 0, 1) := dk_3 (dk_at dksX3_sign_0 16 rfl rfl)
theorem dX3_sign_17 : decode cX3_sign 17 = .ok (.ireturn, 1) := dk_172 (dk_at dksX3_sign_0 17 rfl rfl)
theorem dX3_sign_18 : decode cX3_sign 18 = .ok (.aload_n 0, 1) := dk_42 (dk_at dksX3_sign_0 18 rfl rfl)
theorem dX3_sign_19 : decode cX3_sign 19 = .ok (.dup, 1) := dk_89 (dk_at dksX3_sign_0 19 rfl rfl)
theorem dX3_sign_20 : decode cX3_sign 20 = .ok (.getfield 25, 3) := dk_180 0 25 (dk_at dksX3_sign_0 20 rfl rfl)
theorem dX3_sign_23 : decode cX3_sign 23 = .ok (.iconst 1, 1) := dk_4 (dk_at dksX3_sign_0 23 rfl rfl)
theorem dX3_sign_24 : decode cX3_sign 24 = .ok (.iadd, 1) := dk_96 (dk_at dksX3_sign_1 0 rfl rfl)
theorem dX3_sign_25 : decode cX3_sign 25 = .ok (.putfield 25, 3) := dk_181 0 25 (dk_at dksX3_sign_1 1 rfl rfl)
theorem dX3_sign_28 : decode cX3_sign 28 = .ok (.iconst 1, 1) := dk_4 (dk_at dksX3_sign_1 4 rfl rfl)
theorem dX3_sign_29 : decode cX3_sign 29 = .ok (.ireturn, 1) := dk_172 (dk_at dksX3_sign_1 5 rfl rfl)
abbrev cX3_goesDeeper : ByteArray := prog_10_method_15_code
def yX3_goesDeeper : MethodName := ⟨RX3, "goesDeeper", "()V"⟩
def dkwX3_goesDeeper_1 : List UInt8 := [177]
abbrev dktX3_goesDeeper_1 : List UInt8 := dkwX3_goesDeeper_1 ++ []
def dkwX3_goesDeeper_0 : List UInt8 := [42, 180, 0, 28, 16, 6, 160, 0, 8, 42, 182, 0, 69, 191, 42, 89, 180, 0, 28, 4, 96, 181, 0, 28]
abbrev dktX3_goesDeeper_0 : List UInt8 := dkwX3_goesDeeper_0 ++ dktX3_goesDeeper_1
theorem dksX3_goesDeeper_0 : cX3_goesDeeper.data.toList.drop 0 = dktX3_goesDeeper_0 := by decide +kernel
theorem dksX3_goesDeeper_1 : cX3_goesDeeper.data.toList.drop 24 = dktX3_goesDeeper_1 := dk_seg dksX3_goesDeeper_0 24 rfl rfl
theorem dX3_goesDeeper_0 : decode cX3_goesDeeper 0 = .ok (.aload_n 0, 1) := dk_42 (dk_at dksX3_goesDeeper_0 0 rfl rfl)
theorem dX3_goesDeeper_1 : decode cX3_goesDeeper 1 = .ok (.getfield 28, 3) := dk_180 0 28 (dk_at dksX3_goesDeeper_0 1 rfl rfl)
theorem dX3_goesDeeper_4 : decode cX3_goesDeeper 4 = .ok (.bipush 6, 2) := dk_16 6 (dk_at dksX3_goesDeeper_0 4 rfl rfl)
theorem dX3_goesDeeper_6 : decode cX3_goesDeeper 6 = .ok (.if_icmp .ne 8, 3) := dk_160 0 8 (dk_at dksX3_goesDeeper_0 6 rfl rfl)
theorem dX3_goesDeeper_9 : decode cX3_goesDeeper 9 = .ok (.aload_n 0, 1) := dk_42 (dk_at dksX3_goesDeeper_0 9 rfl rfl)
theorem dX3_goesDeeper_10 : decode cX3_goesDeeper 10 = .ok (.invokevirtual 69, 3) := dk_182 0 69 (dk_at dksX3_goesDeeper_0 10 rfl rfl)
theorem dX3_goesDeeper_13 : decode cX3_goesDeeper 13 = .ok (.athrow, 1) := dk_191 (dk_at dksX3_goesDeeper_0 13 rfl rfl)
theorem dX3_goesDeeper_14 : decode cX3_goesDeeper 14 = .ok (.aload_n 0, 1) := dk_42 (dk_at dksX3_goesDeeper_0 14 rfl rfl)
theorem dX3_goesDeeper_15 : decode cX3_goesDeeper 15 = .ok (.dup, 1) := dk_89 (dk_at dksX3_goesDeeper_0 15 rfl rfl)
theorem dX3_goesDeeper_16 : decode cX3_goesDeeper 16 = .ok (.getfield 28, 3) := dk_180 0 28 (dk_at dksX3_goesDeeper_0 16 rfl rfl)
theorem dX3_goesDeeper_19 : decode cX3_goesDeeper 19 = .ok (.iconst 1, 1) := dk_4 (dk_at dksX3_goesDeeper_0 19 rfl rfl)
theorem dX3_goesDeeper_20 : decode cX3_goesDeeper 20 = .ok (.iadd, 1) := dk_96 (dk_at dksX3_goesDeeper_0 20 rfl rfl)
theorem dX3_goesDeeper_21 : decode cX3_goesDeeper 21 = .ok (.putfield 28, 3) := dk_181 0 28 (dk_at dksX3_goesDeeper_0 21 rfl rfl)
theorem dX3_goesDeeper_24 : decode cX3_goesDeeper 24 = .ok (.return_, 1) := dk_177 (dk_at dksX3_goesDeeper_1 0 rfl rfl)
abbrev cX3_comesUp : ByteArray := prog_10_method_16_code
def yX3_comesUp : MethodName := ⟨RX3, "comesUp", "()V"⟩
def dkwX3_comesUp_0 : List UInt8 := [42, 89, 180, 0, 28, 4, 100, 181, 0, 28, 177]
abbrev dktX3_comesUp_0 : List UInt8 := dkwX3_comesUp_0 ++ []
theorem dksX3_comesUp_0 : cX3_comesUp.data.toList.drop 0 = dktX3_comesUp_0 := by decide +kernel
theorem dX3_comesUp_0 : decode cX3_comesUp 0 = .ok (.aload_n 0, 1) := dk_42 (dk_at dksX3_comesUp_0 0 rfl rfl)
theorem dX3_comesUp_1 : decode cX3_comesUp 1 = .ok (.dup, 1) := dk_89 (dk_at dksX3_comesUp_0 1 rfl rfl)
theorem dX3_comesUp_2 : decode cX3_comesUp 2 = .ok (.getfield 28, 3) := dk_180 0 28 (dk_at dksX3_comesUp_0 2 rfl rfl)
theorem dX3_comesUp_5 : decode cX3_comesUp 5 = .ok (.iconst 1, 1) := dk_4 (dk_at dksX3_comesUp_0 5 rfl rfl)
theorem dX3_comesUp_6 : decode cX3_comesUp 6 = .ok (.isub, 1) := dk_100 (dk_at dksX3_comesUp_0 6 rfl rfl)
theorem dX3_comesUp_7 : decode cX3_comesUp 7 = .ok (.putfield 28, 3) := dk_181 0 28 (dk_at dksX3_comesUp_0 7 rfl rfl)
theorem dX3_comesUp_10 : decode cX3_comesUp 10 = .ok (.return_, 1) := dk_177 (dk_at dksX3_comesUp_0 10 rfl rfl)
abbrev cX3_isFigure : ByteArray := prog_10_method_11_code
def yX3_isFigure : MethodName := ⟨RX3, "isFigure", "()Z"⟩
def dkwX3_isFigure_0 : List UInt8 := [42, 182, 0, 38, 42, 42, 180, 0, 25, 182, 0, 31, 16, 48, 16, 57, 184, 0, 41, 172]
abbrev dktX3_isFigure_0 : List UInt8 := dkwX3_isFigure_0 ++ []
theorem dksX3_isFigure_0 : cX3_isFigure.data.toList.drop 0 = dktX3_isFigure_0 := by decide +kernel
theorem dX3_isFigure_0 : decode cX3_isFigure 0 = .ok (.aload_n 0, 1) := dk_42 (dk_at dksX3_isFigure_0 0 rfl rfl)
theorem dX3_isFigure_1 : decode cX3_isFigure 1 = .ok (.invokevirtual 38, 3) := dk_182 0 38 (dk_at dksX3_isFigure_0 1 rfl rfl)
theorem dX3_isFigure_4 : decode cX3_isFigure 4 = .ok (.aload_n 0, 1) := dk_42 (dk_at dksX3_isFigure_0 4 rfl rfl)
theorem dX3_isFigure_5 : decode cX3_isFigure 5 = .ok (.aload_n 0, 1) := dk_42 (dk_at dksX3_isFigure_0 5 rfl rfl)
theorem dX3_isFigure_6 : decode cX3_isFigure 6 = .ok (.getfield 25, 3) := dk_180 0 25 (dk_at dksX3_isFigure_0 6 rfl rfl)
theorem dX3_isFigure_9 : decode cX3_isFigure 9 = .ok (.invokevirtual 31, 3) := dk_182 0 31 (dk_at dksX3_isFigure_0 9 rfl rfl)
theorem dX3_isFigure_12 : decode cX3_isFigure 12 = .ok (.bipush 48, 2) := dk_16 48 (dk_at dksX3_isFigure_0 12 rfl rfl)
theorem dX3_isFigure_14 : decode cX3_isFigure 14 = .ok (.bipush 57, 2) := dk_16 57 (dk_at dksX3_isFigure_0 14 rfl rfl)
theorem dX3_isFigure_16 : decode cX3_isFigure 16 = .ok (.invokestatic 41, 3) := dk_184 0 41 (dk_at dksX3_isFigure_0 16 rfl rfl)
theorem dX3_isFigure_19 : decode cX3_isFigure 19 = .ok (.ireturn, 1) := dk_172 (dk_at dksX3_isFigure_0 19 rfl rfl)
theorem q115 : (Jvm.Cond.initialized "StoneBacks$Reader") ∈ lw_all := lw_g (lw_at lw_m1 3 rfl) rfl
theorem q265 : (Jvm.Cond.instantiable "StoneBacks$Reader" (7 : Nat)) ∈ lw_all := lw_g (lw_at lw_m1 153 rfl) rfl
theorem q267 : (Jvm.Cond.instanceMethod ({ cls := "StoneBacks$Reader", name := "<init>", desc := "()V" } : Jvm.MethodName)) ∈ lw_all := lw_g (lw_at lw_m1 155 rfl) rfl
theorem q268 : (Jvm.Cond.code ({ cls := "StoneBacks$Reader", name := "<init>", desc := "()V" } : Jvm.MethodName) prog_10_method_1_code (1 : Nat) (Option.none : Option Jvm.ClassFile.FieldType)) ∈ lw_all := lw_g (lw_at lw_m1 156 rfl) rfl
theorem q269 : (Jvm.Cond.methodLink "StoneBacks$Reader" (3 : Nat) ({ cls := "java/lang/Object", name := "<init>", desc := "()V" } : Jvm.MethodName)) ∈ lw_all := lw_g (lw_at lw_m1 157 rfl) rfl
theorem q270 : (Jvm.Cond.fieldLink "StoneBacks$Reader" (9 : Nat) "StoneBacks$Reader" "tape" "[B") ∈ lw_all := lw_g (lw_at lw_m1 158 rfl) rfl
theorem q272 : (Jvm.Cond.fieldLink "StoneBacks$Reader" (19 : Nat) "StoneBacks$Reader" "length" "I") ∈ lw_all := lw_g (lw_at lw_m1 160 rfl) rfl
theorem q273 : (Jvm.Cond.fieldLink "StoneBacks$Reader" (22 : Nat) "StoneBacks$Reader" "end" "I") ∈ lw_all := lw_g (lw_at lw_m1 161 rfl) rfl
theorem q275 : (Jvm.Cond.fieldLink "StoneBacks$Reader" (25 : Nat) "StoneBacks$Reader" "at" "I") ∈ lw_all := lw_g (lw_at lw_m1 163 rfl) rfl
theorem q276 : (Jvm.Cond.fieldLink "StoneBacks$Reader" (35 : Nat) "StoneBacks$Reader" "begin" "I") ∈ lw_all := lw_g (lw_at lw_m1 164 rfl) rfl
theorem q278 : (Jvm.Cond.fieldLink "StoneBacks$Reader" (15 : Nat) "StoneBacks$Reader" "fault" "I") ∈ lw_all := lw_g (lw_at lw_m1 166 rfl) rfl
theorem q280 : (Jvm.Cond.fieldLink "StoneBacks$Reader" (28 : Nat) "StoneBacks$Reader" "deep" "I") ∈ lw_all := lw_g (lw_at lw_m1 168 rfl) rfl
theorem q281 : (Jvm.Cond.laysFinal "StoneBacks$Reader" "StoneBacks$Reader" "tape" "[B") ∈ lw_all := lw_g (lw_at lw_m1 169 rfl) rfl
theorem q282 : (Jvm.Cond.soleField "StoneBacks$Reader" "tape") ∈ lw_all := lw_g (lw_at lw_m1 170 rfl) rfl
theorem q283 : (Jvm.Cond.lays "StoneBacks$Reader" "StoneBacks$Reader" "length" "I") ∈ lw_all := lw_g (lw_at lw_m1 171 rfl) rfl
theorem q284 : (Jvm.Cond.soleField "StoneBacks$Reader" "length") ∈ lw_all := lw_g (lw_at lw_m1 172 rfl) rfl
theorem q285 : (Jvm.Cond.lays "StoneBacks$Reader" "StoneBacks$Reader" "end" "I") ∈ lw_all := lw_g (lw_at lw_m1 173 rfl) rfl
theorem q286 : (Jvm.Cond.soleField "StoneBacks$Reader" "end") ∈ lw_all := lw_g (lw_at lw_m1 174 rfl) rfl
theorem q287 : (Jvm.Cond.lays "StoneBacks$Reader" "StoneBacks$Reader" "at" "I") ∈ lw_all := lw_g (lw_at lw_m1 175 rfl) rfl
theorem q288 : (Jvm.Cond.soleField "StoneBacks$Reader" "at") ∈ lw_all := lw_g (lw_at lw_m1 176 rfl) rfl
theorem q289 : (Jvm.Cond.lays "StoneBacks$Reader" "StoneBacks$Reader" "begin" "I") ∈ lw_all := lw_g (lw_at lw_m1 177 rfl) rfl
theorem q290 : (Jvm.Cond.soleField "StoneBacks$Reader" "begin") ∈ lw_all := lw_g (lw_at lw_m1 178 rfl) rfl
theorem q291 : (Jvm.Cond.lays "StoneBacks$Reader" "StoneBacks$Reader" "fault" "I") ∈ lw_all := lw_g (lw_at lw_m1 179 rfl) rfl
theorem q292 : (Jvm.Cond.soleField "StoneBacks$Reader" "fault") ∈ lw_all := lw_g (lw_at lw_m1 180 rfl) rfl
theorem q293 : (Jvm.Cond.lays "StoneBacks$Reader" "StoneBacks$Reader" "deep" "I") ∈ lw_all := lw_g (lw_at lw_m1 181 rfl) rfl
theorem q294 : (Jvm.Cond.soleField "StoneBacks$Reader" "deep") ∈ lw_all := lw_g (lw_at lw_m1 182 rfl) rfl
theorem q295 : (Jvm.Cond.superclass "StoneBacks$Reader" "java/lang/Object") ∈ lw_all := lw_g (lw_at lw_m1 183 rfl) rfl
theorem q435 : (Jvm.Cond.instanceMethod ({ cls := "StoneBacks$Reader", name := "add", desc := "([I)I" } : Jvm.MethodName)) ∈ lw_all := lw_g (lw_at lw_m2 83 rfl) rfl
theorem q436 : (Jvm.Cond.selects "StoneBacks$Reader" ({ cls := "StoneBacks$Reader", name := "add", desc := "([I)I" } : Jvm.MethodName) ({ cls := "StoneBacks$Reader", name := "add", desc := "([I)I" } : Jvm.MethodName)) ∈ lw_all := lw_g (lw_at lw_m2 84 rfl) rfl
theorem q437 : (Jvm.Cond.code ({ cls := "StoneBacks$Reader", name := "add", desc := "([I)I" } : Jvm.MethodName) prog_10_method_2_code (7 : Nat) (Option.some Jvm.ClassFile.FieldType.int)) ∈ lw_all := lw_g (lw_at lw_m2 85 rfl) rfl
theorem q443 : (Jvm.Cond.instanceMethod ({ cls := "StoneBacks$Reader", name := "cut", desc := "(I)Z" } : Jvm.MethodName)) ∈ lw_all := lw_g (lw_at lw_m2 91 rfl) rfl
theorem q444 : (Jvm.Cond.selects "StoneBacks$Reader" ({ cls := "StoneBacks$Reader", name := "cut", desc := "(I)Z" } : Jvm.MethodName) ({ cls := "StoneBacks$Reader", name := "cut", desc := "(I)Z" } : Jvm.MethodName)) ∈ lw_all := lw_g (lw_at lw_m2 92 rfl) rfl
theorem q445 : (Jvm.Cond.code ({ cls := "StoneBacks$Reader", name := "cut", desc := "(I)Z" } : Jvm.MethodName) prog_10_method_3_code (2 : Nat) (Option.some Jvm.ClassFile.FieldType.boolean)) ∈ lw_all := lw_g (lw_at lw_m2 93 rfl) rfl
theorem q727 : (Jvm.Cond.instanceMethod ({ cls := "StoneBacks$Reader", name := "begins", desc := "()V" } : Jvm.MethodName)) ∈ lw_all := lw_g (lw_at lw_m3 135 rfl) rfl
theorem q728 : (Jvm.Cond.selects "StoneBacks$Reader" ({ cls := "StoneBacks$Reader", name := "begins", desc := "()V" } : Jvm.MethodName) ({ cls := "StoneBacks$Reader", name := "begins", desc := "()V" } : Jvm.MethodName)) ∈ lw_all := lw_g (lw_at lw_m3 136 rfl) rfl
theorem q729 : (Jvm.Cond.code ({ cls := "StoneBacks$Reader", name := "begins", desc := "()V" } : Jvm.MethodName) prog_10_method_4_code (1 : Nat) (Option.none : Option Jvm.ClassFile.FieldType)) ∈ lw_all := lw_g (lw_at lw_m3 137 rfl) rfl
theorem q735 : (Jvm.Cond.instanceMethod ({ cls := "StoneBacks$Reader", name := "isOver", desc := "()Z" } : Jvm.MethodName)) ∈ lw_all := lw_g (lw_at lw_m3 143 rfl) rfl
theorem q736 : (Jvm.Cond.selects "StoneBacks$Reader" ({ cls := "StoneBacks$Reader", name := "isOver", desc := "()Z" } : Jvm.MethodName) ({ cls := "StoneBacks$Reader", name := "isOver", desc := "()Z" } : Jvm.MethodName)) ∈ lw_all := lw_g (lw_at lw_m3 144 rfl) rfl
theorem q737 : (Jvm.Cond.code ({ cls := "StoneBacks$Reader", name := "isOver", desc := "()Z" } : Jvm.MethodName) prog_10_method_7_code (1 : Nat) (Option.some Jvm.ClassFile.FieldType.boolean)) ∈ lw_all := lw_g (lw_at lw_m3 145 rfl) rfl
theorem q738 : (Jvm.Cond.methodLink "StoneBacks$Reader" (38 : Nat) ({ cls := "StoneBacks$Reader", name := "blanks", desc := "()V" } : Jvm.MethodName)) ∈ lw_all := lw_g (lw_at lw_m3 146 rfl) rfl
theorem q739 : (Jvm.Cond.instanceMethod ({ cls := "StoneBacks$Reader", name := "blanks", desc := "()V" } : Jvm.MethodName)) ∈ lw_all := lw_g (lw_at lw_m3 147 rfl) rfl
theorem q740 : (Jvm.Cond.selects "StoneBacks$Reader" ({ cls := "StoneBacks$Reader", name := "blanks", desc := "()V" } : Jvm.MethodName) ({ cls := "StoneBacks$Reader", name := "blanks", desc := "()V" } : Jvm.MethodName)) ∈ lw_all := lw_g (lw_at lw_m3 148 rfl) rfl
theorem q741 : (Jvm.Cond.code ({ cls := "StoneBacks$Reader", name := "blanks", desc := "()V" } : Jvm.MethodName) prog_10_method_6_code (1 : Nat) (Option.none : Option Jvm.ClassFile.FieldType)) ∈ lw_all := lw_g (lw_at lw_m3 149 rfl) rfl
theorem q742 : (Jvm.Cond.methodLink "StoneBacks$Reader" (31 : Nat) ({ cls := "StoneBacks$Reader", name := "byteAt", desc := "(I)I" } : Jvm.MethodName)) ∈ lw_all := lw_g (lw_at lw_m3 150 rfl) rfl
theorem q743 : (Jvm.Cond.privateMethod ({ cls := "StoneBacks$Reader", name := "byteAt", desc := "(I)I" } : Jvm.MethodName)) ∈ lw_tbl := lw_at lw_m3 151 rfl
theorem q744 : (Jvm.Cond.instanceMethod ({ cls := "StoneBacks$Reader", name := "byteAt", desc := "(I)I" } : Jvm.MethodName)) ∈ lw_all := lw_g (lw_at lw_m3 152 rfl) rfl
theorem q745 : (Jvm.Cond.code ({ cls := "StoneBacks$Reader", name := "byteAt", desc := "(I)I" } : Jvm.MethodName) prog_10_method_5_code (2 : Nat) (Option.some Jvm.ClassFile.FieldType.int)) ∈ lw_all := lw_g (lw_at lw_m3 153 rfl) rfl
theorem q751 : (Jvm.Cond.instanceMethod ({ cls := "StoneBacks$Reader", name := "word", desc := "()Ljava/lang/String;" } : Jvm.MethodName)) ∈ lw_all := lw_g (lw_at lw_m3 159 rfl) rfl
theorem q752 : (Jvm.Cond.selects "StoneBacks$Reader" ({ cls := "StoneBacks$Reader", name := "word", desc := "()Ljava/lang/String;" } : Jvm.MethodName) ({ cls := "StoneBacks$Reader", name := "word", desc := "()Ljava/lang/String;" } : Jvm.MethodName)) ∈ lw_all := lw_g (lw_at lw_m3 160 rfl) rfl
theorem q753 : (Jvm.Cond.code ({ cls := "StoneBacks$Reader", name := "word", desc := "()Ljava/lang/String;" } : Jvm.MethodName) prog_10_method_8_code (3 : Nat) (Option.some (Jvm.ClassFile.FieldType.object "java/lang/String"))) ∈ lw_all := lw_g (lw_at lw_m3 161 rfl) rfl
theorem q754 : (Jvm.Cond.methodLinkNest "StoneBacks$Reader" (41 : Nat) ({ cls := "StoneBacks", name := "in", desc := "(III)Z" } : Jvm.MethodName) "StoneBacks") ∈ lw_tbl := lw_at lw_m3 162 rfl
theorem q757 : (Jvm.Cond.classLink "StoneBacks$Reader" (45 : Nat) "java/lang/StringBuilder") ∈ lw_all := lw_g (lw_at lw_m3 165 rfl) rfl
theorem q759 : (Jvm.Cond.methodLink "StoneBacks$Reader" (47 : Nat) ({ cls := "java/lang/StringBuilder", name := "<init>", desc := "()V" } : Jvm.MethodName)) ∈ lw_all := lw_g (lw_at lw_m3 167 rfl) rfl
theorem q788 : (Jvm.Cond.methodLink "StoneBacks$Reader" (48 : Nat) ({ cls := "java/lang/StringBuilder", name := "append", desc := "(C)Ljava/lang/StringBuilder;" } : Jvm.MethodName)) ∈ lw_all := lw_g (lw_at lw_m3 196 rfl) rfl
theorem q875 : (Jvm.Cond.methodLink "StoneBacks$Reader" (52 : Nat) ({ cls := "java/lang/StringBuilder", name := "toString", desc := "()Ljava/lang/String;" } : Jvm.MethodName)) ∈ lw_all := lw_g (lw_at lw_m4 43 rfl) rfl
theorem q1084 : (Jvm.Cond.instanceMethod ({ cls := "StoneBacks$Reader", name := "wrong", desc := "()LStoneBacks$Wrong;" } : Jvm.MethodName)) ∈ lw_all := lw_g (lw_at lw_m5 12 rfl) rfl
theorem q1085 : (Jvm.Cond.selects "StoneBacks$Reader" ({ cls := "StoneBacks$Reader", name := "wrong", desc := "()LStoneBacks$Wrong;" } : Jvm.MethodName) ({ cls := "StoneBacks$Reader", name := "wrong", desc := "()LStoneBacks$Wrong;" } : Jvm.MethodName)) ∈ lw_all := lw_g (lw_at lw_m5 13 rfl) rfl
theorem q1086 : (Jvm.Cond.code ({ cls := "StoneBacks$Reader", name := "wrong", desc := "()LStoneBacks$Wrong;" } : Jvm.MethodName) prog_10_method_14_code (1 : Nat) (Option.some (Jvm.ClassFile.FieldType.object "StoneBacks$Wrong"))) ∈ lw_all := lw_g (lw_at lw_m5 14 rfl) rfl
theorem q1087 : (Jvm.Cond.classLink "StoneBacks$Reader" (73 : Nat) "StoneBacks$Wrong") ∈ lw_all := lw_g (lw_at lw_m5 15 rfl) rfl
theorem q1096 : (Jvm.Cond.methodLink "StoneBacks$Reader" (75 : Nat) ({ cls := "StoneBacks$Wrong", name := "<init>", desc := "()V" } : Jvm.MethodName)) ∈ lw_all := lw_g (lw_at lw_m5 24 rfl) rfl
theorem q1191 : (Jvm.Cond.instanceMethod ({ cls := "StoneBacks$Reader", name := "number", desc := "(II)I" } : Jvm.MethodName)) ∈ lw_all := lw_g (lw_at lw_m5 119 rfl) rfl
theorem q1192 : (Jvm.Cond.selects "StoneBacks$Reader" ({ cls := "StoneBacks$Reader", name := "number", desc := "(II)I" } : Jvm.MethodName) ({ cls := "StoneBacks$Reader", name := "number", desc := "(II)I" } : Jvm.MethodName)) ∈ lw_all := lw_g (lw_at lw_m5 120 rfl) rfl
theorem q1193 : (Jvm.Cond.code ({ cls := "StoneBacks$Reader", name := "number", desc := "(II)I" } : Jvm.MethodName) prog_10_method_12_code (3 : Nat) (Option.some Jvm.ClassFile.FieldType.int)) ∈ lw_all := lw_g (lw_at lw_m5 121 rfl) rfl
theorem q1194 : (Jvm.Cond.methodLink "StoneBacks$Reader" (65 : Nat) ({ cls := "StoneBacks$Reader", name := "figures", desc := "(III)I" } : Jvm.MethodName)) ∈ lw_all := lw_g (lw_at lw_m5 122 rfl) rfl
theorem q1195 : (Jvm.Cond.instanceMethod ({ cls := "StoneBacks$Reader", name := "figures", desc := "(III)I" } : Jvm.MethodName)) ∈ lw_all := lw_g (lw_at lw_m5 123 rfl) rfl
theorem q1196 : (Jvm.Cond.selects "StoneBacks$Reader" ({ cls := "StoneBacks$Reader", name := "figures", desc := "(III)I" } : Jvm.MethodName) ({ cls := "StoneBacks$Reader", name := "figures", desc := "(III)I" } : Jvm.MethodName)) ∈ lw_all := lw_g (lw_at lw_m5 124 rfl) rfl
theorem q1197 : (Jvm.Cond.code ({ cls := "StoneBacks$Reader", name := "figures", desc := "(III)I" } : Jvm.MethodName) prog_10_method_13_code (5 : Nat) (Option.some Jvm.ClassFile.FieldType.int)) ∈ lw_all := lw_g (lw_at lw_m5 125 rfl) rfl
theorem q1198 : (Jvm.Cond.methodLink "StoneBacks$Reader" (69 : Nat) ({ cls := "StoneBacks$Reader", name := "wrong", desc := "()LStoneBacks$Wrong;" } : Jvm.MethodName)) ∈ lw_all := lw_g (lw_at lw_m5 126 rfl) rfl
theorem q1211 : (Jvm.Cond.instanceMethod ({ cls := "StoneBacks$Reader", name := "passes", desc := "(Ljava/lang/String;)Z" } : Jvm.MethodName)) ∈ lw_all := lw_g (lw_at lw_m5 139 rfl) rfl
theorem q1212 : (Jvm.Cond.selects "StoneBacks$Reader" ({ cls := "StoneBacks$Reader", name := "passes", desc := "(Ljava/lang/String;)Z" } : Jvm.MethodName) ({ cls := "StoneBacks$Reader", name := "passes", desc := "(Ljava/lang/String;)Z" } : Jvm.MethodName)) ∈ lw_all := lw_g (lw_at lw_m5 140 rfl) rfl
theorem q1213 : (Jvm.Cond.code ({ cls := "StoneBacks$Reader", name := "passes", desc := "(Ljava/lang/String;)Z" } : Jvm.MethodName) prog_10_method_9_code (2 : Nat) (Option.some Jvm.ClassFile.FieldType.boolean)) ∈ lw_all := lw_g (lw_at lw_m5 141 rfl) rfl
theorem q1214 : (Jvm.Cond.methodLink "StoneBacks$Reader" (56 : Nat) ({ cls := "StoneBacks$Reader", name := "word", desc := "()Ljava/lang/String;" } : Jvm.MethodName)) ∈ lw_all := lw_g (lw_at lw_m5 142 rfl) rfl
theorem q1215 : (Jvm.Cond.methodLink "StoneBacks$Reader" (59 : Nat) ({ cls := "java/lang/String", name := "equals", desc := "(Ljava/lang/Object;)Z" } : Jvm.MethodName)) ∈ lw_all := lw_g (lw_at lw_m5 143 rfl) rfl
theorem q1237 : (Jvm.Cond.instanceMethod ({ cls := "StoneBacks$Reader", name := "sign", desc := "(I)Z" } : Jvm.MethodName)) ∈ lw_all := lw_g (lw_at lw_m5 165 rfl) rfl
theorem q1238 : (Jvm.Cond.selects "StoneBacks$Reader" ({ cls := "StoneBacks$Reader", name := "sign", desc := "(I)Z" } : Jvm.MethodName) ({ cls := "StoneBacks$Reader", name := "sign", desc := "(I)Z" } : Jvm.MethodName)) ∈ lw_all := lw_g (lw_at lw_m5 166 rfl) rfl
theorem q1239 : (Jvm.Cond.code ({ cls := "StoneBacks$Reader", name := "sign", desc := "(I)Z" } : Jvm.MethodName) prog_10_method_10_code (2 : Nat) (Option.some Jvm.ClassFile.FieldType.boolean)) ∈ lw_all := lw_g (lw_at lw_m5 167 rfl) rfl
theorem q1345 : (Jvm.Cond.instanceMethod ({ cls := "StoneBacks$Reader", name := "goesDeeper", desc := "()V" } : Jvm.MethodName)) ∈ lw_all := lw_g (lw_at lw_m6 33 rfl) rfl
theorem q1346 : (Jvm.Cond.selects "StoneBacks$Reader" ({ cls := "StoneBacks$Reader", name := "goesDeeper", desc := "()V" } : Jvm.MethodName) ({ cls := "StoneBacks$Reader", name := "goesDeeper", desc := "()V" } : Jvm.MethodName)) ∈ lw_all := lw_g (lw_at lw_m6 34 rfl) rfl
theorem q1347 : (Jvm.Cond.code ({ cls := "StoneBacks$Reader", name := "goesDeeper", desc := "()V" } : Jvm.MethodName) prog_10_method_15_code (1 : Nat) (Option.none : Option Jvm.ClassFile.FieldType)) ∈ lw_all := lw_g (lw_at lw_m6 35 rfl) rfl
theorem q1349 : (Jvm.Cond.instanceMethod ({ cls := "StoneBacks$Reader", name := "comesUp", desc := "()V" } : Jvm.MethodName)) ∈ lw_all := lw_g (lw_at lw_m6 37 rfl) rfl
theorem q1350 : (Jvm.Cond.selects "StoneBacks$Reader" ({ cls := "StoneBacks$Reader", name := "comesUp", desc := "()V" } : Jvm.MethodName) ({ cls := "StoneBacks$Reader", name := "comesUp", desc := "()V" } : Jvm.MethodName)) ∈ lw_all := lw_g (lw_at lw_m6 38 rfl) rfl
theorem q1351 : (Jvm.Cond.code ({ cls := "StoneBacks$Reader", name := "comesUp", desc := "()V" } : Jvm.MethodName) prog_10_method_16_code (1 : Nat) (Option.none : Option Jvm.ClassFile.FieldType)) ∈ lw_all := lw_g (lw_at lw_m6 39 rfl) rfl
theorem q1397 : (Jvm.Cond.instanceMethod ({ cls := "StoneBacks$Reader", name := "isFigure", desc := "()Z" } : Jvm.MethodName)) ∈ lw_all := lw_g (lw_at lw_m6 85 rfl) rfl
theorem q1398 : (Jvm.Cond.selects "StoneBacks$Reader" ({ cls := "StoneBacks$Reader", name := "isFigure", desc := "()Z" } : Jvm.MethodName) ({ cls := "StoneBacks$Reader", name := "isFigure", desc := "()Z" } : Jvm.MethodName)) ∈ lw_all := lw_g (lw_at lw_m6 86 rfl) rfl
theorem q1399 : (Jvm.Cond.code ({ cls := "StoneBacks$Reader", name := "isFigure", desc := "()Z" } : Jvm.MethodName) prog_10_method_11_code (1 : Nat) (Option.some Jvm.ClassFile.FieldType.boolean)) ∈ lw_all := lw_g (lw_at lw_m6 87 rfl) rfl
theorem q1459 : (Jvm.Cond.selects "StoneBacks$Reader" ({ cls := "java/lang/Object", name := "getClass", desc := "()Ljava/lang/Class;" } : Jvm.MethodName) ({ cls := "java/lang/Object", name := "getClass", desc := "()Ljava/lang/Class;" } : Jvm.MethodName)) ∈ lw_all := lw_g (lw_at lw_m6 147 rfl) rfl
theorem q2533 : (Jvm.Cond.castable "StoneBacks$Reader" "java/lang/Object") ∈ lw_tbl := lw_at lw_m11 21 rfl
theorem in_X3 : ∀ w ∈ wsX30, w ∈ lw_all := lw_in wsX30 [281, 283, 285, 287, 289, 291, 293] (by decide +kernel) (by decide +kernel)

/-! StoneBacks$Scene -/
set_option maxRecDepth 100000
def RX4 : String := "StoneBacks$Scene"
def TX4 : u_T := fun k => match k with
  | 0 => ("StoneBacks$Scene", "who", "I", false)
  | 1 => ("StoneBacks$Scene", "load", "I", false)
  | 2 => ("StoneBacks$Scene", "back", "I", false)
  | 3 => ("StoneBacks$Scene", "place", "I", false)
  | 4 => ("StoneBacks$Scene", "slope", "I", false)
  | 5 => ("StoneBacks$Scene", "tired", "I", false)
  | 6 => ("StoneBacks$Scene", "hour", "I", false)
  | _ => ("StoneBacks$Scene", "there", "Z", false)
def tyX4 : Nat → FieldType := fun k => match k with
  | 0 => .int
  | 1 => .int
  | 2 => .int
  | 3 => .int
  | 4 => .int
  | 5 => .int
  | 6 => .int
  | _ => .boolean
abbrev wsX40 : List Cond := u_ws RX4 TX4 8
theorem nmX4 : ∀ a, a < 8 → ∀ b, b < 8 → a ≠ b → (TX4 a).2.1 ≠ (TX4 b).2.1 := by decide +kernel
theorem tyX4_ok : ∀ k, k < 8 → parseFieldDescriptor (TX4 k).2.2.1 = some (tyX4 k) := by decide +kernel
abbrev cX4_init : ByteArray := prog_12_method_1_code
def yX4_init : MethodName := ⟨RX4, "<init>", "()V"⟩
theorem dX4_init_0 : decode cX4_init 0 = .ok (.aload_n 0, 1) := by decide +kernel
theorem dX4_init_1 : decode cX4_init 1 = .ok (.invokespecial 1, 3) := by decide +kernel
theorem dX4_init_4 : decode cX4_init 4 = .ok (.return_, 1) := by decide +kernel
abbrev cX4_of : ByteArray := prog_12_method_2_code
def yX4_of : MethodName := ⟨RX4, "of", "(LStoneBacks$Fact;)I"⟩
def dkwX4_of_3 : List UInt8 := [172, 42, 180, 0, 31, 172, 42, 180, 0, 34, 172]
abbrev dktX4_of_3 : List UInt8 := dkwX4_of_3 ++ []
def dkwX4_of_2 : List UInt8 := [42, 180, 0, 13, 172, 42, 180, 0, 19, 172, 42, 180, 0, 22, 172, 42, 180, 0, 25, 172, 42, 180, 0, 28]
abbrev dktX4_of_2 : List UInt8 := dkwX4_of_2 ++ dktX4_of_3
def dkwX4_of_1 : List UInt8 := [170, 0, 0, 0, 0, 0, 0, 70, 0, 0, 0, 0, 0, 0, 0, 5, 0, 0, 0, 40, 0, 0, 0, 45, 0, 0, 0, 50, 0, 0, 0, 55, 0, 0, 0, 60, 0, 0, 0, 65]
abbrev dktX4_of_1 : List UInt8 := dkwX4_of_1 ++ dktX4_of_2
def dkwX4_of_0 : List UInt8 := [43, 182, 0, 7]
abbrev dktX4_of_0 : List UInt8 := dkwX4_of_0 ++ dktX4_of_1
theorem dksX4_of_0 : cX4_of.data.toList.drop 0 = dktX4_of_0 := by decide +kernel
theorem dksX4_of_1 : cX4_of.data.toList.drop 4 = dktX4_of_1 := dk_seg dksX4_of_0 4 rfl rfl
theorem dksX4_of_2 : cX4_of.data.toList.drop 44 = dktX4_of_2 := dk_seg dksX4_of_1 40 rfl rfl
theorem dksX4_of_3 : cX4_of.data.toList.drop 68 = dktX4_of_3 := dk_seg dksX4_of_2 24 rfl rfl
theorem dX4_of_0 : decode cX4_of 0 = .ok (.aload_n 1, 1) := dk_43 (dk_at dksX4_of_0 0 rfl rfl)
theorem dX4_of_1 : decode cX4_of 1 = .ok (.invokevirtual 7, 3) := dk_182 0 7 (dk_at dksX4_of_0 1 rfl rfl)
theorem dX4_of_4 : decode cX4_of 4 = .ok (.tableswitch 70 0 5 #[40, 45, 50, 55, 60, 65], 40) := by decide +kernel
theorem dX4_of_44 : decode cX4_of 44 = .ok (.aload_n 0, 1) := dk_42 (dk_at dksX4_of_2 0 rfl rfl)
theorem dX4_of_45 : decode cX4_of 45 = .ok (.getfield 13, 3) := dk_180 0 13 (dk_at dksX4_of_2 1 rfl rfl)
theorem dX4_of_48 : decode cX4_of 48 = .ok (.ireturn, 1) := dk_172 (dk_at dksX4_of_2 4 rfl rfl)
theorem dX4_of_49 : decode cX4_of 49 = .ok (.aload_n 0, 1) := dk_42 (dk_at dksX4_of_2 5 rfl rfl)
theorem dX4_of_50 : decode cX4_of 50 = .ok (.getfield 19, 3) := dk_180 0 19 (dk_at dksX4_of_2 6 rfl rfl)
theorem dX4_of_53 : decode cX4_of 53 = .ok (.ireturn, 1) := dk_172 (dk_at dksX4_of_2 9 rfl rfl)
theorem dX4_of_54 : decode cX4_of 54 = .ok (.aload_n 0, 1) := dk_42 (dk_at dksX4_of_2 10 rfl rfl)
theorem dX4_of_55 : decode cX4_of 55 = .ok (.getfield 22, 3) := dk_180 0 22 (dk_at dksX4_of_2 11 rfl rfl)
theorem dX4_of_58 : decode cX4_of 58 = .ok (.ireturn, 1) := dk_172 (dk_at dksX4_of_2 14 rfl rfl)
theorem dX4_of_59 : decode cX4_of 59 = .ok (.aload_n 0, 1) := dk_42 (dk_at dksX4_of_2 15 rfl rfl)
theorem dX4_of_60 : decode cX4_of 60 = .ok (.getfield 25, 3) := dk_180 0 25 (dk_at dksX4_of_2 16 rfl rfl)
theorem dX4_of_63 : decode cX4_of 63 = .ok (.ireturn, 1) := dk_172 (dk_at dksX4_of_2 19 rfl rfl)
theorem dX4_of_64 : decode cX4_of 64 = .ok (.aload_n 0, 1) := dk_42 (dk_at dksX4_of_2 20 rfl rfl)
theorem dX4_of_65 : decode cX4_of 65 = .ok (.getfield 28, 3) := dk_180 0 28 (dk_at dksX4_of_2 21 rfl rfl)
theorem dX4_of_68 : decode cX4_of 68 = .ok (.ireturn, 1) := dk_172 (dk_at dksX4_of_3 0 rfl rfl)
theorem dX4_of_69 : decode cX4_of 69 = .ok (.aload_n 0, 1) := dk_42 (dk_at dksX4_of_3 1 rfl rfl)
theorem dX4_of_70 : decode cX4_of 70 = .ok (.getfield 31, 3) := dk_180 0 31 (dk_at dksX4_of_3 2 rfl rfl)
theorem dX4_of_73 : decode cX4_of 73 = .ok (.ireturn, 1) := dk_172 (dk_at dksX4_of_3 5 rfl rfl)
theorem dX4_of_74 : decode cX4_of 74 = .ok (.aload_n 0, 1) := dk_42 (dk_at dksX4_of_3 6 rfl rfl)
theorem dX4_of_75 : decode cX4_of 75 = .ok (.getfield 34, 3) := dk_180 0 34 (dk_at dksX4_of_3 7 rfl rfl)
theorem dX4_of_78 : decode cX4_of 78 = .ok (.ireturn, 1) := dk_172 (dk_at dksX4_of_3 10 rfl rfl)
theorem q116 : (Jvm.Cond.initialized "StoneBacks$Scene") ∈ lw_all := lw_g (lw_at lw_m1 4 rfl) rfl
theorem q298 : (Jvm.Cond.instantiable "StoneBacks$Scene" (8 : Nat)) ∈ lw_all := lw_g (lw_at lw_m1 186 rfl) rfl
theorem q300 : (Jvm.Cond.instanceMethod ({ cls := "StoneBacks$Scene", name := "<init>", desc := "()V" } : Jvm.MethodName)) ∈ lw_all := lw_g (lw_at lw_m1 188 rfl) rfl
theorem q301 : (Jvm.Cond.code ({ cls := "StoneBacks$Scene", name := "<init>", desc := "()V" } : Jvm.MethodName) prog_12_method_1_code (1 : Nat) (Option.none : Option Jvm.ClassFile.FieldType)) ∈ lw_all := lw_g (lw_at lw_m1 189 rfl) rfl
theorem q302 : (Jvm.Cond.methodLink "StoneBacks$Scene" (1 : Nat) ({ cls := "java/lang/Object", name := "<init>", desc := "()V" } : Jvm.MethodName)) ∈ lw_all := lw_g (lw_at lw_m1 190 rfl) rfl
theorem q303 : (Jvm.Cond.fieldLink "StoneBacks$Scene" (13 : Nat) "StoneBacks$Scene" "who" "I") ∈ lw_all := lw_g (lw_at lw_m1 191 rfl) rfl
theorem q306 : (Jvm.Cond.fieldLink "StoneBacks$Scene" (19 : Nat) "StoneBacks$Scene" "load" "I") ∈ lw_all := lw_g (lw_at lw_m1 194 rfl) rfl
theorem q308 : (Jvm.Cond.fieldLink "StoneBacks$Scene" (22 : Nat) "StoneBacks$Scene" "back" "I") ∈ lw_all := lw_g (lw_at lw_m1 196 rfl) rfl
theorem q310 : (Jvm.Cond.fieldLink "StoneBacks$Scene" (25 : Nat) "StoneBacks$Scene" "place" "I") ∈ lw_all := lw_g (lw_at lw_m1 198 rfl) rfl
theorem q312 : (Jvm.Cond.fieldLink "StoneBacks$Scene" (28 : Nat) "StoneBacks$Scene" "slope" "I") ∈ lw_all := lw_g (lw_at lw_m1 200 rfl) rfl
theorem q314 : (Jvm.Cond.fieldLink "StoneBacks$Scene" (31 : Nat) "StoneBacks$Scene" "tired" "I") ∈ lw_all := lw_g (lw_at lw_m1 202 rfl) rfl
theorem q316 : (Jvm.Cond.fieldLink "StoneBacks$Scene" (34 : Nat) "StoneBacks$Scene" "hour" "I") ∈ lw_all := lw_g (lw_at lw_m1 204 rfl) rfl
theorem q320 : (Jvm.Cond.lays "StoneBacks$Scene" "StoneBacks$Scene" "who" "I") ∈ lw_all := lw_g (lw_at lw_m1 208 rfl) rfl
theorem q321 : (Jvm.Cond.soleField "StoneBacks$Scene" "who") ∈ lw_all := lw_g (lw_at lw_m1 209 rfl) rfl
theorem q322 : (Jvm.Cond.lays "StoneBacks$Scene" "StoneBacks$Scene" "load" "I") ∈ lw_all := lw_g (lw_at lw_m1 210 rfl) rfl
theorem q323 : (Jvm.Cond.soleField "StoneBacks$Scene" "load") ∈ lw_all := lw_g (lw_at lw_m1 211 rfl) rfl
theorem q324 : (Jvm.Cond.lays "StoneBacks$Scene" "StoneBacks$Scene" "back" "I") ∈ lw_all := lw_g (lw_at lw_m1 212 rfl) rfl
theorem q325 : (Jvm.Cond.soleField "StoneBacks$Scene" "back") ∈ lw_all := lw_g (lw_at lw_m1 213 rfl) rfl
theorem q326 : (Jvm.Cond.lays "StoneBacks$Scene" "StoneBacks$Scene" "place" "I") ∈ lw_all := lw_g (lw_at lw_m1 214 rfl) rfl
theorem q327 : (Jvm.Cond.soleField "StoneBacks$Scene" "place") ∈ lw_all := lw_g (lw_at lw_m1 215 rfl) rfl
theorem q328 : (Jvm.Cond.lays "StoneBacks$Scene" "StoneBacks$Scene" "slope" "I") ∈ lw_all := lw_g (lw_at lw_m1 216 rfl) rfl
theorem q329 : (Jvm.Cond.soleField "StoneBacks$Scene" "slope") ∈ lw_all := lw_g (lw_at lw_m1 217 rfl) rfl
theorem q330 : (Jvm.Cond.lays "StoneBacks$Scene" "StoneBacks$Scene" "tired" "I") ∈ lw_all := lw_g (lw_at lw_m1 218 rfl) rfl
theorem q331 : (Jvm.Cond.soleField "StoneBacks$Scene" "tired") ∈ lw_all := lw_g (lw_at lw_m1 219 rfl) rfl
theorem q332 : (Jvm.Cond.lays "StoneBacks$Scene" "StoneBacks$Scene" "hour" "I") ∈ lw_all := lw_g (lw_at lw_m1 220 rfl) rfl
theorem q333 : (Jvm.Cond.soleField "StoneBacks$Scene" "hour") ∈ lw_all := lw_g (lw_at lw_m1 221 rfl) rfl
theorem q334 : (Jvm.Cond.lays "StoneBacks$Scene" "StoneBacks$Scene" "there" "Z") ∈ lw_all := lw_g (lw_at lw_m1 222 rfl) rfl
theorem q335 : (Jvm.Cond.soleField "StoneBacks$Scene" "there") ∈ lw_all := lw_g (lw_at lw_m1 223 rfl) rfl
theorem q336 : (Jvm.Cond.superclass "StoneBacks$Scene" "java/lang/Object") ∈ lw_all := lw_g (lw_at lw_m1 224 rfl) rfl
theorem q575 : (Jvm.Cond.instanceMethod ({ cls := "StoneBacks$Scene", name := "of", desc := "(LStoneBacks$Fact;)I" } : Jvm.MethodName)) ∈ lw_all := lw_g (lw_at lw_m2 223 rfl) rfl
theorem q576 : (Jvm.Cond.selects "StoneBacks$Scene" ({ cls := "StoneBacks$Scene", name := "of", desc := "(LStoneBacks$Fact;)I" } : Jvm.MethodName) ({ cls := "StoneBacks$Scene", name := "of", desc := "(LStoneBacks$Fact;)I" } : Jvm.MethodName)) ∈ lw_all := lw_g (lw_at lw_m2 224 rfl) rfl
theorem q577 : (Jvm.Cond.code ({ cls := "StoneBacks$Scene", name := "of", desc := "(LStoneBacks$Fact;)I" } : Jvm.MethodName) prog_12_method_2_code (2 : Nat) (Option.some Jvm.ClassFile.FieldType.int)) ∈ lw_all := lw_g (lw_at lw_m2 225 rfl) rfl
theorem q578 : (Jvm.Cond.methodLink "StoneBacks$Scene" (7 : Nat) ({ cls := "StoneBacks$Fact", name := "ordinal", desc := "()I" } : Jvm.MethodName)) ∈ lw_all := lw_g (lw_at lw_m2 226 rfl) rfl
theorem q1461 : (Jvm.Cond.selects "StoneBacks$Scene" ({ cls := "java/lang/Object", name := "getClass", desc := "()Ljava/lang/Class;" } : Jvm.MethodName) ({ cls := "java/lang/Object", name := "getClass", desc := "()Ljava/lang/Class;" } : Jvm.MethodName)) ∈ lw_all := lw_g (lw_at lw_m6 149 rfl) rfl
theorem q2534 : (Jvm.Cond.castable "StoneBacks$Scene" "java/lang/Object") ∈ lw_tbl := lw_at lw_m11 22 rfl
theorem in_X4 : ∀ w ∈ wsX40, w ∈ lw_all := lw_in wsX40 [320, 322, 324, 326, 328, 330, 332, 334] (by decide +kernel) (by decide +kernel)

/-! StoneBacks$Shares -/
set_option maxRecDepth 100000
def RX5 : String := "StoneBacks$Shares"
def TX5 : u_T := fun k => match k with
  | 0 => ("StoneBacks$Shares", "least", "[I", true)
  | 1 => ("StoneBacks$Shares", "who", "[I", true)
  | 2 => ("StoneBacks$Shares", "sums", "[I", true)
  | 3 => ("StoneBacks$Shares", "people", "I", false)
  | 4 => ("StoneBacks$Shares", "stones", "I", false)
  | 5 => ("StoneBacks$Shares", "loads", "[I", true)
  | 6 => ("StoneBacks$Shares", "given", "[Z", true)
  | _ => ("StoneBacks$Shares", "this$0", "LStoneBacks;", true)
def tyX5 : Nat → FieldType := fun k => match k with
  | 0 => .array .int
  | 1 => .array .int
  | 2 => .array .int
  | 3 => .int
  | 4 => .int
  | 5 => .array .int
  | 6 => .array .boolean
  | _ => .object "StoneBacks"
abbrev wsX50 : List Cond := u_ws RX5 TX5 8
theorem nmX5 : ∀ a, a < 8 → ∀ b, b < 8 → a ≠ b → (TX5 a).2.1 ≠ (TX5 b).2.1 := by decide +kernel
theorem tyX5_ok : ∀ k, k < 8 → parseFieldDescriptor (TX5 k).2.2.1 = some (tyX5 k) := by decide +kernel
abbrev cX5_init : ByteArray := prog_13_method_1_code
def yX5_init : MethodName := ⟨RX5, "<init>", "(LStoneBacks;)V"⟩
def dkwX5_init_2 : List UInt8 := [188, 4, 181, 0, 28, 177]
abbrev dktX5_init_2 : List UInt8 := dkwX5_init_2 ++ []
def dkwX5_init_1 : List UInt8 := [181, 0, 19, 42, 17, 4, 0, 188, 10, 181, 0, 22, 42, 16, 6, 188, 10, 181, 0, 25, 42, 17, 4, 0]
abbrev dktX5_init_1 : List UInt8 := dkwX5_init_1 ++ dktX5_init_2
def dkwX5_init_0 : List UInt8 := [42, 43, 181, 0, 3, 42, 183, 0, 9, 42, 17, 28, 0, 188, 10, 181, 0, 15, 42, 16, 6, 188, 10]
abbrev dktX5_init_0 : List UInt8 := dkwX5_init_0 ++ dktX5_init_1
theorem dksX5_init_0 : cX5_init.data.toList.drop 0 = dktX5_init_0 := by decide +kernel
theorem dksX5_init_1 : cX5_init.data.toList.drop 23 = dktX5_init_1 := dk_seg dksX5_init_0 23 rfl rfl
theorem dksX5_init_2 : cX5_init.data.toList.drop 47 = dktX5_init_2 := dk_seg dksX5_init_1 24 rfl rfl
theorem dX5_init_0 : decode cX5_init 0 = .ok (.aload_n 0, 1) := dk_42 (dk_at dksX5_init_0 0 rfl rfl)
theorem dX5_init_1 : decode cX5_init 1 = .ok (.aload_n 1, 1) := dk_43 (dk_at dksX5_init_0 1 rfl rfl)
theorem dX5_init_2 : decode cX5_init 2 = .ok (.putfield 3, 3) := dk_181 0 3 (dk_at dksX5_init_0 2 rfl rfl)
theorem dX5_init_5 : decode cX5_init 5 = .ok (.aload_n 0, 1) := dk_42 (dk_at dksX5_init_0 5 rfl rfl)
theorem dX5_init_6 : decode cX5_init 6 = .ok (.invokespecial 9, 3) := dk_183 0 9 (dk_at dksX5_init_0 6 rfl rfl)
theorem dX5_init_9 : decode cX5_init 9 = .ok (.aload_n 0, 1) := dk_42 (dk_at dksX5_init_0 9 rfl rfl)
theorem dX5_init_10 : decode cX5_init 10 = .ok (.sipush 7168, 3) := dk_17 28 0 (dk_at dksX5_init_0 10 rfl rfl)
theorem dX5_init_13 : decode cX5_init 13 = .ok (.newarray .int, 2) := dk_188_10 (dk_at dksX5_init_0 13 rfl rfl)
theorem dX5_init_15 : decode cX5_init 15 = .ok (.putfield 15, 3) := dk_181 0 15 (dk_at dksX5_init_0 15 rfl rfl)
theorem dX5_init_18 : decode cX5_init 18 = .ok (.aload_n 0, 1) := dk_42 (dk_at dksX5_init_0 18 rfl rfl)
theorem dX5_init_19 : decode cX5_init 19 = .ok (.bipush 6, 2) := dk_16 6 (dk_at dksX5_init_0 19 rfl rfl)
theorem dX5_init_21 : decode cX5_init 21 = .ok (.newarray .int, 2) := dk_188_10 (dk_at dksX5_init_0 21 rfl rfl)
theorem dX5_init_23 : decode cX5_init 23 = .ok (.putfield 19, 3) := dk_181 0 19 (dk_at dksX5_init_1 0 rfl rfl)
theorem dX5_init_26 : decode cX5_init 26 = .ok (.aload_n 0, 1) := dk_42 (dk_at dksX5_init_1 3 rfl rfl)
theorem dX5_init_27 : decode cX5_init 27 = .ok (.sipush 1024, 3) := dk_17 4 0 (dk_at dksX5_init_1 4 rfl rfl)
theorem dX5_init_30 : decode cX5_init 30 = .ok (.newarray .int, 2) := dk_188_10 (dk_at dksX5_init_1 7 rfl rfl)
theorem dX5_init_32 : decode cX5_init 32 = .ok (.putfield 22, 3) := dk_181 0 22 (dk_at dksX5_init_1 9 rfl rfl)
theorem dX5_init_35 : decode cX5_init 35 = .ok (.aload_n 0, 1) := dk_42 (dk_at dksX5_init_1 12 rfl rfl)
theorem dX5_init_36 : decode cX5_init 36 = .ok (.bipush 6, 2) := dk_16 6 (dk_at dksX5_init_1 13 rfl rfl)
theorem dX5_init_38 : decode cX5_init 38 = .ok (.newarray .int, 2) := dk_188_10 (dk_at dksX5_init_1 15 rfl rfl)
theorem dX5_init_40 : decode cX5_init 40 = .ok (.putfield 25, 3) := dk_181 0 25 (dk_at dksX5_init_1 17 rfl rfl)
theorem dX5_init_43 : decode cX5_init 43 = .ok (.aload_n 0, 1) := dk_42 (dk_at dksX5_init_1 20 rfl rfl)
theorem dX5_init_44 : decode cX5_init 44 = .ok (.sipush 1024, 3) := dk_17 4 0 (dk_at dksX5_init_1 21 rfl rfl)
theorem dX5_init_47 : decode cX5_init 47 = .ok (.newarray .boolean, 2) := dk_188_4 (dk_at dksX5_init_2 0 rfl rfl)
theorem dX5_init_49 : decode cX5_init 49 = .ok (.putfield 28, 3) := dk_181 0 28 (dk_at dksX5_init_2 2 rfl rfl)
theorem dX5_init_52 : decode cX5_init 52 = .ok (.return_, 1) := dk_177 (dk_at dksX5_init_2 5 rfl rfl)
abbrev cX5_is : ByteArray := prog_13_method_3_code
def yX5_is : MethodName := ⟨RX5, "is", "(I)LStoneBacks$Shares;"⟩
def dkwX5_is_10 : List UInt8 := [132, 2, 255, 167, 255, 201, 42, 176]
abbrev dktX5_is_10 : List UInt8 := dkwX5_is_10 ++ []
def dkwX5_is_9 : List UInt8 := [130, 126, 154, 0, 12, 42, 28, 29, 182, 0, 65, 167, 0, 5, 18, 64, 79, 132, 3, 1, 167, 255, 213]
abbrev dktX5_is_9 : List UInt8 := dkwX5_is_9 ++ dktX5_is_10
def dkwX5_is_8 : List UInt8 := [62, 29, 17, 4, 0, 162, 0, 42, 42, 180, 0, 15, 42, 28, 29, 182, 0, 61, 29, 42, 180, 0, 36, 2]
abbrev dktX5_is_8 : List UInt8 := dkwX5_is_8 ++ dktX5_is_9
def dkwX5_is_7 : List UInt8 := [167, 0, 5, 18, 64, 79, 132, 2, 1, 167, 255, 222, 42, 180, 0, 32, 4, 100, 61, 28, 155, 0, 57, 3]
abbrev dktX5_is_7 : List UInt8 := dkwX5_is_7 ++ dktX5_is_8
def dkwX5_is_6 : List UInt8 := [17, 4, 0, 162, 0, 33, 42, 180, 0, 15, 42, 42, 180, 0, 32, 28, 182, 0, 61, 28, 154, 0, 7, 3]
abbrev dktX5_is_6 : List UInt8 := dkwX5_is_6 ++ dktX5_is_7
def dkwX5_is_5 : List UInt8 := [180, 0, 39, 180, 0, 53, 28, 184, 0, 56, 46, 96, 79, 132, 2, 1, 167, 255, 214, 3, 61, 28]
abbrev dktX5_is_5 : List UInt8 := dkwX5_is_5 ++ dktX5_is_6
def dkwX5_is_4 : List UInt8 := [162, 0, 41, 42, 180, 0, 22, 28, 42, 180, 0, 22, 28, 28, 4, 100, 126, 46, 42, 180, 0, 3]
abbrev dktX5_is_4 : List UInt8 := dkwX5_is_4 ++ dktX5_is_5
def dkwX5_is_3 : List UInt8 := [180, 0, 39, 28, 182, 0, 49, 128, 181, 0, 36, 132, 2, 1, 167, 255, 183, 4, 61, 28, 17, 4, 0]
abbrev dktX5_is_3 : List UInt8 := dkwX5_is_3 ++ dktX5_is_4
def dkwX5_is_2 : List UInt8 := [180, 0, 32, 28, 79, 42, 89, 180, 0, 32, 4, 96, 181, 0, 32, 42, 89, 180, 0, 36, 42, 180, 0, 3]
abbrev dktX5_is_2 : List UInt8 := dkwX5_is_2 ++ dktX5_is_3
def dkwX5_is_1 : List UInt8 := [162, 0, 65, 42, 180, 0, 3, 180, 0, 39, 180, 0, 46, 28, 46, 27, 160, 0, 43, 42, 180, 0, 19, 42]
abbrev dktX5_is_1 : List UInt8 := dkwX5_is_1 ++ dktX5_is_2
def dkwX5_is_0 : List UInt8 := [42, 3, 181, 0, 32, 42, 3, 181, 0, 36, 3, 61, 28, 42, 180, 0, 3, 180, 0, 39, 180, 0, 43]
abbrev dktX5_is_0 : List UInt8 := dkwX5_is_0 ++ dktX5_is_1
theorem dksX5_is_0 : cX5_is.data.toList.drop 0 = dktX5_is_0 := by decide +kernel
theorem dksX5_is_1 : cX5_is.data.toList.drop 23 = dktX5_is_1 := dk_seg dksX5_is_0 23 rfl rfl
theorem dksX5_is_2 : cX5_is.data.toList.drop 47 = dktX5_is_2 := dk_seg dksX5_is_1 24 rfl rfl
theorem dksX5_is_3 : cX5_is.data.toList.drop 71 = dktX5_is_3 := dk_seg dksX5_is_2 24 rfl rfl
theorem dksX5_is_4 : cX5_is.data.toList.drop 94 = dktX5_is_4 := dk_seg dksX5_is_3 23 rfl rfl
theorem dksX5_is_5 : cX5_is.data.toList.drop 116 = dktX5_is_5 := dk_seg dksX5_is_4 22 rfl rfl
theorem dksX5_is_6 : cX5_is.data.toList.drop 138 = dktX5_is_6 := dk_seg dksX5_is_5 22 rfl rfl
theorem dksX5_is_7 : cX5_is.data.toList.drop 162 = dktX5_is_7 := dk_seg dksX5_is_6 24 rfl rfl
theorem dksX5_is_8 : cX5_is.data.toList.drop 186 = dktX5_is_8 := dk_seg dksX5_is_7 24 rfl rfl
theorem dksX5_is_9 : cX5_is.data.toList.drop 210 = dktX5_is_9 := dk_seg dksX5_is_8 24 rfl rfl
theorem dksX5_is_10 : cX5_is.data.toList.drop 233 = dktX5_is_10 := dk_seg dksX5_is_9 23 rfl rfl
theorem dX5_is_0 : decode cX5_is 0 = .ok (.aload_n 0, 1) := dk_42 (dk_at dksX5_is_0 0 rfl rfl)
theorem dX5_is_1 : decode cX5_is 1 = .ok (.iconst 0, 1) := dk_3 (dk_at dksX5_is_0 1 rfl rfl)
theorem dX5_is_2 : decode cX5_is 2 = .ok (.putfield 32, 3) := dk_181 0 32 (dk_at dksX5_is_0 2 rfl rfl)
theorem dX5_is_5 : decode cX5_is 5 = .ok (.aload_n 0, 1) := dk_42 (dk_at dksX5_is_0 5 rfl rfl)
theorem dX5_is_6 : decode cX5_is 6 = .ok (.iconst 0, 1) := dk_3 (dk_at dksX5_is_0 6 rfl rfl)
theorem dX5_is_7 : decode cX5_is 7 = .ok (.putfield 36, 3) := dk_181 0 36 (dk_at dksX5_is_0 7 rfl rfl)
theorem dX5_is_10 : decode cX5_is 10 = .ok (.iconst 0, 1) := dk_3 (dk_at dksX5_is_0 10 rfl rfl)
theorem dX5_is_11 : decode cX5_is 11 = .ok (.istore_n 2, 1) := dk_61 (dk_at dksX5_is_0 11 rfl rfl)
theorem dX5_is_12 : decode cX5_is 12 = .ok (.iload_n 2, 1) := dk_28 (dk_at dksX5_is_0 12 rfl rfl)
theorem dX5_is_13 : decode cX5_is 13 = .ok (.aload_n 0, 1) := dk_42 (dk_at dksX5_is_0 13 rfl rfl)
theorem dX5_is_14 : decode cX5_is 14 = .ok (.getfield 3, 3) := dk_180 0 3 (dk_at dksX5_is_0 14 rfl rfl)
theorem dX5_is_17 : decode cX5_is 17 = .ok (.getfield 39, 3) := dk_180 0 39 (dk_at dksX5_is_0 17 rfl rfl)
theorem dX5_is_20 : decode cX5_is 20 = .ok (.getfield 43, 3) := dk_180 0 43 (dk_at dksX5_is_0 20 rfl rfl)
theorem dX5_is_23 : decode cX5_is 23 = .ok (.if_icmp .ge 65, 3) := dk_162 0 65 (dk_at dksX5_is_1 0 rfl rfl)
theorem dX5_is_26 : decode cX5_is 26 = .ok (.aload_n 0, 1) := dk_42 (dk_at dksX5_is_1 3 rfl rfl)
theorem dX5_is_27 : decode cX5_is 27 = .ok (.getfield 3, 3) := dk_180 0 3 (dk_at dksX5_is_1 4 rfl rfl)
theorem dX5_is_30 : decode cX5_is 30 = .ok (.getfield 39, 3) := dk_180 0 39 (dk_at dksX5_is_1 7 rfl rfl)
theorem dX5_is_33 : decode cX5_is 33 = .ok (.getfield 46, 3) := dk_180 0 46 (dk_at dksX5_is_1 10 rfl rfl)
theorem dX5_is_36 : decode cX5_is 36 = .ok (.iload_n 2, 1) := dk_28 (dk_at dksX5_is_1 13 rfl rfl)
theorem dX5_is_37 : decode cX5_is 37 = .ok (.iaload, 1) := dk_46 (dk_at dksX5_is_1 14 rfl rfl)
theorem dX5_is_38 : decode cX5_is 38 = .ok (.iload_n 1, 1) := dk_27 (dk_at dksX5_is_1 15 rfl rfl)
theorem dX5_is_39 : decode cX5_is 39 = .ok (.if_icmp .ne 43, 3) := dk_160 0 43 (dk_at dksX5_is_1 16 rfl rfl)
theorem dX5_is_42 : decode cX5_is 42 = .ok (.aload_n 0, 1) := dk_42 (dk_at dksX5_is_1 19 rfl rfl)
theorem dX5_is_43 : decode cX5_is 43 = .ok (.getfield 19, 3) := dk_180 0 19 (dk_at dksX5_is_1 20 rfl rfl)
theorem dX5_is_46 : decode cX5_is 46 = .ok (.aload_n 0, 1) := dk_42 (dk_at dksX5_is_1 23 rfl rfl)
theorem dX5_is_47 : decode cX5_is 47 = .ok (.getfield 32, 3) := dk_180 0 32 (dk_at dksX5_is_2 0 rfl rfl)
theorem dX5_is_50 : decode cX5_is 50 = .ok (.iload_n 2, 1) := dk_28 (dk_at dksX5_is_2 3 rfl rfl)
theorem dX5_is_51 : decode cX5_is 51 = .ok (.iastore, 1) := dk_79 (dk_at dksX5_is_2 4 rfl rfl)
theorem dX5_is_52 : decode cX5_is 52 = .ok (.aload_n 0, 1) := dk_42 (dk_at dksX5_is_2 5 rfl rfl)
theorem dX5_is_53 : decode cX5_is 53 = .ok (.dup, 1) := dk_89 (dk_at dksX5_is_2 6 rfl rfl)
theorem dX5_is_54 : decode cX5_is 54 = .ok (.getfield 32, 3) := dk_180 0 32 (dk_at dksX5_is_2 7 rfl rfl)
theorem dX5_is_57 : decode cX5_is 57 = .ok (.iconst 1, 1) := dk_4 (dk_at dksX5_is_2 10 rfl rfl)
theorem dX5_is_58 : decode cX5_is 58 = .ok (.iadd, 1) := dk_96 (dk_at dksX5_is_2 11 rfl rfl)
theorem dX5_is_59 : decode cX5_is 59 = .ok (.putfield 32, 3) := dk_181 0 32 (dk_at dksX5_is_2 12 rfl rfl)
theorem dX5_is_62 : decode cX5_is 62 = .ok (.aload_n 0, 1) := dk_42 (dk_at dksX5_is_2 15 rfl rfl)
theorem dX5_is_63 : decode cX5_is 63 = .ok (.dup, 1) := dk_89 (dk_at dksX5_is_2 16 rfl rfl)
theorem dX5_is_64 : decode cX5_is 64 = .ok (.getfield 36, 3) := dk_180 0 36 (dk_at dksX5_is_2 17 rfl rfl)
theorem dX5_is_67 : decode cX5_is 67 = .ok (.aload_n 0, 1) := dk_42 (dk_at dksX5_is_2 20 rfl rfl)
theorem dX5_is_68 : decode cX5_is 68 = .ok (.getfield 3, 3) := dk_180 0 3 (dk_at dksX5_is_2 21 rfl rfl)
theorem dX5_is_71 : decode cX5_is 71 = .ok (.getfield 39, 3) := dk_180 0 39 (dk_at dksX5_is_3 0 rfl rfl)
theorem dX5_is_74 : decode cX5_is 74 = .ok (.iload_n 2, 1) := dk_28 (dk_at dksX5_is_3 3 rfl rfl)
theorem dX5_is_75 : decode cX5_is 75 = .ok (.invokevirtual 49, 3) := dk_182 0 49 (dk_at dksX5_is_3 4 rfl rfl)
theorem dX5_is_78 : decode cX5_is 78 = .ok (.ior, 1) := dk_128 (dk_at dksX5_is_3 7 rfl rfl)
theorem dX5_is_79 : decode cX5_is 79 = .ok (.putfield 36, 3) := dk_181 0 36 (dk_at dksX5_is_3 8 rfl rfl)
theorem dX5_is_82 : decode cX5_is 82 = .ok (.iinc 2 1, 3) := dk_132 2 1 (dk_at dksX5_is_3 11 rfl rfl)
theorem dX5_is_85 : decode cX5_is 85 = .ok (.goto (-73), 3) := dk_167 255 183 (dk_at dksX5_is_3 14 rfl rfl)
theorem dX5_is_88 : decode cX5_is 88 = .ok (.iconst 1, 1) := dk_4 (dk_at dksX5_is_3 17 rfl rfl)
theorem dX5_is_89 : decode cX5_is 89 = .ok (.istore_n 2, 1) := dk_61 (dk_at dksX5_is_3 18 rfl rfl)
theorem dX5_is_90 : decode cX5_is 90 = .ok (.iload_n 2, 1) := dk_28 (dk_at dksX5_is_3 19 rfl rfl)
theorem dX5_is_91 : decode cX5_is 91 = .ok (.sipush 1024, 3) := dk_17 4 0 (dk_at dksX5_is_3 20 rfl rfl)
theorem dX5_is_94 : decode cX5_is 94 = .ok (.if_icmp .ge 41, 3) := dk_162 0 41 (dk_at dksX5_is_4 0 rfl rfl)
theorem dX5_is_97 : decode cX5_is 97 = .ok (.aload_n 0, 1) := dk_42 (dk_at dksX5_is_4 3 rfl rfl)
theorem dX5_is_98 : decode cX5_is 98 = .ok (.getfield 22, 3) := dk_180 0 22 (dk_at dksX5_is_4 4 rfl rfl)
theorem dX5_is_101 : decode cX5_is 101 = .ok (.iload_n 2, 1) := dk_28 (dk_at dksX5_is_4 7 rfl rfl)
theorem dX5_is_102 : decode cX5_is 102 = .ok (.aload_n 0, 1) := dk_42 (dk_at dksX5_is_4 8 rfl rfl)
theorem dX5_is_103 : decode cX5_is 103 = .ok (.getfield 22, 3) := dk_180 0 22 (dk_at dksX5_is_4 9 rfl rfl)
theorem dX5_is_106 : decode cX5_is 106 = .ok (.iload_n 2, 1) := dk_28 (dk_at dksX5_is_4 12 rfl rfl)
theorem dX5_is_107 : decode cX5_is 107 = .ok (.iload_n 2, 1) := dk_28 (dk_at dksX5_is_4 13 rfl rfl)
theorem dX5_is_108 : decode cX5_is 108 = .ok (.iconst 1, 1) := dk_4 (dk_at dksX5_is_4 14 rfl rfl)
theorem dX5_is_109 : decode cX5_is 109 = .ok (.isub, 1) := dk_100 (dk_at dksX5_is_4 15 rfl rfl)
theorem dX5_is_110 : decode cX5_is 110 = .ok (.iand, 1) := dk_126 (dk_at dksX5_is_4 16 rfl rfl)
theorem dX5_is_111 : decode cX5_is 111 = .ok (.iaload, 1) := dk_46 (dk_at dksX5_is_4 17 rfl rfl)
theorem dX5_is_112 : decode cX5_is 112 = .ok (.aload_n 0, 1) := dk_42 (dk_at dksX5_is_4 18 rfl rfl)
theorem dX5_is_113 : decode cX5_is 113 = .ok (.getfield 3, 3) := dk_180 0 3 (dk_at dksX5_is_4 19 rfl rfl)
theorem dX5_is_116 : decode cX5_is 116 = .ok (.getfield 39, 3) := dk_180 0 39 (dk_at dksX5_is_5 0 rfl rfl)
theorem dX5_is_119 : decode cX5_is 119 = .ok (.getfield 53, 3) := dk_180 0 53 (dk_at dksX5_is_5 3 rfl rfl)
theorem dX5_is_122 : decode cX5_is 122 = .ok (.iload_n 2, 1) := dk_28 (dk_at dksX5_is_5 6 rfl rfl)
theorem dX5_is_123 : decode cX5_is 123 = .ok (.invokestatic 56, 3) := dk_184 0 56 (dk_at dksX5_is_5 7 rfl rfl)
theorem dX5_is_126 : decode cX5_is 126 = .ok (.iaload, 1) := dk_46 (dk_at dksX5_is_5 10 rfl rfl)
theorem dX5_is_127 : decode cX5_is 127 = .ok (.iadd, 1) := dk_96 (dk_at dksX5_is_5 11 rfl rfl)
theorem dX5_is_128 : decode cX5_is 128 = .ok (.iastore, 1) := dk_79 (dk_at dksX5_is_5 12 rfl rfl)
theorem dX5_is_129 : decode cX5_is 129 = .ok (.iinc 2 1, 3) := dk_132 2 1 (dk_at dksX5_is_5 13 rfl rfl)
theorem dX5_is_132 : decode cX5_is 132 = .ok (.goto (-42), 3) := dk_167 255 214 (dk_at dksX5_is_5 16 rfl rfl)
theorem dX5_is_135 : decode cX5_is 135 = .ok (.iconst 0, 1) := dk_3 (dk_at dksX5_is_5 19 rfl rfl)
theorem dX5_is_136 : decode cX5_is 136 = .ok (.istore_n 2, 1) := dk_61 (dk_at dksX5_is_5 20 rfl rfl)
theorem dX5_is_137 : decode cX5_is 137 = .ok (.iload_n 2, 1) := dk_28 (dk_at dksX5_is_5 21 rfl rfl)
theorem dX5_is_138 : decode cX5_is 138 = .ok (.sipush 1024, 3) := dk_17 4 0 (dk_at dksX5_is_6 0 rfl rfl)
theorem dX5_is_141 : decode cX5_is 141 = .ok (.if_icmp .ge 33, 3) := dk_162 0 33 (dk_at dksX5_is_6 3 rfl rfl)
theorem dX5_is_144 : decode cX5_is 144 = .ok (.aload_n 0, 1) := dk_42 (dk_at dksX5_is_6 6 rfl rfl)
theorem dX5_is_145 : decode cX5_is 145 = .ok (.getfield 15, 3) := dk_180 0 15 (dk_at dksX5_is_6 7 rfl rfl)
theorem dX5_is_148 : decode cX5_is 148 = .ok (.aload_n 0, 1) := dk_42 (dk_at dksX5_is_6 10 rfl rfl)
theorem dX5_is_149 : decode cX5_is 149 = .ok (.aload_n 0, 1) := dk_42 (dk_at dksX5_is_6 11 rfl rfl)
theorem dX5_is_150 : decode cX5_is 150 = .ok (.getfield 32, 3) := dk_180 0 32 (dk_at dksX5_is_6 12 rfl rfl)
theorem dX5_is_153 : decode cX5_is 153 = .ok (.iload_n 2, 1) := dk_28 (dk_at dksX5_is_6 15 rfl rfl)
theorem dX5_is_154 : decode cX5_is 154 = .ok (.invokevirtual 61, 3) := dk_182 0 61 (dk_at dksX5_is_6 16 rfl rfl)
theorem dX5_is_157 : decode cX5_is 157 = .ok (.iload_n 2, 1) := dk_28 (dk_at dksX5_is_6 19 rfl rfl)
theorem dX5_is_158 : decode cX5_is 158 = .ok (.ifCond .ne 7, 3) := dk_154 0 7 (dk_at dksX5_is_6 20 rfl rfl)
theorem dX5_is_161 : decode cX5_is 161 = .ok (.iconst 0, 1) := dk_3 (dk_at dksX5_is_6 23 rfl rfl)
theorem dX5_is_162 : decode cX5_is 162 = .ok (.goto 5, 3) := dk_167 0 5 (dk_at dksX5_is_7 0 rfl rfl)
theorem dX5_is_165 : decode cX5_is 165 = .ok (.ldc 64, 2) := dk_18 64 (dk_at dksX5_is_7 3 rfl rfl)
theorem dX5_is_167 : decode cX5_is 167 = .ok (.iastore, 1) := dk_79 (dk_at dksX5_is_7 5 rfl rfl)
theorem dX5_is_168 : decode cX5_is 168 = .ok (.iinc 2 1, 3) := dk_132 2 1 (dk_at dksX5_is_7 6 rfl rfl)
theorem dX5_is_171 : decode cX5_is 171 = .ok (.goto (-34), 3) := dk_167 255 222 (dk_at dksX5_is_7 9 rfl rfl)
theorem dX5_is_174 : decode cX5_is 174 = .ok (.aload_n 0, 1) := dk_42 (dk_at dksX5_is_7 12 rfl rfl)
theorem dX5_is_175 : decode cX5_is 175 = .ok (.getfield 32, 3) := dk_180 0 32 (dk_at dksX5_is_7 13 rfl rfl)
theorem dX5_is_178 : decode cX5_is 178 = .ok (.iconst 1, 1) := dk_4 (dk_at dksX5_is_7 16 rfl rfl)
theorem dX5_is_179 : decode cX5_is 179 = .ok (.isub, 1) := dk_100 (dk_at dksX5_is_7 17 rfl rfl)
theorem dX5_is_180 : decode cX5_is 180 = .ok (.istore_n 2, 1) := dk_61 (dk_at dksX5_is_7 18 rfl rfl)
theorem dX5_is_181 : decode cX5_is 181 = .ok (.iload_n 2, 1) := dk_28 (dk_at dksX5_is_7 19 rfl rfl)
theorem dX5_is_182 : decode cX5_is 182 = .ok (.ifCond .lt 57, 3) := dk_155 0 57 (dk_at dksX5_is_7 20 rfl rfl)
theorem dX5_is_185 : decode cX5_is 185 = .ok (.iconst 0, 1) := dk_3 (dk_at dksX5_is_7 23 rfl rfl)
theorem dX5_is_186 : decode cX5_is 186 = .ok (.istore_n 3, 1) := dk_62 (dk_at dksX5_is_8 0 rfl rfl)
theorem dX5_is_187 : decode cX5_is 187 = .ok (.iload_n 3, 1) := dk_29 (dk_at dksX5_is_8 1 rfl rfl)
theorem dX5_is_188 : decode cX5_is 188 = .ok (.sipush 1024, 3) := dk_17 4 0 (dk_at dksX5_is_8 2 rfl rfl)
theorem dX5_is_191 : decode cX5_is 191 = .ok (.if_icmp .ge 42, 3) := dk_162 0 42 (dk_at dksX5_is_8 5 rfl rfl)
theorem dX5_is_194 : decode cX5_is 194 = .ok (.aload_n 0, 1) := dk_42 (dk_at dksX5_is_8 8 rfl rfl)
theorem dX5_is_195 : decode cX5_is 195 = .ok (.getfield 15, 3) := dk_180 0 15 (dk_at dksX5_is_8 9 rfl rfl)
theorem dX5_is_198 : decode cX5_is 198 = .ok (.aload_n 0, 1) := dk_42 (dk_at dksX5_is_8 12 rfl rfl)
theorem dX5_is_199 : decode cX5_is 199 = .ok (.iload_n 2, 1) := dk_28 (dk_at dksX5_is_8 13 rfl rfl)
theorem dX5_is_200 : decode cX5_is 200 = .ok (.iload_n 3, 1) := dk_29 (dk_at dksX5_is_8 14 rfl rfl)
theorem dX5_is_201 : decode cX5_is 201 = .ok (.invokevirtual 61, 3) := dk_182 0 61 (dk_at dksX5_is_8 15 rfl rfl)
theorem dX5_is_204 : decode cX5_is 204 = .ok (.iload_n 3, 1) := dk_29 (dk_at dksX5_is_8 18 rfl rfl)
theorem dX5_is_205 : decode cX5_is 205 = .ok (.aload_n 0, 1) := dk_42 (dk_at dksX5_is_8 19 rfl rfl)
theorem dX5_is_206 : decode cX5_is 206 = .ok (.getfield 36, 3) := dk_180 0 36 (dk_at dksX5_is_8 20 rfl rfl)
theorem dX5_is_209 : decode cX5_is 209 = .ok (.iconst (-1), 1) := dk_2 (dk_at dksX5_is_8 23 rfl rfl)
theorem dX5_is_210 : decode cX5_is 210 = .ok (.ixor, 1) := dk_130 (dk_at dksX5_is_9 0 rfl rfl)
theorem dX5_is_211 : decode cX5_is 211 = .ok (.iand, 1) := dk_126 (dk_at dksX5_is_9 1 rfl rfl)
theorem dX5_is_212 : decode cX5_is 212 = .ok (.ifCond .ne 12, 3) := dk_154 0 12 (dk_at dksX5_is_9 2 rfl rfl)
theorem dX5_is_215 : decode cX5_is 215 = .ok (.aload_n 0, 1) := dk_42 (dk_at dksX5_is_9 5 rfl rfl)
theorem dX5_is_216 : decode cX5_is 216 = .ok (.iload_n 2, 1) := dk_28 (dk_at dksX5_is_9 6 rfl rfl)
theorem dX5_is_217 : decode cX5_is 217 = .ok (.iload_n 3, 1) := dk_29 (dk_at dksX5_is_9 7 rfl rfl)
theorem dX5_is_218 : decode cX5_is 218 = .ok (.invokevirtual 65, 3) := dk_182 0 65 (dk_at dksX5_is_9 8 rfl rfl)
theorem dX5_is_221 : decode cX5_is 221 = .ok (.goto 5, 3) := dk_167 0 5 (dk_at dksX5_is_9 11 rfl rfl)
theorem dX5_is_224 : decode cX5_is 224 = .ok (.ldc 64, 2) := dk_18 64 (dk_at dksX5_is_9 14 rfl rfl)
theorem dX5_is_226 : decode cX5_is 226 = .ok (.iastore, 1) := dk_79 (dk_at dksX5_is_9 16 rfl rfl)
theorem dX5_is_227 : decode cX5_is 227 = .ok (.iinc 3 1, 3) := dk_132 3 1 (dk_at dksX5_is_9 17 rfl rfl)
theorem dX5_is_230 : decode cX5_is 230 = .ok (.goto (-43), 3) := dk_167 255 213 (dk_at dksX5_is_9 20 rfl rfl)
theorem dX5_is_233 : decode cX5_is 233 = .ok (.iinc 2 (-1), 3) := dk_132 2 255 (dk_at dksX5_is_10 0 rfl rfl)
theorem dX5_is_236 : decode cX5_is 236 = .ok (.goto (-55), 3) := dk_167 255 201 (dk_at dksX5_is_10 3 rfl rfl)
theorem dX5_is_239 : decode cX5_is 239 = .ok (.aload_n 0, 1) := dk_42 (dk_at dksX5_is_10 6 rfl rfl)
theorem dX5_is_240 : decode cX5_is 240 = .ok (.areturn, 1) := dk_176 (dk_at dksX5_is_10 7 rfl rfl)
abbrev cX5_at : ByteArray := prog_13_method_2_code
def yX5_at : MethodName := ⟨RX5, "at", "(II)I"⟩
def dkwX5_at_0 : List UInt8 := [27, 16, 10, 120, 28, 96, 172]
abbrev dktX5_at_0 : List UInt8 := dkwX5_at_0 ++ []
theorem dksX5_at_0 : cX5_at.data.toList.drop 0 = dktX5_at_0 := by decide +kernel
theorem dX5_at_0 : decode cX5_at 0 = .ok (.iload_n 1, 1) := dk_27 (dk_at dksX5_at_0 0 rfl rfl)
theorem dX5_at_1 : decode cX5_at 1 = .ok (.bipush 10, 2) := dk_16 10 (dk_at dksX5_at_0 1 rfl rfl)
theorem dX5_at_3 : decode cX5_at 3 = .ok (.ishl, 1) := dk_120 (dk_at dksX5_at_0 3 rfl rfl)
theorem dX5_at_4 : decode cX5_at 4 = .ok (.iload_n 2, 1) := dk_28 (dk_at dksX5_at_0 4 rfl rfl)
theorem dX5_at_5 : decode cX5_at 5 = .ok (.iadd, 1) := dk_96 (dk_at dksX5_at_0 5 rfl rfl)
theorem dX5_at_6 : decode cX5_at 6 = .ok (.ireturn, 1) := dk_172 (dk_at dksX5_at_0 6 rfl rfl)
abbrev cX5_best : ByteArray := prog_13_method_4_code
def yX5_best : MethodName := ⟨RX5, "best", "(II)I"⟩
def dkwX5_best_2 : List UInt8 := [21, 4, 4, 100, 28, 126, 54, 4, 167, 255, 208]
abbrev dktX5_best_2 : List UInt8 := dkwX5_best_2 ++ []
def dkwX5_best_1 : List UInt8 := [21, 4, 2, 130, 126, 182, 0, 61, 46, 184, 0, 68, 184, 0, 73, 62, 21, 4, 154, 0, 5, 29, 172]
abbrev dktX5_best_1 : List UInt8 := dkwX5_best_1 ++ dktX5_best_2
def dkwX5_best_0 : List UInt8 := [18, 64, 62, 28, 54, 4, 29, 42, 180, 0, 22, 21, 4, 46, 42, 180, 0, 15, 42, 27, 4, 96, 28]
abbrev dktX5_best_0 : List UInt8 := dkwX5_best_0 ++ dktX5_best_1
theorem dksX5_best_0 : cX5_best.data.toList.drop 0 = dktX5_best_0 := by decide +kernel
theorem dksX5_best_1 : cX5_best.data.toList.drop 23 = dktX5_best_1 := dk_seg dksX5_best_0 23 rfl rfl
theorem dksX5_best_2 : cX5_best.data.toList.drop 46 = dktX5_best_2 := dk_seg dksX5_best_1 23 rfl rfl
theorem dX5_best_0 : decode cX5_best 0 = .ok (.ldc 64, 2) := dk_18 64 (dk_at dksX5_best_0 0 rfl rfl)
theorem dX5_best_2 : decode cX5_best 2 = .ok (.istore_n 3, 1) := dk_62 (dk_at dksX5_best_0 2 rfl rfl)
theorem dX5_best_3 : decode cX5_best 3 = .ok (.iload_n 2, 1) := dk_28 (dk_at dksX5_best_0 3 rfl rfl)
theorem dX5_best_4 : decode cX5_best 4 = .ok (.istore 4, 2) := dk_54 4 (dk_at dksX5_best_0 4 rfl rfl)
theorem dX5_best_6 : decode cX5_best 6 = .ok (.iload_n 3, 1) := dk_29 (dk_at dksX5_best_0 6 rfl rfl)
theorem dX5_best_7 : decode cX5_best 7 = .ok (.aload_n 0, 1) := dk_42 (dk_at dksX5_best_0 7 rfl rfl)
theorem dX5_best_8 : decode cX5_best 8 = .ok (.getfield 22, 3) := dk_180 0 22 (dk_at dksX5_best_0 8 rfl rfl)
theorem dX5_best_11 : decode cX5_best 11 = .ok (.iload 4, 2) := dk_21 4 (dk_at dksX5_best_0 11 rfl rfl)
theorem dX5_best_13 : decode cX5_best 13 = .ok (.iaload, 1) := dk_46 (dk_at dksX5_best_0 13 rfl rfl)
theorem dX5_best_14 : decode cX5_best 14 = .ok (.aload_n 0, 1) := dk_42 (dk_at dksX5_best_0 14 rfl rfl)
theorem dX5_best_15 : decode cX5_best 15 = .ok (.getfield 15, 3) := dk_180 0 15 (dk_at dksX5_best_0 15 rfl rfl)
theorem dX5_best_18 : decode cX5_best 18 = .ok (.aload_n 0, 1) := dk_42 (dk_at dksX5_best_0 18 rfl rfl)
theorem dX5_best_19 : decode cX5_best 19 = .ok (.iload_n 1, 1) := dk_27 (dk_at dksX5_best_0 19 rfl rfl)
theorem dX5_best_20 : decode cX5_best 20 = .ok (.iconst 1, 1) := dk_4 (dk_at dksX5_best_0 20 rfl rfl)
theorem dX5_best_21 : decode cX5_best 21 = .ok (.iadd, 1) := dk_96 (dk_at dksX5_best_0 21 rfl rfl)
theorem dX5_best_22 : decode cX5_best 22 = .ok (.iload_n 2, 1) := dk_28 (dk_at dksX5_best_0 22 rfl rfl)
theorem dX5_best_23 : decode cX5_best 23 = .ok (.iload 4, 2) := dk_21 4 (dk_at dksX5_best_1 0 rfl rfl)
theorem dX5_best_25 : decode cX5_best 25 = .ok (.iconst (-1), 1) := dk_2 (dk_at dksX5_best_1 2 rfl rfl)
theorem dX5_best_26 : decode cX5_best 26 = .ok (.ixor, 1) := dk_130 (dk_at dksX5_best_1 3 rfl rfl)
theorem dX5_best_27 : decode cX5_best 27 = .ok (.iand, 1) := dk_126 (dk_at dksX5_best_1 4 rfl rfl)
theorem dX5_best_28 : decode cX5_best 28 = .ok (.invokevirtual 61, 3) := dk_182 0 61 (dk_at dksX5_best_1 5 rfl rfl)
theorem dX5_best_31 : decode cX5_best 31 = .ok (.iaload, 1) := dk_46 (dk_at dksX5_best_1 8 rfl rfl)
theorem dX5_best_32 : decode cX5_best 32 = .ok (.invokestatic 68, 3) := dk_184 0 68 (dk_at dksX5_best_1 9 rfl rfl)
theorem dX5_best_35 : decode cX5_best 35 = .ok (.invokestatic 73, 3) := dk_184 0 73 (dk_at dksX5_best_1 12 rfl rfl)
theorem dX5_best_38 : decode cX5_best 38 = .ok (.istore_n 3, 1) := dk_62 (dk_at dksX5_best_1 15 rfl rfl)
theorem dX5_best_39 : decode cX5_best 39 = .ok (.iload 4, 2) := dk_21 4 (dk_at dksX5_best_1 16 rfl rfl)
theorem dX5_best_41 : decode cX5_best 41 = .ok (.ifCond .ne 5, 3) := dk_154 0 5 (dk_at dksX5_best_1 18 rfl rfl)
theorem dX5_best_44 : decode cX5_best 44 = .ok (.iload_n 3, 1) := dk_29 (dk_at dksX5_best_1 21 rfl rfl)
theorem dX5_best_45 : decode cX5_best 45 = .ok (.ireturn, 1) := dk_172 (dk_at dksX5_best_1 22 rfl rfl)
theorem dX5_best_46 : decode cX5_best 46 = .ok (.iload 4, 2) := dk_21 4 (dk_at dksX5_best_2 0 rfl rfl)
theorem dX5_best_48 : decode cX5_best 48 = .ok (.iconst 1, 1) := dk_4 (dk_at dksX5_best_2 2 rfl rfl)
theorem dX5_best_49 : decode cX5_best 49 = .ok (.isub, 1) := dk_100 (dk_at dksX5_best_2 3 rfl rfl)
theorem dX5_best_50 : decode cX5_best 50 = .ok (.iload_n 2, 1) := dk_28 (dk_at dksX5_best_2 4 rfl rfl)
theorem dX5_best_51 : decode cX5_best 51 = .ok (.iand, 1) := dk_126 (dk_at dksX5_best_2 5 rfl rfl)
theorem dX5_best_52 : decode cX5_best 52 = .ok (.istore 4, 2) := dk_54 4 (dk_at dksX5_best_2 6 rfl rfl)
theorem dX5_best_54 : decode cX5_best 54 = .ok (.goto (-48), 3) := dk_167 255 208 (dk_at dksX5_best_2 8 rfl rfl)
abbrev cX5_greatest : ByteArray := prog_13_method_5_code
def yX5_greatest : MethodName := ⟨RX5, "greatest", "()I"⟩
def dkwX5_greatest_1 : List UInt8 := [182, 0, 61, 46, 172]
abbrev dktX5_greatest_1 : List UInt8 := dkwX5_greatest_1 ++ []
def dkwX5_greatest_0 : List UInt8 := [42, 180, 0, 32, 154, 0, 8, 18, 64, 167, 0, 17, 42, 180, 0, 15, 42, 3, 42, 180, 0, 36]
abbrev dktX5_greatest_0 : List UInt8 := dkwX5_greatest_0 ++ dktX5_greatest_1
theorem dksX5_greatest_0 : cX5_greatest.data.toList.drop 0 = dktX5_greatest_0 := by decide +kernel
theorem dksX5_greatest_1 : cX5_greatest.data.toList.drop 22 = dktX5_greatest_1 := dk_seg dksX5_greatest_0 22 rfl rfl
theorem dX5_greatest_0 : decode cX5_greatest 0 = .ok (.aload_n 0, 1) := dk_42 (dk_at dksX5_greatest_0 0 rfl rfl)
theorem dX5_greatest_1 : decode cX5_greatest 1 = .ok (.getfield 32, 3) := dk_180 0 32 (dk_at dksX5_greatest_0 1 rfl rfl)
theorem dX5_greatest_4 : decode cX5_greatest 4 = .ok (.ifCond .ne 8, 3) := dk_154 0 8 (dk_at dksX5_greatest_0 4 rfl rfl)
theorem dX5_greatest_7 : decode cX5_greatest 7 = .ok (.ldc 64, 2) := dk_18 64 (dk_at dksX5_greatest_0 7 rfl rfl)
theorem dX5_greatest_9 : decode cX5_greatest 9 = .ok (.goto 17, 3) := dk_167 0 17 (dk_at dksX5_greatest_0 9 rfl rfl)
theorem dX5_greatest_12 : decode cX5_greatest 12 = .ok (.aload_n 0, 1) := dk_42 (dk_at dksX5_greatest_0 12 rfl rfl)
theorem dX5_greatest_13 : decode cX5_greatest 13 = .ok (.getfield 15, 3) := dk_180 0 15 (dk_at dksX5_greatest_0 13 rfl rfl)
theorem dX5_greatest_16 : decode cX5_greatest 16 = .ok (.aload_n 0, 1) := dk_42 (dk_at dksX5_greatest_0 16 rfl rfl)
theorem dX5_greatest_17 : decode cX5_greatest 17 = .ok (.iconst 0, 1) := dk_3 (dk_at dksX5_greatest_0 17 rfl rfl)
theorem dX5_greatest_18 : decode cX5_greatest 18 = .ok (.aload_n 0, 1) := dk_42 (dk_at dksX5_greatest_0 18 rfl rfl)
theorem dX5_greatest_19 : decode cX5_greatest 19 = .ok (.getfield 36, 3) := dk_180 0 36 (dk_at dksX5_greatest_0 19 rfl rfl)
theorem dX5_greatest_22 : decode cX5_greatest 22 = .ok (.invokevirtual 61, 3) := dk_182 0 61 (dk_at dksX5_greatest_1 0 rfl rfl)
theorem dX5_greatest_25 : decode cX5_greatest 25 = .ok (.iaload, 1) := dk_46 (dk_at dksX5_greatest_1 3 rfl rfl)
theorem dX5_greatest_26 : decode cX5_greatest 26 = .ok (.ireturn, 1) := dk_172 (dk_at dksX5_greatest_1 4 rfl rfl)
abbrev cX5_whomOf : ByteArray := prog_13_method_8_code
def yX5_whomOf : MethodName := ⟨RX5, "whomOf", "(I)I"⟩
def dkwX5_whomOf_3 : List UInt8 := [21, 5, 46, 172, 132, 3, 1, 132, 4, 1, 167, 255, 194, 2, 172]
abbrev dktX5_whomOf_3 : List UInt8 := dkwX5_whomOf_3 ++ []
def dkwX5_whomOf_2 : List UInt8 := [21, 4, 28, 182, 0, 97, 154, 0, 9, 132, 5, 1, 167, 255, 241, 29, 27, 160, 0, 11, 42, 180, 0, 19]
abbrev dktX5_whomOf_2 : List UInt8 := dkwX5_whomOf_2 ++ dktX5_whomOf_3
def dkwX5_whomOf_1 : List UInt8 := [162, 0, 61, 42, 180, 0, 36, 21, 4, 184, 0, 93, 154, 0, 6, 167, 0, 40, 3, 54, 5, 42, 21, 5]
abbrev dktX5_whomOf_1 : List UInt8 := dkwX5_whomOf_1 ++ dktX5_whomOf_2
def dkwX5_whomOf_0 : List UInt8 := [42, 182, 0, 86, 61, 42, 180, 0, 25, 3, 184, 0, 90, 3, 62, 3, 54, 4, 21, 4, 16, 10]
abbrev dktX5_whomOf_0 : List UInt8 := dkwX5_whomOf_0 ++ dktX5_whomOf_1
theorem dksX5_whomOf_0 : cX5_whomOf.data.toList.drop 0 = dktX5_whomOf_0 := by decide +kernel
theorem dksX5_whomOf_1 : cX5_whomOf.data.toList.drop 22 = dktX5_whomOf_1 := dk_seg dksX5_whomOf_0 22 rfl rfl
theorem dksX5_whomOf_2 : cX5_whomOf.data.toList.drop 46 = dktX5_whomOf_2 := dk_seg dksX5_whomOf_1 24 rfl rfl
theorem dksX5_whomOf_3 : cX5_whomOf.data.toList.drop 70 = dktX5_whomOf_3 := dk_seg dksX5_whomOf_2 24 rfl rfl
theorem dX5_whomOf_0 : decode cX5_whomOf 0 = .ok (.aload_n 0, 1) := dk_42 (dk_at dksX5_whomOf_0 0 rfl rfl)
theorem dX5_whomOf_1 : decode cX5_whomOf 1 = .ok (.invokevirtual 86, 3) := dk_182 0 86 (dk_at dksX5_whomOf_0 1 rfl rfl)
theorem dX5_whomOf_4 : decode cX5_whomOf 4 = .ok (.istore_n 2, 1) := dk_61 (dk_at dksX5_whomOf_0 4 rfl rfl)
theorem dX5_whomOf_5 : decode cX5_whomOf 5 = .ok (.aload_n 0, 1) := dk_42 (dk_at dksX5_whomOf_0 5 rfl rfl)
theorem dX5_whomOf_6 : decode cX5_whomOf 6 = .ok (.getfield 25, 3) := dk_180 0 25 (dk_at dksX5_whomOf_0 6 rfl rfl)
theorem dX5_whomOf_9 : decode cX5_whomOf 9 = .ok (.iconst 0, 1) := dk_3 (dk_at dksX5_whomOf_0 9 rfl rfl)
theorem dX5_whomOf_10 : decode cX5_whomOf 10 = .ok (.invokestatic 90, 3) := dk_184 0 90 (dk_at dksX5_whomOf_0 10 rfl rfl)
theorem dX5_whomOf_13 : decode cX5_whomOf 13 = .ok (.iconst 0, 1) := dk_3 (dk_at dksX5_whomOf_0 13 rfl rfl)
theorem dX5_whomOf_14 : decode cX5_whomOf 14 = .ok (.istore_n 3, 1) := dk_62 (dk_at dksX5_whomOf_0 14 rfl rfl)
theorem dX5_whomOf_15 : decode cX5_whomOf 15 = .ok (.iconst 0, 1) := dk_3 (dk_at dksX5_whomOf_0 15 rfl rfl)
theorem dX5_whomOf_16 : decode cX5_whomOf 16 = .ok (.istore 4, 2) := dk_54 4 (dk_at dksX5_whomOf_0 16 rfl rfl)
theorem dX5_whomOf_18 : decode cX5_whomOf 18 = .ok (.iload 4, 2) := dk_21 4 (dk_at dksX5_whomOf_0 18 rfl rfl)
theorem dX5_whomOf_20 : decode cX5_whomOf 20 = .ok (.bipush 10, 2) := dk_16 10 (dk_at dksX5_whomOf_0 20 rfl rfl)
theorem dX5_whomOf_22 : decode cX5_whomOf 22 = .ok (.if_icmp .ge 61, 3) := dk_162 0 61 (dk_at dksX5_whomOf_1 0 rfl rfl)
theorem dX5_whomOf_25 : decode cX5_whomOf 25 = .ok (.aload_n 0, 1) := dk_42 (dk_at dksX5_whomOf_1 3 rfl rfl)
theorem dX5_whomOf_26 : decode cX5_whomOf 26 = .ok (.getfield 36, 3) := dk_180 0 36 (dk_at dksX5_whomOf_1 4 rfl rfl)
theorem dX5_whomOf_29 : decode cX5_whomOf 29 = .ok (.iload 4, 2) := dk_21 4 (dk_at dksX5_whomOf_1 7 rfl rfl)
theorem dX5_whomOf_31 : decode cX5_whomOf 31 = .ok (.invokestatic 93, 3) := dk_184 0 93 (dk_at dksX5_whomOf_1 9 rfl rfl)
theorem dX5_whomOf_34 : decode cX5_whomOf 34 = .ok (.ifCond .ne 6, 3) := dk_154 0 6 (dk_at dksX5_whomOf_1 12 rfl rfl)
theorem dX5_whomOf_37 : decode cX5_whomOf 37 = .ok (.goto 40, 3) := dk_167 0 40 (dk_at dksX5_whomOf_1 15 rfl rfl)
theorem dX5_whomOf_40 : decode cX5_whomOf 40 = .ok (.iconst 0, 1) := dk_3 (dk_at dksX5_whomOf_1 18 rfl rfl)
theorem dX5_whomOf_41 : decode cX5_whomOf 41 = .ok (.istore 5, 2) := dk_54 5 (dk_at dksX5_whomOf_1 19 rfl rfl)
theorem dX5_whomOf_43 : decode cX5_whomOf 43 = .ok (.aload_n 0, 1) := dk_42 (dk_at dksX5_whomOf_1 21 rfl rfl)
theorem dX5_whomOf_44 : decode cX5_whomOf 44 = .ok (.iload 5, 2) := dk_21 5 (dk_at dksX5_whomOf_1 22 rfl rfl)
theorem dX5_whomOf_46 : decode cX5_whomOf 46 = .ok (.iload 4, 2) := dk_21 4 (dk_at dksX5_whomOf_2 0 rfl rfl)
theorem dX5_whomOf_48 : decode cX5_whomOf 48 = .ok (.iload_n 2, 1) := dk_28 (dk_at dksX5_whomOf_2 2 rfl rfl)
theorem dX5_whomOf_49 : decode cX5_whomOf 49 = .ok (.invokevirtual 97, 3) := dk_182 0 97 (dk_at dksX5_whomOf_2 3 rfl rfl)
theorem dX5_whomOf_52 : decode cX5_whomOf 52 = .ok (.ifCond .ne 9, 3) := dk_154 0 9 (dk_at dksX5_whomOf_2 6 rfl rfl)
theorem dX5_whomOf_55 : decode cX5_whomOf 55 = .ok (.iinc 5 1, 3) := dk_132 5 1 (dk_at dksX5_whomOf_2 9 rfl rfl)
theorem dX5_whomOf_58 : decode cX5_whomOf 58 = .ok (.goto (-15), 3) := dk_167 255 241 (dk_at dksX5_whomOf_2 12 rfl rfl)
theorem dX5_whomOf_61 : decode cX5_whomOf 61 = .ok (.iload_n 3, 1) := dk_29 (dk_at dksX5_whomOf_2 15 rfl rfl)
theorem dX5_whomOf_62 : decode cX5_whomOf 62 = .ok (.iload_n 1, 1) := dk_27 (dk_at dksX5_whomOf_2 16 rfl rfl)
theorem dX5_whomOf_63 : decode cX5_whomOf 63 = .ok (.if_icmp .ne 11, 3) := dk_160 0 11 (dk_at dksX5_whomOf_2 17 rfl rfl)
theorem dX5_whomOf_66 : decode cX5_whomOf 66 = .ok (.aload_n 0, 1) := dk_42 (dk_at dksX5_whomOf_2 20 rfl rfl)
theorem dX5_whomOf_67 : decode cX5_whomOf 67 = .ok (.getfield 19, 3) := dk_180 0 19 (dk_at dksX5_whomOf_2 21 rfl rfl)
theorem dX5_whomOf_70 : decode cX5_whomOf 70 = .ok (.iload 5, 2) := dk_21 5 (dk_at dksX5_whomOf_3 0 rfl rfl)
theorem dX5_whomOf_72 : decode cX5_whomOf 72 = .ok (.iaload, 1) := dk_46 (dk_at dksX5_whomOf_3 2 rfl rfl)
theorem dX5_whomOf_73 : decode cX5_whomOf 73 = .ok (.ireturn, 1) := dk_172 (dk_at dksX5_whomOf_3 3 rfl rfl)
theorem dX5_whomOf_74 : decode cX5_whomOf 74 = .ok (.iinc 3 1, 3) := dk_132 3 1 (dk_at dksX5_whomOf_3 4 rfl rfl)
theorem dX5_whomOf_77 : decode cX5_whomOf 77 = .ok (.iinc 4 1, 3) := dk_132 4 1 (dk_at dksX5_whomOf_3 7 rfl rfl)
theorem dX5_whomOf_80 : decode cX5_whomOf 80 = .ok (.goto (-62), 3) := dk_167 255 194 (dk_at dksX5_whomOf_3 10 rfl rfl)
theorem dX5_whomOf_83 : decode cX5_whomOf 83 = .ok (.iconst (-1), 1) := dk_2 (dk_at dksX5_whomOf_3 13 rfl rfl)
theorem dX5_whomOf_84 : decode cX5_whomOf 84 = .ok (.ireturn, 1) := dk_172 (dk_at dksX5_whomOf_3 14 rfl rfl)
abbrev cX5_takes : ByteArray := prog_13_method_9_code
def yX5_takes : MethodName := ⟨RX5, "takes", "(III)Z"⟩
def dkwX5_takes_2 : List UInt8 := [180, 0, 25, 27, 92, 46, 42, 180, 0, 3, 180, 0, 39, 180, 0, 53, 28, 46, 100, 79, 3, 172]
abbrev dktX5_takes_2 : List UInt8 := dkwX5_takes_2 ++ []
def dkwX5_takes_1 : List UInt8 := [180, 0, 25, 27, 46, 29, 163, 0, 16, 42, 28, 4, 96, 29, 182, 0, 100, 153, 0, 5, 4, 172, 42]
abbrev dktX5_takes_1 : List UInt8 := dkwX5_takes_1 ++ dktX5_takes_2
def dkwX5_takes_0 : List UInt8 := [42, 180, 0, 25, 27, 92, 46, 42, 180, 0, 3, 180, 0, 39, 180, 0, 53, 28, 46, 96, 79, 42]
abbrev dktX5_takes_0 : List UInt8 := dkwX5_takes_0 ++ dktX5_takes_1
theorem dksX5_takes_0 : cX5_takes.data.toList.drop 0 = dktX5_takes_0 := by decide +kernel
theorem dksX5_takes_1 : cX5_takes.data.toList.drop 22 = dktX5_takes_1 := dk_seg dksX5_takes_0 22 rfl rfl
theorem dksX5_takes_2 : cX5_takes.data.toList.drop 45 = dktX5_takes_2 := dk_seg dksX5_takes_1 23 rfl rfl
theorem dX5_takes_0 : decode cX5_takes 0 = .ok (.aload_n 0, 1) := dk_42 (dk_at dksX5_takes_0 0 rfl rfl)
theorem dX5_takes_1 : decode cX5_takes 1 = .ok (.getfield 25, 3) := dk_180 0 25 (dk_at dksX5_takes_0 1 rfl rfl)
theorem dX5_takes_4 : decode cX5_takes 4 = .ok (.iload_n 1, 1) := dk_27 (dk_at dksX5_takes_0 4 rfl rfl)
theorem dX5_takes_5 : decode cX5_takes 5 = .ok (.dup2, 1) := dk_92 (dk_at dksX5_takes_0 5 rfl rfl)
theorem dX5_takes_6 : decode cX5_takes 6 = .ok (.iaload, 1) := dk_46 (dk_at dksX5_takes_0 6 rfl rfl)
theorem dX5_takes_7 : decode cX5_takes 7 = .ok (.aload_n 0, 1) := dk_42 (dk_at dksX5_takes_0 7 rfl rfl)
theorem dX5_takes_8 : decode cX5_takes 8 = .ok (.getfield 3, 3) := dk_180 0 3 (dk_at dksX5_takes_0 8 rfl rfl)
theorem dX5_takes_11 : decode cX5_takes 11 = .ok (.getfield 39, 3) := dk_180 0 39 (dk_at dksX5_takes_0 11 rfl rfl)
theorem dX5_takes_14 : decode cX5_takes 14 = .ok (.getfield 53, 3) := dk_180 0 53 (dk_at dksX5_takes_0 14 rfl rfl)
theorem dX5_takes_17 : decode cX5_takes 17 = .ok (.iload_n 2, 1) := dk_28 (dk_at dksX5_takes_0 17 rfl rfl)
theorem dX5_takes_18 : decode cX5_takes 18 = .ok (.iaload, 1) := dk_46 (dk_at dksX5_takes_0 18 rfl rfl)
theorem dX5_takes_19 : decode cX5_takes 19 = .ok (.iadd, 1) := dk_96 (dk_at dksX5_takes_0 19 rfl rfl)
theorem dX5_takes_20 : decode cX5_takes 20 = .ok (.iastore, 1) := dk_79 (dk_at dksX5_takes_0 20 rfl rfl)
theorem dX5_takes_21 : decode cX5_takes 21 = .ok (.aload_n 0, 1) := dk_42 (dk_at dksX5_takes_0 21 rfl rfl)
theorem dX5_takes_22 : decode cX5_takes 22 = .ok (.getfield 25, 3) := dk_180 0 25 (dk_at dksX5_takes_1 0 rfl rfl)
theorem dX5_takes_25 : decode cX5_takes 25 = .ok (.iload_n 1, 1) := dk_27 (dk_at dksX5_takes_1 3 rfl rfl)
theorem dX5_takes_26 : decode cX5_takes 26 = .ok (.iaload, 1) := dk_46 (dk_at dksX5_takes_1 4 rfl rfl)
theorem dX5_takes_27 : decode cX5_takes 27 = .ok (.iload_n 3, 1) := dk_29 (dk_at dksX5_takes_1 5 rfl rfl)
theorem dX5_takes_28 : decode cX5_takes 28 = .ok (.if_icmp .gt 16, 3) := dk_163 0 16 (dk_at dksX5_takes_1 6 rfl rfl)
theorem dX5_takes_31 : decode cX5_takes 31 = .ok (.aload_n 0, 1) := dk_42 (dk_at dksX5_takes_1 9 rfl rfl)
theorem dX5_takes_32 : decode cX5_takes 32 = .ok (.iload_n 2, 1) := dk_28 (dk_at dksX5_takes_1 10 rfl rfl)
theorem dX5_takes_33 : decode cX5_takes 33 = .ok (.iconst 1, 1) := dk_4 (dk_at dksX5_takes_1 11 rfl rfl)
theorem dX5_takes_34 : decode cX5_takes 34 = .ok (.iadd, 1) := dk_96 (dk_at dksX5_takes_1 12 rfl rfl)
theorem dX5_takes_35 : decode cX5_takes 35 = .ok (.iload_n 3, 1) := dk_29 (dk_at dksX5_takes_1 13 rfl rfl)
theorem dX5_takes_36 : decode cX5_takes 36 = .ok (.invokevirtual 100, 3) := dk_182 0 100 (dk_at dksX5_takes_1 14 rfl rfl)
theorem dX5_takes_39 : decode cX5_takes 39 = .ok (.ifCond .eq 5, 3) := dk_153 0 5 (dk_at dksX5_takes_1 17 rfl rfl)
theorem dX5_takes_42 : decode cX5_takes 42 = .ok (.iconst 1, 1) := dk_4 (dk_at dksX5_takes_1 20 rfl rfl)
theorem dX5_takes_43 : decode cX5_takes 43 = .ok (.ireturn, 1) := dk_172 (dk_at dksX5_takes_1 21 rfl rfl)
theorem dX5_takes_44 : decode cX5_takes 44 = .ok (.aload_n 0, 1) := dk_42 (dk_at dksX5_takes_1 22 rfl rfl)
theorem dX5_takes_45 : decode cX5_takes 45 = .ok (.getfield 25, 3) := dk_180 0 25 (dk_at dksX5_takes_2 0 rfl rfl)
theorem dX5_takes_48 : decode cX5_takes 48 = .ok (.iload_n 1, 1) := dk_27 (dk_at dksX5_takes_2 3 rfl rfl)
theorem dX5_takes_49 : decode cX5_takes 49 = .ok (.dup2, 1) := dk_92 (dk_at dksX5_takes_2 4 rfl rfl)
theorem dX5_takes_50 : decode cX5_takes 50 = .ok (.iaload, 1) := dk_46 (dk_at dksX5_takes_2 5 rfl rfl)
theorem dX5_takes_51 : decode cX5_takes 51 = .ok (.aload_n 0, 1) := dk_42 (dk_at dksX5_takes_2 6 rfl rfl)
theorem dX5_takes_52 : decode cX5_takes 52 = .ok (.getfield 3, 3) := dk_180 0 3 (dk_at dksX5_takes_2 7 rfl rfl)
theorem dX5_takes_55 : decode cX5_takes 55 = .ok (.getfield 39, 3) := dk_180 0 39 (dk_at dksX5_takes_2 10 rfl rfl)
theorem dX5_takes_58 : decode cX5_takes 58 = .ok (.getfield 53, 3) := dk_180 0 53 (dk_at dksX5_takes_2 13 rfl rfl)
theorem dX5_takes_61 : decode cX5_takes 61 = .ok (.iload_n 2, 1) := dk_28 (dk_at dksX5_takes_2 16 rfl rfl)
theorem dX5_takes_62 : decode cX5_takes 62 = .ok (.iaload, 1) := dk_46 (dk_at dksX5_takes_2 17 rfl rfl)
theorem dX5_takes_63 : decode cX5_takes 63 = .ok (.isub, 1) := dk_100 (dk_at dksX5_takes_2 18 rfl rfl)
theorem dX5_takes_64 : decode cX5_takes 64 = .ok (.iastore, 1) := dk_79 (dk_at dksX5_takes_2 19 rfl rfl)
theorem dX5_takes_65 : decode cX5_takes 65 = .ok (.iconst 0, 1) := dk_3 (dk_at dksX5_takes_2 20 rfl rfl)
theorem dX5_takes_66 : decode cX5_takes 66 = .ok (.ireturn, 1) := dk_172 (dk_at dksX5_takes_2 21 rfl rfl)
abbrev cX5_canGive : ByteArray := prog_13_method_6_code
def yX5_canGive : MethodName := ⟨RX5, "canGive", "(II)Z"⟩
def dkwX5_canGive_4 : List UInt8 := [172]
abbrev dktX5_canGive_4 : List UInt8 := dkwX5_canGive_4 ++ []
def dkwX5_canGive_3 : List UInt8 := [84, 21, 5, 4, 100, 29, 126, 54, 5, 167, 255, 217, 132, 4, 1, 167, 255, 199, 42, 180, 0, 28, 29, 51]
abbrev dktX5_canGive_3 : List UInt8 := dkwX5_canGive_3 ++ dktX5_canGive_4
def dkwX5_canGive_2 : List UInt8 := [180, 0, 28, 21, 5, 51, 154, 0, 19, 42, 180, 0, 28, 21, 5, 42, 21, 5, 21, 4, 28, 182, 0, 82]
abbrev dktX5_canGive_2 : List UInt8 := dkwX5_canGive_2 ++ dktX5_canGive_3
def dkwX5_canGive_1 : List UInt8 := [84, 3, 54, 4, 21, 4, 42, 180, 0, 32, 162, 0, 54, 29, 54, 5, 21, 5, 158, 0, 40, 42]
abbrev dktX5_canGive_1 : List UInt8 := dkwX5_canGive_1 ++ dktX5_canGive_2
def dkwX5_canGive_0 : List UInt8 := [42, 180, 0, 36, 4, 27, 120, 116, 126, 62, 42, 180, 0, 28, 3, 184, 0, 76, 42, 180, 0, 28, 3, 4]
abbrev dktX5_canGive_0 : List UInt8 := dkwX5_canGive_0 ++ dktX5_canGive_1
theorem dksX5_canGive_0 : cX5_canGive.data.toList.drop 0 = dktX5_canGive_0 := by decide +kernel
theorem dksX5_canGive_1 : cX5_canGive.data.toList.drop 24 = dktX5_canGive_1 := dk_seg dksX5_canGive_0 24 rfl rfl
theorem dksX5_canGive_2 : cX5_canGive.data.toList.drop 46 = dktX5_canGive_2 := dk_seg dksX5_canGive_1 22 rfl rfl
theorem dksX5_canGive_3 : cX5_canGive.data.toList.drop 70 = dktX5_canGive_3 := dk_seg dksX5_canGive_2 24 rfl rfl
theorem dksX5_canGive_4 : cX5_canGive.data.toList.drop 94 = dktX5_canGive_4 := dk_seg dksX5_canGive_3 24 rfl rfl
theorem dX5_canGive_0 : decode cX5_canGive 0 = .ok (.aload_n 0, 1) := dk_42 (dk_at dksX5_canGive_0 0 rfl rfl)
theorem dX5_canGive_1 : decode cX5_canGive 1 = .ok (.getfield 36, 3) := dk_180 0 36 (dk_at dksX5_canGive_0 1 rfl rfl)
theorem dX5_canGive_4 : decode cX5_canGive 4 = .ok (.iconst 1, 1) := dk_4 (dk_at dksX5_canGive_0 4 rfl rfl)
theorem dX5_canGive_5 : decode cX5_canGive 5 = .ok (.iload_n 1, 1) := dk_27 (dk_at dksX5_canGive_0 5 rfl rfl)
theorem dX5_canGive_6 : decode cX5_canGive 6 = .ok (.ishl, 1) := dk_120 (dk_at dksX5_canGive_0 6 rfl rfl)
theorem dX5_canGive_7 : decode cX5_canGive 7 = .ok (.ineg, 1) := dk_116 (dk_at dksX5_canGive_0 7 rfl rfl)
theorem dX5_canGive_8 : decode cX5_canGive 8 = .ok (.iand, 1) := dk_126 (dk_at dksX5_canGive_0 8 rfl rfl)
theorem dX5_canGive_9 : decode cX5_canGive 9 = .ok (.istore_n 3, 1) := dk_62 (dk_at dksX5_canGive_0 9 rfl rfl)
theorem dX5_canGive_10 : decode cX5_canGive 10 = .ok (.aload_n 0, 1) := dk_42 (dk_at dksX5_canGive_0 10 rfl rfl)
theorem dX5_canGive_11 : decode cX5_canGive 11 = .ok (.getfield 28, 3) := dk_180 0 28 (dk_at dksX5_canGive_0 11 rfl rfl)
theorem dX5_canGive_14 : decode cX5_canGive 14 = .ok (.iconst 0, 1) := dk_3 (dk_at dksX5_canGive_0 14 rfl rfl)
theorem dX5_canGive_15 : decode cX5_canGive 15 = .ok (.invokestatic 76, 3) := dk_184 0 76 (dk_at dksX5_canGive_0 15 rfl rfl)
theorem dX5_canGive_18 : decode cX5_canGive 18 = .ok (.aload_n 0, 1) := dk_42 (dk_at dksX5_canGive_0 18 rfl rfl)
theorem dX5_canGive_19 : decode cX5_canGive 19 = .ok (.getfield 28, 3) := dk_180 0 28 (dk_at dksX5_canGive_0 19 rfl rfl)
theorem dX5_canGive_22 : decode cX5_canGive 22 = .ok (.iconst 0, 1) := dk_3 (dk_at dksX5_canGive_0 22 rfl rfl)
theorem dX5_canGive_23 : decode cX5_canGive 23 = .ok (.iconst 1, 1) := dk_4 (dk_at dksX5_canGive_0 23 rfl rfl)
theorem dX5_canGive_24 : decode cX5_canGive 24 = .ok (.bastore, 1) := dk_84 (dk_at dksX5_canGive_1 0 rfl rfl)
theorem dX5_canGive_25 : decode cX5_canGive 25 = .ok (.iconst 0, 1) := dk_3 (dk_at dksX5_canGive_1 1 rfl rfl)
theorem dX5_canGive_26 : decode cX5_canGive 26 = .ok (.istore 4, 2) := dk_54 4 (dk_at dksX5_canGive_1 2 rfl rfl)
theorem dX5_canGive_28 : decode cX5_canGive 28 = .ok (.iload 4, 2) := dk_21 4 (dk_at dksX5_canGive_1 4 rfl rfl)
theorem dX5_canGive_30 : decode cX5_canGive 30 = .ok (.aload_n 0, 1) := dk_42 (dk_at dksX5_canGive_1 6 rfl rfl)
theorem dX5_canGive_31 : decode cX5_canGive 31 = .ok (.getfield 32, 3) := dk_180 0 32 (dk_at dksX5_canGive_1 7 rfl rfl)
theorem dX5_canGive_34 : decode cX5_canGive 34 = .ok (.if_icmp .ge 54, 3) := dk_162 0 54 (dk_at dksX5_canGive_1 10 rfl rfl)
theorem dX5_canGive_37 : decode cX5_canGive 37 = .ok (.iload_n 3, 1) := dk_29 (dk_at dksX5_canGive_1 13 rfl rfl)
theorem dX5_canGive_38 : decode cX5_canGive 38 = .ok (.istore 5, 2) := dk_54 5 (dk_at dksX5_canGive_1 14 rfl rfl)
theorem dX5_canGive_40 : decode cX5_canGive 40 = .ok (.iload 5, 2) := dk_21 5 (dk_at dksX5_canGive_1 16 rfl rfl)
theorem dX5_canGive_42 : decode cX5_canGive 42 = .ok (.ifCond .le 40, 3) := dk_158 0 40 (dk_at dksX5_canGive_1 18 rfl rfl)
theorem dX5_canGive_45 : decode cX5_canGive 45 = .ok (.aload_n 0, 1) := dk_42 (dk_at dksX5_canGive_1 21 rfl rfl)
theorem dX5_canGive_46 : decode cX5_canGive 46 = .ok (.getfield 28, 3) := dk_180 0 28 (dk_at dksX5_canGive_2 0 rfl rfl)
theorem dX5_canGive_49 : decode cX5_canGive 49 = .ok (.iload 5, 2) := dk_21 5 (dk_at dksX5_canGive_2 3 rfl rfl)
theorem dX5_canGive_51 : decode cX5_canGive 51 = .ok (.baload, 1) := dk_51 (dk_at dksX5_canGive_2 5 rfl rfl)
theorem dX5_canGive_52 : decode cX5_canGive 52 = .ok (.ifCond .ne 19, 3) := dk_154 0 19 (dk_at dksX5_canGive_2 6 rfl rfl)
theorem dX5_canGive_55 : decode cX5_canGive 55 = .ok (.aload_n 0, 1) := dk_42 (dk_at dksX5_canGive_2 9 rfl rfl)
theorem dX5_canGive_56 : decode cX5_canGive 56 = .ok (.getfield 28, 3) := dk_180 0 28 (dk_at dksX5_canGive_2 10 rfl rfl)
theorem dX5_canGive_59 : decode cX5_canGive 59 = .ok (.iload 5, 2) := dk_21 5 (dk_at dksX5_canGive_2 13 rfl rfl)
theorem dX5_canGive_61 : decode cX5_canGive 61 = .ok (.aload_n 0, 1) := dk_42 (dk_at dksX5_canGive_2 15 rfl rfl)
theorem dX5_canGive_62 : decode cX5_canGive 62 = .ok (.iload 5, 2) := dk_21 5 (dk_at dksX5_canGive_2 16 rfl rfl)
theorem dX5_canGive_64 : decode cX5_canGive 64 = .ok (.iload 4, 2) := dk_21 4 (dk_at dksX5_canGive_2 18 rfl rfl)
theorem dX5_canGive_66 : decode cX5_canGive 66 = .ok (.iload_n 2, 1) := dk_28 (dk_at dksX5_canGive_2 20 rfl rfl)
theorem dX5_canGive_67 : decode cX5_canGive 67 = .ok (.invokevirtual 82, 3) := dk_182 0 82 (dk_at dksX5_canGive_2 21 rfl rfl)
theorem dX5_canGive_70 : decode cX5_canGive 70 = .ok (.bastore, 1) := dk_84 (dk_at dksX5_canGive_3 0 rfl rfl)
theorem dX5_canGive_71 : decode cX5_canGive 71 = .ok (.iload 5, 2) := dk_21 5 (dk_at dksX5_canGive_3 1 rfl rfl)
theorem dX5_canGive_73 : decode cX5_canGive 73 = .ok (.iconst 1, 1) := dk_4 (dk_at dksX5_canGive_3 3 rfl rfl)
theorem dX5_canGive_74 : decode cX5_canGive 74 = .ok (.isub, 1) := dk_100 (dk_at dksX5_canGive_3 4 rfl rfl)
theorem dX5_canGive_75 : decode cX5_canGive 75 = .ok (.iload_n 3, 1) := dk_29 (dk_at dksX5_canGive_3 5 rfl rfl)
theorem dX5_canGive_76 : decode cX5_canGive 76 = .ok (.iand, 1) := dk_126 (dk_at dksX5_canGive_3 6 rfl rfl)
theorem dX5_canGive_77 : decode cX5_canGive 77 = .ok (.istore 5, 2) := dk_54 5 (dk_at dksX5_canGive_3 7 rfl rfl)
theorem dX5_canGive_79 : decode cX5_canGive 79 = .ok (.goto (-39), 3) := dk_167 255 217 (dk_at dksX5_canGive_3 9 rfl rfl)
theorem dX5_canGive_82 : decode cX5_canGive 82 = .ok (.iinc 4 1, 3) := dk_132 4 1 (dk_at dksX5_canGive_3 12 rfl rfl)
theorem dX5_canGive_85 : decode cX5_canGive 85 = .ok (.goto (-57), 3) := dk_167 255 199 (dk_at dksX5_canGive_3 15 rfl rfl)
theorem dX5_canGive_88 : decode cX5_canGive 88 = .ok (.aload_n 0, 1) := dk_42 (dk_at dksX5_canGive_3 18 rfl rfl)
theorem dX5_canGive_89 : decode cX5_canGive 89 = .ok (.getfield 28, 3) := dk_180 0 28 (dk_at dksX5_canGive_3 19 rfl rfl)
theorem dX5_canGive_92 : decode cX5_canGive 92 = .ok (.iload_n 3, 1) := dk_29 (dk_at dksX5_canGive_3 22 rfl rfl)
theorem dX5_canGive_93 : decode cX5_canGive 93 = .ok (.baload, 1) := dk_51 (dk_at dksX5_canGive_3 23 rfl rfl)
theorem dX5_canGive_94 : decode cX5_canGive 94 = .ok (.ireturn, 1) := dk_172 (dk_at dksX5_canGive_4 0 rfl rfl)
abbrev cX5_fits : ByteArray := prog_13_method_7_code
def yX5_fits : MethodName := ⟨RX5, "fits", "(III)Z"⟩
def dkwX5_fits_2 : List UInt8 := [126, 54, 4, 167, 255, 209, 3, 172]
abbrev dktX5_fits_2 : List UInt8 := dkwX5_fits_2 ++ []
def dkwX5_fits_1 : List UInt8 := [180, 0, 25, 28, 46, 42, 180, 0, 22, 21, 4, 46, 96, 29, 163, 0, 5, 4, 172, 21, 4, 4, 100, 27]
abbrev dktX5_fits_1 : List UInt8 := dkwX5_fits_1 ++ dktX5_fits_2
def dkwX5_fits_0 : List UInt8 := [27, 54, 4, 21, 4, 158, 0, 48, 42, 180, 0, 28, 27, 21, 4, 2, 130, 126, 51, 153, 0, 23, 42]
abbrev dktX5_fits_0 : List UInt8 := dkwX5_fits_0 ++ dktX5_fits_1
theorem dksX5_fits_0 : cX5_fits.data.toList.drop 0 = dktX5_fits_0 := by decide +kernel
theorem dksX5_fits_1 : cX5_fits.data.toList.drop 23 = dktX5_fits_1 := dk_seg dksX5_fits_0 23 rfl rfl
theorem dksX5_fits_2 : cX5_fits.data.toList.drop 47 = dktX5_fits_2 := dk_seg dksX5_fits_1 24 rfl rfl
theorem dX5_fits_0 : decode cX5_fits 0 = .ok (.iload_n 1, 1) := dk_27 (dk_at dksX5_fits_0 0 rfl rfl)
theorem dX5_fits_1 : decode cX5_fits 1 = .ok (.istore 4, 2) := dk_54 4 (dk_at dksX5_fits_0 1 rfl rfl)
theorem dX5_fits_3 : decode cX5_fits 3 = .ok (.iload 4, 2) := dk_21 4 (dk_at dksX5_fits_0 3 rfl rfl)
theorem dX5_fits_5 : decode cX5_fits 5 = .ok (.ifCond .le 48, 3) := dk_158 0 48 (dk_at dksX5_fits_0 5 rfl rfl)
theorem dX5_fits_8 : decode cX5_fits 8 = .ok (.aload_n 0, 1) := dk_42 (dk_at dksX5_fits_0 8 rfl rfl)
theorem dX5_fits_9 : decode cX5_fits 9 = .ok (.getfield 28, 3) := dk_180 0 28 (dk_at dksX5_fits_0 9 rfl rfl)
theorem dX5_fits_12 : decode cX5_fits 12 = .ok (.iload_n 1, 1) := dk_27 (dk_at dksX5_fits_0 12 rfl rfl)
theorem dX5_fits_13 : decode cX5_fits 13 = .ok (.iload 4, 2) := dk_21 4 (dk_at dksX5_fits_0 13 rfl rfl)
theorem dX5_fits_15 : decode cX5_fits 15 = .ok (.iconst (-1), 1) := dk_2 (dk_at dksX5_fits_0 15 rfl rfl)
theorem dX5_fits_16 : decode cX5_fits 16 = .ok (.ixor, 1) := dk_130 (dk_at dksX5_fits_0 16 rfl rfl)
theorem dX5_fits_17 : decode cX5_fits 17 = .ok (.iand, 1) := dk_126 (dk_at dksX5_fits_0 17 rfl rfl)
theorem dX5_fits_18 : decode cX5_fits 18 = .ok (.baload, 1) := dk_51 (dk_at dksX5_fits_0 18 rfl rfl)
theorem dX5_fits_19 : decode cX5_fits 19 = .ok (.ifCond .eq 23, 3) := dk_153 0 23 (dk_at dksX5_fits_0 19 rfl rfl)
theorem dX5_fits_22 : decode cX5_fits 22 = .ok (.aload_n 0, 1) := dk_42 (dk_at dksX5_fits_0 22 rfl rfl)
theorem dX5_fits_23 : decode cX5_fits 23 = .ok (.getfield 25, 3) := dk_180 0 25 (dk_at dksX5_fits_1 0 rfl rfl)
theorem dX5_fits_26 : decode cX5_fits 26 = .ok (.iload_n 2, 1) := dk_28 (dk_at dksX5_fits_1 3 rfl rfl)
theorem dX5_fits_27 : decode cX5_fits 27 = .ok (.iaload, 1) := dk_46 (dk_at dksX5_fits_1 4 rfl rfl)
theorem dX5_fits_28 : decode cX5_fits 28 = .ok (.aload_n 0, 1) := dk_42 (dk_at dksX5_fits_1 5 rfl rfl)
theorem dX5_fits_29 : decode cX5_fits 29 = .ok (.getfield 22, 3) := dk_180 0 22 (dk_at dksX5_fits_1 6 rfl rfl)
theorem dX5_fits_32 : decode cX5_fits 32 = .ok (.iload 4, 2) := dk_21 4 (dk_at dksX5_fits_1 9 rfl rfl)
theorem dX5_fits_34 : decode cX5_fits 34 = .ok (.iaload, 1) := dk_46 (dk_at dksX5_fits_1 11 rfl rfl)
theorem dX5_fits_35 : decode cX5_fits 35 = .ok (.iadd, 1) := dk_96 (dk_at dksX5_fits_1 12 rfl rfl)
theorem dX5_fits_36 : decode cX5_fits 36 = .ok (.iload_n 3, 1) := dk_29 (dk_at dksX5_fits_1 13 rfl rfl)
theorem dX5_fits_37 : decode cX5_fits 37 = .ok (.if_icmp .gt 5, 3) := dk_163 0 5 (dk_at dksX5_fits_1 14 rfl rfl)
theorem dX5_fits_40 : decode cX5_fits 40 = .ok (.iconst 1, 1) := dk_4 (dk_at dksX5_fits_1 17 rfl rfl)
theorem dX5_fits_41 : decode cX5_fits 41 = .ok (.ireturn, 1) := dk_172 (dk_at dksX5_fits_1 18 rfl rfl)
theorem dX5_fits_42 : decode cX5_fits 42 = .ok (.iload 4, 2) := dk_21 4 (dk_at dksX5_fits_1 19 rfl rfl)
theorem dX5_fits_44 : decode cX5_fits 44 = .ok (.iconst 1, 1) := dk_4 (dk_at dksX5_fits_1 21 rfl rfl)
theorem dX5_fits_45 : decode cX5_fits 45 = .ok (.isub, 1) := dk_100 (dk_at dksX5_fits_1 22 rfl rfl)
theorem dX5_fits_46 : decode cX5_fits 46 = .ok (.iload_n 1, 1) := dk_27 (dk_at dksX5_fits_1 23 rfl rfl)
theorem dX5_fits_47 : decode cX5_fits 47 = .ok (.iand, 1) := dk_126 (dk_at dksX5_fits_2 0 rfl rfl)
theorem dX5_fits_48 : decode cX5_fits 48 = .ok (.istore 4, 2) := dk_54 4 (dk_at dksX5_fits_2 1 rfl rfl)
theorem dX5_fits_50 : decode cX5_fits 50 = .ok (.goto (-47), 3) := dk_167 255 209 (dk_at dksX5_fits_2 3 rfl rfl)
theorem dX5_fits_53 : decode cX5_fits 53 = .ok (.iconst 0, 1) := dk_3 (dk_at dksX5_fits_2 6 rfl rfl)
theorem dX5_fits_54 : decode cX5_fits 54 = .ok (.ireturn, 1) := dk_172 (dk_at dksX5_fits_2 7 rfl rfl)
theorem q120 : (Jvm.Cond.initialized "StoneBacks$Shares") ∈ lw_all := lw_g (lw_at lw_m1 8 rfl) rfl
theorem q173 : (Jvm.Cond.fieldLinkNest "StoneBacks$Shares" (43 : Nat) "StoneBacks$World" "people" "I" "StoneBacks") ∈ lw_tbl := lw_at lw_m1 61 rfl
theorem q190 : (Jvm.Cond.fieldLinkNest "StoneBacks$Shares" (46 : Nat) "StoneBacks$World" "at" "[I" "StoneBacks") ∈ lw_tbl := lw_at lw_m1 78 rfl
theorem q207 : (Jvm.Cond.fieldLinkNest "StoneBacks$Shares" (53 : Nat) "StoneBacks$World" "weight" "[I" "StoneBacks") ∈ lw_tbl := lw_at lw_m1 95 rfl
theorem q364 : (Jvm.Cond.instantiable "StoneBacks$Shares" (8 : Nat)) ∈ lw_all := lw_g (lw_at lw_m2 12 rfl) rfl
theorem q366 : (Jvm.Cond.instanceMethod ({ cls := "StoneBacks$Shares", name := "<init>", desc := "(LStoneBacks;)V" } : Jvm.MethodName)) ∈ lw_all := lw_g (lw_at lw_m2 14 rfl) rfl
theorem q367 : (Jvm.Cond.code ({ cls := "StoneBacks$Shares", name := "<init>", desc := "(LStoneBacks;)V" } : Jvm.MethodName) prog_13_method_1_code (2 : Nat) (Option.none : Option Jvm.ClassFile.FieldType)) ∈ lw_all := lw_g (lw_at lw_m2 15 rfl) rfl
theorem q368 : (Jvm.Cond.methodLink "StoneBacks$Shares" (9 : Nat) ({ cls := "java/lang/Object", name := "<init>", desc := "()V" } : Jvm.MethodName)) ∈ lw_all := lw_g (lw_at lw_m2 16 rfl) rfl
theorem q369 : (Jvm.Cond.fieldLink "StoneBacks$Shares" (15 : Nat) "StoneBacks$Shares" "least" "[I") ∈ lw_all := lw_g (lw_at lw_m2 17 rfl) rfl
theorem q370 : (Jvm.Cond.fieldLink "StoneBacks$Shares" (19 : Nat) "StoneBacks$Shares" "who" "[I") ∈ lw_all := lw_g (lw_at lw_m2 18 rfl) rfl
theorem q371 : (Jvm.Cond.fieldLink "StoneBacks$Shares" (22 : Nat) "StoneBacks$Shares" "sums" "[I") ∈ lw_all := lw_g (lw_at lw_m2 19 rfl) rfl
theorem q372 : (Jvm.Cond.fieldLink "StoneBacks$Shares" (32 : Nat) "StoneBacks$Shares" "people" "I") ∈ lw_all := lw_g (lw_at lw_m2 20 rfl) rfl
theorem q374 : (Jvm.Cond.fieldLink "StoneBacks$Shares" (36 : Nat) "StoneBacks$Shares" "stones" "I") ∈ lw_all := lw_g (lw_at lw_m2 22 rfl) rfl
theorem q375 : (Jvm.Cond.fieldLink "StoneBacks$Shares" (25 : Nat) "StoneBacks$Shares" "loads" "[I") ∈ lw_all := lw_g (lw_at lw_m2 23 rfl) rfl
theorem q376 : (Jvm.Cond.fieldLink "StoneBacks$Shares" (28 : Nat) "StoneBacks$Shares" "given" "[Z") ∈ lw_all := lw_g (lw_at lw_m2 24 rfl) rfl
theorem q377 : (Jvm.Cond.fieldLink "StoneBacks$Shares" (3 : Nat) "StoneBacks$Shares" "this$0" "LStoneBacks;") ∈ lw_all := lw_g (lw_at lw_m2 25 rfl) rfl
theorem q378 : (Jvm.Cond.laysFinal "StoneBacks$Shares" "StoneBacks$Shares" "least" "[I") ∈ lw_all := lw_g (lw_at lw_m2 26 rfl) rfl
theorem q379 : (Jvm.Cond.soleField "StoneBacks$Shares" "least") ∈ lw_all := lw_g (lw_at lw_m2 27 rfl) rfl
theorem q380 : (Jvm.Cond.laysFinal "StoneBacks$Shares" "StoneBacks$Shares" "who" "[I") ∈ lw_all := lw_g (lw_at lw_m2 28 rfl) rfl
theorem q381 : (Jvm.Cond.soleField "StoneBacks$Shares" "who") ∈ lw_all := lw_g (lw_at lw_m2 29 rfl) rfl
theorem q382 : (Jvm.Cond.laysFinal "StoneBacks$Shares" "StoneBacks$Shares" "sums" "[I") ∈ lw_all := lw_g (lw_at lw_m2 30 rfl) rfl
theorem q383 : (Jvm.Cond.soleField "StoneBacks$Shares" "sums") ∈ lw_all := lw_g (lw_at lw_m2 31 rfl) rfl
theorem q384 : (Jvm.Cond.lays "StoneBacks$Shares" "StoneBacks$Shares" "people" "I") ∈ lw_all := lw_g (lw_at lw_m2 32 rfl) rfl
theorem q385 : (Jvm.Cond.soleField "StoneBacks$Shares" "people") ∈ lw_all := lw_g (lw_at lw_m2 33 rfl) rfl
theorem q386 : (Jvm.Cond.lays "StoneBacks$Shares" "StoneBacks$Shares" "stones" "I") ∈ lw_all := lw_g (lw_at lw_m2 34 rfl) rfl
theorem q387 : (Jvm.Cond.soleField "StoneBacks$Shares" "stones") ∈ lw_all := lw_g (lw_at lw_m2 35 rfl) rfl
theorem q388 : (Jvm.Cond.laysFinal "StoneBacks$Shares" "StoneBacks$Shares" "loads" "[I") ∈ lw_all := lw_g (lw_at lw_m2 36 rfl) rfl
theorem q389 : (Jvm.Cond.soleField "StoneBacks$Shares" "loads") ∈ lw_all := lw_g (lw_at lw_m2 37 rfl) rfl
theorem q390 : (Jvm.Cond.laysFinal "StoneBacks$Shares" "StoneBacks$Shares" "given" "[Z") ∈ lw_all := lw_g (lw_at lw_m2 38 rfl) rfl
theorem q391 : (Jvm.Cond.soleField "StoneBacks$Shares" "given") ∈ lw_all := lw_g (lw_at lw_m2 39 rfl) rfl
theorem q392 : (Jvm.Cond.laysFinal "StoneBacks$Shares" "StoneBacks$Shares" "this$0" "LStoneBacks;") ∈ lw_all := lw_g (lw_at lw_m2 40 rfl) rfl
theorem q393 : (Jvm.Cond.soleField "StoneBacks$Shares" "this$0") ∈ lw_all := lw_g (lw_at lw_m2 41 rfl) rfl
theorem q394 : (Jvm.Cond.superclass "StoneBacks$Shares" "java/lang/Object") ∈ lw_all := lw_g (lw_at lw_m2 42 rfl) rfl
theorem q396 : (Jvm.Cond.fieldLinkNest "StoneBacks$Shares" (39 : Nat) "StoneBacks" "world" "LStoneBacks$World;" "StoneBacks") ∈ lw_tbl := lw_at lw_m2 44 rfl
theorem q1462 : (Jvm.Cond.selects "StoneBacks$Shares" ({ cls := "java/lang/Object", name := "getClass", desc := "()Ljava/lang/Class;" } : Jvm.MethodName) ({ cls := "java/lang/Object", name := "getClass", desc := "()Ljava/lang/Class;" } : Jvm.MethodName)) ∈ lw_all := lw_g (lw_at lw_m6 150 rfl) rfl
theorem q1771 : (Jvm.Cond.instanceMethod ({ cls := "StoneBacks$Shares", name := "is", desc := "(I)LStoneBacks$Shares;" } : Jvm.MethodName)) ∈ lw_all := lw_g (lw_at lw_m7 219 rfl) rfl
theorem q1772 : (Jvm.Cond.selects "StoneBacks$Shares" ({ cls := "StoneBacks$Shares", name := "is", desc := "(I)LStoneBacks$Shares;" } : Jvm.MethodName) ({ cls := "StoneBacks$Shares", name := "is", desc := "(I)LStoneBacks$Shares;" } : Jvm.MethodName)) ∈ lw_all := lw_g (lw_at lw_m7 220 rfl) rfl
theorem q1773 : (Jvm.Cond.code ({ cls := "StoneBacks$Shares", name := "is", desc := "(I)LStoneBacks$Shares;" } : Jvm.MethodName) prog_13_method_3_code (4 : Nat) (Option.some (Jvm.ClassFile.FieldType.object "StoneBacks$Shares"))) ∈ lw_all := lw_g (lw_at lw_m7 221 rfl) rfl
theorem q1774 : (Jvm.Cond.methodLink "StoneBacks$Shares" (49 : Nat) ({ cls := "StoneBacks$World", name := "wornBy", desc := "(I)I" } : Jvm.MethodName)) ∈ lw_all := lw_g (lw_at lw_m7 222 rfl) rfl
theorem q1775 : (Jvm.Cond.methodLink "StoneBacks$Shares" (56 : Nat) ({ cls := "java/lang/Integer", name := "numberOfTrailingZeros", desc := "(I)I" } : Jvm.MethodName)) ∈ lw_all := lw_g (lw_at lw_m7 223 rfl) rfl
theorem q1779 : (Jvm.Cond.methodLink "StoneBacks$Shares" (61 : Nat) ({ cls := "StoneBacks$Shares", name := "at", desc := "(II)I" } : Jvm.MethodName)) ∈ lw_all := lw_g (lw_at lw_m7 227 rfl) rfl
theorem q1780 : (Jvm.Cond.privateMethod ({ cls := "StoneBacks$Shares", name := "at", desc := "(II)I" } : Jvm.MethodName)) ∈ lw_tbl := lw_at lw_m7 228 rfl
theorem q1781 : (Jvm.Cond.instanceMethod ({ cls := "StoneBacks$Shares", name := "at", desc := "(II)I" } : Jvm.MethodName)) ∈ lw_all := lw_g (lw_at lw_m7 229 rfl) rfl
theorem q1782 : (Jvm.Cond.code ({ cls := "StoneBacks$Shares", name := "at", desc := "(II)I" } : Jvm.MethodName) prog_13_method_2_code (3 : Nat) (Option.some Jvm.ClassFile.FieldType.int)) ∈ lw_all := lw_g (lw_at lw_m7 230 rfl) rfl
theorem q1783 : (Jvm.Cond.constant "StoneBacks$Shares" (64 : Nat) (1000000 : Int32)) ∈ lw_all := lw_g (lw_at lw_m7 231 rfl) rfl
theorem q1784 : (Jvm.Cond.methodLink "StoneBacks$Shares" (65 : Nat) ({ cls := "StoneBacks$Shares", name := "best", desc := "(II)I" } : Jvm.MethodName)) ∈ lw_all := lw_g (lw_at lw_m7 232 rfl) rfl
theorem q1785 : (Jvm.Cond.privateMethod ({ cls := "StoneBacks$Shares", name := "best", desc := "(II)I" } : Jvm.MethodName)) ∈ lw_tbl := lw_at lw_m7 233 rfl
theorem q1786 : (Jvm.Cond.instanceMethod ({ cls := "StoneBacks$Shares", name := "best", desc := "(II)I" } : Jvm.MethodName)) ∈ lw_all := lw_g (lw_at lw_m7 234 rfl) rfl
theorem q1787 : (Jvm.Cond.code ({ cls := "StoneBacks$Shares", name := "best", desc := "(II)I" } : Jvm.MethodName) prog_13_method_4_code (5 : Nat) (Option.some Jvm.ClassFile.FieldType.int)) ∈ lw_all := lw_g (lw_at lw_m7 235 rfl) rfl
theorem q1788 : (Jvm.Cond.methodLink "StoneBacks$Shares" (68 : Nat) ({ cls := "java/lang/Math", name := "max", desc := "(II)I" } : Jvm.MethodName)) ∈ lw_all := lw_g (lw_at lw_m7 236 rfl) rfl
theorem q1789 : (Jvm.Cond.methodLink "StoneBacks$Shares" (73 : Nat) ({ cls := "java/lang/Math", name := "min", desc := "(II)I" } : Jvm.MethodName)) ∈ lw_all := lw_g (lw_at lw_m7 237 rfl) rfl
theorem q1791 : (Jvm.Cond.instanceMethod ({ cls := "StoneBacks$Shares", name := "greatest", desc := "()I" } : Jvm.MethodName)) ∈ lw_all := lw_g (lw_at lw_m7 239 rfl) rfl
theorem q1792 : (Jvm.Cond.selects "StoneBacks$Shares" ({ cls := "StoneBacks$Shares", name := "greatest", desc := "()I" } : Jvm.MethodName) ({ cls := "StoneBacks$Shares", name := "greatest", desc := "()I" } : Jvm.MethodName)) ∈ lw_all := lw_g (lw_at lw_m8 0 rfl) rfl
theorem q1793 : (Jvm.Cond.code ({ cls := "StoneBacks$Shares", name := "greatest", desc := "()I" } : Jvm.MethodName) prog_13_method_5_code (1 : Nat) (Option.some Jvm.ClassFile.FieldType.int)) ∈ lw_all := lw_g (lw_at lw_m8 1 rfl) rfl
theorem q1795 : (Jvm.Cond.instanceMethod ({ cls := "StoneBacks$Shares", name := "whomOf", desc := "(I)I" } : Jvm.MethodName)) ∈ lw_all := lw_g (lw_at lw_m8 3 rfl) rfl
theorem q1796 : (Jvm.Cond.selects "StoneBacks$Shares" ({ cls := "StoneBacks$Shares", name := "whomOf", desc := "(I)I" } : Jvm.MethodName) ({ cls := "StoneBacks$Shares", name := "whomOf", desc := "(I)I" } : Jvm.MethodName)) ∈ lw_all := lw_g (lw_at lw_m8 4 rfl) rfl
theorem q1797 : (Jvm.Cond.code ({ cls := "StoneBacks$Shares", name := "whomOf", desc := "(I)I" } : Jvm.MethodName) prog_13_method_8_code (6 : Nat) (Option.some Jvm.ClassFile.FieldType.int)) ∈ lw_all := lw_g (lw_at lw_m8 5 rfl) rfl
theorem q1798 : (Jvm.Cond.methodLink "StoneBacks$Shares" (86 : Nat) ({ cls := "StoneBacks$Shares", name := "greatest", desc := "()I" } : Jvm.MethodName)) ∈ lw_all := lw_g (lw_at lw_m8 6 rfl) rfl
theorem q1799 : (Jvm.Cond.methodLink "StoneBacks$Shares" (90 : Nat) ({ cls := "java/util/Arrays", name := "fill", desc := "([II)V" } : Jvm.MethodName)) ∈ lw_all := lw_g (lw_at lw_m8 7 rfl) rfl
theorem q1802 : (Jvm.Cond.methodLinkNest "StoneBacks$Shares" (93 : Nat) ({ cls := "StoneBacks", name := "has", desc := "(II)Z" } : Jvm.MethodName) "StoneBacks") ∈ lw_tbl := lw_at lw_m8 10 rfl
theorem q1803 : (Jvm.Cond.methodLink "StoneBacks$Shares" (97 : Nat) ({ cls := "StoneBacks$Shares", name := "takes", desc := "(III)Z" } : Jvm.MethodName)) ∈ lw_all := lw_g (lw_at lw_m8 11 rfl) rfl
theorem q1804 : (Jvm.Cond.privateMethod ({ cls := "StoneBacks$Shares", name := "takes", desc := "(III)Z" } : Jvm.MethodName)) ∈ lw_tbl := lw_at lw_m8 12 rfl
theorem q1805 : (Jvm.Cond.instanceMethod ({ cls := "StoneBacks$Shares", name := "takes", desc := "(III)Z" } : Jvm.MethodName)) ∈ lw_all := lw_g (lw_at lw_m8 13 rfl) rfl
theorem q1806 : (Jvm.Cond.code ({ cls := "StoneBacks$Shares", name := "takes", desc := "(III)Z" } : Jvm.MethodName) prog_13_method_9_code (4 : Nat) (Option.some Jvm.ClassFile.FieldType.boolean)) ∈ lw_all := lw_g (lw_at lw_m8 14 rfl) rfl
theorem q1807 : (Jvm.Cond.methodLink "StoneBacks$Shares" (100 : Nat) ({ cls := "StoneBacks$Shares", name := "canGive", desc := "(II)Z" } : Jvm.MethodName)) ∈ lw_all := lw_g (lw_at lw_m8 15 rfl) rfl
theorem q1808 : (Jvm.Cond.privateMethod ({ cls := "StoneBacks$Shares", name := "canGive", desc := "(II)Z" } : Jvm.MethodName)) ∈ lw_tbl := lw_at lw_m8 16 rfl
theorem q1809 : (Jvm.Cond.instanceMethod ({ cls := "StoneBacks$Shares", name := "canGive", desc := "(II)Z" } : Jvm.MethodName)) ∈ lw_all := lw_g (lw_at lw_m8 17 rfl) rfl
theorem q1810 : (Jvm.Cond.code ({ cls := "StoneBacks$Shares", name := "canGive", desc := "(II)Z" } : Jvm.MethodName) prog_13_method_6_code (6 : Nat) (Option.some Jvm.ClassFile.FieldType.boolean)) ∈ lw_all := lw_g (lw_at lw_m8 18 rfl) rfl
theorem q1811 : (Jvm.Cond.methodLink "StoneBacks$Shares" (76 : Nat) ({ cls := "java/util/Arrays", name := "fill", desc := "([ZZ)V" } : Jvm.MethodName)) ∈ lw_all := lw_g (lw_at lw_m8 19 rfl) rfl
theorem q1814 : (Jvm.Cond.methodLink "StoneBacks$Shares" (82 : Nat) ({ cls := "StoneBacks$Shares", name := "fits", desc := "(III)Z" } : Jvm.MethodName)) ∈ lw_all := lw_g (lw_at lw_m8 22 rfl) rfl
theorem q1815 : (Jvm.Cond.privateMethod ({ cls := "StoneBacks$Shares", name := "fits", desc := "(III)Z" } : Jvm.MethodName)) ∈ lw_tbl := lw_at lw_m8 23 rfl
theorem q1816 : (Jvm.Cond.instanceMethod ({ cls := "StoneBacks$Shares", name := "fits", desc := "(III)Z" } : Jvm.MethodName)) ∈ lw_all := lw_g (lw_at lw_m8 24 rfl) rfl
theorem q1817 : (Jvm.Cond.code ({ cls := "StoneBacks$Shares", name := "fits", desc := "(III)Z" } : Jvm.MethodName) prog_13_method_7_code (5 : Nat) (Option.some Jvm.ClassFile.FieldType.boolean)) ∈ lw_all := lw_g (lw_at lw_m8 25 rfl) rfl
theorem q2536 : (Jvm.Cond.castable "StoneBacks$Shares" "java/lang/Object") ∈ lw_tbl := lw_at lw_m11 24 rfl
theorem in_X5 : ∀ w ∈ wsX50, w ∈ lw_all := lw_in wsX50 [378, 380, 382, 384, 386, 388, 390, 392] (by decide +kernel) (by decide +kernel)

/-! StoneBacks$Wrong -/
set_option maxRecDepth 100000
def RX7 : String := "StoneBacks$Wrong"
def TX7 : u_T := fun k => match k with
  | 0 => ("java/lang/Throwable", "cause", "Ljava/lang/Throwable;", false)
  | 1 => ("java/lang/Throwable", "stackTrace", "[Ljava/lang/StackTraceElement;", false)
  | 2 => ("java/lang/Throwable", "suppressedExceptions", "Ljava/util/List;", false)
  | 3 => ("java/lang/Throwable", "detailMessage", "Ljava/lang/String;", false)
  | 4 => ("java/lang/Throwable", "backtrace", "Ljava/lang/Object;", false)
  | _ => ("java/lang/Throwable", "depth", "I", false)
def tyX7 : Nat → FieldType := fun k => match k with
  | 0 => .object "java/lang/Throwable"
  | 1 => .array (.object "java/lang/StackTraceElement")
  | 2 => .object "java/util/List"
  | 3 => .object "java/lang/String"
  | 4 => .object "java/lang/Object"
  | _ => .int
abbrev wsX70 : List Cond := u_ws RX7 TX7 6
theorem nmX7 : ∀ a, a < 6 → ∀ b, b < 6 → a ≠ b → (TX7 a).2.1 ≠ (TX7 b).2.1 := by decide +kernel
theorem tyX7_ok : ∀ k, k < 6 → parseFieldDescriptor (TX7 k).2.2.1 = some (tyX7 k) := by decide +kernel
abbrev cX7_init : ByteArray := prog_17_method_1_code
def yX7_init : MethodName := ⟨RX7, "<init>", "()V"⟩
def dkwX7_init_0 : List UInt8 := [42, 1, 1, 3, 3, 183, 0, 1, 177]
abbrev dktX7_init_0 : List UInt8 := dkwX7_init_0 ++ []
theorem dksX7_init_0 : cX7_init.data.toList.drop 0 = dktX7_init_0 := by decide +kernel
theorem dX7_init_0 : decode cX7_init 0 = .ok (.aload_n 0, 1) := dk_42 (dk_at dksX7_init_0 0 rfl rfl)
theorem dX7_init_1 : decode cX7_init 1 = .ok (.aconst_null, 1) := dk_1 (dk_at dksX7_init_0 1 rfl rfl)
theorem dX7_init_2 : decode cX7_init 2 = .ok (.aconst_null, 1) := dk_1 (dk_at dksX7_init_0 2 rfl rfl)
theorem dX7_init_3 : decode cX7_init 3 = .ok (.iconst 0, 1) := dk_3 (dk_at dksX7_init_0 3 rfl rfl)
theorem dX7_init_4 : decode cX7_init 4 = .ok (.iconst 0, 1) := dk_3 (dk_at dksX7_init_0 4 rfl rfl)
theorem dX7_init_5 : decode cX7_init 5 = .ok (.invokespecial 1, 3) := dk_183 0 1 (dk_at dksX7_init_0 5 rfl rfl)
theorem dX7_init_8 : decode cX7_init 8 = .ok (.return_, 1) := dk_177 (dk_at dksX7_init_0 8 rfl rfl)
theorem q138 : (Jvm.Cond.initialized "StoneBacks$Wrong") ∈ lw_all := lw_g (lw_at lw_m1 26 rfl) rfl
theorem q944 : (Jvm.Cond.selects "StoneBacks$Wrong" ({ cls := "java/lang/Throwable", name := "fillInStackTrace", desc := "()Ljava/lang/Throwable;" } : Jvm.MethodName) ({ cls := "java/lang/Throwable", name := "fillInStackTrace", desc := "()Ljava/lang/Throwable;" } : Jvm.MethodName)) ∈ lw_all := lw_g (lw_at lw_m4 112 rfl) rfl
theorem q1088 : (Jvm.Cond.instantiable "StoneBacks$Wrong" (6 : Nat)) ∈ lw_all := lw_g (lw_at lw_m5 16 rfl) rfl
theorem q1089 : (Jvm.Cond.castable "StoneBacks$Wrong" "StoneBacks$Wrong") ∈ lw_tbl := lw_at lw_m5 17 rfl
theorem q1090 : (Jvm.Cond.selects "StoneBacks$Wrong" ({ cls := "java/lang/Throwable", name := "fillInStackTrace", desc := "(I)Ljava/lang/Throwable;" } : Jvm.MethodName) ({ cls := "java/lang/Throwable", name := "fillInStackTrace", desc := "(I)Ljava/lang/Throwable;" } : Jvm.MethodName)) ∈ lw_all := lw_g (lw_at lw_m5 18 rfl) rfl
theorem q1091 : (Jvm.Cond.lays "StoneBacks$Wrong" "java/lang/Throwable" "cause" "Ljava/lang/Throwable;") ∈ lw_all := lw_g (lw_at lw_m5 19 rfl) rfl
theorem q1092 : (Jvm.Cond.lays "StoneBacks$Wrong" "java/lang/Throwable" "stackTrace" "[Ljava/lang/StackTraceElement;") ∈ lw_all := lw_g (lw_at lw_m5 20 rfl) rfl
theorem q1093 : (Jvm.Cond.lays "StoneBacks$Wrong" "java/lang/Throwable" "suppressedExceptions" "Ljava/util/List;") ∈ lw_all := lw_g (lw_at lw_m5 21 rfl) rfl
theorem q1094 : (Jvm.Cond.lays "StoneBacks$Wrong" "java/lang/Throwable" "detailMessage" "Ljava/lang/String;") ∈ lw_all := lw_g (lw_at lw_m5 22 rfl) rfl
theorem q1095 : (Jvm.Cond.lays "StoneBacks$Wrong" "java/lang/Throwable" "backtrace" "Ljava/lang/Object;") ∈ lw_all := lw_g (lw_at lw_m5 23 rfl) rfl
theorem q1097 : (Jvm.Cond.instanceMethod ({ cls := "StoneBacks$Wrong", name := "<init>", desc := "()V" } : Jvm.MethodName)) ∈ lw_all := lw_g (lw_at lw_m5 25 rfl) rfl
theorem q1098 : (Jvm.Cond.code ({ cls := "StoneBacks$Wrong", name := "<init>", desc := "()V" } : Jvm.MethodName) prog_17_method_1_code (1 : Nat) (Option.none : Option Jvm.ClassFile.FieldType)) ∈ lw_all := lw_g (lw_at lw_m5 26 rfl) rfl
theorem q1099 : (Jvm.Cond.methodLink "StoneBacks$Wrong" (1 : Nat) ({ cls := "java/lang/Exception", name := "<init>", desc := "(Ljava/lang/String;Ljava/lang/Throwable;ZZ)V" } : Jvm.MethodName)) ∈ lw_all := lw_g (lw_at lw_m5 27 rfl) rfl
theorem q1105 : (Jvm.Cond.lays "StoneBacks$Wrong" "java/lang/Throwable" "depth" "I") ∈ lw_all := lw_g (lw_at lw_m5 33 rfl) rfl
theorem q1106 : (Jvm.Cond.superclass "StoneBacks$Wrong" "java/lang/Exception") ∈ lw_all := lw_g (lw_at lw_m5 34 rfl) rfl
theorem q1466 : (Jvm.Cond.selects "StoneBacks$Wrong" ({ cls := "java/lang/Object", name := "getClass", desc := "()Ljava/lang/Class;" } : Jvm.MethodName) ({ cls := "java/lang/Object", name := "getClass", desc := "()Ljava/lang/Class;" } : Jvm.MethodName)) ∈ lw_all := lw_g (lw_at lw_m6 154 rfl) rfl
theorem q2541 : (Jvm.Cond.castable "StoneBacks$Wrong" "java/lang/Object") ∈ lw_tbl := lw_at lw_m11 29 rfl
theorem in_X7 : ∀ w ∈ wsX70, w ∈ lw_all := lw_in wsX70 [1091, 1092, 1093, 1094, 1095, 1105] (by decide +kernel) (by decide +kernel)

/-! StoneBacks$Law -/
set_option maxRecDepth 100000
def RX8 : String := "StoneBacks$Law"
def TX8 : u_T := fun k => match k with
  | _ => ("StoneBacks$Law", "lines", "Ljava/util/ArrayList;", true)
def tyX8 : Nat → FieldType := fun k => match k with
  | _ => .object "java/util/ArrayList"
abbrev wsX80 : List Cond := u_ws RX8 TX8 1
theorem nmX8 : ∀ a, a < 1 → ∀ b, b < 1 → a ≠ b → (TX8 a).2.1 ≠ (TX8 b).2.1 := by decide +kernel
theorem tyX8_ok : ∀ k, k < 1 → parseFieldDescriptor (TX8 k).2.2.1 = some (tyX8 k) := by decide +kernel
abbrev cX8_sum : ByteArray := prog_5_method_2_code
def yX8_sum : MethodName := ⟨RX8, "sum", "(LStoneBacks$Kind;LStoneBacks$Scene;)I"⟩
def dkwX8_sum_3 : List UInt8 := [62, 132, 4, 1, 167, 255, 188, 29, 172]
abbrev dktX8_sum_3 : List UInt8 := dkwX8_sum_3 ++ []
def dkwX8_sum_2 : List UInt8 := [198, 0, 17, 25, 5, 180, 0, 30, 44, 185, 0, 34, 2, 0, 153, 0, 11, 29, 25, 5, 180, 0, 40, 96]
abbrev dktX8_sum_2 : List UInt8 := dkwX8_sum_2 ++ dktX8_sum_3
def dkwX8_sum_1 : List UInt8 := [182, 0, 20, 192, 0, 24, 58, 5, 25, 5, 180, 0, 26, 43, 166, 0, 33, 25, 5, 180, 0, 30]
abbrev dktX8_sum_1 : List UInt8 := dkwX8_sum_1 ++ dktX8_sum_2
def dkwX8_sum_0 : List UInt8 := [3, 62, 3, 54, 4, 21, 4, 42, 180, 0, 10, 182, 0, 16, 162, 0, 62, 42, 180, 0, 10, 21, 4]
abbrev dktX8_sum_0 : List UInt8 := dkwX8_sum_0 ++ dktX8_sum_1
theorem dksX8_sum_0 : cX8_sum.data.toList.drop 0 = dktX8_sum_0 := by decide +kernel
theorem dksX8_sum_1 : cX8_sum.data.toList.drop 23 = dktX8_sum_1 := dk_seg dksX8_sum_0 23 rfl rfl
theorem dksX8_sum_2 : cX8_sum.data.toList.drop 45 = dktX8_sum_2 := dk_seg dksX8_sum_1 22 rfl rfl
theorem dksX8_sum_3 : cX8_sum.data.toList.drop 69 = dktX8_sum_3 := dk_seg dksX8_sum_2 24 rfl rfl
theorem dX8_sum_0 : decode cX8_sum 0 = .ok (.iconst 0, 1) := dk_3 (dk_at dksX8_sum_0 0 rfl rfl)
theorem dX8_sum_1 : decode cX8_sum 1 = .ok (.istore_n 3, 1) := dk_62 (dk_at dksX8_sum_0 1 rfl rfl)
theorem dX8_sum_2 : decode cX8_sum 2 = .ok (.iconst 0, 1) := dk_3 (dk_at dksX8_sum_0 2 rfl rfl)
theorem dX8_sum_3 : decode cX8_sum 3 = .ok (.istore 4, 2) := dk_54 4 (dk_at dksX8_sum_0 3 rfl rfl)
theorem dX8_sum_5 : decode cX8_sum 5 = .ok (.iload 4, 2) := dk_21 4 (dk_at dksX8_sum_0 5 rfl rfl)
theorem dX8_sum_7 : decode cX8_sum 7 = .ok (.aload_n 0, 1) := dk_42 (dk_at dksX8_sum_0 7 rfl rfl)
theorem dX8_sum_8 : decode cX8_sum 8 = .ok (.getfield 10, 3) := dk_180 0 10 (dk_at dksX8_sum_0 8 rfl rfl)
theorem dX8_sum_11 : decode cX8_sum 11 = .ok (.invokevirtual 16, 3) := dk_182 0 16 (dk_at dksX8_sum_0 11 rfl rfl)
theorem dX8_sum_14 : decode cX8_sum 14 = .ok (.if_icmp .ge 62, 3) := dk_162 0 62 (dk_at dksX8_sum_0 14 rfl rfl)
theorem dX8_sum_17 : decode cX8_sum 17 = .ok (.aload_n 0, 1) := dk_42 (dk_at dksX8_sum_0 17 rfl rfl)
theorem dX8_sum_18 : decode cX8_sum 18 = .ok (.getfield 10, 3) := dk_180 0 10 (dk_at dksX8_sum_0 18 rfl rfl)
theorem dX8_sum_21 : decode cX8_sum 21 = .ok (.iload 4, 2) := dk_21 4 (dk_at dksX8_sum_0 21 rfl rfl)
theorem dX8_sum_23 : decode cX8_sum 23 = .ok (.invokevirtual 20, 3) := dk_182 0 20 (dk_at dksX8_sum_1 0 rfl rfl)
theorem dX8_sum_26 : decode cX8_sum 26 = .ok (.checkcast 24, 3) := dk_192 0 24 (dk_at dksX8_sum_1 3 rfl rfl)
theorem dX8_sum_29 : decode cX8_sum 29 = .ok (.astore 5, 2) := dk_58 5 (dk_at dksX8_sum_1 6 rfl rfl)
theorem dX8_sum_31 : decode cX8_sum 31 = .ok (.aload 5, 2) := dk_25 5 (dk_at dksX8_sum_1 8 rfl rfl)
theorem dX8_sum_33 : decode cX8_sum 33 = .ok (.getfield 26, 3) := dk_180 0 26 (dk_at dksX8_sum_1 10 rfl rfl)
theorem dX8_sum_36 : decode cX8_sum 36 = .ok (.aload_n 1, 1) := dk_43 (dk_at dksX8_sum_1 13 rfl rfl)
theorem dX8_sum_37 : decode cX8_sum 37 = .ok (.if_acmp .ne 33, 3) := dk_166 0 33 (dk_at dksX8_sum_1 14 rfl rfl)
theorem dX8_sum_40 : decode cX8_sum 40 = .ok (.aload 5, 2) := dk_25 5 (dk_at dksX8_sum_1 17 rfl rfl)
theorem dX8_sum_42 : decode cX8_sum 42 = .ok (.getfield 30, 3) := dk_180 0 30 (dk_at dksX8_sum_1 19 rfl rfl)
theorem dX8_sum_45 : decode cX8_sum 45 = .ok (.ifnull 17, 3) := dk_198 0 17 (dk_at dksX8_sum_2 0 rfl rfl)
theorem dX8_sum_48 : decode cX8_sum 48 = .ok (.aload 5, 2) := dk_25 5 (dk_at dksX8_sum_2 3 rfl rfl)
theorem dX8_sum_50 : decode cX8_sum 50 = .ok (.getfield 30, 3) := dk_180 0 30 (dk_at dksX8_sum_2 5 rfl rfl)
theorem dX8_sum_53 : decode cX8_sum 53 = .ok (.aload_n 2, 1) := dk_44 (dk_at dksX8_sum_2 8 rfl rfl)
theorem dX8_sum_54 : decode cX8_sum 54 = .ok (.invokeinterface 34 2, 5) := by decide +kernel
theorem dX8_sum_59 : decode cX8_sum 59 = .ok (.ifCond .eq 11, 3) := dk_153 0 11 (dk_at dksX8_sum_2 14 rfl rfl)
theorem dX8_sum_62 : decode cX8_sum 62 = .ok (.iload_n 3, 1) := dk_29 (dk_at dksX8_sum_2 17 rfl rfl)
theorem dX8_sum_63 : decode cX8_sum 63 = .ok (.aload 5, 2) := dk_25 5 (dk_at dksX8_sum_2 18 rfl rfl)
theorem dX8_sum_65 : decode cX8_sum 65 = .ok (.getfield 40, 3) := dk_180 0 40 (dk_at dksX8_sum_2 20 rfl rfl)
theorem dX8_sum_68 : decode cX8_sum 68 = .ok (.iadd, 1) := dk_96 (dk_at dksX8_sum_2 23 rfl rfl)
theorem dX8_sum_69 : decode cX8_sum 69 = .ok (.istore_n 3, 1) := dk_62 (dk_at dksX8_sum_3 0 rfl rfl)
theorem dX8_sum_70 : decode cX8_sum 70 = .ok (.iinc 4 1, 3) := dk_132 4 1 (dk_at dksX8_sum_3 1 rfl rfl)
theorem dX8_sum_73 : decode cX8_sum 73 = .ok (.goto (-68), 3) := dk_167 255 188 (dk_at dksX8_sum_3 4 rfl rfl)
theorem dX8_sum_76 : decode cX8_sum 76 = .ok (.iload_n 3, 1) := dk_29 (dk_at dksX8_sum_3 7 rfl rfl)
theorem dX8_sum_77 : decode cX8_sum 77 = .ok (.ireturn, 1) := dk_172 (dk_at dksX8_sum_3 8 rfl rfl)
abbrev cX8_init : ByteArray := prog_5_method_1_code
def yX8_init : MethodName := ⟨RX8, "<init>", "()V"⟩
def dkwX8_init_0 : List UInt8 := [42, 183, 0, 1, 42, 187, 0, 7, 89, 183, 0, 9, 181, 0, 10, 177]
abbrev dktX8_init_0 : List UInt8 := dkwX8_init_0 ++ []
theorem dksX8_init_0 : cX8_init.data.toList.drop 0 = dktX8_init_0 := by decide +kernel
theorem dX8_init_0 : decode cX8_init 0 = .ok (.aload_n 0, 1) := dk_42 (dk_at dksX8_init_0 0 rfl rfl)
theorem dX8_init_1 : decode cX8_init 1 = .ok (.invokespecial 1, 3) := dk_183 0 1 (dk_at dksX8_init_0 1 rfl rfl)
theorem dX8_init_4 : decode cX8_init 4 = .ok (.aload_n 0, 1) := dk_42 (dk_at dksX8_init_0 4 rfl rfl)
theorem dX8_init_5 : decode cX8_init 5 = .ok (.new 7, 3) := dk_187 0 7 (dk_at dksX8_init_0 5 rfl rfl)
theorem dX8_init_8 : decode cX8_init 8 = .ok (.dup, 1) := dk_89 (dk_at dksX8_init_0 8 rfl rfl)
theorem dX8_init_9 : decode cX8_init 9 = .ok (.invokespecial 9, 3) := dk_183 0 9 (dk_at dksX8_init_0 9 rfl rfl)
theorem dX8_init_12 : decode cX8_init 12 = .ok (.putfield 10, 3) := dk_181 0 10 (dk_at dksX8_init_0 12 rfl rfl)
theorem dX8_init_15 : decode cX8_init 15 = .ok (.return_, 1) := dk_177 (dk_at dksX8_init_0 15 rfl rfl)
theorem q140 : (Jvm.Cond.initialized "StoneBacks$Law") ∈ lw_all := lw_g (lw_at lw_m1 28 rfl) rfl
theorem q531 : (Jvm.Cond.instanceMethod ({ cls := "StoneBacks$Law", name := "sum", desc := "(LStoneBacks$Kind;LStoneBacks$Scene;)I" } : Jvm.MethodName)) ∈ lw_all := lw_g (lw_at lw_m2 179 rfl) rfl
theorem q532 : (Jvm.Cond.selects "StoneBacks$Law" ({ cls := "StoneBacks$Law", name := "sum", desc := "(LStoneBacks$Kind;LStoneBacks$Scene;)I" } : Jvm.MethodName) ({ cls := "StoneBacks$Law", name := "sum", desc := "(LStoneBacks$Kind;LStoneBacks$Scene;)I" } : Jvm.MethodName)) ∈ lw_all := lw_g (lw_at lw_m2 180 rfl) rfl
theorem q533 : (Jvm.Cond.code ({ cls := "StoneBacks$Law", name := "sum", desc := "(LStoneBacks$Kind;LStoneBacks$Scene;)I" } : Jvm.MethodName) prog_5_method_2_code (6 : Nat) (Option.some Jvm.ClassFile.FieldType.int)) ∈ lw_all := lw_g (lw_at lw_m2 181 rfl) rfl
theorem q534 : (Jvm.Cond.methodLink "StoneBacks$Law" (16 : Nat) ({ cls := "java/util/ArrayList", name := "size", desc := "()I" } : Jvm.MethodName)) ∈ lw_all := lw_g (lw_at lw_m2 182 rfl) rfl
theorem q538 : (Jvm.Cond.methodLink "StoneBacks$Law" (20 : Nat) ({ cls := "java/util/ArrayList", name := "get", desc := "(I)Ljava/lang/Object;" } : Jvm.MethodName)) ∈ lw_all := lw_g (lw_at lw_m2 186 rfl) rfl
theorem q552 : (Jvm.Cond.classLink "StoneBacks$Law" (24 : Nat) "StoneBacks$Line") ∈ lw_all := lw_g (lw_at lw_m2 200 rfl) rfl
theorem q553 : (Jvm.Cond.interfaceEntry "StoneBacks$Law" (34 : Nat)) ∈ lw_tbl := lw_at lw_m2 201 rfl
theorem q554 : (Jvm.Cond.methodLink "StoneBacks$Law" (34 : Nat) ({ cls := "StoneBacks$Cond", name := "holds", desc := "(LStoneBacks$Scene;)Z" } : Jvm.MethodName)) ∈ lw_all := lw_g (lw_at lw_m2 202 rfl) rfl
theorem q1282 : (Jvm.Cond.instantiable "StoneBacks$Law" (1 : Nat)) ∈ lw_all := lw_g (lw_at lw_m5 210 rfl) rfl
theorem q1284 : (Jvm.Cond.instanceMethod ({ cls := "StoneBacks$Law", name := "<init>", desc := "()V" } : Jvm.MethodName)) ∈ lw_all := lw_g (lw_at lw_m5 212 rfl) rfl
theorem q1285 : (Jvm.Cond.code ({ cls := "StoneBacks$Law", name := "<init>", desc := "()V" } : Jvm.MethodName) prog_5_method_1_code (1 : Nat) (Option.none : Option Jvm.ClassFile.FieldType)) ∈ lw_all := lw_g (lw_at lw_m5 213 rfl) rfl
theorem q1286 : (Jvm.Cond.methodLink "StoneBacks$Law" (1 : Nat) ({ cls := "java/lang/Object", name := "<init>", desc := "()V" } : Jvm.MethodName)) ∈ lw_all := lw_g (lw_at lw_m5 214 rfl) rfl
theorem q1287 : (Jvm.Cond.classLink "StoneBacks$Law" (7 : Nat) "java/util/ArrayList") ∈ lw_all := lw_g (lw_at lw_m5 215 rfl) rfl
theorem q1288 : (Jvm.Cond.methodLink "StoneBacks$Law" (9 : Nat) ({ cls := "java/util/ArrayList", name := "<init>", desc := "()V" } : Jvm.MethodName)) ∈ lw_all := lw_g (lw_at lw_m5 216 rfl) rfl
theorem q1289 : (Jvm.Cond.fieldLink "StoneBacks$Law" (10 : Nat) "StoneBacks$Law" "lines" "Ljava/util/ArrayList;") ∈ lw_all := lw_g (lw_at lw_m5 217 rfl) rfl
theorem q1291 : (Jvm.Cond.laysFinal "StoneBacks$Law" "StoneBacks$Law" "lines" "Ljava/util/ArrayList;") ∈ lw_all := lw_g (lw_at lw_m5 219 rfl) rfl
theorem q1292 : (Jvm.Cond.soleField "StoneBacks$Law" "lines") ∈ lw_all := lw_g (lw_at lw_m5 220 rfl) rfl
theorem q1293 : (Jvm.Cond.superclass "StoneBacks$Law" "java/lang/Object") ∈ lw_all := lw_g (lw_at lw_m5 221 rfl) rfl
theorem q1454 : (Jvm.Cond.selects "StoneBacks$Law" ({ cls := "java/lang/Object", name := "getClass", desc := "()Ljava/lang/Class;" } : Jvm.MethodName) ({ cls := "java/lang/Object", name := "getClass", desc := "()Ljava/lang/Class;" } : Jvm.MethodName)) ∈ lw_all := lw_g (lw_at lw_m6 142 rfl) rfl
theorem q1507 : (Jvm.Cond.fieldLinkNest "StoneBacks$Law" (26 : Nat) "StoneBacks$Line" "kind" "LStoneBacks$Kind;" "StoneBacks") ∈ lw_tbl := lw_at lw_m6 195 rfl
theorem q1509 : (Jvm.Cond.fieldLinkNest "StoneBacks$Law" (40 : Nat) "StoneBacks$Line" "n" "I" "StoneBacks") ∈ lw_tbl := lw_at lw_m6 197 rfl
theorem q1511 : (Jvm.Cond.fieldLinkNest "StoneBacks$Law" (30 : Nat) "StoneBacks$Line" "when" "LStoneBacks$Cond;" "StoneBacks") ∈ lw_tbl := lw_at lw_m6 199 rfl
theorem q2544 : (Jvm.Cond.castable "StoneBacks$Law" "java/lang/Object") ∈ lw_tbl := lw_at lw_m11 32 rfl
theorem in_X8 : ∀ w ∈ wsX80, w ∈ lw_all := lw_in wsX80 [1291] (by decide +kernel) (by decide +kernel)

/-! StoneBacks$Kind -/
set_option maxRecDepth 100000
def RX9 : String := "StoneBacks$Kind"
abbrev cX9_of : ByteArray := prog_4_method_4_code
def yX9_of : MethodName := ⟨RX9, "of", "(Ljava/lang/String;)LStoneBacks$Kind;"⟩
def dkwX9_of_1 : List UInt8 := [42, 182, 0, 40, 153, 0, 6, 25, 4, 176, 132, 3, 1, 167, 255, 228, 1, 176]
abbrev dktX9_of_1 : List UInt8 := dkwX9_of_1 ++ []
def dkwX9_of_0 : List UInt8 := [184, 0, 36, 76, 43, 190, 61, 3, 62, 29, 28, 162, 0, 29, 43, 29, 50, 58, 4, 25, 4, 180, 0, 32]
abbrev dktX9_of_0 : List UInt8 := dkwX9_of_0 ++ dktX9_of_1
theorem dksX9_of_0 : cX9_of.data.toList.drop 0 = dktX9_of_0 := by decide +kernel
theorem dksX9_of_1 : cX9_of.data.toList.drop 24 = dktX9_of_1 := dk_seg dksX9_of_0 24 rfl rfl
theorem dX9_of_0 : decode cX9_of 0 = .ok (.invokestatic 36, 3) := dk_184 0 36 (dk_at dksX9_of_0 0 rfl rfl)
theorem dX9_of_3 : decode cX9_of 3 = .ok (.astore_n 1, 1) := dk_76 (dk_at dksX9_of_0 3 rfl rfl)
theorem dX9_of_4 : decode cX9_of 4 = .ok (.aload_n 1, 1) := dk_43 (dk_at dksX9_of_0 4 rfl rfl)
theorem dX9_of_5 : decode cX9_of 5 = .ok (.arraylength, 1) := dk_190 (dk_at dksX9_of_0 5 rfl rfl)
theorem dX9_of_6 : decode cX9_of 6 = .ok (.istore_n 2, 1) := dk_61 (dk_at dksX9_of_0 6 rfl rfl)
theorem dX9_of_7 : decode cX9_of 7 = .ok (.iconst 0, 1) := dk_3 (dk_at dksX9_of_0 7 rfl rfl)
theorem dX9_of_8 : decode cX9_of 8 = .ok (.istore_n 3, 1) := dk_62 (dk_at dksX9_of_0 8 rfl rfl)
theorem dX9_of_9 : decode cX9_of 9 = .ok (.iload_n 3, 1) := dk_29 (dk_at dksX9_of_0 9 rfl rfl)
theorem dX9_of_10 : decode cX9_of 10 = .ok (.iload_n 2, 1) := dk_28 (dk_at dksX9_of_0 10 rfl rfl)
theorem dX9_of_11 : decode cX9_of 11 = .ok (.if_icmp .ge 29, 3) := dk_162 0 29 (dk_at dksX9_of_0 11 rfl rfl)
theorem dX9_of_14 : decode cX9_of 14 = .ok (.aload_n 1, 1) := dk_43 (dk_at dksX9_of_0 14 rfl rfl)
theorem dX9_of_15 : decode cX9_of 15 = .ok (.iload_n 3, 1) := dk_29 (dk_at dksX9_of_0 15 rfl rfl)
theorem dX9_of_16 : decode cX9_of 16 = .ok (.aaload, 1) := dk_50 (dk_at dksX9_of_0 16 rfl rfl)
theorem dX9_of_17 : decode cX9_of 17 = .ok (.astore 4, 2) := dk_58 4 (dk_at dksX9_of_0 17 rfl rfl)
theorem dX9_of_19 : decode cX9_of 19 = .ok (.aload 4, 2) := dk_25 4 (dk_at dksX9_of_0 19 rfl rfl)
theorem dX9_of_21 : decode cX9_of 21 = .ok (.getfield 32, 3) := dk_180 0 32 (dk_at dksX9_of_0 21 rfl rfl)
theorem dX9_of_24 : decode cX9_of 24 = .ok (.aload_n 0, 1) := dk_42 (dk_at dksX9_of_1 0 rfl rfl)
theorem dX9_of_25 : decode cX9_of 25 = .ok (.invokevirtual 40, 3) := dk_182 0 40 (dk_at dksX9_of_1 1 rfl rfl)
theorem dX9_of_28 : decode cX9_of 28 = .ok (.ifCond .eq 6, 3) := dk_153 0 6 (dk_at dksX9_of_1 4 rfl rfl)
theorem dX9_of_31 : decode cX9_of 31 = .ok (.aload 4, 2) := dk_25 4 (dk_at dksX9_of_1 7 rfl rfl)
theorem dX9_of_33 : decode cX9_of 33 = .ok (.areturn, 1) := dk_176 (dk_at dksX9_of_1 9 rfl rfl)
theorem dX9_of_34 : decode cX9_of 34 = .ok (.iinc 3 1, 3) := dk_132 3 1 (dk_at dksX9_of_1 10 rfl rfl)
theorem dX9_of_37 : decode cX9_of 37 = .ok (.goto (-28), 3) := dk_167 255 228 (dk_at dksX9_of_1 13 rfl rfl)
theorem dX9_of_40 : decode cX9_of 40 = .ok (.aconst_null, 1) := dk_1 (dk_at dksX9_of_1 16 rfl rfl)
theorem dX9_of_41 : decode cX9_of 41 = .ok (.areturn, 1) := dk_176 (dk_at dksX9_of_1 17 rfl rfl)
abbrev cX9_values : ByteArray := prog_4_method_1_code
def yX9_values : MethodName := ⟨RX9, "values", "()[LStoneBacks$Kind;"⟩
def dkwX9_values_0 : List UInt8 := [178, 0, 13, 182, 0, 17, 192, 0, 18, 176]
abbrev dktX9_values_0 : List UInt8 := dkwX9_values_0 ++ []
theorem dksX9_values_0 : cX9_values.data.toList.drop 0 = dktX9_values_0 := by decide +kernel
theorem dX9_values_0 : decode cX9_values 0 = .ok (.getstatic 13, 3) := dk_178 0 13 (dk_at dksX9_values_0 0 rfl rfl)
theorem dX9_values_3 : decode cX9_values 3 = .ok (.invokevirtual 17, 3) := dk_182 0 17 (dk_at dksX9_values_0 3 rfl rfl)
theorem dX9_values_6 : decode cX9_values 6 = .ok (.checkcast 18, 3) := dk_192 0 18 (dk_at dksX9_values_0 6 rfl rfl)
theorem dX9_values_9 : decode cX9_values 9 = .ok (.areturn, 1) := dk_176 (dk_at dksX9_values_0 9 rfl rfl)
theorem q142 : (Jvm.Cond.initialized "StoneBacks$Kind") ∈ lw_all := lw_g (lw_at lw_m1 30 rfl) rfl
theorem q525 : (Jvm.Cond.laysStatic "StoneBacks$Kind" "EARN" "LStoneBacks$Kind;") ∈ lw_tbl := lw_at lw_m2 173 rfl
theorem q628 : (Jvm.Cond.laysStatic "StoneBacks$Kind" "TIRE" "LStoneBacks$Kind;") ∈ lw_tbl := lw_at lw_m3 36 rfl
theorem q639 : (Jvm.Cond.laysStatic "StoneBacks$Kind" "HURT" "LStoneBacks$Kind;") ∈ lw_tbl := lw_at lw_m3 47 rfl
theorem q1299 : (Jvm.Cond.static ({ cls := "StoneBacks$Kind", name := "of", desc := "(Ljava/lang/String;)LStoneBacks$Kind;" } : Jvm.MethodName)) ∈ lw_all := lw_g (lw_at lw_m5 227 rfl) rfl
theorem q1300 : (Jvm.Cond.code ({ cls := "StoneBacks$Kind", name := "of", desc := "(Ljava/lang/String;)LStoneBacks$Kind;" } : Jvm.MethodName) prog_4_method_4_code (5 : Nat) (Option.some (Jvm.ClassFile.FieldType.object "StoneBacks$Kind"))) ∈ lw_all := lw_g (lw_at lw_m5 228 rfl) rfl
theorem q1301 : (Jvm.Cond.methodLink "StoneBacks$Kind" (36 : Nat) ({ cls := "StoneBacks$Kind", name := "values", desc := "()[LStoneBacks$Kind;" } : Jvm.MethodName)) ∈ lw_all := lw_g (lw_at lw_m5 229 rfl) rfl
theorem q1302 : (Jvm.Cond.static ({ cls := "StoneBacks$Kind", name := "values", desc := "()[LStoneBacks$Kind;" } : Jvm.MethodName)) ∈ lw_all := lw_g (lw_at lw_m5 230 rfl) rfl
theorem q1303 : (Jvm.Cond.code ({ cls := "StoneBacks$Kind", name := "values", desc := "()[LStoneBacks$Kind;" } : Jvm.MethodName) prog_4_method_1_code (0 : Nat) (Option.some (Jvm.ClassFile.FieldType.array (Jvm.ClassFile.FieldType.object "StoneBacks$Kind")))) ∈ lw_all := lw_g (lw_at lw_m5 231 rfl) rfl
theorem q1304 : (Jvm.Cond.fieldLink "StoneBacks$Kind" (13 : Nat) "StoneBacks$Kind" "$VALUES" "[LStoneBacks$Kind;") ∈ lw_all := lw_g (lw_at lw_m5 232 rfl) rfl
theorem q1305 : (Jvm.Cond.laysStatic "StoneBacks$Kind" "$VALUES" "[LStoneBacks$Kind;") ∈ lw_tbl := lw_at lw_m5 233 rfl
theorem q1306 : (Jvm.Cond.methodLink "StoneBacks$Kind" (17 : Nat) ({ cls := "[LStoneBacks$Kind;", name := "clone", desc := "()Ljava/lang/Object;" } : Jvm.MethodName)) ∈ lw_all := lw_g (lw_at lw_m5 234 rfl) rfl
theorem q1311 : (Jvm.Cond.classLink "StoneBacks$Kind" (18 : Nat) "[LStoneBacks$Kind;") ∈ lw_all := lw_g (lw_at lw_m5 239 rfl) rfl
theorem q1312 : (Jvm.Cond.methodLink "StoneBacks$Kind" (40 : Nat) ({ cls := "java/lang/String", name := "equals", desc := "(Ljava/lang/Object;)Z" } : Jvm.MethodName)) ∈ lw_all := lw_g (lw_at lw_m6 0 rfl) rfl
theorem q1453 : (Jvm.Cond.selects "StoneBacks$Kind" ({ cls := "java/lang/Object", name := "getClass", desc := "()Ljava/lang/Class;" } : Jvm.MethodName) ({ cls := "java/lang/Object", name := "getClass", desc := "()Ljava/lang/Class;" } : Jvm.MethodName)) ∈ lw_all := lw_g (lw_at lw_m6 141 rfl) rfl
theorem q2529 : (Jvm.Cond.castable "StoneBacks$Kind" "java/lang/Object") ∈ lw_tbl := lw_at lw_m11 17 rfl
theorem q2569 : (Jvm.Cond.fieldLink "StoneBacks$Kind" (32 : Nat) "StoneBacks$Kind" "told" "Ljava/lang/String;") ∈ lw_all := lw_g (lw_at lw_m11 57 rfl) rfl
theorem q2572 : (Jvm.Cond.stringRef "StoneBacks$Kind" (53 : Nat) "earn") ∈ lw_tbl := lw_at lw_m11 60 rfl
theorem q2573 : (Jvm.Cond.stringRef "StoneBacks$Kind" (47 : Nat) "tire") ∈ lw_tbl := lw_at lw_m11 61 rfl
theorem q2574 : (Jvm.Cond.stringRef "StoneBacks$Kind" (56 : Nat) "hurt") ∈ lw_tbl := lw_at lw_m11 62 rfl

theorem q555 : (Jvm.Cond.interfaceMethod "StoneBacks$Cond" "StoneBacks$Cond" "holds" "(LStoneBacks$Scene;)Z") ∈ lw_tbl := lw_at lw_m2 203 rfl
set_option maxRecDepth 100000
theorem q556 : (Jvm.Cond.declares ({ cls := "StoneBacks$Cond", name := "holds", desc := "(LStoneBacks$Scene;)Z" } : Jvm.MethodName)) ∈ lw_tbl := lw_at lw_m2 204 rfl

theorem q816 : (Jvm.Cond.sameMethod "[B" "java/lang/Object" "clone" "()Ljava/lang/Object;") ∈ lw_all := lw_g (lw_at lw_m3 224 rfl) rfl
set_option maxRecDepth 100000
theorem q819 : (Jvm.Cond.selects "[B" ({ cls := "[B", name := "clone", desc := "()Ljava/lang/Object;" } : Jvm.MethodName) ({ cls := "java/lang/Object", name := "clone", desc := "()Ljava/lang/Object;" } : Jvm.MethodName)) ∈ lw_all := lw_g (lw_at lw_m3 227 rfl) rfl
theorem q820 : (Jvm.Cond.castable "[B" "java/lang/Cloneable") ∈ lw_tbl := lw_at lw_m3 228 rfl
theorem q2562 : (Jvm.Cond.castable "[B" "java/lang/Object") ∈ lw_tbl := lw_at lw_m11 50 rfl

theorem q2560 : (Jvm.Cond.castable "[I" "java/lang/Object") ∈ lw_tbl := lw_at lw_m11 48 rfl
set_option maxRecDepth 100000

theorem q2566 : (Jvm.Cond.castable "[J" "java/lang/Object") ∈ lw_tbl := lw_at lw_m11 54 rfl
set_option maxRecDepth 100000

theorem q1422 : (Jvm.Cond.sameMethod "[LStoneBacks$Fact;" "java/lang/Object" "clone" "()Ljava/lang/Object;") ∈ lw_all := lw_g (lw_at lw_m6 110 rfl) rfl
set_option maxRecDepth 100000
theorem q1423 : (Jvm.Cond.selects "[LStoneBacks$Fact;" ({ cls := "[LStoneBacks$Fact;", name := "clone", desc := "()Ljava/lang/Object;" } : Jvm.MethodName) ({ cls := "java/lang/Object", name := "clone", desc := "()Ljava/lang/Object;" } : Jvm.MethodName)) ∈ lw_all := lw_g (lw_at lw_m6 111 rfl) rfl
theorem q1424 : (Jvm.Cond.castable "[LStoneBacks$Fact;" "java/lang/Cloneable") ∈ lw_tbl := lw_at lw_m6 112 rfl
theorem q2564 : (Jvm.Cond.castable "[LStoneBacks$Fact;" "java/lang/Object") ∈ lw_tbl := lw_at lw_m11 52 rfl

theorem q1307 : (Jvm.Cond.sameMethod "[LStoneBacks$Kind;" "java/lang/Object" "clone" "()Ljava/lang/Object;") ∈ lw_all := lw_g (lw_at lw_m5 235 rfl) rfl
set_option maxRecDepth 100000
theorem q1308 : (Jvm.Cond.selects "[LStoneBacks$Kind;" ({ cls := "[LStoneBacks$Kind;", name := "clone", desc := "()Ljava/lang/Object;" } : Jvm.MethodName) ({ cls := "java/lang/Object", name := "clone", desc := "()Ljava/lang/Object;" } : Jvm.MethodName)) ∈ lw_all := lw_g (lw_at lw_m5 236 rfl) rfl
theorem q1309 : (Jvm.Cond.castable "[LStoneBacks$Kind;" "java/lang/Cloneable") ∈ lw_tbl := lw_at lw_m5 237 rfl
theorem q2563 : (Jvm.Cond.castable "[LStoneBacks$Kind;" "java/lang/Object") ∈ lw_tbl := lw_at lw_m11 51 rfl

theorem q2557 : (Jvm.Cond.sameMethod "[Ljava/lang/Object;" "java/lang/Object" "getClass" "()Ljava/lang/Class;") ∈ lw_all := lw_g (lw_at lw_m11 45 rfl) rfl
set_option maxRecDepth 100000
theorem q2558 : (Jvm.Cond.selects "[Ljava/lang/Object;" ({ cls := "java/lang/Object", name := "getClass", desc := "()Ljava/lang/Class;" } : Jvm.MethodName) ({ cls := "java/lang/Object", name := "getClass", desc := "()Ljava/lang/Class;" } : Jvm.MethodName)) ∈ lw_all := lw_g (lw_at lw_m11 46 rfl) rfl
theorem q2565 : (Jvm.Cond.castable "[Ljava/lang/Object;" "java/lang/Object") ∈ lw_tbl := lw_at lw_m11 53 rfl

theorem q2561 : (Jvm.Cond.castable "[Z" "java/lang/Object") ∈ lw_tbl := lw_at lw_m11 49 rfl
set_option maxRecDepth 100000

theorem q136 : (Jvm.Cond.initialized "java/lang/Number") ∈ lw_all := lw_g (lw_at lw_m1 24 rfl) rfl
set_option maxRecDepth 100000

theorem q122 : (Jvm.Cond.initialized "java/lang/System") ∈ lw_all := lw_g (lw_at lw_m1 10 rfl) rfl
set_option maxRecDepth 100000
theorem q505 : (Jvm.Cond.static ({ cls := "java/lang/System", name := "arraycopy", desc := "(Ljava/lang/Object;ILjava/lang/Object;II)V" } : Jvm.MethodName)) ∈ lw_all := lw_g (lw_at lw_m2 153 rfl) rfl
theorem q506 : (Jvm.Cond.native ({ cls := "java/lang/System", name := "arraycopy", desc := "(Ljava/lang/Object;ILjava/lang/Object;II)V" } : Jvm.MethodName)) ∈ lw_all := lw_g (lw_at lw_m2 154 rfl) rfl

theorem q1136 : (Jvm.Cond.interfaceMethod "jdk/internal/access/JavaLangAccess" "jdk/internal/access/JavaLangAccess" "getUTF16Char" "([BI)C") ∈ lw_tbl := lw_at lw_m5 64 rfl
set_option maxRecDepth 100000
theorem q1137 : (Jvm.Cond.declares ({ cls := "jdk/internal/access/JavaLangAccess", name := "getUTF16Char", desc := "([BI)C" } : Jvm.MethodName)) ∈ lw_tbl := lw_at lw_m5 65 rfl

theorem q262 : (Jvm.Cond.arrayClass Jvm.ClassFile.FieldType.int) ∈ lw_all := lw_g (lw_at lw_m1 150 rfl) rfl
set_option maxRecDepth 100000
theorem q263 : (Jvm.Cond.arrayClass Jvm.ClassFile.FieldType.boolean) ∈ lw_all := lw_g (lw_at lw_m1 151 rfl) rfl
theorem q296 : (Jvm.Cond.arrayClass Jvm.ClassFile.FieldType.byte) ∈ lw_all := lw_g (lw_at lw_m1 184 rfl) rfl
theorem q1310 : (Jvm.Cond.arrayOver (Jvm.ClassFile.FieldType.object "StoneBacks$Kind")) ∈ lw_tbl := lw_at lw_m5 238 rfl
theorem q1425 : (Jvm.Cond.arrayOver (Jvm.ClassFile.FieldType.object "StoneBacks$Fact")) ∈ lw_tbl := lw_at lw_m6 113 rfl
theorem q1483 : (Jvm.Cond.arrayOver (Jvm.ClassFile.FieldType.object "java/lang/Object")) ∈ lw_tbl := lw_at lw_m6 171 rfl
theorem q2516 : (Jvm.Cond.arrayClass Jvm.ClassFile.FieldType.long) ∈ lw_all := lw_g (lw_at lw_m11 4 rfl) rfl
theorem q2567 : (Jvm.Cond.arrayClass Jvm.ClassFile.FieldType.char) ∈ lw_all := lw_g (lw_at lw_m11 55 rfl) rfl
theorem q2568 : (Jvm.Cond.arrayClass Jvm.ClassFile.FieldType.short) ∈ lw_all := lw_g (lw_at lw_m11 56 rfl) rfl
