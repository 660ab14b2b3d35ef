/-! java/util/AbstractCollection -/
set_option maxRecDepth 100000
def RJ0 : String := "java/util/AbstractCollection"
abbrev cJ0_init : ByteArray := prog_35_method_1_code
def yJ0_init : MethodName := ⟨RJ0, "<init>", "()V"⟩
theorem dJ0_init_0 : decode cJ0_init 0 = .ok (.aload_n 0, 1) := by decide +kernel
theorem dJ0_init_1 : decode cJ0_init 1 = .ok (.invokespecial 1, 3) := by decide +kernel
theorem dJ0_init_4 : decode cJ0_init 4 = .ok (.return_, 1) := by decide +kernel
theorem q79 : (Jvm.Cond.initialized "java/util/AbstractCollection") ∈ lw_all := lw_g (lw_at lw_m1 3 rfl) rfl
theorem q178 : (Jvm.Cond.instanceMethod ({ cls := "java/util/AbstractCollection", name := "<init>", desc := "()V" } : Jvm.MethodName)) ∈ lw_all := lw_g (lw_at lw_m1 102 rfl) rfl
theorem q179 : (Jvm.Cond.code ({ cls := "java/util/AbstractCollection", name := "<init>", desc := "()V" } : Jvm.MethodName) prog_35_method_1_code (1 : Nat) (Option.none : Option Jvm.ClassFile.FieldType)) ∈ lw_all := lw_g (lw_at lw_m1 103 rfl) rfl
theorem q180 : (Jvm.Cond.methodLink "java/util/AbstractCollection" (1 : Nat) ({ cls := "java/lang/Object", name := "<init>", desc := "()V" } : Jvm.MethodName)) ∈ lw_all := lw_g (lw_at lw_m1 104 rfl) rfl
/-! java/util/AbstractList -/
set_option maxRecDepth 100000
def RJ1 : String := "java/util/AbstractList"
abbrev cJ1_init : ByteArray := prog_36_method_1_code
def yJ1_init : MethodName := ⟨RJ1, "<init>", "()V"⟩
def dkwJ1_init_0 : List UInt8 := [42, 183, 0, 1, 42, 3, 181, 0, 7, 177]
abbrev dktJ1_init_0 : List UInt8 := dkwJ1_init_0 ++ []
theorem dksJ1_init_0 : cJ1_init.data.toList.drop 0 = dktJ1_init_0 := by decide +kernel
theorem dJ1_init_0 : decode cJ1_init 0 = .ok (.aload_n 0, 1) := dk_42 (dk_at dksJ1_init_0 0 rfl rfl)
theorem dJ1_init_1 : decode cJ1_init 1 = .ok (.invokespecial 1, 3) := dk_183 0 1 (dk_at dksJ1_init_0 1 rfl rfl)
theorem dJ1_init_4 : decode cJ1_init 4 = .ok (.aload_n 0, 1) := dk_42 (dk_at dksJ1_init_0 4 rfl rfl)
theorem dJ1_init_5 : decode cJ1_init 5 = .ok (.iconst 0, 1) := dk_3 (dk_at dksJ1_init_0 5 rfl rfl)
theorem dJ1_init_6 : decode cJ1_init 6 = .ok (.putfield 7, 3) := dk_181 0 7 (dk_at dksJ1_init_0 6 rfl rfl)
theorem dJ1_init_9 : decode cJ1_init 9 = .ok (.return_, 1) := dk_177 (dk_at dksJ1_init_0 9 rfl rfl)
theorem q80 : (Jvm.Cond.initialized "java/util/AbstractList") ∈ lw_all := lw_g (lw_at lw_m1 4 rfl) rfl
theorem q175 : (Jvm.Cond.instanceMethod ({ cls := "java/util/AbstractList", name := "<init>", desc := "()V" } : Jvm.MethodName)) ∈ lw_all := lw_g (lw_at lw_m1 99 rfl) rfl
theorem q176 : (Jvm.Cond.code ({ cls := "java/util/AbstractList", name := "<init>", desc := "()V" } : Jvm.MethodName) prog_36_method_1_code (1 : Nat) (Option.none : Option Jvm.ClassFile.FieldType)) ∈ lw_all := lw_g (lw_at lw_m1 100 rfl) rfl
theorem q177 : (Jvm.Cond.methodLink "java/util/AbstractList" (1 : Nat) ({ cls := "java/util/AbstractCollection", name := "<init>", desc := "()V" } : Jvm.MethodName)) ∈ lw_all := lw_g (lw_at lw_m1 101 rfl) rfl
theorem q185 : (Jvm.Cond.fieldLink "java/util/AbstractList" (7 : Nat) "java/util/AbstractList" "modCount" "I") ∈ lw_all := lw_g (lw_at lw_m1 109 rfl) rfl
theorem q193 : (Jvm.Cond.soleField "java/util/AbstractList" "modCount") ∈ lw_all := lw_g (lw_at lw_m1 117 rfl) rfl
/-! java/lang/StringLatin1 -/
set_option maxRecDepth 100000
def RJ10 : String := "java/lang/StringLatin1"
abbrev cJ10_canEncode : ByteArray := prog_29_method_3_code
def yJ10_canEncode : MethodName := ⟨RJ10, "canEncode", "(C)Z"⟩
def dkwJ10_canEncode_0 : List UInt8 := [26, 17, 0, 255, 163, 0, 7, 4, 167, 0, 4, 3, 172]
abbrev dktJ10_canEncode_0 : List UInt8 := dkwJ10_canEncode_0 ++ []
theorem dksJ10_canEncode_0 : cJ10_canEncode.data.toList.drop 0 = dktJ10_canEncode_0 := by decide +kernel
theorem dJ10_canEncode_0 : decode cJ10_canEncode 0 = .ok (.iload_n 0, 1) := dk_26 (dk_at dksJ10_canEncode_0 0 rfl rfl)
theorem dJ10_canEncode_1 : decode cJ10_canEncode 1 = .ok (.sipush 255, 3) := dk_17 0 255 (dk_at dksJ10_canEncode_0 1 rfl rfl)
theorem dJ10_canEncode_4 : decode cJ10_canEncode 4 = .ok (.if_icmp .gt 7, 3) := dk_163 0 7 (dk_at dksJ10_canEncode_0 4 rfl rfl)
theorem dJ10_canEncode_7 : decode cJ10_canEncode 7 = .ok (.iconst 1, 1) := dk_4 (dk_at dksJ10_canEncode_0 7 rfl rfl)
theorem dJ10_canEncode_8 : decode cJ10_canEncode 8 = .ok (.goto 4, 3) := dk_167 0 4 (dk_at dksJ10_canEncode_0 8 rfl rfl)
theorem dJ10_canEncode_11 : decode cJ10_canEncode 11 = .ok (.iconst 0, 1) := dk_3 (dk_at dksJ10_canEncode_0 11 rfl rfl)
theorem dJ10_canEncode_12 : decode cJ10_canEncode 12 = .ok (.ireturn, 1) := dk_172 (dk_at dksJ10_canEncode_0 12 rfl rfl)
abbrev cJ10_inflate : ByteArray := prog_29_method_50_code
def yJ10_inflate : MethodName := ⟨RJ10, "inflate", "([BI[BII)V"⟩
def dkwJ10_inflate_0 : List UInt8 := [42, 27, 44, 29, 21, 4, 184, 0, 240, 177]
abbrev dktJ10_inflate_0 : List UInt8 := dkwJ10_inflate_0 ++ []
theorem dksJ10_inflate_0 : cJ10_inflate.data.toList.drop 0 = dktJ10_inflate_0 := by decide +kernel
theorem dJ10_inflate_0 : decode cJ10_inflate 0 = .ok (.aload_n 0, 1) := dk_42 (dk_at dksJ10_inflate_0 0 rfl rfl)
theorem dJ10_inflate_1 : decode cJ10_inflate 1 = .ok (.iload_n 1, 1) := dk_27 (dk_at dksJ10_inflate_0 1 rfl rfl)
theorem dJ10_inflate_2 : decode cJ10_inflate 2 = .ok (.aload_n 2, 1) := dk_44 (dk_at dksJ10_inflate_0 2 rfl rfl)
theorem dJ10_inflate_3 : decode cJ10_inflate 3 = .ok (.iload_n 3, 1) := dk_29 (dk_at dksJ10_inflate_0 3 rfl rfl)
theorem dJ10_inflate_4 : decode cJ10_inflate 4 = .ok (.iload 4, 2) := dk_21 4 (dk_at dksJ10_inflate_0 4 rfl rfl)
theorem dJ10_inflate_6 : decode cJ10_inflate 6 = .ok (.invokestatic 240, 3) := dk_184 0 240 (dk_at dksJ10_inflate_0 6 rfl rfl)
theorem dJ10_inflate_9 : decode cJ10_inflate 9 = .ok (.return_, 1) := dk_177 (dk_at dksJ10_inflate_0 9 rfl rfl)
abbrev cJ10_equals : ByteArray := prog_29_method_13_code
def yJ10_equals : MethodName := ⟨RJ10, "equals", "([B[B)Z"⟩
def dkwJ10_equals_1 : List UInt8 := [3, 172, 132, 2, 1, 167, 255, 236, 4, 172, 3, 172]
abbrev dktJ10_equals_1 : List UInt8 := dkwJ10_equals_1 ++ []
def dkwJ10_equals_0 : List UInt8 := [42, 190, 43, 190, 160, 0, 30, 3, 61, 28, 42, 190, 162, 0, 20, 42, 28, 51, 43, 28, 51, 159, 0, 5]
abbrev dktJ10_equals_0 : List UInt8 := dkwJ10_equals_0 ++ dktJ10_equals_1
theorem dksJ10_equals_0 : cJ10_equals.data.toList.drop 0 = dktJ10_equals_0 := by decide +kernel
theorem dksJ10_equals_1 : cJ10_equals.data.toList.drop 24 = dktJ10_equals_1 := dk_seg dksJ10_equals_0 24 rfl rfl
theorem dJ10_equals_0 : decode cJ10_equals 0 = .ok (.aload_n 0, 1) := dk_42 (dk_at dksJ10_equals_0 0 rfl rfl)
theorem dJ10_equals_1 : decode cJ10_equals 1 = .ok (.arraylength, 1) := dk_190 (dk_at dksJ10_equals_0 1 rfl rfl)
theorem dJ10_equals_2 : decode cJ10_equals 2 = .ok (.aload_n 1, 1) := dk_43 (dk_at dksJ10_equals_0 2 rfl rfl)
theorem dJ10_equals_3 : decode cJ10_equals 3 = .ok (.arraylength, 1) := dk_190 (dk_at dksJ10_equals_0 3 rfl rfl)
theorem dJ10_equals_4 : decode cJ10_equals 4 = .ok (.if_icmp .ne 30, 3) := dk_160 0 30 (dk_at dksJ10_equals_0 4 rfl rfl)
theorem dJ10_equals_7 : decode cJ10_equals 7 = .ok (.iconst 0, 1) := dk_3 (dk_at dksJ10_equals_0 7 rfl rfl)
theorem dJ10_equals_8 : decode cJ10_equals 8 = .ok (.istore_n 2, 1) := dk_61 (dk_at dksJ10_equals_0 8 rfl rfl)
theorem dJ10_equals_9 : decode cJ10_equals 9 = .ok (.iload_n 2, 1) := dk_28 (dk_at dksJ10_equals_0 9 rfl rfl)
theorem dJ10_equals_10 : decode cJ10_equals 10 = .ok (.aload_n 0, 1) := dk_42 (dk_at dksJ10_equals_0 10 rfl rfl)
theorem dJ10_equals_11 : decode cJ10_equals 11 = .ok (.arraylength, 1) := dk_190 (dk_at dksJ10_equals_0 11 rfl rfl)
theorem dJ10_equals_12 : decode cJ10_equals 12 = .ok (.if_icmp .ge 20, 3) := dk_162 0 20 (dk_at dksJ10_equals_0 12 rfl rfl)
theorem dJ10_equals_15 : decode cJ10_equals 15 = .ok (.aload_n 0, 1) := dk_42 (dk_at dksJ10_equals_0 15 rfl rfl)
theorem dJ10_equals_16 : decode cJ10_equals 16 = .ok (.iload_n 2, 1) := dk_28 (dk_at dksJ10_equals_0 16 rfl rfl)
theorem dJ10_equals_17 : decode cJ10_equals 17 = .ok (.baload, 1) := dk_51 (dk_at dksJ10_equals_0 17 rfl rfl)
theorem dJ10_equals_18 : decode cJ10_equals 18 = .ok (.aload_n 1, 1) := dk_43 (dk_at dksJ10_equals_0 18 rfl rfl)
theorem dJ10_equals_19 : decode cJ10_equals 19 = .ok (.iload_n 2, 1) := dk_28 (dk_at dksJ10_equals_0 19 rfl rfl)
theorem dJ10_equals_20 : decode cJ10_equals 20 = .ok (.baload, 1) := dk_51 (dk_at dksJ10_equals_0 20 rfl rfl)
theorem dJ10_equals_21 : decode cJ10_equals 21 = .ok (.if_icmp .eq 5, 3) := dk_159 0 5 (dk_at dksJ10_equals_0 21 rfl rfl)
theorem dJ10_equals_24 : decode cJ10_equals 24 = .ok (.iconst 0, 1) := dk_3 (dk_at dksJ10_equals_1 0 rfl rfl)
theorem dJ10_equals_25 : decode cJ10_equals 25 = .ok (.ireturn, 1) := dk_172 (dk_at dksJ10_equals_1 1 rfl rfl)
theorem dJ10_equals_26 : decode cJ10_equals 26 = .ok (.iinc 2 1, 3) := dk_132 2 1 (dk_at dksJ10_equals_1 2 rfl rfl)
theorem dJ10_equals_29 : decode cJ10_equals 29 = .ok (.goto (-20), 3) := dk_167 255 236 (dk_at dksJ10_equals_1 5 rfl rfl)
theorem dJ10_equals_32 : decode cJ10_equals 32 = .ok (.iconst 1, 1) := dk_4 (dk_at dksJ10_equals_1 8 rfl rfl)
theorem dJ10_equals_33 : decode cJ10_equals 33 = .ok (.ireturn, 1) := dk_172 (dk_at dksJ10_equals_1 9 rfl rfl)
theorem dJ10_equals_34 : decode cJ10_equals 34 = .ok (.iconst 0, 1) := dk_3 (dk_at dksJ10_equals_1 10 rfl rfl)
theorem dJ10_equals_35 : decode cJ10_equals 35 = .ok (.ireturn, 1) := dk_172 (dk_at dksJ10_equals_1 11 rfl rfl)
abbrev cJ10_charAt : ByteArray := prog_29_method_2_code
def yJ10_charAt : MethodName := ⟨RJ10, "charAt", "([BI)C"⟩
def dkwJ10_charAt_0 : List UInt8 := [27, 42, 190, 184, 0, 9, 42, 27, 51, 17, 0, 255, 126, 146, 172]
abbrev dktJ10_charAt_0 : List UInt8 := dkwJ10_charAt_0 ++ []
theorem dksJ10_charAt_0 : cJ10_charAt.data.toList.drop 0 = dktJ10_charAt_0 := by decide +kernel
theorem dJ10_charAt_0 : decode cJ10_charAt 0 = .ok (.iload_n 1, 1) := dk_27 (dk_at dksJ10_charAt_0 0 rfl rfl)
theorem dJ10_charAt_1 : decode cJ10_charAt 1 = .ok (.aload_n 0, 1) := dk_42 (dk_at dksJ10_charAt_0 1 rfl rfl)
theorem dJ10_charAt_2 : decode cJ10_charAt 2 = .ok (.arraylength, 1) := dk_190 (dk_at dksJ10_charAt_0 2 rfl rfl)
theorem dJ10_charAt_3 : decode cJ10_charAt 3 = .ok (.invokestatic 9, 3) := dk_184 0 9 (dk_at dksJ10_charAt_0 3 rfl rfl)
theorem dJ10_charAt_6 : decode cJ10_charAt 6 = .ok (.aload_n 0, 1) := dk_42 (dk_at dksJ10_charAt_0 6 rfl rfl)
theorem dJ10_charAt_7 : decode cJ10_charAt 7 = .ok (.iload_n 1, 1) := dk_27 (dk_at dksJ10_charAt_0 7 rfl rfl)
theorem dJ10_charAt_8 : decode cJ10_charAt 8 = .ok (.baload, 1) := dk_51 (dk_at dksJ10_charAt_0 8 rfl rfl)
theorem dJ10_charAt_9 : decode cJ10_charAt 9 = .ok (.sipush 255, 3) := dk_17 0 255 (dk_at dksJ10_charAt_0 9 rfl rfl)
theorem dJ10_charAt_12 : decode cJ10_charAt 12 = .ok (.iand, 1) := dk_126 (dk_at dksJ10_charAt_0 12 rfl rfl)
theorem dJ10_charAt_13 : decode cJ10_charAt 13 = .ok (.i2c, 1) := dk_146 (dk_at dksJ10_charAt_0 13 rfl rfl)
theorem dJ10_charAt_14 : decode cJ10_charAt 14 = .ok (.ireturn, 1) := dk_172 (dk_at dksJ10_charAt_0 14 rfl rfl)
theorem q93 : (Jvm.Cond.initialized "java/lang/StringLatin1") ∈ lw_all := lw_g (lw_at lw_m1 17 rfl) rfl
theorem q396 : (Jvm.Cond.static ({ cls := "java/lang/StringLatin1", name := "canEncode", desc := "(C)Z" } : Jvm.MethodName)) ∈ lw_all := lw_g (lw_at lw_m2 80 rfl) rfl
theorem q397 : (Jvm.Cond.code ({ cls := "java/lang/StringLatin1", name := "canEncode", desc := "(C)Z" } : Jvm.MethodName) prog_29_method_3_code (1 : Nat) (Option.some Jvm.ClassFile.FieldType.boolean)) ∈ lw_all := lw_g (lw_at lw_m2 81 rfl) rfl
theorem q403 : (Jvm.Cond.static ({ cls := "java/lang/StringLatin1", name := "inflate", desc := "([BI[BII)V" } : Jvm.MethodName)) ∈ lw_all := lw_g (lw_at lw_m2 87 rfl) rfl
theorem q404 : (Jvm.Cond.code ({ cls := "java/lang/StringLatin1", name := "inflate", desc := "([BI[BII)V" } : Jvm.MethodName) prog_29_method_50_code (5 : Nat) (Option.none : Option Jvm.ClassFile.FieldType)) ∈ lw_all := lw_g (lw_at lw_m2 88 rfl) rfl
theorem q405 : (Jvm.Cond.methodLink "java/lang/StringLatin1" (240 : Nat) ({ cls := "java/lang/StringUTF16", name := "inflate", desc := "([BI[BII)V" } : Jvm.MethodName)) ∈ lw_all := lw_g (lw_at lw_m2 89 rfl) rfl
theorem q512 : (Jvm.Cond.static ({ cls := "java/lang/StringLatin1", name := "equals", desc := "([B[B)Z" } : Jvm.MethodName)) ∈ lw_all := lw_g (lw_at lw_m2 196 rfl) rfl
theorem q513 : (Jvm.Cond.code ({ cls := "java/lang/StringLatin1", name := "equals", desc := "([B[B)Z" } : Jvm.MethodName) prog_29_method_13_code (3 : Nat) (Option.some Jvm.ClassFile.FieldType.boolean)) ∈ lw_all := lw_g (lw_at lw_m2 197 rfl) rfl
theorem q610 : (Jvm.Cond.static ({ cls := "java/lang/StringLatin1", name := "charAt", desc := "([BI)C" } : Jvm.MethodName)) ∈ lw_all := lw_g (lw_at lw_m3 54 rfl) rfl
theorem q611 : (Jvm.Cond.code ({ cls := "java/lang/StringLatin1", name := "charAt", desc := "([BI)C" } : Jvm.MethodName) prog_29_method_2_code (2 : Nat) (Option.some Jvm.ClassFile.FieldType.char)) ∈ lw_all := lw_g (lw_at lw_m3 55 rfl) rfl
theorem q612 : (Jvm.Cond.methodLink "java/lang/StringLatin1" (9 : Nat) ({ cls := "java/lang/String", name := "checkIndex", desc := "(II)V" } : Jvm.MethodName)) ∈ lw_all := lw_g (lw_at lw_m3 56 rfl) rfl
/-! jdk/internal/util/Preconditions -/
set_option maxRecDepth 100000
def RJ11 : String := "jdk/internal/util/Preconditions"
abbrev cJ11_checkFromIndexSize : ByteArray := prog_45_method_13_code
def yJ11_checkFromIndexSize : MethodName := ⟨RJ11, "checkFromIndexSize", "(IIILjava/util/function/BiFunction;)I"⟩
def dkwJ11_checkFromIndexSize_1 : List UInt8 := [172]
abbrev dktJ11_checkFromIndexSize_1 : List UInt8 := dkwJ11_checkFromIndexSize_1 ++ []
def dkwJ11_checkFromIndexSize_0 : List UInt8 := [28, 26, 128, 27, 128, 155, 0, 10, 27, 28, 26, 100, 164, 0, 11, 45, 26, 27, 28, 184, 0, 103, 191, 26]
abbrev dktJ11_checkFromIndexSize_0 : List UInt8 := dkwJ11_checkFromIndexSize_0 ++ dktJ11_checkFromIndexSize_1
theorem dksJ11_checkFromIndexSize_0 : cJ11_checkFromIndexSize.data.toList.drop 0 = dktJ11_checkFromIndexSize_0 := by decide +kernel
theorem dksJ11_checkFromIndexSize_1 : cJ11_checkFromIndexSize.data.toList.drop 24 = dktJ11_checkFromIndexSize_1 := dk_seg dksJ11_checkFromIndexSize_0 24 rfl rfl
theorem dJ11_checkFromIndexSize_0 : decode cJ11_checkFromIndexSize 0 = .ok (.iload_n 2, 1) := dk_28 (dk_at dksJ11_checkFromIndexSize_0 0 rfl rfl)
theorem dJ11_checkFromIndexSize_1 : decode cJ11_checkFromIndexSize 1 = .ok (.iload_n 0, 1) := dk_26 (dk_at dksJ11_checkFromIndexSize_0 1 rfl rfl)
theorem dJ11_checkFromIndexSize_2 : decode cJ11_checkFromIndexSize 2 = .ok (.ior, 1) := dk_128 (dk_at dksJ11_checkFromIndexSize_0 2 rfl rfl)
theorem dJ11_checkFromIndexSize_3 : decode cJ11_checkFromIndexSize 3 = .ok (.iload_n 1, 1) := dk_27 (dk_at dksJ11_checkFromIndexSize_0 3 rfl rfl)
theorem dJ11_checkFromIndexSize_4 : decode cJ11_checkFromIndexSize 4 = .ok (.ior, 1) := dk_128 (dk_at dksJ11_checkFromIndexSize_0 4 rfl rfl)
theorem dJ11_checkFromIndexSize_5 : decode cJ11_checkFromIndexSize 5 = .ok (.ifCond .lt 10, 3) := dk_155 0 10 (dk_at dksJ11_checkFromIndexSize_0 5 rfl rfl)
theorem dJ11_checkFromIndexSize_8 : decode cJ11_checkFromIndexSize 8 = .ok (.iload_n 1, 1) := dk_27 (dk_at dksJ11_checkFromIndexSize_0 8 rfl rfl)
theorem dJ11_checkFromIndexSize_9 : decode cJ11_checkFromIndexSize 9 = .ok (.iload_n 2, 1) := dk_28 (dk_at dksJ11_checkFromIndexSize_0 9 rfl rfl)
theorem dJ11_checkFromIndexSize_10 : decode cJ11_checkFromIndexSize 10 = .ok (.iload_n 0, 1) := dk_26 (dk_at dksJ11_checkFromIndexSize_0 10 rfl rfl)
theorem dJ11_checkFromIndexSize_11 : decode cJ11_checkFromIndexSize 11 = .ok (.isub, 1) := dk_100 (dk_at dksJ11_checkFromIndexSize_0 11 rfl rfl)
theorem dJ11_checkFromIndexSize_12 : decode cJ11_checkFromIndexSize 12 = .ok (.if_icmp .le 11, 3) := dk_164 0 11 (dk_at dksJ11_checkFromIndexSize_0 12 rfl rfl)
theorem dJ11_checkFromIndexSize_15 : decode cJ11_checkFromIndexSize 15 = .ok (.aload_n 3, 1) := dk_45 (dk_at dksJ11_checkFromIndexSize_0 15 rfl rfl)
theorem dJ11_checkFromIndexSize_16 : decode cJ11_checkFromIndexSize 16 = .ok (.iload_n 0, 1) := dk_26 (dk_at dksJ11_checkFromIndexSize_0 16 rfl rfl)
theorem dJ11_checkFromIndexSize_17 : decode cJ11_checkFromIndexSize 17 = .ok (.iload_n 1, 1) := dk_27 (dk_at dksJ11_checkFromIndexSize_0 17 rfl rfl)
theorem dJ11_checkFromIndexSize_18 : decode cJ11_checkFromIndexSize 18 = .ok (.iload_n 2, 1) := dk_28 (dk_at dksJ11_checkFromIndexSize_0 18 rfl rfl)
theorem dJ11_checkFromIndexSize_19 : decode cJ11_checkFromIndexSize 19 = .ok (.invokestatic 103, 3) := dk_184 0 103 (dk_at dksJ11_checkFromIndexSize_0 19 rfl rfl)
theorem dJ11_checkFromIndexSize_22 : decode cJ11_checkFromIndexSize 22 = .ok (.athrow, 1) := dk_191 (dk_at dksJ11_checkFromIndexSize_0 22 rfl rfl)
theorem dJ11_checkFromIndexSize_23 : decode cJ11_checkFromIndexSize 23 = .ok (.iload_n 0, 1) := dk_26 (dk_at dksJ11_checkFromIndexSize_0 23 rfl rfl)
theorem dJ11_checkFromIndexSize_24 : decode cJ11_checkFromIndexSize 24 = .ok (.ireturn, 1) := dk_172 (dk_at dksJ11_checkFromIndexSize_1 0 rfl rfl)
abbrev cJ11_checkIndex : ByteArray := prog_45_method_11_code
def yJ11_checkIndex : MethodName := ⟨RJ11, "checkIndex", "(IILjava/util/function/BiFunction;)I"⟩
def dkwJ11_checkIndex_0 : List UInt8 := [26, 155, 0, 8, 26, 27, 161, 0, 10, 44, 26, 27, 184, 0, 95, 191, 26, 172]
abbrev dktJ11_checkIndex_0 : List UInt8 := dkwJ11_checkIndex_0 ++ []
theorem dksJ11_checkIndex_0 : cJ11_checkIndex.data.toList.drop 0 = dktJ11_checkIndex_0 := by decide +kernel
theorem dJ11_checkIndex_0 : decode cJ11_checkIndex 0 = .ok (.iload_n 0, 1) := dk_26 (dk_at dksJ11_checkIndex_0 0 rfl rfl)
theorem dJ11_checkIndex_1 : decode cJ11_checkIndex 1 = .ok (.ifCond .lt 8, 3) := dk_155 0 8 (dk_at dksJ11_checkIndex_0 1 rfl rfl)
theorem dJ11_checkIndex_4 : decode cJ11_checkIndex 4 = .ok (.iload_n 0, 1) := dk_26 (dk_at dksJ11_checkIndex_0 4 rfl rfl)
theorem dJ11_checkIndex_5 : decode cJ11_checkIndex 5 = .ok (.iload_n 1, 1) := dk_27 (dk_at dksJ11_checkIndex_0 5 rfl rfl)
theorem dJ11_checkIndex_6 : decode cJ11_checkIndex 6 = .ok (.if_icmp .lt 10, 3) := dk_161 0 10 (dk_at dksJ11_checkIndex_0 6 rfl rfl)
theorem dJ11_checkIndex_9 : decode cJ11_checkIndex 9 = .ok (.aload_n 2, 1) := dk_44 (dk_at dksJ11_checkIndex_0 9 rfl rfl)
theorem dJ11_checkIndex_10 : decode cJ11_checkIndex 10 = .ok (.iload_n 0, 1) := dk_26 (dk_at dksJ11_checkIndex_0 10 rfl rfl)
theorem dJ11_checkIndex_11 : decode cJ11_checkIndex 11 = .ok (.iload_n 1, 1) := dk_27 (dk_at dksJ11_checkIndex_0 11 rfl rfl)
theorem dJ11_checkIndex_12 : decode cJ11_checkIndex 12 = .ok (.invokestatic 95, 3) := dk_184 0 95 (dk_at dksJ11_checkIndex_0 12 rfl rfl)
theorem dJ11_checkIndex_15 : decode cJ11_checkIndex 15 = .ok (.athrow, 1) := dk_191 (dk_at dksJ11_checkIndex_0 15 rfl rfl)
theorem dJ11_checkIndex_16 : decode cJ11_checkIndex 16 = .ok (.iload_n 0, 1) := dk_26 (dk_at dksJ11_checkIndex_0 16 rfl rfl)
theorem dJ11_checkIndex_17 : decode cJ11_checkIndex 17 = .ok (.ireturn, 1) := dk_172 (dk_at dksJ11_checkIndex_0 17 rfl rfl)
theorem q94 : (Jvm.Cond.initialized "jdk/internal/util/Preconditions") ∈ lw_all := lw_g (lw_at lw_m1 18 rfl) rfl
theorem q418 : (Jvm.Cond.laysStatic "jdk/internal/util/Preconditions" "SIOOBE_FORMATTER" "Ljava/util/function/BiFunction;") ∈ lw_tbl := lw_at lw_m2 102 rfl
theorem q420 : (Jvm.Cond.static ({ cls := "jdk/internal/util/Preconditions", name := "checkFromIndexSize", desc := "(IIILjava/util/function/BiFunction;)I" } : Jvm.MethodName)) ∈ lw_all := lw_g (lw_at lw_m2 104 rfl) rfl
theorem q421 : (Jvm.Cond.code ({ cls := "jdk/internal/util/Preconditions", name := "checkFromIndexSize", desc := "(IIILjava/util/function/BiFunction;)I" } : Jvm.MethodName) prog_45_method_13_code (4 : Nat) (Option.some Jvm.ClassFile.FieldType.int)) ∈ lw_all := lw_g (lw_at lw_m2 105 rfl) rfl
theorem q441 : (Jvm.Cond.static ({ cls := "jdk/internal/util/Preconditions", name := "checkIndex", desc := "(IILjava/util/function/BiFunction;)I" } : Jvm.MethodName)) ∈ lw_all := lw_g (lw_at lw_m2 125 rfl) rfl
theorem q442 : (Jvm.Cond.code ({ cls := "jdk/internal/util/Preconditions", name := "checkIndex", desc := "(IILjava/util/function/BiFunction;)I" } : Jvm.MethodName) prog_45_method_11_code (3 : Nat) (Option.some Jvm.ClassFile.FieldType.int)) ∈ lw_all := lw_g (lw_at lw_m2 126 rfl) rfl
/-! java/lang/Throwable -/
set_option maxRecDepth 100000
def RJ12 : String := "java/lang/Throwable"
def TJ12 : u_T := fun k => match k with
  | 0 => ("java/lang/Throwable", "cause", "Ljava/lang/Throwable;", false)
  | 1 => ("java/lang/Throwable", "stackTrace", "[Ljava/lang/StackTraceElement;", false)
  | 2 => ("java/lang/Throwable", "suppressedExceptions", "Ljava/util/List;", false)
  | 3 => ("java/lang/Throwable", "detailMessage", "Ljava/lang/String;", false)
  | _ => ("java/lang/Throwable", "backtrace", "Ljava/lang/Object;", false)
def tyJ12 : Nat → FieldType := fun k => match k with
  | 0 => .object "java/lang/Throwable"
  | 1 => .array (.object "java/lang/StackTraceElement")
  | 2 => .object "java/util/List"
  | 3 => .object "java/lang/String"
  | _ => .object "java/lang/Object"
abbrev wsJ120 : List Cond := u_ws RJ12 TJ12 5
theorem nmJ12 : ∀ a, a < 5 → ∀ b, b < 5 → a ≠ b → (TJ12 a).2.1 ≠ (TJ12 b).2.1 := by decide +kernel
theorem tyJ12_ok : ∀ k, k < 5 → parseFieldDescriptor (TJ12 k).2.2.1 = some (tyJ12 k) := by decide +kernel
abbrev cJ12_init : ByteArray := prog_32_method_1_code
def yJ12_init : MethodName := ⟨RJ12, "<init>", "()V"⟩
def dkwJ12_init_1 : List UInt8 := [182, 0, 27, 87, 177]
abbrev dktJ12_init_1 : List UInt8 := dkwJ12_init_1 ++ []
def dkwJ12_init_0 : List UInt8 := [42, 183, 0, 1, 42, 42, 181, 0, 7, 42, 178, 0, 13, 181, 0, 17, 42, 178, 0, 20, 181, 0, 24, 42]
abbrev dktJ12_init_0 : List UInt8 := dkwJ12_init_0 ++ dktJ12_init_1
theorem dksJ12_init_0 : cJ12_init.data.toList.drop 0 = dktJ12_init_0 := by decide +kernel
theorem dksJ12_init_1 : cJ12_init.data.toList.drop 24 = dktJ12_init_1 := dk_seg dksJ12_init_0 24 rfl rfl
theorem dJ12_init_0 : decode cJ12_init 0 = .ok (.aload_n 0, 1) := dk_42 (dk_at dksJ12_init_0 0 rfl rfl)
theorem dJ12_init_1 : decode cJ12_init 1 = .ok (.invokespecial 1, 3) := dk_183 0 1 (dk_at dksJ12_init_0 1 rfl rfl)
theorem dJ12_init_4 : decode cJ12_init 4 = .ok (.aload_n 0, 1) := dk_42 (dk_at dksJ12_init_0 4 rfl rfl)
theorem dJ12_init_5 : decode cJ12_init 5 = .ok (.aload_n 0, 1) := dk_42 (dk_at dksJ12_init_0 5 rfl rfl)
theorem dJ12_init_6 : decode cJ12_init 6 = .ok (.putfield 7, 3) := dk_181 0 7 (dk_at dksJ12_init_0 6 rfl rfl)
theorem dJ12_init_9 : decode cJ12_init 9 = .ok (.aload_n 0, 1) := dk_42 (dk_at dksJ12_init_0 9 rfl rfl)
theorem dJ12_init_10 : decode cJ12_init 10 = .ok (.getstatic 13, 3) := dk_178 0 13 (dk_at dksJ12_init_0 10 rfl rfl)
theorem dJ12_init_13 : decode cJ12_init 13 = .ok (.putfield 17, 3) := dk_181 0 17 (dk_at dksJ12_init_0 13 rfl rfl)
theorem dJ12_init_16 : decode cJ12_init 16 = .ok (.aload_n 0, 1) := dk_42 (dk_at dksJ12_init_0 16 rfl rfl)
theorem dJ12_init_17 : decode cJ12_init 17 = .ok (.getstatic 20, 3) := dk_178 0 20 (dk_at dksJ12_init_0 17 rfl rfl)
theorem dJ12_init_20 : decode cJ12_init 20 = .ok (.putfield 24, 3) := dk_181 0 24 (dk_at dksJ12_init_0 20 rfl rfl)
theorem dJ12_init_23 : decode cJ12_init 23 = .ok (.aload_n 0, 1) := dk_42 (dk_at dksJ12_init_0 23 rfl rfl)
theorem dJ12_init_24 : decode cJ12_init 24 = .ok (.invokevirtual 27, 3) := dk_182 0 27 (dk_at dksJ12_init_1 0 rfl rfl)
theorem dJ12_init_27 : decode cJ12_init 27 = .ok (.pop, 1) := dk_87 (dk_at dksJ12_init_1 3 rfl rfl)
theorem dJ12_init_28 : decode cJ12_init 28 = .ok (.return_, 1) := dk_177 (dk_at dksJ12_init_1 4 rfl rfl)
abbrev cJ12_init_2 : ByteArray := prog_32_method_5_code
def yJ12_init_2 : MethodName := ⟨RJ12, "<init>", "(Ljava/lang/String;Ljava/lang/Throwable;ZZ)V"⟩
def dkwJ12_init_2_2 : List UInt8 := [44, 181, 0, 7, 29, 154, 0, 8, 42, 1, 181, 0, 24, 177]
abbrev dktJ12_init_2_2 : List UInt8 := dkwJ12_init_2_2 ++ []
def dkwJ12_init_2_1 : List UInt8 := [21, 4, 153, 0, 11, 42, 182, 0, 27, 87, 167, 0, 8, 42, 1, 181, 0, 17, 42, 43, 181, 0, 31, 42]
abbrev dktJ12_init_2_1 : List UInt8 := dkwJ12_init_2_1 ++ dktJ12_init_2_2
def dkwJ12_init_2_0 : List UInt8 := [42, 183, 0, 1, 42, 42, 181, 0, 7, 42, 178, 0, 13, 181, 0, 17, 42, 178, 0, 20, 181, 0, 24]
abbrev dktJ12_init_2_0 : List UInt8 := dkwJ12_init_2_0 ++ dktJ12_init_2_1
theorem dksJ12_init_2_0 : cJ12_init_2.data.toList.drop 0 = dktJ12_init_2_0 := by decide +kernel
theorem dksJ12_init_2_1 : cJ12_init_2.data.toList.drop 23 = dktJ12_init_2_1 := dk_seg dksJ12_init_2_0 23 rfl rfl
theorem dksJ12_init_2_2 : cJ12_init_2.data.toList.drop 47 = dktJ12_init_2_2 := dk_seg dksJ12_init_2_1 24 rfl rfl
theorem dJ12_init_2_0 : decode cJ12_init_2 0 = .ok (.aload_n 0, 1) := dk_42 (dk_at dksJ12_init_2_0 0 rfl rfl)
theorem dJ12_init_2_1 : decode cJ12_init_2 1 = .ok (.invokespecial 1, 3) := dk_183 0 1 (dk_at dksJ12_init_2_0 1 rfl rfl)
theorem dJ12_init_2_4 : decode cJ12_init_2 4 = .ok (.aload_n 0, 1) := dk_42 (dk_at dksJ12_init_2_0 4 rfl rfl)
theorem dJ12_init_2_5 : decode cJ12_init_2 5 = .ok (.aload_n 0, 1) := dk_42 (dk_at dksJ12_init_2_0 5 rfl rfl)
theorem dJ12_init_2_6 : decode cJ12_init_2 6 = .ok (.putfield 7, 3) := dk_181 0 7 (dk_at dksJ12_init_2_0 6 rfl rfl)
theorem dJ12_init_2_9 : decode cJ12_init_2 9 = .ok (.aload_n 0, 1) := dk_42 (dk_at dksJ12_init_2_0 9 rfl rfl)
theorem dJ12_init_2_10 : decode cJ12_init_2 10 = .ok (.getstatic 13, 3) := dk_178 0 13 (dk_at dksJ12_init_2_0 10 rfl rfl)
theorem dJ12_init_2_13 : decode cJ12_init_2 13 = .ok (.putfield 17, 3) := dk_181 0 17 (dk_at dksJ12_init_2_0 13 rfl rfl)
theorem dJ12_init_2_16 : decode cJ12_init_2 16 = .ok (.aload_n 0, 1) := dk_42 (dk_at dksJ12_init_2_0 16 rfl rfl)
theorem dJ12_init_2_17 : decode cJ12_init_2 17 = .ok (.getstatic 20, 3) := dk_178 0 20 (dk_at dksJ12_init_2_0 17 rfl rfl)
theorem dJ12_init_2_20 : decode cJ12_init_2 20 = .ok (.putfield 24, 3) := dk_181 0 24 (dk_at dksJ12_init_2_0 20 rfl rfl)
theorem dJ12_init_2_23 : decode cJ12_init_2 23 = .ok (.iload 4, 2) := dk_21 4 (dk_at dksJ12_init_2_1 0 rfl rfl)
theorem dJ12_init_2_25 : decode cJ12_init_2 25 = .ok (.ifCond .eq 11, 3) := dk_153 0 11 (dk_at dksJ12_init_2_1 2 rfl rfl)
theorem dJ12_init_2_28 : decode cJ12_init_2 28 = .ok (.aload_n 0, 1) := dk_42 (dk_at dksJ12_init_2_1 5 rfl rfl)
theorem dJ12_init_2_29 : decode cJ12_init_2 29 = .ok (.invokevirtual 27, 3) := dk_182 0 27 (dk_at dksJ12_init_2_1 6 rfl rfl)
theorem dJ12_init_2_32 : decode cJ12_init_2 32 = .ok (.pop, 1) := dk_87 (dk_at dksJ12_init_2_1 9 rfl rfl)
theorem dJ12_init_2_33 : decode cJ12_init_2 33 = .ok (.goto 8, 3) := dk_167 0 8 (dk_at dksJ12_init_2_1 10 rfl rfl)
theorem dJ12_init_2_36 : decode cJ12_init_2 36 = .ok (.aload_n 0, 1) := dk_42 (dk_at dksJ12_init_2_1 13 rfl rfl)
theorem dJ12_init_2_37 : decode cJ12_init_2 37 = .ok (.aconst_null, 1) := dk_1 (dk_at dksJ12_init_2_1 14 rfl rfl)
theorem dJ12_init_2_38 : decode cJ12_init_2 38 = .ok (.putfield 17, 3) := dk_181 0 17 (dk_at dksJ12_init_2_1 15 rfl rfl)
theorem dJ12_init_2_41 : decode cJ12_init_2 41 = .ok (.aload_n 0, 1) := dk_42 (dk_at dksJ12_init_2_1 18 rfl rfl)
theorem dJ12_init_2_42 : decode cJ12_init_2 42 = .ok (.aload_n 1, 1) := dk_43 (dk_at dksJ12_init_2_1 19 rfl rfl)
theorem dJ12_init_2_43 : decode cJ12_init_2 43 = .ok (.putfield 31, 3) := dk_181 0 31 (dk_at dksJ12_init_2_1 20 rfl rfl)
theorem dJ12_init_2_46 : decode cJ12_init_2 46 = .ok (.aload_n 0, 1) := dk_42 (dk_at dksJ12_init_2_1 23 rfl rfl)
theorem dJ12_init_2_47 : decode cJ12_init_2 47 = .ok (.aload_n 2, 1) := dk_44 (dk_at dksJ12_init_2_2 0 rfl rfl)
theorem dJ12_init_2_48 : decode cJ12_init_2 48 = .ok (.putfield 7, 3) := dk_181 0 7 (dk_at dksJ12_init_2_2 1 rfl rfl)
theorem dJ12_init_2_51 : decode cJ12_init_2 51 = .ok (.iload_n 3, 1) := dk_29 (dk_at dksJ12_init_2_2 4 rfl rfl)
theorem dJ12_init_2_52 : decode cJ12_init_2 52 = .ok (.ifCond .ne 8, 3) := dk_154 0 8 (dk_at dksJ12_init_2_2 5 rfl rfl)
theorem dJ12_init_2_55 : decode cJ12_init_2 55 = .ok (.aload_n 0, 1) := dk_42 (dk_at dksJ12_init_2_2 8 rfl rfl)
theorem dJ12_init_2_56 : decode cJ12_init_2 56 = .ok (.aconst_null, 1) := dk_1 (dk_at dksJ12_init_2_2 9 rfl rfl)
theorem dJ12_init_2_57 : decode cJ12_init_2 57 = .ok (.putfield 24, 3) := dk_181 0 24 (dk_at dksJ12_init_2_2 10 rfl rfl)
theorem dJ12_init_2_60 : decode cJ12_init_2 60 = .ok (.return_, 1) := dk_177 (dk_at dksJ12_init_2_2 13 rfl rfl)
theorem q95 : (Jvm.Cond.initialized "java/lang/Throwable") ∈ lw_all := lw_g (lw_at lw_m1 19 rfl) rfl
theorem q523 : (Jvm.Cond.declares ({ cls := "java/lang/Throwable", name := "<init>", desc := "()V" } : Jvm.MethodName)) ∈ lw_tbl := lw_at lw_m2 207 rfl
theorem q524 : (Jvm.Cond.declares ({ cls := "java/lang/Throwable", name := "<init>", desc := "(Ljava/lang/String;)V" } : Jvm.MethodName)) ∈ lw_tbl := lw_at lw_m2 208 rfl
theorem q528 : (Jvm.Cond.lays "java/lang/Throwable" "java/lang/Throwable" "cause" "Ljava/lang/Throwable;") ∈ lw_all := lw_g (lw_at lw_m2 212 rfl) rfl
theorem q530 : (Jvm.Cond.lays "java/lang/Throwable" "java/lang/Throwable" "stackTrace" "[Ljava/lang/StackTraceElement;") ∈ lw_all := lw_g (lw_at lw_m2 214 rfl) rfl
theorem q532 : (Jvm.Cond.lays "java/lang/Throwable" "java/lang/Throwable" "suppressedExceptions" "Ljava/util/List;") ∈ lw_all := lw_g (lw_at lw_m2 216 rfl) rfl
theorem q534 : (Jvm.Cond.lays "java/lang/Throwable" "java/lang/Throwable" "detailMessage" "Ljava/lang/String;") ∈ lw_all := lw_g (lw_at lw_m2 218 rfl) rfl
theorem q536 : (Jvm.Cond.lays "java/lang/Throwable" "java/lang/Throwable" "backtrace" "Ljava/lang/Object;") ∈ lw_all := lw_g (lw_at lw_m2 220 rfl) rfl
theorem q537 : (Jvm.Cond.fieldLink "java/lang/Throwable" (198 : Nat) "java/lang/Throwable" "backtrace" "Ljava/lang/Object;") ∈ lw_all := lw_g (lw_at lw_m2 221 rfl) rfl
theorem q538 : (Jvm.Cond.superclass "java/lang/Throwable" "java/lang/Object") ∈ lw_all := lw_g (lw_at lw_m2 222 rfl) rfl
theorem q539 : (Jvm.Cond.instanceMethod ({ cls := "java/lang/Throwable", name := "<init>", desc := "()V" } : Jvm.MethodName)) ∈ lw_all := lw_g (lw_at lw_m2 223 rfl) rfl
theorem q540 : (Jvm.Cond.code ({ cls := "java/lang/Throwable", name := "<init>", desc := "()V" } : Jvm.MethodName) prog_32_method_1_code (1 : Nat) (Option.none : Option Jvm.ClassFile.FieldType)) ∈ lw_all := lw_g (lw_at lw_m2 224 rfl) rfl
theorem q541 : (Jvm.Cond.methodLink "java/lang/Throwable" (1 : Nat) ({ cls := "java/lang/Object", name := "<init>", desc := "()V" } : Jvm.MethodName)) ∈ lw_all := lw_g (lw_at lw_m2 225 rfl) rfl
theorem q542 : (Jvm.Cond.fieldLink "java/lang/Throwable" (13 : Nat) "java/lang/Throwable" "UNASSIGNED_STACK" "[Ljava/lang/StackTraceElement;") ∈ lw_all := lw_g (lw_at lw_m2 226 rfl) rfl
theorem q543 : (Jvm.Cond.laysStatic "java/lang/Throwable" "UNASSIGNED_STACK" "[Ljava/lang/StackTraceElement;") ∈ lw_tbl := lw_at lw_m2 227 rfl
theorem q544 : (Jvm.Cond.fieldLink "java/lang/Throwable" (20 : Nat) "java/lang/Throwable" "SUPPRESSED_SENTINEL" "Ljava/util/List;") ∈ lw_all := lw_g (lw_at lw_m2 228 rfl) rfl
theorem q545 : (Jvm.Cond.laysStatic "java/lang/Throwable" "SUPPRESSED_SENTINEL" "Ljava/util/List;") ∈ lw_tbl := lw_at lw_m2 229 rfl
theorem q546 : (Jvm.Cond.methodLink "java/lang/Throwable" (27 : Nat) ({ cls := "java/lang/Throwable", name := "fillInStackTrace", desc := "()Ljava/lang/Throwable;" } : Jvm.MethodName)) ∈ lw_all := lw_g (lw_at lw_m2 230 rfl) rfl
theorem q547 : (Jvm.Cond.instanceMethod ({ cls := "java/lang/Throwable", name := "fillInStackTrace", desc := "()Ljava/lang/Throwable;" } : Jvm.MethodName)) ∈ lw_all := lw_g (lw_at lw_m2 231 rfl) rfl
theorem q548 : (Jvm.Cond.sameMethod "java/lang/Throwable" "java/lang/Throwable" "fillInStackTrace" "()Ljava/lang/Throwable;") ∈ lw_all := lw_g (lw_at lw_m2 232 rfl) rfl
theorem q549 : (Jvm.Cond.codeSync ({ cls := "java/lang/Throwable", name := "fillInStackTrace", desc := "()Ljava/lang/Throwable;" } : Jvm.MethodName) prog_32_method_18_code (1 : Nat) (Option.some (Jvm.ClassFile.FieldType.object "java/lang/Throwable"))) ∈ lw_all := lw_g (lw_at lw_m2 233 rfl) rfl
theorem q550 : (Jvm.Cond.methodLink "java/lang/Throwable" (202 : Nat) ({ cls := "java/lang/Throwable", name := "fillInStackTrace", desc := "(I)Ljava/lang/Throwable;" } : Jvm.MethodName)) ∈ lw_all := lw_g (lw_at lw_m2 234 rfl) rfl
theorem q551 : (Jvm.Cond.privateMethod ({ cls := "java/lang/Throwable", name := "fillInStackTrace", desc := "(I)Ljava/lang/Throwable;" } : Jvm.MethodName)) ∈ lw_tbl := lw_at lw_m2 235 rfl
theorem q552 : (Jvm.Cond.instanceMethod ({ cls := "java/lang/Throwable", name := "fillInStackTrace", desc := "(I)Ljava/lang/Throwable;" } : Jvm.MethodName)) ∈ lw_all := lw_g (lw_at lw_m2 236 rfl) rfl
theorem q553 : (Jvm.Cond.instantiable "java/lang/Throwable" (6 : Nat)) ∈ lw_all := lw_g (lw_at lw_m2 237 rfl) rfl
theorem q554 : (Jvm.Cond.native ({ cls := "java/lang/Throwable", name := "fillInStackTrace", desc := "(I)Ljava/lang/Throwable;" } : Jvm.MethodName)) ∈ lw_all := lw_g (lw_at lw_m2 238 rfl) rfl
theorem q562 : (Jvm.Cond.instanceMethod ({ cls := "java/lang/Throwable", name := "<init>", desc := "(Ljava/lang/String;Ljava/lang/Throwable;ZZ)V" } : Jvm.MethodName)) ∈ lw_all := lw_g (lw_at lw_m3 6 rfl) rfl
theorem q563 : (Jvm.Cond.code ({ cls := "java/lang/Throwable", name := "<init>", desc := "(Ljava/lang/String;Ljava/lang/Throwable;ZZ)V" } : Jvm.MethodName) prog_32_method_5_code (5 : Nat) (Option.none : Option Jvm.ClassFile.FieldType)) ∈ lw_all := lw_g (lw_at lw_m3 7 rfl) rfl
theorem q566 : (Jvm.Cond.fieldLink "java/lang/Throwable" (198 : Nat) "java/lang/Throwable" "backtrace" "Ljava/lang/Object;") ∈ lw_all := lw_g (lw_at lw_m3 10 rfl) rfl
theorem q567 : (Jvm.Cond.fieldLink "java/lang/Throwable" (31 : Nat) "java/lang/Throwable" "detailMessage" "Ljava/lang/String;") ∈ lw_all := lw_g (lw_at lw_m3 11 rfl) rfl
theorem q568 : (Jvm.Cond.fieldLink "java/lang/Throwable" (7 : Nat) "java/lang/Throwable" "cause" "Ljava/lang/Throwable;") ∈ lw_all := lw_g (lw_at lw_m3 12 rfl) rfl
theorem q569 : (Jvm.Cond.fieldLink "java/lang/Throwable" (17 : Nat) "java/lang/Throwable" "stackTrace" "[Ljava/lang/StackTraceElement;") ∈ lw_all := lw_g (lw_at lw_m3 13 rfl) rfl
theorem q570 : (Jvm.Cond.fieldLink "java/lang/Throwable" (24 : Nat) "java/lang/Throwable" "suppressedExceptions" "Ljava/util/List;") ∈ lw_all := lw_g (lw_at lw_m3 14 rfl) rfl
theorem q573 : (Jvm.Cond.soleField "java/lang/Throwable" "backtrace") ∈ lw_all := lw_g (lw_at lw_m3 17 rfl) rfl
theorem q574 : (Jvm.Cond.soleField "java/lang/Throwable" "detailMessage") ∈ lw_all := lw_g (lw_at lw_m3 18 rfl) rfl
theorem q575 : (Jvm.Cond.soleField "java/lang/Throwable" "cause") ∈ lw_all := lw_g (lw_at lw_m3 19 rfl) rfl
theorem q576 : (Jvm.Cond.soleField "java/lang/Throwable" "stackTrace") ∈ lw_all := lw_g (lw_at lw_m3 20 rfl) rfl
theorem q578 : (Jvm.Cond.soleField "java/lang/Throwable" "depth") ∈ lw_all := lw_g (lw_at lw_m3 22 rfl) rfl
theorem q579 : (Jvm.Cond.soleField "java/lang/Throwable" "suppressedExceptions") ∈ lw_all := lw_g (lw_at lw_m3 23 rfl) rfl
theorem q1547 : (Jvm.Cond.sameMethod "java/lang/Throwable" "java/lang/Throwable" "fillInStackTrace" "(I)Ljava/lang/Throwable;") ∈ lw_all := lw_g (lw_at lw_m7 31 rfl) rfl
theorem q1565 : (Jvm.Cond.castable "java/lang/Throwable" "java/lang/Object") ∈ lw_tbl := lw_at lw_m7 49 rfl
theorem in_J12 : ∀ w ∈ wsJ120, w ∈ lw_all := lw_in wsJ120 [528, 530, 532, 534, 536] (by decide +kernel) (by decide +kernel)
/-! java/lang/Exception -/
set_option maxRecDepth 100000
def RJ13 : String := "java/lang/Exception"
abbrev cJ13_init : ByteArray := prog_22_method_5_code
def yJ13_init : MethodName := ⟨RJ13, "<init>", "(Ljava/lang/String;Ljava/lang/Throwable;ZZ)V"⟩
def dkwJ13_init_0 : List UInt8 := [42, 43, 44, 29, 21, 4, 183, 0, 16, 177]
abbrev dktJ13_init_0 : List UInt8 := dkwJ13_init_0 ++ []
theorem dksJ13_init_0 : cJ13_init.data.toList.drop 0 = dktJ13_init_0 := by decide +kernel
theorem dJ13_init_0 : decode cJ13_init 0 = .ok (.aload_n 0, 1) := dk_42 (dk_at dksJ13_init_0 0 rfl rfl)
theorem dJ13_init_1 : decode cJ13_init 1 = .ok (.aload_n 1, 1) := dk_43 (dk_at dksJ13_init_0 1 rfl rfl)
theorem dJ13_init_2 : decode cJ13_init 2 = .ok (.aload_n 2, 1) := dk_44 (dk_at dksJ13_init_0 2 rfl rfl)
theorem dJ13_init_3 : decode cJ13_init 3 = .ok (.iload_n 3, 1) := dk_29 (dk_at dksJ13_init_0 3 rfl rfl)
theorem dJ13_init_4 : decode cJ13_init 4 = .ok (.iload 4, 2) := dk_21 4 (dk_at dksJ13_init_0 4 rfl rfl)
theorem dJ13_init_6 : decode cJ13_init 6 = .ok (.invokespecial 16, 3) := dk_183 0 16 (dk_at dksJ13_init_0 6 rfl rfl)
theorem dJ13_init_9 : decode cJ13_init 9 = .ok (.return_, 1) := dk_177 (dk_at dksJ13_init_0 9 rfl rfl)
theorem q96 : (Jvm.Cond.initialized "java/lang/Exception") ∈ lw_all := lw_g (lw_at lw_m1 20 rfl) rfl
theorem q521 : (Jvm.Cond.declares ({ cls := "java/lang/Exception", name := "<init>", desc := "()V" } : Jvm.MethodName)) ∈ lw_tbl := lw_at lw_m2 205 rfl
theorem q522 : (Jvm.Cond.declares ({ cls := "java/lang/Exception", name := "<init>", desc := "(Ljava/lang/String;)V" } : Jvm.MethodName)) ∈ lw_tbl := lw_at lw_m2 206 rfl
theorem q559 : (Jvm.Cond.instanceMethod ({ cls := "java/lang/Exception", name := "<init>", desc := "(Ljava/lang/String;Ljava/lang/Throwable;ZZ)V" } : Jvm.MethodName)) ∈ lw_all := lw_g (lw_at lw_m3 3 rfl) rfl
theorem q560 : (Jvm.Cond.code ({ cls := "java/lang/Exception", name := "<init>", desc := "(Ljava/lang/String;Ljava/lang/Throwable;ZZ)V" } : Jvm.MethodName) prog_22_method_5_code (5 : Nat) (Option.none : Option Jvm.ClassFile.FieldType)) ∈ lw_all := lw_g (lw_at lw_m3 4 rfl) rfl
theorem q561 : (Jvm.Cond.methodLink "java/lang/Exception" (16 : Nat) ({ cls := "java/lang/Throwable", name := "<init>", desc := "(Ljava/lang/String;Ljava/lang/Throwable;ZZ)V" } : Jvm.MethodName)) ∈ lw_all := lw_g (lw_at lw_m3 5 rfl) rfl
/-! java/lang/Integer -/
set_option maxRecDepth 100000
def RJ14 : String := "java/lang/Integer"
abbrev cJ14_parseInt : ByteArray := prog_23_method_16_code
def yJ14_parseInt : MethodName := ⟨RJ14, "parseInt", "(Ljava/lang/String;)I"⟩
def dkwJ14_parseInt_0 : List UInt8 := [42, 16, 10, 184, 0, 156, 172]
abbrev dktJ14_parseInt_0 : List UInt8 := dkwJ14_parseInt_0 ++ []
theorem dksJ14_parseInt_0 : cJ14_parseInt.data.toList.drop 0 = dktJ14_parseInt_0 := by decide +kernel
theorem dJ14_parseInt_0 : decode cJ14_parseInt 0 = .ok (.aload_n 0, 1) := dk_42 (dk_at dksJ14_parseInt_0 0 rfl rfl)
theorem dJ14_parseInt_1 : decode cJ14_parseInt 1 = .ok (.bipush 10, 2) := dk_16 10 (dk_at dksJ14_parseInt_0 1 rfl rfl)
theorem dJ14_parseInt_3 : decode cJ14_parseInt 3 = .ok (.invokestatic 156, 3) := dk_184 0 156 (dk_at dksJ14_parseInt_0 3 rfl rfl)
theorem dJ14_parseInt_6 : decode cJ14_parseInt 6 = .ok (.ireturn, 1) := dk_172 (dk_at dksJ14_parseInt_0 6 rfl rfl)
abbrev cJ14_parseInt_2 : ByteArray := prog_23_method_14_code
def yJ14_parseInt_2 : MethodName := ⟨RJ14, "parseInt", "(Ljava/lang/String;I)I"⟩
def dkwJ14_parseInt_2_11 : List UInt8 := [21, 8, 116, 172, 42, 27, 184, 0, 128, 191]
abbrev dktJ14_parseInt_2_11 : List UInt8 := dkwJ14_parseInt_2_11 ++ []
def dkwJ14_parseInt_2_10 : List UInt8 := [184, 0, 128, 191, 21, 8, 21, 9, 100, 54, 8, 167, 255, 189, 28, 153, 0, 8, 21, 8, 167, 0, 6]
abbrev dktJ14_parseInt_2_10 : List UInt8 := dkwJ14_parseInt_2_10 ++ dktJ14_parseInt_2_11
def dkwJ14_parseInt_2_9 : List UInt8 := [184, 0, 128, 191, 21, 8, 27, 104, 54, 8, 21, 8, 21, 5, 21, 9, 96, 162, 0, 9, 42, 27]
abbrev dktJ14_parseInt_2_9 : List UInt8 := dkwJ14_parseInt_2_9 ++ dktJ14_parseInt_2_10
def dkwJ14_parseInt_2_8 : List UInt8 := [182, 0, 123, 27, 184, 0, 132, 54, 9, 21, 9, 155, 0, 10, 21, 8, 21, 7, 162, 0, 9, 42, 27]
abbrev dktJ14_parseInt_2_8 : List UInt8 := dkwJ14_parseInt_2_8 ++ dktJ14_parseInt_2_9
def dkwJ14_parseInt_2_7 : List UInt8 := [132, 3, 1, 21, 5, 27, 108, 54, 7, 3, 54, 8, 29, 21, 4, 162, 0, 67, 42, 29, 132, 3, 1]
abbrev dktJ14_parseInt_2_7 : List UInt8 := dkwJ14_parseInt_2_7 ++ dktJ14_parseInt_2_8
def dkwJ14_parseInt_2_6 : List UInt8 := [16, 43, 159, 0, 9, 42, 27, 184, 0, 128, 191, 21, 4, 4, 160, 0, 9, 42, 27, 184, 0, 128, 191]
abbrev dktJ14_parseInt_2_6 : List UInt8 := dkwJ14_parseInt_2_6 ++ dktJ14_parseInt_2_7
def dkwJ14_parseInt_2_5 : List UInt8 := [16, 48, 162, 0, 47, 21, 6, 16, 45, 160, 0, 12, 4, 61, 18, 127, 54, 5, 167, 0, 16, 21, 6]
abbrev dktJ14_parseInt_2_5 : List UInt8 := dkwJ14_parseInt_2_5 ++ dktJ14_parseInt_2_6
def dkwJ14_parseInt_2_4 : List UInt8 := [182, 0, 118, 54, 4, 18, 122, 54, 5, 21, 4, 158, 0, 153, 42, 3, 182, 0, 123, 54, 6, 21, 6]
abbrev dktJ14_parseInt_2_4 : List UInt8 := dkwJ14_parseInt_2_4 ++ dktJ14_parseInt_2_5
def dkwJ14_parseInt_2_3 : List UInt8 := [182, 0, 104, 27, 182, 0, 108, 18, 116, 182, 0, 104, 182, 0, 113, 183, 0, 94, 191, 3, 61, 3, 62, 42]
abbrev dktJ14_parseInt_2_3 : List UInt8 := dkwJ14_parseInt_2_3 ++ dktJ14_parseInt_2_4
def dkwJ14_parseInt_2_2 : List UInt8 := [183, 0, 94, 191, 27, 16, 36, 164, 0, 35, 187, 0, 90, 89, 187, 0, 97, 89, 183, 0, 99, 18, 102]
abbrev dktJ14_parseInt_2_2 : List UInt8 := dkwJ14_parseInt_2_2 ++ dktJ14_parseInt_2_3
def dkwJ14_parseInt_2_1 : List UInt8 := [187, 0, 97, 89, 183, 0, 99, 18, 102, 182, 0, 104, 27, 182, 0, 108, 18, 111, 182, 0, 104, 182, 0, 113]
abbrev dktJ14_parseInt_2_1 : List UInt8 := dkwJ14_parseInt_2_1 ++ dktJ14_parseInt_2_2
def dkwJ14_parseInt_2_0 : List UInt8 := [42, 199, 0, 13, 187, 0, 90, 89, 18, 92, 183, 0, 94, 191, 27, 5, 162, 0, 35, 187, 0, 90, 89]
abbrev dktJ14_parseInt_2_0 : List UInt8 := dkwJ14_parseInt_2_0 ++ dktJ14_parseInt_2_1
theorem dksJ14_parseInt_2_0 : cJ14_parseInt_2.data.toList.drop 0 = dktJ14_parseInt_2_0 := by decide +kernel
theorem dksJ14_parseInt_2_1 : cJ14_parseInt_2.data.toList.drop 23 = dktJ14_parseInt_2_1 := dk_seg dksJ14_parseInt_2_0 23 rfl rfl
theorem dksJ14_parseInt_2_2 : cJ14_parseInt_2.data.toList.drop 47 = dktJ14_parseInt_2_2 := dk_seg dksJ14_parseInt_2_1 24 rfl rfl
theorem dksJ14_parseInt_2_3 : cJ14_parseInt_2.data.toList.drop 70 = dktJ14_parseInt_2_3 := dk_seg dksJ14_parseInt_2_2 23 rfl rfl
theorem dksJ14_parseInt_2_4 : cJ14_parseInt_2.data.toList.drop 94 = dktJ14_parseInt_2_4 := dk_seg dksJ14_parseInt_2_3 24 rfl rfl
theorem dksJ14_parseInt_2_5 : cJ14_parseInt_2.data.toList.drop 117 = dktJ14_parseInt_2_5 := dk_seg dksJ14_parseInt_2_4 23 rfl rfl
theorem dksJ14_parseInt_2_6 : cJ14_parseInt_2.data.toList.drop 140 = dktJ14_parseInt_2_6 := dk_seg dksJ14_parseInt_2_5 23 rfl rfl
theorem dksJ14_parseInt_2_7 : cJ14_parseInt_2.data.toList.drop 163 = dktJ14_parseInt_2_7 := dk_seg dksJ14_parseInt_2_6 23 rfl rfl
theorem dksJ14_parseInt_2_8 : cJ14_parseInt_2.data.toList.drop 186 = dktJ14_parseInt_2_8 := dk_seg dksJ14_parseInt_2_7 23 rfl rfl
theorem dksJ14_parseInt_2_9 : cJ14_parseInt_2.data.toList.drop 209 = dktJ14_parseInt_2_9 := dk_seg dksJ14_parseInt_2_8 23 rfl rfl
theorem dksJ14_parseInt_2_10 : cJ14_parseInt_2.data.toList.drop 231 = dktJ14_parseInt_2_10 := dk_seg dksJ14_parseInt_2_9 22 rfl rfl
theorem dksJ14_parseInt_2_11 : cJ14_parseInt_2.data.toList.drop 254 = dktJ14_parseInt_2_11 := dk_seg dksJ14_parseInt_2_10 23 rfl rfl
theorem dJ14_parseInt_2_0 : decode cJ14_parseInt_2 0 = .ok (.aload_n 0, 1) := dk_42 (dk_at dksJ14_parseInt_2_0 0 rfl rfl)
theorem dJ14_parseInt_2_1 : decode cJ14_parseInt_2 1 = .ok (.ifnonnull 13, 3) := dk_199 0 13 (dk_at dksJ14_parseInt_2_0 1 rfl rfl)
theorem dJ14_parseInt_2_4 : decode cJ14_parseInt_2 4 = .ok (.new 90, 3) := dk_187 0 90 (dk_at dksJ14_parseInt_2_0 4 rfl rfl)
theorem dJ14_parseInt_2_7 : decode cJ14_parseInt_2 7 = .ok (.dup, 1) := dk_89 (dk_at dksJ14_parseInt_2_0 7 rfl rfl)
theorem dJ14_parseInt_2_8 : decode cJ14_parseInt_2 8 = .ok (.ldc 92, 2) := dk_18 92 (dk_at dksJ14_parseInt_2_0 8 rfl rfl)
theorem dJ14_parseInt_2_10 : decode cJ14_parseInt_2 10 = .ok (.invokespecial 94, 3) := dk_183 0 94 (dk_at dksJ14_parseInt_2_0 10 rfl rfl)
theorem dJ14_parseInt_2_13 : decode cJ14_parseInt_2 13 = .ok (.athrow, 1) := dk_191 (dk_at dksJ14_parseInt_2_0 13 rfl rfl)
theorem dJ14_parseInt_2_14 : decode cJ14_parseInt_2 14 = .ok (.iload_n 1, 1) := dk_27 (dk_at dksJ14_parseInt_2_0 14 rfl rfl)
theorem dJ14_parseInt_2_15 : decode cJ14_parseInt_2 15 = .ok (.iconst 2, 1) := dk_5 (dk_at dksJ14_parseInt_2_0 15 rfl rfl)
theorem dJ14_parseInt_2_16 : decode cJ14_parseInt_2 16 = .ok (.if_icmp .ge 35, 3) := dk_162 0 35 (dk_at dksJ14_parseInt_2_0 16 rfl rfl)
theorem dJ14_parseInt_2_19 : decode cJ14_parseInt_2 19 = .ok (.new 90, 3) := dk_187 0 90 (dk_at dksJ14_parseInt_2_0 19 rfl rfl)
theorem dJ14_parseInt_2_22 : decode cJ14_parseInt_2 22 = .ok (.dup, 1) := dk_89 (dk_at dksJ14_parseInt_2_0 22 rfl rfl)
theorem dJ14_parseInt_2_23 : decode cJ14_parseInt_2 23 = .ok (.new 97, 3) := dk_187 0 97 (dk_at dksJ14_parseInt_2_1 0 rfl rfl)
theorem dJ14_parseInt_2_26 : decode cJ14_parseInt_2 26 = .ok (.dup, 1) := dk_89 (dk_at dksJ14_parseInt_2_1 3 rfl rfl)
theorem dJ14_parseInt_2_27 : decode cJ14_parseInt_2 27 = .ok (.invokespecial 99, 3) := dk_183 0 99 (dk_at dksJ14_parseInt_2_1 4 rfl rfl)
theorem dJ14_parseInt_2_30 : decode cJ14_parseInt_2 30 = .ok (.ldc 102, 2) := dk_18 102 (dk_at dksJ14_parseInt_2_1 7 rfl rfl)
theorem dJ14_parseInt_2_32 : decode cJ14_parseInt_2 32 = .ok (.invokevirtual 104, 3) := dk_182 0 104 (dk_at dksJ14_parseInt_2_1 9 rfl rfl)
theorem dJ14_parseInt_2_35 : decode cJ14_parseInt_2 35 = .ok (.iload_n 1, 1) := dk_27 (dk_at dksJ14_parseInt_2_1 12 rfl rfl)
theorem dJ14_parseInt_2_36 : decode cJ14_parseInt_2 36 = .ok (.invokevirtual 108, 3) := dk_182 0 108 (dk_at dksJ14_parseInt_2_1 13 rfl rfl)
theorem dJ14_parseInt_2_39 : decode cJ14_parseInt_2 39 = .ok (.ldc 111, 2) := dk_18 111 (dk_at dksJ14_parseInt_2_1 16 rfl rfl)
theorem dJ14_parseInt_2_41 : decode cJ14_parseInt_2 41 = .ok (.invokevirtual 104, 3) := dk_182 0 104 (dk_at dksJ14_parseInt_2_1 18 rfl rfl)
theorem dJ14_parseInt_2_44 : decode cJ14_parseInt_2 44 = .ok (.invokevirtual 113, 3) := dk_182 0 113 (dk_at dksJ14_parseInt_2_1 21 rfl rfl)
theorem dJ14_parseInt_2_47 : decode cJ14_parseInt_2 47 = .ok (.invokespecial 94, 3) := dk_183 0 94 (dk_at dksJ14_parseInt_2_2 0 rfl rfl)
theorem dJ14_parseInt_2_50 : decode cJ14_parseInt_2 50 = .ok (.athrow, 1) := dk_191 (dk_at dksJ14_parseInt_2_2 3 rfl rfl)
theorem dJ14_parseInt_2_51 : decode cJ14_parseInt_2 51 = .ok (.iload_n 1, 1) := dk_27 (dk_at dksJ14_parseInt_2_2 4 rfl rfl)
theorem dJ14_parseInt_2_52 : decode cJ14_parseInt_2 52 = .ok (.bipush 36, 2) := dk_16 36 (dk_at dksJ14_parseInt_2_2 5 rfl rfl)
theorem dJ14_parseInt_2_54 : decode cJ14_parseInt_2 54 = .ok (.if_icmp .le 35, 3) := dk_164 0 35 (dk_at dksJ14_parseInt_2_2 7 rfl rfl)
theorem dJ14_parseInt_2_57 : decode cJ14_parseInt_2 57 = .ok (.new 90, 3) := dk_187 0 90 (dk_at dksJ14_parseInt_2_2 10 rfl rfl)
theorem dJ14_parseInt_2_60 : decode cJ14_parseInt_2 60 = .ok (.dup, 1) := dk_89 (dk_at dksJ14_parseInt_2_2 13 rfl rfl)
theorem dJ14_parseInt_2_61 : decode cJ14_parseInt_2 61 = .ok (.new 97, 3) := dk_187 0 97 (dk_at dksJ14_parseInt_2_2 14 rfl rfl)
theorem dJ14_parseInt_2_64 : decode cJ14_parseInt_2 64 = .ok (.dup, 1) := dk_89 (dk_at dksJ14_parseInt_2_2 17 rfl rfl)
theorem dJ14_parseInt_2_65 : decode cJ14_parseInt_2 65 = .ok (.invokespecial 99, 3) := dk_183 0 99 (dk_at dksJ14_parseInt_2_2 18 rfl rfl)
theorem dJ14_parseInt_2_68 : decode cJ14_parseInt_2 68 = .ok (.ldc 102, 2) := dk_18 102 (dk_at dksJ14_parseInt_2_2 21 rfl rfl)
theorem dJ14_parseInt_2_70 : decode cJ14_parseInt_2 70 = .ok (.invokevirtual 104, 3) := dk_182 0 104 (dk_at dksJ14_parseInt_2_3 0 rfl rfl)
theorem dJ14_parseInt_2_73 : decode cJ14_parseInt_2 73 = .ok (.iload_n 1, 1) := dk_27 (dk_at dksJ14_parseInt_2_3 3 rfl rfl)
theorem dJ14_parseInt_2_74 : decode cJ14_parseInt_2 74 = .ok (.invokevirtual 108, 3) := dk_182 0 108 (dk_at dksJ14_parseInt_2_3 4 rfl rfl)
theorem dJ14_parseInt_2_77 : decode cJ14_parseInt_2 77 = .ok (.ldc 116, 2) := dk_18 116 (dk_at dksJ14_parseInt_2_3 7 rfl rfl)
theorem dJ14_parseInt_2_79 : decode cJ14_parseInt_2 79 = .ok (.invokevirtual 104, 3) := dk_182 0 104 (dk_at dksJ14_parseInt_2_3 9 rfl rfl)
theorem dJ14_parseInt_2_82 : decode cJ14_parseInt_2 82 = .ok (.invokevirtual 113, 3) := dk_182 0 113 (dk_at dksJ14_parseInt_2_3 12 rfl rfl)
theorem dJ14_parseInt_2_85 : decode cJ14_parseInt_2 85 = .ok (.invokespecial 94, 3) := dk_183 0 94 (dk_at dksJ14_parseInt_2_3 15 rfl rfl)
theorem dJ14_parseInt_2_88 : decode cJ14_parseInt_2 88 = .ok (.athrow, 1) := dk_191 (dk_at dksJ14_parseInt_2_3 18 rfl rfl)
theorem dJ14_parseInt_2_89 : decode cJ14_parseInt_2 89 = .ok (.iconst 0, 1) := dk_3 (dk_at dksJ14_parseInt_2_3 19 rfl rfl)
theorem dJ14_parseInt_2_90 : decode cJ14_parseInt_2 90 = .ok (.istore_n 2, 1) := dk_61 (dk_at dksJ14_parseInt_2_3 20 rfl rfl)
theorem dJ14_parseInt_2_91 : decode cJ14_parseInt_2 91 = .ok (.iconst 0, 1) := dk_3 (dk_at dksJ14_parseInt_2_3 21 rfl rfl)
theorem dJ14_parseInt_2_92 : decode cJ14_parseInt_2 92 = .ok (.istore_n 3, 1) := dk_62 (dk_at dksJ14_parseInt_2_3 22 rfl rfl)
theorem dJ14_parseInt_2_93 : decode cJ14_parseInt_2 93 = .ok (.aload_n 0, 1) := dk_42 (dk_at dksJ14_parseInt_2_3 23 rfl rfl)
theorem dJ14_parseInt_2_94 : decode cJ14_parseInt_2 94 = .ok (.invokevirtual 118, 3) := dk_182 0 118 (dk_at dksJ14_parseInt_2_4 0 rfl rfl)
theorem dJ14_parseInt_2_97 : decode cJ14_parseInt_2 97 = .ok (.istore 4, 2) := dk_54 4 (dk_at dksJ14_parseInt_2_4 3 rfl rfl)
theorem dJ14_parseInt_2_99 : decode cJ14_parseInt_2 99 = .ok (.ldc 122, 2) := dk_18 122 (dk_at dksJ14_parseInt_2_4 5 rfl rfl)
theorem dJ14_parseInt_2_101 : decode cJ14_parseInt_2 101 = .ok (.istore 5, 2) := dk_54 5 (dk_at dksJ14_parseInt_2_4 7 rfl rfl)
theorem dJ14_parseInt_2_103 : decode cJ14_parseInt_2 103 = .ok (.iload 4, 2) := dk_21 4 (dk_at dksJ14_parseInt_2_4 9 rfl rfl)
theorem dJ14_parseInt_2_105 : decode cJ14_parseInt_2 105 = .ok (.ifCond .le 153, 3) := dk_158 0 153 (dk_at dksJ14_parseInt_2_4 11 rfl rfl)
theorem dJ14_parseInt_2_108 : decode cJ14_parseInt_2 108 = .ok (.aload_n 0, 1) := dk_42 (dk_at dksJ14_parseInt_2_4 14 rfl rfl)
theorem dJ14_parseInt_2_109 : decode cJ14_parseInt_2 109 = .ok (.iconst 0, 1) := dk_3 (dk_at dksJ14_parseInt_2_4 15 rfl rfl)
theorem dJ14_parseInt_2_110 : decode cJ14_parseInt_2 110 = .ok (.invokevirtual 123, 3) := dk_182 0 123 (dk_at dksJ14_parseInt_2_4 16 rfl rfl)
theorem dJ14_parseInt_2_113 : decode cJ14_parseInt_2 113 = .ok (.istore 6, 2) := dk_54 6 (dk_at dksJ14_parseInt_2_4 19 rfl rfl)
theorem dJ14_parseInt_2_115 : decode cJ14_parseInt_2 115 = .ok (.iload 6, 2) := dk_21 6 (dk_at dksJ14_parseInt_2_4 21 rfl rfl)
theorem dJ14_parseInt_2_117 : decode cJ14_parseInt_2 117 = .ok (.bipush 48, 2) := dk_16 48 (dk_at dksJ14_parseInt_2_5 0 rfl rfl)
theorem dJ14_parseInt_2_119 : decode cJ14_parseInt_2 119 = .ok (.if_icmp .ge 47, 3) := dk_162 0 47 (dk_at dksJ14_parseInt_2_5 2 rfl rfl)
theorem dJ14_parseInt_2_122 : decode cJ14_parseInt_2 122 = .ok (.iload 6, 2) := dk_21 6 (dk_at dksJ14_parseInt_2_5 5 rfl rfl)
theorem dJ14_parseInt_2_124 : decode cJ14_parseInt_2 124 = .ok (.bipush 45, 2) := dk_16 45 (dk_at dksJ14_parseInt_2_5 7 rfl rfl)
theorem dJ14_parseInt_2_126 : decode cJ14_parseInt_2 126 = .ok (.if_icmp .ne 12, 3) := dk_160 0 12 (dk_at dksJ14_parseInt_2_5 9 rfl rfl)
theorem dJ14_parseInt_2_129 : decode cJ14_parseInt_2 129 = .ok (.iconst 1, 1) := dk_4 (dk_at dksJ14_parseInt_2_5 12 rfl rfl)
theorem dJ14_parseInt_2_130 : decode cJ14_parseInt_2 130 = .ok (.istore_n 2, 1) := dk_61 (dk_at dksJ14_parseInt_2_5 13 rfl rfl)
theorem dJ14_parseInt_2_131 : decode cJ14_parseInt_2 131 = .ok (.ldc 127, 2) := dk_18 127 (dk_at dksJ14_parseInt_2_5 14 rfl rfl)
theorem dJ14_parseInt_2_133 : decode cJ14_parseInt_2 133 = .ok (.istore 5, 2) := dk_54 5 (dk_at dksJ14_parseInt_2_5 16 rfl rfl)
theorem dJ14_parseInt_2_135 : decode cJ14_parseInt_2 135 = .ok (.goto 16, 3) := dk_167 0 16 (dk_at dksJ14_parseInt_2_5 18 rfl rfl)
theorem dJ14_parseInt_2_138 : decode cJ14_parseInt_2 138 = .ok (.iload 6, 2) := dk_21 6 (dk_at dksJ14_parseInt_2_5 21 rfl rfl)
theorem dJ14_parseInt_2_140 : decode cJ14_parseInt_2 140 = .ok (.bipush 43, 2) := dk_16 43 (dk_at dksJ14_parseInt_2_6 0 rfl rfl)
theorem dJ14_parseInt_2_142 : decode cJ14_parseInt_2 142 = .ok (.if_icmp .eq 9, 3) := dk_159 0 9 (dk_at dksJ14_parseInt_2_6 2 rfl rfl)
theorem dJ14_parseInt_2_145 : decode cJ14_parseInt_2 145 = .ok (.aload_n 0, 1) := dk_42 (dk_at dksJ14_parseInt_2_6 5 rfl rfl)
theorem dJ14_parseInt_2_146 : decode cJ14_parseInt_2 146 = .ok (.iload_n 1, 1) := dk_27 (dk_at dksJ14_parseInt_2_6 6 rfl rfl)
theorem dJ14_parseInt_2_147 : decode cJ14_parseInt_2 147 = .ok (.invokestatic 128, 3) := dk_184 0 128 (dk_at dksJ14_parseInt_2_6 7 rfl rfl)
theorem dJ14_parseInt_2_150 : decode cJ14_parseInt_2 150 = .ok (.athrow, 1) := dk_191 (dk_at dksJ14_parseInt_2_6 10 rfl rfl)
theorem dJ14_parseInt_2_151 : decode cJ14_parseInt_2 151 = .ok (.iload 4, 2) := dk_21 4 (dk_at dksJ14_parseInt_2_6 11 rfl rfl)
theorem dJ14_parseInt_2_153 : decode cJ14_parseInt_2 153 = .ok (.iconst 1, 1) := dk_4 (dk_at dksJ14_parseInt_2_6 13 rfl rfl)
theorem dJ14_parseInt_2_154 : decode cJ14_parseInt_2 154 = .ok (.if_icmp .ne 9, 3) := dk_160 0 9 (dk_at dksJ14_parseInt_2_6 14 rfl rfl)
theorem dJ14_parseInt_2_157 : decode cJ14_parseInt_2 157 = .ok (.aload_n 0, 1) := dk_42 (dk_at dksJ14_parseInt_2_6 17 rfl rfl)
theorem dJ14_parseInt_2_158 : decode cJ14_parseInt_2 158 = .ok (.iload_n 1, 1) := dk_27 (dk_at dksJ14_parseInt_2_6 18 rfl rfl)
theorem dJ14_parseInt_2_159 : decode cJ14_parseInt_2 159 = .ok (.invokestatic 128, 3) := dk_184 0 128 (dk_at dksJ14_parseInt_2_6 19 rfl rfl)
theorem dJ14_parseInt_2_162 : decode cJ14_parseInt_2 162 = .ok (.athrow, 1) := dk_191 (dk_at dksJ14_parseInt_2_6 22 rfl rfl)
theorem dJ14_parseInt_2_163 : decode cJ14_parseInt_2 163 = .ok (.iinc 3 1, 3) := dk_132 3 1 (dk_at dksJ14_parseInt_2_7 0 rfl rfl)
theorem dJ14_parseInt_2_166 : decode cJ14_parseInt_2 166 = .ok (.iload 5, 2) := dk_21 5 (dk_at dksJ14_parseInt_2_7 3 rfl rfl)
theorem dJ14_parseInt_2_168 : decode cJ14_parseInt_2 168 = .ok (.iload_n 1, 1) := dk_27 (dk_at dksJ14_parseInt_2_7 5 rfl rfl)
theorem dJ14_parseInt_2_169 : decode cJ14_parseInt_2 169 = .ok (.idiv, 1) := dk_108 (dk_at dksJ14_parseInt_2_7 6 rfl rfl)
theorem dJ14_parseInt_2_170 : decode cJ14_parseInt_2 170 = .ok (.istore 7, 2) := dk_54 7 (dk_at dksJ14_parseInt_2_7 7 rfl rfl)
theorem dJ14_parseInt_2_172 : decode cJ14_parseInt_2 172 = .ok (.iconst 0, 1) := dk_3 (dk_at dksJ14_parseInt_2_7 9 rfl rfl)
theorem dJ14_parseInt_2_173 : decode cJ14_parseInt_2 173 = .ok (.istore 8, 2) := dk_54 8 (dk_at dksJ14_parseInt_2_7 10 rfl rfl)
theorem dJ14_parseInt_2_175 : decode cJ14_parseInt_2 175 = .ok (.iload_n 3, 1) := dk_29 (dk_at dksJ14_parseInt_2_7 12 rfl rfl)
theorem dJ14_parseInt_2_176 : decode cJ14_parseInt_2 176 = .ok (.iload 4, 2) := dk_21 4 (dk_at dksJ14_parseInt_2_7 13 rfl rfl)
theorem dJ14_parseInt_2_178 : decode cJ14_parseInt_2 178 = .ok (.if_icmp .ge 67, 3) := dk_162 0 67 (dk_at dksJ14_parseInt_2_7 15 rfl rfl)
theorem dJ14_parseInt_2_181 : decode cJ14_parseInt_2 181 = .ok (.aload_n 0, 1) := dk_42 (dk_at dksJ14_parseInt_2_7 18 rfl rfl)
theorem dJ14_parseInt_2_182 : decode cJ14_parseInt_2 182 = .ok (.iload_n 3, 1) := dk_29 (dk_at dksJ14_parseInt_2_7 19 rfl rfl)
theorem dJ14_parseInt_2_183 : decode cJ14_parseInt_2 183 = .ok (.iinc 3 1, 3) := dk_132 3 1 (dk_at dksJ14_parseInt_2_7 20 rfl rfl)
theorem dJ14_parseInt_2_186 : decode cJ14_parseInt_2 186 = .ok (.invokevirtual 123, 3) := dk_182 0 123 (dk_at dksJ14_parseInt_2_8 0 rfl rfl)
theorem dJ14_parseInt_2_189 : decode cJ14_parseInt_2 189 = .ok (.iload_n 1, 1) := dk_27 (dk_at dksJ14_parseInt_2_8 3 rfl rfl)
theorem dJ14_parseInt_2_190 : decode cJ14_parseInt_2 190 = .ok (.invokestatic 132, 3) := dk_184 0 132 (dk_at dksJ14_parseInt_2_8 4 rfl rfl)
theorem dJ14_parseInt_2_193 : decode cJ14_parseInt_2 193 = .ok (.istore 9, 2) := dk_54 9 (dk_at dksJ14_parseInt_2_8 7 rfl rfl)
theorem dJ14_parseInt_2_195 : decode cJ14_parseInt_2 195 = .ok (.iload 9, 2) := dk_21 9 (dk_at dksJ14_parseInt_2_8 9 rfl rfl)
theorem dJ14_parseInt_2_197 : decode cJ14_parseInt_2 197 = .ok (.ifCond .lt 10, 3) := dk_155 0 10 (dk_at dksJ14_parseInt_2_8 11 rfl rfl)
theorem dJ14_parseInt_2_200 : decode cJ14_parseInt_2 200 = .ok (.iload 8, 2) := dk_21 8 (dk_at dksJ14_parseInt_2_8 14 rfl rfl)
theorem dJ14_parseInt_2_202 : decode cJ14_parseInt_2 202 = .ok (.iload 7, 2) := dk_21 7 (dk_at dksJ14_parseInt_2_8 16 rfl rfl)
theorem dJ14_parseInt_2_204 : decode cJ14_parseInt_2 204 = .ok (.if_icmp .ge 9, 3) := dk_162 0 9 (dk_at dksJ14_parseInt_2_8 18 rfl rfl)
theorem dJ14_parseInt_2_207 : decode cJ14_parseInt_2 207 = .ok (.aload_n 0, 1) := dk_42 (dk_at dksJ14_parseInt_2_8 21 rfl rfl)
theorem dJ14_parseInt_2_208 : decode cJ14_parseInt_2 208 = .ok (.iload_n 1, 1) := dk_27 (dk_at dksJ14_parseInt_2_8 22 rfl rfl)
theorem dJ14_parseInt_2_209 : decode cJ14_parseInt_2 209 = .ok (.invokestatic 128, 3) := dk_184 0 128 (dk_at dksJ14_parseInt_2_9 0 rfl rfl)
theorem dJ14_parseInt_2_212 : decode cJ14_parseInt_2 212 = .ok (.athrow, 1) := dk_191 (dk_at dksJ14_parseInt_2_9 3 rfl rfl)
theorem dJ14_parseInt_2_213 : decode cJ14_parseInt_2 213 = .ok (.iload 8, 2) := dk_21 8 (dk_at dksJ14_parseInt_2_9 4 rfl rfl)
theorem dJ14_parseInt_2_215 : decode cJ14_parseInt_2 215 = .ok (.iload_n 1, 1) := dk_27 (dk_at dksJ14_parseInt_2_9 6 rfl rfl)
theorem dJ14_parseInt_2_216 : decode cJ14_parseInt_2 216 = .ok (.imul, 1) := dk_104 (dk_at dksJ14_parseInt_2_9 7 rfl rfl)
theorem dJ14_parseInt_2_217 : decode cJ14_parseInt_2 217 = .ok (.istore 8, 2) := dk_54 8 (dk_at dksJ14_parseInt_2_9 8 rfl rfl)
theorem dJ14_parseInt_2_219 : decode cJ14_parseInt_2 219 = .ok (.iload 8, 2) := dk_21 8 (dk_at dksJ14_parseInt_2_9 10 rfl rfl)
theorem dJ14_parseInt_2_221 : decode cJ14_parseInt_2 221 = .ok (.iload 5, 2) := dk_21 5 (dk_at dksJ14_parseInt_2_9 12 rfl rfl)
theorem dJ14_parseInt_2_223 : decode cJ14_parseInt_2 223 = .ok (.iload 9, 2) := dk_21 9 (dk_at dksJ14_parseInt_2_9 14 rfl rfl)
theorem dJ14_parseInt_2_225 : decode cJ14_parseInt_2 225 = .ok (.iadd, 1) := dk_96 (dk_at dksJ14_parseInt_2_9 16 rfl rfl)
theorem dJ14_parseInt_2_226 : decode cJ14_parseInt_2 226 = .ok (.if_icmp .ge 9, 3) := dk_162 0 9 (dk_at dksJ14_parseInt_2_9 17 rfl rfl)
theorem dJ14_parseInt_2_229 : decode cJ14_parseInt_2 229 = .ok (.aload_n 0, 1) := dk_42 (dk_at dksJ14_parseInt_2_9 20 rfl rfl)
theorem dJ14_parseInt_2_230 : decode cJ14_parseInt_2 230 = .ok (.iload_n 1, 1) := dk_27 (dk_at dksJ14_parseInt_2_9 21 rfl rfl)
theorem dJ14_parseInt_2_231 : decode cJ14_parseInt_2 231 = .ok (.invokestatic 128, 3) := dk_184 0 128 (dk_at dksJ14_parseInt_2_10 0 rfl rfl)
theorem dJ14_parseInt_2_234 : decode cJ14_parseInt_2 234 = .ok (.athrow, 1) := dk_191 (dk_at dksJ14_parseInt_2_10 3 rfl rfl)
theorem dJ14_parseInt_2_235 : decode cJ14_parseInt_2 235 = .ok (.iload 8, 2) := dk_21 8 (dk_at dksJ14_parseInt_2_10 4 rfl rfl)
theorem dJ14_parseInt_2_237 : decode cJ14_parseInt_2 237 = .ok (.iload 9, 2) := dk_21 9 (dk_at dksJ14_parseInt_2_10 6 rfl rfl)
theorem dJ14_parseInt_2_239 : decode cJ14_parseInt_2 239 = .ok (.isub, 1) := dk_100 (dk_at dksJ14_parseInt_2_10 8 rfl rfl)
theorem dJ14_parseInt_2_240 : decode cJ14_parseInt_2 240 = .ok (.istore 8, 2) := dk_54 8 (dk_at dksJ14_parseInt_2_10 9 rfl rfl)
theorem dJ14_parseInt_2_242 : decode cJ14_parseInt_2 242 = .ok (.goto (-67), 3) := dk_167 255 189 (dk_at dksJ14_parseInt_2_10 11 rfl rfl)
theorem dJ14_parseInt_2_245 : decode cJ14_parseInt_2 245 = .ok (.iload_n 2, 1) := dk_28 (dk_at dksJ14_parseInt_2_10 14 rfl rfl)
theorem dJ14_parseInt_2_246 : decode cJ14_parseInt_2 246 = .ok (.ifCond .eq 8, 3) := dk_153 0 8 (dk_at dksJ14_parseInt_2_10 15 rfl rfl)
theorem dJ14_parseInt_2_249 : decode cJ14_parseInt_2 249 = .ok (.iload 8, 2) := dk_21 8 (dk_at dksJ14_parseInt_2_10 18 rfl rfl)
theorem dJ14_parseInt_2_251 : decode cJ14_parseInt_2 251 = .ok (.goto 6, 3) := dk_167 0 6 (dk_at dksJ14_parseInt_2_10 20 rfl rfl)
theorem dJ14_parseInt_2_254 : decode cJ14_parseInt_2 254 = .ok (.iload 8, 2) := dk_21 8 (dk_at dksJ14_parseInt_2_11 0 rfl rfl)
theorem dJ14_parseInt_2_256 : decode cJ14_parseInt_2 256 = .ok (.ineg, 1) := dk_116 (dk_at dksJ14_parseInt_2_11 2 rfl rfl)
theorem dJ14_parseInt_2_257 : decode cJ14_parseInt_2 257 = .ok (.ireturn, 1) := dk_172 (dk_at dksJ14_parseInt_2_11 3 rfl rfl)
theorem dJ14_parseInt_2_258 : decode cJ14_parseInt_2 258 = .ok (.aload_n 0, 1) := dk_42 (dk_at dksJ14_parseInt_2_11 4 rfl rfl)
theorem dJ14_parseInt_2_259 : decode cJ14_parseInt_2 259 = .ok (.iload_n 1, 1) := dk_27 (dk_at dksJ14_parseInt_2_11 5 rfl rfl)
theorem dJ14_parseInt_2_260 : decode cJ14_parseInt_2 260 = .ok (.invokestatic 128, 3) := dk_184 0 128 (dk_at dksJ14_parseInt_2_11 6 rfl rfl)
theorem dJ14_parseInt_2_263 : decode cJ14_parseInt_2 263 = .ok (.athrow, 1) := dk_191 (dk_at dksJ14_parseInt_2_11 9 rfl rfl)
abbrev cJ14_numberOfTrailingZeros : ByteArray := prog_23_method_48_code
def yJ14_numberOfTrailingZeros : MethodName := ⟨RJ14, "numberOfTrailingZeros", "(I)I"⟩
def dkwJ14_numberOfTrailingZeros_3 : List UInt8 := [5, 124, 59, 27, 26, 4, 124, 96, 172]
abbrev dktJ14_numberOfTrailingZeros_3 : List UInt8 := dkwJ14_numberOfTrailingZeros_3 ++ []
def dkwJ14_numberOfTrailingZeros_2 : List UInt8 := [124, 59, 26, 16, 16, 164, 0, 10, 132, 1, 4, 26, 7, 124, 59, 26, 7, 164, 0, 10, 132, 1, 2, 26]
abbrev dktJ14_numberOfTrailingZeros_2 : List UInt8 := dkwJ14_numberOfTrailingZeros_2 ++ dktJ14_numberOfTrailingZeros_3
def dkwJ14_numberOfTrailingZeros_1 : List UInt8 := [164, 0, 11, 132, 1, 16, 26, 16, 16, 124, 59, 26, 17, 1, 0, 164, 0, 11, 132, 1, 8, 26, 16, 8]
abbrev dktJ14_numberOfTrailingZeros_1 : List UInt8 := dkwJ14_numberOfTrailingZeros_1 ++ dktJ14_numberOfTrailingZeros_2
def dkwJ14_numberOfTrailingZeros_0 : List UInt8 := [26, 2, 130, 26, 4, 100, 126, 59, 26, 157, 0, 8, 26, 16, 32, 126, 172, 4, 60, 26, 19, 1, 8]
abbrev dktJ14_numberOfTrailingZeros_0 : List UInt8 := dkwJ14_numberOfTrailingZeros_0 ++ dktJ14_numberOfTrailingZeros_1
theorem dksJ14_numberOfTrailingZeros_0 : cJ14_numberOfTrailingZeros.data.toList.drop 0 = dktJ14_numberOfTrailingZeros_0 := by decide +kernel
theorem dksJ14_numberOfTrailingZeros_1 : cJ14_numberOfTrailingZeros.data.toList.drop 23 = dktJ14_numberOfTrailingZeros_1 := dk_seg dksJ14_numberOfTrailingZeros_0 23 rfl rfl
theorem dksJ14_numberOfTrailingZeros_2 : cJ14_numberOfTrailingZeros.data.toList.drop 47 = dktJ14_numberOfTrailingZeros_2 := dk_seg dksJ14_numberOfTrailingZeros_1 24 rfl rfl
theorem dksJ14_numberOfTrailingZeros_3 : cJ14_numberOfTrailingZeros.data.toList.drop 71 = dktJ14_numberOfTrailingZeros_3 := dk_seg dksJ14_numberOfTrailingZeros_2 24 rfl rfl
theorem dJ14_numberOfTrailingZeros_0 : decode cJ14_numberOfTrailingZeros 0 = .ok (.iload_n 0, 1) := dk_26 (dk_at dksJ14_numberOfTrailingZeros_0 0 rfl rfl)
theorem dJ14_numberOfTrailingZeros_1 : decode cJ14_numberOfTrailingZeros 1 = .ok (.iconst (-1), 1) := dk_2 (dk_at dksJ14_numberOfTrailingZeros_0 1 rfl rfl)
theorem dJ14_numberOfTrailingZeros_2 : decode cJ14_numberOfTrailingZeros 2 = .ok (.ixor, 1) := dk_130 (dk_at dksJ14_numberOfTrailingZeros_0 2 rfl rfl)
theorem dJ14_numberOfTrailingZeros_3 : decode cJ14_numberOfTrailingZeros 3 = .ok (.iload_n 0, 1) := dk_26 (dk_at dksJ14_numberOfTrailingZeros_0 3 rfl rfl)
theorem dJ14_numberOfTrailingZeros_4 : decode cJ14_numberOfTrailingZeros 4 = .ok (.iconst 1, 1) := dk_4 (dk_at dksJ14_numberOfTrailingZeros_0 4 rfl rfl)
theorem dJ14_numberOfTrailingZeros_5 : decode cJ14_numberOfTrailingZeros 5 = .ok (.isub, 1) := dk_100 (dk_at dksJ14_numberOfTrailingZeros_0 5 rfl rfl)
theorem dJ14_numberOfTrailingZeros_6 : decode cJ14_numberOfTrailingZeros 6 = .ok (.iand, 1) := dk_126 (dk_at dksJ14_numberOfTrailingZeros_0 6 rfl rfl)
theorem dJ14_numberOfTrailingZeros_7 : decode cJ14_numberOfTrailingZeros 7 = .ok (.istore_n 0, 1) := dk_59 (dk_at dksJ14_numberOfTrailingZeros_0 7 rfl rfl)
theorem dJ14_numberOfTrailingZeros_8 : decode cJ14_numberOfTrailingZeros 8 = .ok (.iload_n 0, 1) := dk_26 (dk_at dksJ14_numberOfTrailingZeros_0 8 rfl rfl)
theorem dJ14_numberOfTrailingZeros_9 : decode cJ14_numberOfTrailingZeros 9 = .ok (.ifCond .gt 8, 3) := dk_157 0 8 (dk_at dksJ14_numberOfTrailingZeros_0 9 rfl rfl)
theorem dJ14_numberOfTrailingZeros_12 : decode cJ14_numberOfTrailingZeros 12 = .ok (.iload_n 0, 1) := dk_26 (dk_at dksJ14_numberOfTrailingZeros_0 12 rfl rfl)
theorem dJ14_numberOfTrailingZeros_13 : decode cJ14_numberOfTrailingZeros 13 = .ok (.bipush 32, 2) := dk_16 32 (dk_at dksJ14_numberOfTrailingZeros_0 13 rfl rfl)
theorem dJ14_numberOfTrailingZeros_15 : decode cJ14_numberOfTrailingZeros 15 = .ok (.iand, 1) := dk_126 (dk_at dksJ14_numberOfTrailingZeros_0 15 rfl rfl)
theorem dJ14_numberOfTrailingZeros_16 : decode cJ14_numberOfTrailingZeros 16 = .ok (.ireturn, 1) := dk_172 (dk_at dksJ14_numberOfTrailingZeros_0 16 rfl rfl)
theorem dJ14_numberOfTrailingZeros_17 : decode cJ14_numberOfTrailingZeros 17 = .ok (.iconst 1, 1) := dk_4 (dk_at dksJ14_numberOfTrailingZeros_0 17 rfl rfl)
theorem dJ14_numberOfTrailingZeros_18 : decode cJ14_numberOfTrailingZeros 18 = .ok (.istore_n 1, 1) := dk_60 (dk_at dksJ14_numberOfTrailingZeros_0 18 rfl rfl)
theorem dJ14_numberOfTrailingZeros_19 : decode cJ14_numberOfTrailingZeros 19 = .ok (.iload_n 0, 1) := dk_26 (dk_at dksJ14_numberOfTrailingZeros_0 19 rfl rfl)
theorem dJ14_numberOfTrailingZeros_20 : decode cJ14_numberOfTrailingZeros 20 = .ok (.ldc_w 264, 3) := dk_19 1 8 (dk_at dksJ14_numberOfTrailingZeros_0 20 rfl rfl)
theorem dJ14_numberOfTrailingZeros_23 : decode cJ14_numberOfTrailingZeros 23 = .ok (.if_icmp .le 11, 3) := dk_164 0 11 (dk_at dksJ14_numberOfTrailingZeros_1 0 rfl rfl)
theorem dJ14_numberOfTrailingZeros_26 : decode cJ14_numberOfTrailingZeros 26 = .ok (.iinc 1 16, 3) := dk_132 1 16 (dk_at dksJ14_numberOfTrailingZeros_1 3 rfl rfl)
theorem dJ14_numberOfTrailingZeros_29 : decode cJ14_numberOfTrailingZeros 29 = .ok (.iload_n 0, 1) := dk_26 (dk_at dksJ14_numberOfTrailingZeros_1 6 rfl rfl)
theorem dJ14_numberOfTrailingZeros_30 : decode cJ14_numberOfTrailingZeros 30 = .ok (.bipush 16, 2) := dk_16 16 (dk_at dksJ14_numberOfTrailingZeros_1 7 rfl rfl)
theorem dJ14_numberOfTrailingZeros_32 : decode cJ14_numberOfTrailingZeros 32 = .ok (.iushr, 1) := dk_124 (dk_at dksJ14_numberOfTrailingZeros_1 9 rfl rfl)
theorem dJ14_numberOfTrailingZeros_33 : decode cJ14_numberOfTrailingZeros 33 = .ok (.istore_n 0, 1) := dk_59 (dk_at dksJ14_numberOfTrailingZeros_1 10 rfl rfl)
theorem dJ14_numberOfTrailingZeros_34 : decode cJ14_numberOfTrailingZeros 34 = .ok (.iload_n 0, 1) := dk_26 (dk_at dksJ14_numberOfTrailingZeros_1 11 rfl rfl)
theorem dJ14_numberOfTrailingZeros_35 : decode cJ14_numberOfTrailingZeros 35 = .ok (.sipush 256, 3) := dk_17 1 0 (dk_at dksJ14_numberOfTrailingZeros_1 12 rfl rfl)
theorem dJ14_numberOfTrailingZeros_38 : decode cJ14_numberOfTrailingZeros 38 = .ok (.if_icmp .le 11, 3) := dk_164 0 11 (dk_at dksJ14_numberOfTrailingZeros_1 15 rfl rfl)
theorem dJ14_numberOfTrailingZeros_41 : decode cJ14_numberOfTrailingZeros 41 = .ok (.iinc 1 8, 3) := dk_132 1 8 (dk_at dksJ14_numberOfTrailingZeros_1 18 rfl rfl)
theorem dJ14_numberOfTrailingZeros_44 : decode cJ14_numberOfTrailingZeros 44 = .ok (.iload_n 0, 1) := dk_26 (dk_at dksJ14_numberOfTrailingZeros_1 21 rfl rfl)
theorem dJ14_numberOfTrailingZeros_45 : decode cJ14_numberOfTrailingZeros 45 = .ok (.bipush 8, 2) := dk_16 8 (dk_at dksJ14_numberOfTrailingZeros_1 22 rfl rfl)
theorem dJ14_numberOfTrailingZeros_47 : decode cJ14_numberOfTrailingZeros 47 = .ok (.iushr, 1) := dk_124 (dk_at dksJ14_numberOfTrailingZeros_2 0 rfl rfl)
theorem dJ14_numberOfTrailingZeros_48 : decode cJ14_numberOfTrailingZeros 48 = .ok (.istore_n 0, 1) := dk_59 (dk_at dksJ14_numberOfTrailingZeros_2 1 rfl rfl)
theorem dJ14_numberOfTrailingZeros_49 : decode cJ14_numberOfTrailingZeros 49 = .ok (.iload_n 0, 1) := dk_26 (dk_at dksJ14_numberOfTrailingZeros_2 2 rfl rfl)
theorem dJ14_numberOfTrailingZeros_50 : decode cJ14_numberOfTrailingZeros 50 = .ok (.bipush 16, 2) := dk_16 16 (dk_at dksJ14_numberOfTrailingZeros_2 3 rfl rfl)
theorem dJ14_numberOfTrailingZeros_52 : decode cJ14_numberOfTrailingZeros 52 = .ok (.if_icmp .le 10, 3) := dk_164 0 10 (dk_at dksJ14_numberOfTrailingZeros_2 5 rfl rfl)
theorem dJ14_numberOfTrailingZeros_55 : decode cJ14_numberOfTrailingZeros 55 = .ok (.iinc 1 4, 3) := dk_132 1 4 (dk_at dksJ14_numberOfTrailingZeros_2 8 rfl rfl)
theorem dJ14_numberOfTrailingZeros_58 : decode cJ14_numberOfTrailingZeros 58 = .ok (.iload_n 0, 1) := dk_26 (dk_at dksJ14_numberOfTrailingZeros_2 11 rfl rfl)
theorem dJ14_numberOfTrailingZeros_59 : decode cJ14_numberOfTrailingZeros 59 = .ok (.iconst 4, 1) := dk_7 (dk_at dksJ14_numberOfTrailingZeros_2 12 rfl rfl)
theorem dJ14_numberOfTrailingZeros_60 : decode cJ14_numberOfTrailingZeros 60 = .ok (.iushr, 1) := dk_124 (dk_at dksJ14_numberOfTrailingZeros_2 13 rfl rfl)
theorem dJ14_numberOfTrailingZeros_61 : decode cJ14_numberOfTrailingZeros 61 = .ok (.istore_n 0, 1) := dk_59 (dk_at dksJ14_numberOfTrailingZeros_2 14 rfl rfl)
theorem dJ14_numberOfTrailingZeros_62 : decode cJ14_numberOfTrailingZeros 62 = .ok (.iload_n 0, 1) := dk_26 (dk_at dksJ14_numberOfTrailingZeros_2 15 rfl rfl)
theorem dJ14_numberOfTrailingZeros_63 : decode cJ14_numberOfTrailingZeros 63 = .ok (.iconst 4, 1) := dk_7 (dk_at dksJ14_numberOfTrailingZeros_2 16 rfl rfl)
theorem dJ14_numberOfTrailingZeros_64 : decode cJ14_numberOfTrailingZeros 64 = .ok (.if_icmp .le 10, 3) := dk_164 0 10 (dk_at dksJ14_numberOfTrailingZeros_2 17 rfl rfl)
theorem dJ14_numberOfTrailingZeros_67 : decode cJ14_numberOfTrailingZeros 67 = .ok (.iinc 1 2, 3) := dk_132 1 2 (dk_at dksJ14_numberOfTrailingZeros_2 20 rfl rfl)
theorem dJ14_numberOfTrailingZeros_70 : decode cJ14_numberOfTrailingZeros 70 = .ok (.iload_n 0, 1) := dk_26 (dk_at dksJ14_numberOfTrailingZeros_2 23 rfl rfl)
theorem dJ14_numberOfTrailingZeros_71 : decode cJ14_numberOfTrailingZeros 71 = .ok (.iconst 2, 1) := dk_5 (dk_at dksJ14_numberOfTrailingZeros_3 0 rfl rfl)
theorem dJ14_numberOfTrailingZeros_72 : decode cJ14_numberOfTrailingZeros 72 = .ok (.iushr, 1) := dk_124 (dk_at dksJ14_numberOfTrailingZeros_3 1 rfl rfl)
theorem dJ14_numberOfTrailingZeros_73 : decode cJ14_numberOfTrailingZeros 73 = .ok (.istore_n 0, 1) := dk_59 (dk_at dksJ14_numberOfTrailingZeros_3 2 rfl rfl)
theorem dJ14_numberOfTrailingZeros_74 : decode cJ14_numberOfTrailingZeros 74 = .ok (.iload_n 1, 1) := dk_27 (dk_at dksJ14_numberOfTrailingZeros_3 3 rfl rfl)
theorem dJ14_numberOfTrailingZeros_75 : decode cJ14_numberOfTrailingZeros 75 = .ok (.iload_n 0, 1) := dk_26 (dk_at dksJ14_numberOfTrailingZeros_3 4 rfl rfl)
theorem dJ14_numberOfTrailingZeros_76 : decode cJ14_numberOfTrailingZeros 76 = .ok (.iconst 1, 1) := dk_4 (dk_at dksJ14_numberOfTrailingZeros_3 5 rfl rfl)
theorem dJ14_numberOfTrailingZeros_77 : decode cJ14_numberOfTrailingZeros 77 = .ok (.iushr, 1) := dk_124 (dk_at dksJ14_numberOfTrailingZeros_3 6 rfl rfl)
theorem dJ14_numberOfTrailingZeros_78 : decode cJ14_numberOfTrailingZeros 78 = .ok (.iadd, 1) := dk_96 (dk_at dksJ14_numberOfTrailingZeros_3 7 rfl rfl)
theorem dJ14_numberOfTrailingZeros_79 : decode cJ14_numberOfTrailingZeros 79 = .ok (.ireturn, 1) := dk_172 (dk_at dksJ14_numberOfTrailingZeros_3 8 rfl rfl)
abbrev cJ14_lowestOneBit : ByteArray := prog_23_method_46_code
def yJ14_lowestOneBit : MethodName := ⟨RJ14, "lowestOneBit", "(I)I"⟩
def dkwJ14_lowestOneBit_0 : List UInt8 := [26, 26, 116, 126, 172]
abbrev dktJ14_lowestOneBit_0 : List UInt8 := dkwJ14_lowestOneBit_0 ++ []
theorem dksJ14_lowestOneBit_0 : cJ14_lowestOneBit.data.toList.drop 0 = dktJ14_lowestOneBit_0 := by decide +kernel
theorem dJ14_lowestOneBit_0 : decode cJ14_lowestOneBit 0 = .ok (.iload_n 0, 1) := dk_26 (dk_at dksJ14_lowestOneBit_0 0 rfl rfl)
theorem dJ14_lowestOneBit_1 : decode cJ14_lowestOneBit 1 = .ok (.iload_n 0, 1) := dk_26 (dk_at dksJ14_lowestOneBit_0 1 rfl rfl)
theorem dJ14_lowestOneBit_2 : decode cJ14_lowestOneBit 2 = .ok (.ineg, 1) := dk_116 (dk_at dksJ14_lowestOneBit_0 2 rfl rfl)
theorem dJ14_lowestOneBit_3 : decode cJ14_lowestOneBit 3 = .ok (.iand, 1) := dk_126 (dk_at dksJ14_lowestOneBit_0 3 rfl rfl)
theorem dJ14_lowestOneBit_4 : decode cJ14_lowestOneBit 4 = .ok (.ireturn, 1) := dk_172 (dk_at dksJ14_lowestOneBit_0 4 rfl rfl)
abbrev cJ14_bitCount : ByteArray := prog_23_method_49_code
def yJ14_bitCount : MethodName := ⟨RJ14, "bitCount", "(I)I"⟩
def dkwJ14_bitCount_2 : List UInt8 := [26, 16, 63, 126, 172]
abbrev dktJ14_bitCount_2 : List UInt8 := dkwJ14_bitCount_2 ++ []
def dkwJ14_bitCount_1 : List UInt8 := [26, 26, 7, 124, 96, 19, 1, 11, 126, 59, 26, 26, 16, 8, 124, 96, 59, 26, 26, 16, 16, 124, 96, 59]
abbrev dktJ14_bitCount_1 : List UInt8 := dkwJ14_bitCount_1 ++ dktJ14_bitCount_2
def dkwJ14_bitCount_0 : List UInt8 := [26, 26, 4, 124, 19, 1, 9, 126, 100, 59, 26, 19, 1, 10, 126, 26, 5, 124, 19, 1, 10, 126, 96, 59]
abbrev dktJ14_bitCount_0 : List UInt8 := dkwJ14_bitCount_0 ++ dktJ14_bitCount_1
theorem dksJ14_bitCount_0 : cJ14_bitCount.data.toList.drop 0 = dktJ14_bitCount_0 := by decide +kernel
theorem dksJ14_bitCount_1 : cJ14_bitCount.data.toList.drop 24 = dktJ14_bitCount_1 := dk_seg dksJ14_bitCount_0 24 rfl rfl
theorem dksJ14_bitCount_2 : cJ14_bitCount.data.toList.drop 48 = dktJ14_bitCount_2 := dk_seg dksJ14_bitCount_1 24 rfl rfl
theorem dJ14_bitCount_0 : decode cJ14_bitCount 0 = .ok (.iload_n 0, 1) := dk_26 (dk_at dksJ14_bitCount_0 0 rfl rfl)
theorem dJ14_bitCount_1 : decode cJ14_bitCount 1 = .ok (.iload_n 0, 1) := dk_26 (dk_at dksJ14_bitCount_0 1 rfl rfl)
theorem dJ14_bitCount_2 : decode cJ14_bitCount 2 = .ok (.iconst 1, 1) := dk_4 (dk_at dksJ14_bitCount_0 2 rfl rfl)
theorem dJ14_bitCount_3 : decode cJ14_bitCount 3 = .ok (.iushr, 1) := dk_124 (dk_at dksJ14_bitCount_0 3 rfl rfl)
theorem dJ14_bitCount_4 : decode cJ14_bitCount 4 = .ok (.ldc_w 265, 3) := dk_19 1 9 (dk_at dksJ14_bitCount_0 4 rfl rfl)
theorem dJ14_bitCount_7 : decode cJ14_bitCount 7 = .ok (.iand, 1) := dk_126 (dk_at dksJ14_bitCount_0 7 rfl rfl)
theorem dJ14_bitCount_8 : decode cJ14_bitCount 8 = .ok (.isub, 1) := dk_100 (dk_at dksJ14_bitCount_0 8 rfl rfl)
theorem dJ14_bitCount_9 : decode cJ14_bitCount 9 = .ok (.istore_n 0, 1) := dk_59 (dk_at dksJ14_bitCount_0 9 rfl rfl)
theorem dJ14_bitCount_10 : decode cJ14_bitCount 10 = .ok (.iload_n 0, 1) := dk_26 (dk_at dksJ14_bitCount_0 10 rfl rfl)
theorem dJ14_bitCount_11 : decode cJ14_bitCount 11 = .ok (.ldc_w 266, 3) := dk_19 1 10 (dk_at dksJ14_bitCount_0 11 rfl rfl)
theorem dJ14_bitCount_14 : decode cJ14_bitCount 14 = .ok (.iand, 1) := dk_126 (dk_at dksJ14_bitCount_0 14 rfl rfl)
theorem dJ14_bitCount_15 : decode cJ14_bitCount 15 = .ok (.iload_n 0, 1) := dk_26 (dk_at dksJ14_bitCount_0 15 rfl rfl)
theorem dJ14_bitCount_16 : decode cJ14_bitCount 16 = .ok (.iconst 2, 1) := dk_5 (dk_at dksJ14_bitCount_0 16 rfl rfl)
theorem dJ14_bitCount_17 : decode cJ14_bitCount 17 = .ok (.iushr, 1) := dk_124 (dk_at dksJ14_bitCount_0 17 rfl rfl)
theorem dJ14_bitCount_18 : decode cJ14_bitCount 18 = .ok (.ldc_w 266, 3) := dk_19 1 10 (dk_at dksJ14_bitCount_0 18 rfl rfl)
theorem dJ14_bitCount_21 : decode cJ14_bitCount 21 = .ok (.iand, 1) := dk_126 (dk_at dksJ14_bitCount_0 21 rfl rfl)
theorem dJ14_bitCount_22 : decode cJ14_bitCount 22 = .ok (.iadd, 1) := dk_96 (dk_at dksJ14_bitCount_0 22 rfl rfl)
theorem dJ14_bitCount_23 : decode cJ14_bitCount 23 = .ok (.istore_n 0, 1) := dk_59 (dk_at dksJ14_bitCount_0 23 rfl rfl)
theorem dJ14_bitCount_24 : decode cJ14_bitCount 24 = .ok (.iload_n 0, 1) := dk_26 (dk_at dksJ14_bitCount_1 0 rfl rfl)
theorem dJ14_bitCount_25 : decode cJ14_bitCount 25 = .ok (.iload_n 0, 1) := dk_26 (dk_at dksJ14_bitCount_1 1 rfl rfl)
theorem dJ14_bitCount_26 : decode cJ14_bitCount 26 = .ok (.iconst 4, 1) := dk_7 (dk_at dksJ14_bitCount_1 2 rfl rfl)
theorem dJ14_bitCount_27 : decode cJ14_bitCount 27 = .ok (.iushr, 1) := dk_124 (dk_at dksJ14_bitCount_1 3 rfl rfl)
theorem dJ14_bitCount_28 : decode cJ14_bitCount 28 = .ok (.iadd, 1) := dk_96 (dk_at dksJ14_bitCount_1 4 rfl rfl)
theorem dJ14_bitCount_29 : decode cJ14_bitCount 29 = .ok (.ldc_w 267, 3) := dk_19 1 11 (dk_at dksJ14_bitCount_1 5 rfl rfl)
theorem dJ14_bitCount_32 : decode cJ14_bitCount 32 = .ok (.iand, 1) := dk_126 (dk_at dksJ14_bitCount_1 8 rfl rfl)
theorem dJ14_bitCount_33 : decode cJ14_bitCount 33 = .ok (.istore_n 0, 1) := dk_59 (dk_at dksJ14_bitCount_1 9 rfl rfl)
theorem dJ14_bitCount_34 : decode cJ14_bitCount 34 = .ok (.iload_n 0, 1) := dk_26 (dk_at dksJ14_bitCount_1 10 rfl rfl)
theorem dJ14_bitCount_35 : decode cJ14_bitCount 35 = .ok (.iload_n 0, 1) := dk_26 (dk_at dksJ14_bitCount_1 11 rfl rfl)
theorem dJ14_bitCount_36 : decode cJ14_bitCount 36 = .ok (.bipush 8, 2) := dk_16 8 (dk_at dksJ14_bitCount_1 12 rfl rfl)
theorem dJ14_bitCount_38 : decode cJ14_bitCount 38 = .ok (.iushr, 1) := dk_124 (dk_at dksJ14_bitCount_1 14 rfl rfl)
theorem dJ14_bitCount_39 : decode cJ14_bitCount 39 = .ok (.iadd, 1) := dk_96 (dk_at dksJ14_bitCount_1 15 rfl rfl)
theorem dJ14_bitCount_40 : decode cJ14_bitCount 40 = .ok (.istore_n 0, 1) := dk_59 (dk_at dksJ14_bitCount_1 16 rfl rfl)
theorem dJ14_bitCount_41 : decode cJ14_bitCount 41 = .ok (.iload_n 0, 1) := dk_26 (dk_at dksJ14_bitCount_1 17 rfl rfl)
theorem dJ14_bitCount_42 : decode cJ14_bitCount 42 = .ok (.iload_n 0, 1) := dk_26 (dk_at dksJ14_bitCount_1 18 rfl rfl)
theorem dJ14_bitCount_43 : decode cJ14_bitCount 43 = .ok (.bipush 16, 2) := dk_16 16 (dk_at dksJ14_bitCount_1 19 rfl rfl)
theorem dJ14_bitCount_45 : decode cJ14_bitCount 45 = .ok (.iushr, 1) := dk_124 (dk_at dksJ14_bitCount_1 21 rfl rfl)
theorem dJ14_bitCount_46 : decode cJ14_bitCount 46 = .ok (.iadd, 1) := dk_96 (dk_at dksJ14_bitCount_1 22 rfl rfl)
theorem dJ14_bitCount_47 : decode cJ14_bitCount 47 = .ok (.istore_n 0, 1) := dk_59 (dk_at dksJ14_bitCount_1 23 rfl rfl)
theorem dJ14_bitCount_48 : decode cJ14_bitCount 48 = .ok (.iload_n 0, 1) := dk_26 (dk_at dksJ14_bitCount_2 0 rfl rfl)
theorem dJ14_bitCount_49 : decode cJ14_bitCount 49 = .ok (.bipush 63, 2) := dk_16 63 (dk_at dksJ14_bitCount_2 1 rfl rfl)
theorem dJ14_bitCount_51 : decode cJ14_bitCount 51 = .ok (.iand, 1) := dk_126 (dk_at dksJ14_bitCount_2 3 rfl rfl)
theorem dJ14_bitCount_52 : decode cJ14_bitCount 52 = .ok (.ireturn, 1) := dk_172 (dk_at dksJ14_bitCount_2 4 rfl rfl)
theorem q99 : (Jvm.Cond.initialized "java/lang/Integer") ∈ lw_all := lw_g (lw_at lw_m1 23 rfl) rfl
theorem q622 : (Jvm.Cond.static ({ cls := "java/lang/Integer", name := "parseInt", desc := "(Ljava/lang/String;)I" } : Jvm.MethodName)) ∈ lw_all := lw_g (lw_at lw_m3 66 rfl) rfl
theorem q623 : (Jvm.Cond.code ({ cls := "java/lang/Integer", name := "parseInt", desc := "(Ljava/lang/String;)I" } : Jvm.MethodName) prog_23_method_16_code (1 : Nat) (Option.some Jvm.ClassFile.FieldType.int)) ∈ lw_all := lw_g (lw_at lw_m3 67 rfl) rfl
theorem q624 : (Jvm.Cond.methodLink "java/lang/Integer" (156 : Nat) ({ cls := "java/lang/Integer", name := "parseInt", desc := "(Ljava/lang/String;I)I" } : Jvm.MethodName)) ∈ lw_all := lw_g (lw_at lw_m3 68 rfl) rfl
theorem q625 : (Jvm.Cond.static ({ cls := "java/lang/Integer", name := "parseInt", desc := "(Ljava/lang/String;I)I" } : Jvm.MethodName)) ∈ lw_all := lw_g (lw_at lw_m3 69 rfl) rfl
theorem q626 : (Jvm.Cond.code ({ cls := "java/lang/Integer", name := "parseInt", desc := "(Ljava/lang/String;I)I" } : Jvm.MethodName) prog_23_method_14_code (10 : Nat) (Option.some Jvm.ClassFile.FieldType.int)) ∈ lw_all := lw_g (lw_at lw_m3 70 rfl) rfl
theorem q627 : (Jvm.Cond.methodLink "java/lang/Integer" (118 : Nat) ({ cls := "java/lang/String", name := "length", desc := "()I" } : Jvm.MethodName)) ∈ lw_all := lw_g (lw_at lw_m3 71 rfl) rfl
theorem q628 : (Jvm.Cond.constant "java/lang/Integer" (122 : Nat) (-2147483647 : Int32)) ∈ lw_all := lw_g (lw_at lw_m3 72 rfl) rfl
theorem q629 : (Jvm.Cond.methodLink "java/lang/Integer" (123 : Nat) ({ cls := "java/lang/String", name := "charAt", desc := "(I)C" } : Jvm.MethodName)) ∈ lw_all := lw_g (lw_at lw_m3 73 rfl) rfl
theorem q630 : (Jvm.Cond.constant "java/lang/Integer" (127 : Nat) (-2147483648 : Int32)) ∈ lw_all := lw_g (lw_at lw_m3 74 rfl) rfl
theorem q631 : (Jvm.Cond.methodLink "java/lang/Integer" (132 : Nat) ({ cls := "java/lang/Character", name := "digit", desc := "(CI)I" } : Jvm.MethodName)) ∈ lw_all := lw_g (lw_at lw_m3 75 rfl) rfl
theorem q653 : (Jvm.Cond.static ({ cls := "java/lang/Integer", name := "numberOfTrailingZeros", desc := "(I)I" } : Jvm.MethodName)) ∈ lw_all := lw_g (lw_at lw_m3 97 rfl) rfl
theorem q654 : (Jvm.Cond.code ({ cls := "java/lang/Integer", name := "numberOfTrailingZeros", desc := "(I)I" } : Jvm.MethodName) prog_23_method_48_code (2 : Nat) (Option.some Jvm.ClassFile.FieldType.int)) ∈ lw_all := lw_g (lw_at lw_m3 98 rfl) rfl
theorem q655 : (Jvm.Cond.constant "java/lang/Integer" (264 : Nat) (65536 : Int32)) ∈ lw_all := lw_g (lw_at lw_m3 99 rfl) rfl
theorem q899 : (Jvm.Cond.static ({ cls := "java/lang/Integer", name := "lowestOneBit", desc := "(I)I" } : Jvm.MethodName)) ∈ lw_all := lw_g (lw_at lw_m4 103 rfl) rfl
theorem q900 : (Jvm.Cond.code ({ cls := "java/lang/Integer", name := "lowestOneBit", desc := "(I)I" } : Jvm.MethodName) prog_23_method_46_code (1 : Nat) (Option.some Jvm.ClassFile.FieldType.int)) ∈ lw_all := lw_g (lw_at lw_m4 104 rfl) rfl
theorem q1015 : (Jvm.Cond.static ({ cls := "java/lang/Integer", name := "bitCount", desc := "(I)I" } : Jvm.MethodName)) ∈ lw_all := lw_g (lw_at lw_m4 219 rfl) rfl
theorem q1016 : (Jvm.Cond.code ({ cls := "java/lang/Integer", name := "bitCount", desc := "(I)I" } : Jvm.MethodName) prog_23_method_49_code (1 : Nat) (Option.some Jvm.ClassFile.FieldType.int)) ∈ lw_all := lw_g (lw_at lw_m4 220 rfl) rfl
theorem q1017 : (Jvm.Cond.constant "java/lang/Integer" (265 : Nat) (1431655765 : Int32)) ∈ lw_all := lw_g (lw_at lw_m4 221 rfl) rfl
theorem q1018 : (Jvm.Cond.constant "java/lang/Integer" (266 : Nat) (858993459 : Int32)) ∈ lw_all := lw_g (lw_at lw_m4 222 rfl) rfl
theorem q1019 : (Jvm.Cond.constant "java/lang/Integer" (267 : Nat) (252645135 : Int32)) ∈ lw_all := lw_g (lw_at lw_m4 223 rfl) rfl
/-! java/lang/Character -/
set_option maxRecDepth 100000
def RJ15 : String := "java/lang/Character"
abbrev cJ15_digit : ByteArray := prog_17_method_79_code
def yJ15_digit : MethodName := ⟨RJ15, "digit", "(CI)I"⟩
def dkwJ15_digit_0 : List UInt8 := [26, 27, 184, 0, 248, 172]
abbrev dktJ15_digit_0 : List UInt8 := dkwJ15_digit_0 ++ []
theorem dksJ15_digit_0 : cJ15_digit.data.toList.drop 0 = dktJ15_digit_0 := by decide +kernel
theorem dJ15_digit_0 : decode cJ15_digit 0 = .ok (.iload_n 0, 1) := dk_26 (dk_at dksJ15_digit_0 0 rfl rfl)
theorem dJ15_digit_1 : decode cJ15_digit 1 = .ok (.iload_n 1, 1) := dk_27 (dk_at dksJ15_digit_0 1 rfl rfl)
theorem dJ15_digit_2 : decode cJ15_digit 2 = .ok (.invokestatic 248, 3) := dk_184 0 248 (dk_at dksJ15_digit_0 2 rfl rfl)
theorem dJ15_digit_5 : decode cJ15_digit 5 = .ok (.ireturn, 1) := dk_172 (dk_at dksJ15_digit_0 5 rfl rfl)
abbrev cJ15_digit_2 : ByteArray := prog_17_method_80_code
def yJ15_digit_2 : MethodName := ⟨RJ15, "digit", "(II)I"⟩
def dkwJ15_digit_2_0 : List UInt8 := [26, 184, 0, 158, 26, 27, 182, 0, 252, 172]
abbrev dktJ15_digit_2_0 : List UInt8 := dkwJ15_digit_2_0 ++ []
theorem dksJ15_digit_2_0 : cJ15_digit_2.data.toList.drop 0 = dktJ15_digit_2_0 := by decide +kernel
theorem dJ15_digit_2_0 : decode cJ15_digit_2 0 = .ok (.iload_n 0, 1) := dk_26 (dk_at dksJ15_digit_2_0 0 rfl rfl)
theorem dJ15_digit_2_1 : decode cJ15_digit_2 1 = .ok (.invokestatic 158, 3) := dk_184 0 158 (dk_at dksJ15_digit_2_0 1 rfl rfl)
theorem dJ15_digit_2_4 : decode cJ15_digit_2 4 = .ok (.iload_n 0, 1) := dk_26 (dk_at dksJ15_digit_2_0 4 rfl rfl)
theorem dJ15_digit_2_5 : decode cJ15_digit_2 5 = .ok (.iload_n 1, 1) := dk_27 (dk_at dksJ15_digit_2_0 5 rfl rfl)
theorem dJ15_digit_2_6 : decode cJ15_digit_2 6 = .ok (.invokevirtual 252, 3) := dk_182 0 252 (dk_at dksJ15_digit_2_0 6 rfl rfl)
theorem dJ15_digit_2_9 : decode cJ15_digit_2 9 = .ok (.ireturn, 1) := dk_172 (dk_at dksJ15_digit_2_0 9 rfl rfl)
theorem q100 : (Jvm.Cond.initialized "java/lang/Character") ∈ lw_all := lw_g (lw_at lw_m1 24 rfl) rfl
theorem q632 : (Jvm.Cond.static ({ cls := "java/lang/Character", name := "digit", desc := "(CI)I" } : Jvm.MethodName)) ∈ lw_all := lw_g (lw_at lw_m3 76 rfl) rfl
theorem q633 : (Jvm.Cond.code ({ cls := "java/lang/Character", name := "digit", desc := "(CI)I" } : Jvm.MethodName) prog_17_method_79_code (2 : Nat) (Option.some Jvm.ClassFile.FieldType.int)) ∈ lw_all := lw_g (lw_at lw_m3 77 rfl) rfl
theorem q634 : (Jvm.Cond.methodLink "java/lang/Character" (248 : Nat) ({ cls := "java/lang/Character", name := "digit", desc := "(II)I" } : Jvm.MethodName)) ∈ lw_all := lw_g (lw_at lw_m3 78 rfl) rfl
theorem q635 : (Jvm.Cond.static ({ cls := "java/lang/Character", name := "digit", desc := "(II)I" } : Jvm.MethodName)) ∈ lw_all := lw_g (lw_at lw_m3 79 rfl) rfl
theorem q636 : (Jvm.Cond.code ({ cls := "java/lang/Character", name := "digit", desc := "(II)I" } : Jvm.MethodName) prog_17_method_80_code (2 : Nat) (Option.some Jvm.ClassFile.FieldType.int)) ∈ lw_all := lw_g (lw_at lw_m3 80 rfl) rfl
theorem q637 : (Jvm.Cond.methodLink "java/lang/Character" (158 : Nat) ({ cls := "java/lang/CharacterData", name := "of", desc := "(I)Ljava/lang/CharacterData;" } : Jvm.MethodName)) ∈ lw_all := lw_g (lw_at lw_m3 81 rfl) rfl
theorem q642 : (Jvm.Cond.methodLink "java/lang/Character" (252 : Nat) ({ cls := "java/lang/CharacterData", name := "digit", desc := "(II)I" } : Jvm.MethodName)) ∈ lw_all := lw_g (lw_at lw_m3 86 rfl) rfl
/-! java/lang/CharacterData -/
set_option maxRecDepth 100000
def RJ16 : String := "java/lang/CharacterData"
abbrev cJ16_of : ByteArray := prog_18_method_30_code
def yJ16_of : MethodName := ⟨RJ16, "of", "(I)Ljava/lang/CharacterData;"⟩
def dkwJ16_of_3 : List UInt8 := [178, 0, 35, 167, 0, 12, 178, 0, 38, 167, 0, 6, 178, 0, 41, 176]
abbrev dktJ16_of_3 : List UInt8 := dkwJ16_of_3 ++ []
def dkwJ16_of_2 : List UInt8 := [178, 0, 19, 167, 0, 36, 178, 0, 24, 167, 0, 30, 178, 0, 29, 167, 0, 24, 178, 0, 32, 167, 0, 18]
abbrev dktJ16_of_2 : List UInt8 := dkwJ16_of_2 ++ dktJ16_of_3
def dkwJ16_of_1 : List UInt8 := [170, 0, 0, 0, 117, 0, 0, 0, 0, 0, 0, 0, 16, 0, 0, 0, 81, 0, 0, 0, 87, 0, 0, 0, 93, 0, 0, 0, 99, 0, 0, 0, 117, 0, 0, 0, 117, 0, 0, 0, 117, 0, 0, 0, 117, 0, 0, 0, 117, 0, 0, 0, 117, 0, 0, 0, 117, 0, 0, 0, 117, 0, 0, 0, 117, 0, 0, 0, 117, 0, 0, 0, 105, 0, 0, 0, 111, 0, 0, 0, 111]
abbrev dktJ16_of_1 : List UInt8 := dkwJ16_of_1 ++ dktJ16_of_2
def dkwJ16_of_0 : List UInt8 := [26, 16, 8, 124, 154, 0, 7, 178, 0, 13, 176, 26, 16, 16, 124]
abbrev dktJ16_of_0 : List UInt8 := dkwJ16_of_0 ++ dktJ16_of_1
theorem dksJ16_of_0 : cJ16_of.data.toList.drop 0 = dktJ16_of_0 := by decide +kernel
theorem dksJ16_of_1 : cJ16_of.data.toList.drop 15 = dktJ16_of_1 := dk_seg dksJ16_of_0 15 rfl rfl
theorem dksJ16_of_2 : cJ16_of.data.toList.drop 96 = dktJ16_of_2 := dk_seg dksJ16_of_1 81 rfl rfl
theorem dksJ16_of_3 : cJ16_of.data.toList.drop 120 = dktJ16_of_3 := dk_seg dksJ16_of_2 24 rfl rfl
theorem dJ16_of_0 : decode cJ16_of 0 = .ok (.iload_n 0, 1) := dk_26 (dk_at dksJ16_of_0 0 rfl rfl)
theorem dJ16_of_1 : decode cJ16_of 1 = .ok (.bipush 8, 2) := dk_16 8 (dk_at dksJ16_of_0 1 rfl rfl)
theorem dJ16_of_3 : decode cJ16_of 3 = .ok (.iushr, 1) := dk_124 (dk_at dksJ16_of_0 3 rfl rfl)
theorem dJ16_of_4 : decode cJ16_of 4 = .ok (.ifCond .ne 7, 3) := dk_154 0 7 (dk_at dksJ16_of_0 4 rfl rfl)
theorem dJ16_of_7 : decode cJ16_of 7 = .ok (.getstatic 13, 3) := dk_178 0 13 (dk_at dksJ16_of_0 7 rfl rfl)
theorem dJ16_of_10 : decode cJ16_of 10 = .ok (.areturn, 1) := dk_176 (dk_at dksJ16_of_0 10 rfl rfl)
theorem dJ16_of_11 : decode cJ16_of 11 = .ok (.iload_n 0, 1) := dk_26 (dk_at dksJ16_of_0 11 rfl rfl)
theorem dJ16_of_12 : decode cJ16_of 12 = .ok (.bipush 16, 2) := dk_16 16 (dk_at dksJ16_of_0 12 rfl rfl)
theorem dJ16_of_14 : decode cJ16_of 14 = .ok (.iushr, 1) := dk_124 (dk_at dksJ16_of_0 14 rfl rfl)
theorem dJ16_of_15 : decode cJ16_of 15 = .ok (.tableswitch 117 0 16 #[81, 87, 93, 99, 117, 117, 117, 117, 117, 117, 117, 117, 117, 117, 105, 111, 111], 81) := by decide +kernel
theorem dJ16_of_96 : decode cJ16_of 96 = .ok (.getstatic 19, 3) := dk_178 0 19 (dk_at dksJ16_of_2 0 rfl rfl)
theorem dJ16_of_99 : decode cJ16_of 99 = .ok (.goto 36, 3) := dk_167 0 36 (dk_at dksJ16_of_2 3 rfl rfl)
theorem dJ16_of_102 : decode cJ16_of 102 = .ok (.getstatic 24, 3) := dk_178 0 24 (dk_at dksJ16_of_2 6 rfl rfl)
theorem dJ16_of_105 : decode cJ16_of 105 = .ok (.goto 30, 3) := dk_167 0 30 (dk_at dksJ16_of_2 9 rfl rfl)
theorem dJ16_of_108 : decode cJ16_of 108 = .ok (.getstatic 29, 3) := dk_178 0 29 (dk_at dksJ16_of_2 12 rfl rfl)
theorem dJ16_of_111 : decode cJ16_of 111 = .ok (.goto 24, 3) := dk_167 0 24 (dk_at dksJ16_of_2 15 rfl rfl)
theorem dJ16_of_114 : decode cJ16_of 114 = .ok (.getstatic 32, 3) := dk_178 0 32 (dk_at dksJ16_of_2 18 rfl rfl)
theorem dJ16_of_117 : decode cJ16_of 117 = .ok (.goto 18, 3) := dk_167 0 18 (dk_at dksJ16_of_2 21 rfl rfl)
theorem dJ16_of_120 : decode cJ16_of 120 = .ok (.getstatic 35, 3) := dk_178 0 35 (dk_at dksJ16_of_3 0 rfl rfl)
theorem dJ16_of_123 : decode cJ16_of 123 = .ok (.goto 12, 3) := dk_167 0 12 (dk_at dksJ16_of_3 3 rfl rfl)
theorem dJ16_of_126 : decode cJ16_of 126 = .ok (.getstatic 38, 3) := dk_178 0 38 (dk_at dksJ16_of_3 6 rfl rfl)
theorem dJ16_of_129 : decode cJ16_of 129 = .ok (.goto 6, 3) := dk_167 0 6 (dk_at dksJ16_of_3 9 rfl rfl)
theorem dJ16_of_132 : decode cJ16_of 132 = .ok (.getstatic 41, 3) := dk_178 0 41 (dk_at dksJ16_of_3 12 rfl rfl)
theorem dJ16_of_135 : decode cJ16_of 135 = .ok (.areturn, 1) := dk_176 (dk_at dksJ16_of_3 15 rfl rfl)
theorem q101 : (Jvm.Cond.initialized "java/lang/CharacterData") ∈ lw_all := lw_g (lw_at lw_m1 25 rfl) rfl
theorem q638 : (Jvm.Cond.static ({ cls := "java/lang/CharacterData", name := "of", desc := "(I)Ljava/lang/CharacterData;" } : Jvm.MethodName)) ∈ lw_all := lw_g (lw_at lw_m3 82 rfl) rfl
theorem q639 : (Jvm.Cond.code ({ cls := "java/lang/CharacterData", name := "of", desc := "(I)Ljava/lang/CharacterData;" } : Jvm.MethodName) prog_18_method_30_code (1 : Nat) (Option.some (Jvm.ClassFile.FieldType.object "java/lang/CharacterData"))) ∈ lw_all := lw_g (lw_at lw_m3 83 rfl) rfl
theorem q640 : (Jvm.Cond.fieldLink "java/lang/CharacterData" (13 : Nat) "java/lang/CharacterDataLatin1" "instance" "Ljava/lang/CharacterDataLatin1;") ∈ lw_all := lw_g (lw_at lw_m3 84 rfl) rfl
theorem q643 : (Jvm.Cond.declares ({ cls := "java/lang/CharacterData", name := "digit", desc := "(II)I" } : Jvm.MethodName)) ∈ lw_tbl := lw_at lw_m3 87 rfl
theorem q644 : (Jvm.Cond.sameMethod "java/lang/CharacterData" "java/lang/CharacterData" "digit" "(II)I") ∈ lw_all := lw_g (lw_at lw_m3 88 rfl) rfl
/-! java/lang/CharacterDataLatin1 -/
set_option maxRecDepth 100000
def RJ17 : String := "java/lang/CharacterDataLatin1"
abbrev cJ17_digit : ByteArray := prog_19_method_24_code
def yJ17_digit : MethodName := ⟨RJ17, "digit", "(II)I"⟩
def dkwJ17_digit_1 : List UInt8 := [163, 0, 7, 29, 167, 0, 4, 2, 172]
abbrev dktJ17_digit_1 : List UInt8 := dkwJ17_digit_1 ++ []
def dkwJ17_digit_0 : List UInt8 := [178, 0, 25, 27, 51, 62, 29, 155, 0, 23, 29, 28, 162, 0, 18, 28, 5, 161, 0, 13, 28, 16, 36]
abbrev dktJ17_digit_0 : List UInt8 := dkwJ17_digit_0 ++ dktJ17_digit_1
theorem dksJ17_digit_0 : cJ17_digit.data.toList.drop 0 = dktJ17_digit_0 := by decide +kernel
theorem dksJ17_digit_1 : cJ17_digit.data.toList.drop 23 = dktJ17_digit_1 := dk_seg dksJ17_digit_0 23 rfl rfl
theorem dJ17_digit_0 : decode cJ17_digit 0 = .ok (.getstatic 25, 3) := dk_178 0 25 (dk_at dksJ17_digit_0 0 rfl rfl)
theorem dJ17_digit_3 : decode cJ17_digit 3 = .ok (.iload_n 1, 1) := dk_27 (dk_at dksJ17_digit_0 3 rfl rfl)
theorem dJ17_digit_4 : decode cJ17_digit 4 = .ok (.baload, 1) := dk_51 (dk_at dksJ17_digit_0 4 rfl rfl)
theorem dJ17_digit_5 : decode cJ17_digit 5 = .ok (.istore_n 3, 1) := dk_62 (dk_at dksJ17_digit_0 5 rfl rfl)
theorem dJ17_digit_6 : decode cJ17_digit 6 = .ok (.iload_n 3, 1) := dk_29 (dk_at dksJ17_digit_0 6 rfl rfl)
theorem dJ17_digit_7 : decode cJ17_digit 7 = .ok (.ifCond .lt 23, 3) := dk_155 0 23 (dk_at dksJ17_digit_0 7 rfl rfl)
theorem dJ17_digit_10 : decode cJ17_digit 10 = .ok (.iload_n 3, 1) := dk_29 (dk_at dksJ17_digit_0 10 rfl rfl)
theorem dJ17_digit_11 : decode cJ17_digit 11 = .ok (.iload_n 2, 1) := dk_28 (dk_at dksJ17_digit_0 11 rfl rfl)
theorem dJ17_digit_12 : decode cJ17_digit 12 = .ok (.if_icmp .ge 18, 3) := dk_162 0 18 (dk_at dksJ17_digit_0 12 rfl rfl)
theorem dJ17_digit_15 : decode cJ17_digit 15 = .ok (.iload_n 2, 1) := dk_28 (dk_at dksJ17_digit_0 15 rfl rfl)
theorem dJ17_digit_16 : decode cJ17_digit 16 = .ok (.iconst 2, 1) := dk_5 (dk_at dksJ17_digit_0 16 rfl rfl)
theorem dJ17_digit_17 : decode cJ17_digit 17 = .ok (.if_icmp .lt 13, 3) := dk_161 0 13 (dk_at dksJ17_digit_0 17 rfl rfl)
theorem dJ17_digit_20 : decode cJ17_digit 20 = .ok (.iload_n 2, 1) := dk_28 (dk_at dksJ17_digit_0 20 rfl rfl)
theorem dJ17_digit_21 : decode cJ17_digit 21 = .ok (.bipush 36, 2) := dk_16 36 (dk_at dksJ17_digit_0 21 rfl rfl)
theorem dJ17_digit_23 : decode cJ17_digit 23 = .ok (.if_icmp .gt 7, 3) := dk_163 0 7 (dk_at dksJ17_digit_1 0 rfl rfl)
theorem dJ17_digit_26 : decode cJ17_digit 26 = .ok (.iload_n 3, 1) := dk_29 (dk_at dksJ17_digit_1 3 rfl rfl)
theorem dJ17_digit_27 : decode cJ17_digit 27 = .ok (.goto 4, 3) := dk_167 0 4 (dk_at dksJ17_digit_1 4 rfl rfl)
theorem dJ17_digit_30 : decode cJ17_digit 30 = .ok (.iconst (-1), 1) := dk_2 (dk_at dksJ17_digit_1 7 rfl rfl)
theorem dJ17_digit_31 : decode cJ17_digit 31 = .ok (.ireturn, 1) := dk_172 (dk_at dksJ17_digit_1 8 rfl rfl)
theorem q102 : (Jvm.Cond.initialized "java/lang/CharacterDataLatin1") ∈ lw_all := lw_g (lw_at lw_m1 26 rfl) rfl
theorem q641 : (Jvm.Cond.laysStatic "java/lang/CharacterDataLatin1" "instance" "Ljava/lang/CharacterDataLatin1;") ∈ lw_tbl := lw_at lw_m3 85 rfl
theorem q645 : (Jvm.Cond.selects "java/lang/CharacterDataLatin1" ({ cls := "java/lang/CharacterData", name := "digit", desc := "(II)I" } : Jvm.MethodName) ({ cls := "java/lang/CharacterDataLatin1", name := "digit", desc := "(II)I" } : Jvm.MethodName)) ∈ lw_all := lw_g (lw_at lw_m3 89 rfl) rfl
theorem q646 : (Jvm.Cond.instanceMethod ({ cls := "java/lang/CharacterDataLatin1", name := "digit", desc := "(II)I" } : Jvm.MethodName)) ∈ lw_all := lw_g (lw_at lw_m3 90 rfl) rfl
theorem q647 : (Jvm.Cond.code ({ cls := "java/lang/CharacterDataLatin1", name := "digit", desc := "(II)I" } : Jvm.MethodName) prog_19_method_24_code (4 : Nat) (Option.some Jvm.ClassFile.FieldType.int)) ∈ lw_all := lw_g (lw_at lw_m3 91 rfl) rfl
theorem q648 : (Jvm.Cond.fieldLink "java/lang/CharacterDataLatin1" (25 : Nat) "java/lang/CharacterDataLatin1" "DIGITS" "[B") ∈ lw_all := lw_g (lw_at lw_m3 92 rfl) rfl
theorem q649 : (Jvm.Cond.laysStatic "java/lang/CharacterDataLatin1" "DIGITS" "[B") ∈ lw_tbl := lw_at lw_m3 93 rfl
theorem q791 : (Jvm.Cond.selects "java/lang/CharacterDataLatin1" ({ cls := "java/lang/Object", name := "getClass", desc := "()Ljava/lang/Class;" } : Jvm.MethodName) ({ cls := "java/lang/Object", name := "getClass", desc := "()Ljava/lang/Class;" } : Jvm.MethodName)) ∈ lw_all := lw_g (lw_at lw_m3 235 rfl) rfl
theorem q1561 : (Jvm.Cond.castable "java/lang/CharacterDataLatin1" "java/lang/Object") ∈ lw_tbl := lw_at lw_m7 45 rfl
/-! java/util/Objects -/
set_option maxRecDepth 100000
def RJ18 : String := "java/util/Objects"
abbrev cJ18_checkIndex : ByteArray := prog_41_method_17_code
def yJ18_checkIndex : MethodName := ⟨RJ18, "checkIndex", "(II)I"⟩
def dkwJ18_checkIndex_0 : List UInt8 := [26, 27, 1, 184, 0, 105, 172]
abbrev dktJ18_checkIndex_0 : List UInt8 := dkwJ18_checkIndex_0 ++ []
theorem dksJ18_checkIndex_0 : cJ18_checkIndex.data.toList.drop 0 = dktJ18_checkIndex_0 := by decide +kernel
theorem dJ18_checkIndex_0 : decode cJ18_checkIndex 0 = .ok (.iload_n 0, 1) := dk_26 (dk_at dksJ18_checkIndex_0 0 rfl rfl)
theorem dJ18_checkIndex_1 : decode cJ18_checkIndex 1 = .ok (.iload_n 1, 1) := dk_27 (dk_at dksJ18_checkIndex_0 1 rfl rfl)
theorem dJ18_checkIndex_2 : decode cJ18_checkIndex 2 = .ok (.aconst_null, 1) := dk_1 (dk_at dksJ18_checkIndex_0 2 rfl rfl)
theorem dJ18_checkIndex_3 : decode cJ18_checkIndex 3 = .ok (.invokestatic 105, 3) := dk_184 0 105 (dk_at dksJ18_checkIndex_0 3 rfl rfl)
theorem dJ18_checkIndex_6 : decode cJ18_checkIndex 6 = .ok (.ireturn, 1) := dk_172 (dk_at dksJ18_checkIndex_0 6 rfl rfl)
theorem q107 : (Jvm.Cond.initialized "java/util/Objects") ∈ lw_all := lw_g (lw_at lw_m1 31 rfl) rfl
theorem q851 : (Jvm.Cond.static ({ cls := "java/util/Objects", name := "checkIndex", desc := "(II)I" } : Jvm.MethodName)) ∈ lw_all := lw_g (lw_at lw_m4 55 rfl) rfl
theorem q852 : (Jvm.Cond.code ({ cls := "java/util/Objects", name := "checkIndex", desc := "(II)I" } : Jvm.MethodName) prog_41_method_17_code (2 : Nat) (Option.some Jvm.ClassFile.FieldType.int)) ∈ lw_all := lw_g (lw_at lw_m4 56 rfl) rfl
theorem q853 : (Jvm.Cond.methodLink "java/util/Objects" (105 : Nat) ({ cls := "jdk/internal/util/Preconditions", name := "checkIndex", desc := "(IILjava/util/function/BiFunction;)I" } : Jvm.MethodName)) ∈ lw_all := lw_g (lw_at lw_m4 57 rfl) rfl
/-! java/lang/Object -/
set_option maxRecDepth 100000
def RJ19 : String := "java/lang/Object"
abbrev cJ19_init : ByteArray := object_method_1_code
def yJ19_init : MethodName := ⟨RJ19, "<init>", "()V"⟩
theorem dJ19_init_0 : decode cJ19_init 0 = .ok (.return_, 1) := by decide +kernel
theorem q115 : (Jvm.Cond.instanceMethod ({ cls := "java/lang/Object", name := "<init>", desc := "()V" } : Jvm.MethodName)) ∈ lw_all := lw_g (lw_at lw_m1 39 rfl) rfl
theorem q116 : (Jvm.Cond.code ({ cls := "java/lang/Object", name := "<init>", desc := "()V" } : Jvm.MethodName) object_method_1_code (1 : Nat) (Option.none : Option Jvm.ClassFile.FieldType)) ∈ lw_all := lw_g (lw_at lw_m1 40 rfl) rfl
theorem q379 : (Jvm.Cond.native ({ cls := "java/lang/Object", name := "clone", desc := "()Ljava/lang/Object;" } : Jvm.MethodName)) ∈ lw_all := lw_g (lw_at lw_m2 63 rfl) rfl
theorem q380 : (Jvm.Cond.instanceMethod ({ cls := "java/lang/Object", name := "clone", desc := "()Ljava/lang/Object;" } : Jvm.MethodName)) ∈ lw_all := lw_g (lw_at lw_m2 64 rfl) rfl
theorem q779 : (Jvm.Cond.instanceMethod ({ cls := "java/lang/Object", name := "getClass", desc := "()Ljava/lang/Class;" } : Jvm.MethodName)) ∈ lw_all := lw_g (lw_at lw_m3 223 rfl) rfl
theorem q780 : (Jvm.Cond.sameMethod "java/lang/Object" "java/lang/Object" "getClass" "()Ljava/lang/Class;") ∈ lw_all := lw_g (lw_at lw_m3 224 rfl) rfl
theorem q795 : (Jvm.Cond.native ({ cls := "java/lang/Object", name := "getClass", desc := "()Ljava/lang/Class;" } : Jvm.MethodName)) ∈ lw_all := lw_g (lw_at lw_m3 239 rfl) rfl
theorem q1568 : (Jvm.Cond.declares ({ cls := "java/lang/Object", name := "getClass", desc := "()Ljava/lang/Class;" } : Jvm.MethodName)) ∈ lw_tbl := lw_at lw_m7 52 rfl
/-! java/util/ArrayList -/
set_option maxRecDepth 100000
def RJ2 : String := "java/util/ArrayList"
def TJ2 : u_T := fun k => match k with
  | 0 => ("java/util/AbstractList", "modCount", "I", false)
  | 1 => ("java/util/ArrayList", "elementData", "[Ljava/lang/Object;", false)
  | _ => ("java/util/ArrayList", "size", "I", false)
def tyJ2 : Nat → FieldType := fun k => match k with
  | 0 => .int
  | 1 => .array (.object "java/lang/Object")
  | _ => .int
abbrev wsJ20 : List Cond := u_ws RJ2 TJ2 3
theorem nmJ2 : ∀ a, a < 3 → ∀ b, b < 3 → a ≠ b → (TJ2 a).2.1 ≠ (TJ2 b).2.1 := by decide +kernel
theorem tyJ2_ok : ∀ k, k < 3 → parseFieldDescriptor (TJ2 k).2.2.1 = some (tyJ2 k) := by decide +kernel
abbrev cJ2_init : ByteArray := prog_37_method_2_code
def yJ2_init : MethodName := ⟨RJ2, "<init>", "()V"⟩
def dkwJ2_init_0 : List UInt8 := [42, 183, 0, 1, 42, 178, 0, 39, 181, 0, 9, 177]
abbrev dktJ2_init_0 : List UInt8 := dkwJ2_init_0 ++ []
theorem dksJ2_init_0 : cJ2_init.data.toList.drop 0 = dktJ2_init_0 := by decide +kernel
theorem dJ2_init_0 : decode cJ2_init 0 = .ok (.aload_n 0, 1) := dk_42 (dk_at dksJ2_init_0 0 rfl rfl)
theorem dJ2_init_1 : decode cJ2_init 1 = .ok (.invokespecial 1, 3) := dk_183 0 1 (dk_at dksJ2_init_0 1 rfl rfl)
theorem dJ2_init_4 : decode cJ2_init 4 = .ok (.aload_n 0, 1) := dk_42 (dk_at dksJ2_init_0 4 rfl rfl)
theorem dJ2_init_5 : decode cJ2_init 5 = .ok (.getstatic 39, 3) := dk_178 0 39 (dk_at dksJ2_init_0 5 rfl rfl)
theorem dJ2_init_8 : decode cJ2_init 8 = .ok (.putfield 9, 3) := dk_181 0 9 (dk_at dksJ2_init_0 8 rfl rfl)
theorem dJ2_init_11 : decode cJ2_init 11 = .ok (.return_, 1) := dk_177 (dk_at dksJ2_init_0 11 rfl rfl)
abbrev cJ2_size : ByteArray := prog_37_method_8_code
def yJ2_size : MethodName := ⟨RJ2, "size", "()I"⟩
theorem dJ2_size_0 : decode cJ2_size 0 = .ok (.aload_n 0, 1) := by decide +kernel
theorem dJ2_size_1 : decode cJ2_size 1 = .ok (.getfield 48, 3) := by decide +kernel
theorem dJ2_size_4 : decode cJ2_size 4 = .ok (.ireturn, 1) := by decide +kernel
abbrev cJ2_add : ByteArray := prog_37_method_25_code
def yJ2_add : MethodName := ⟨RJ2, "add", "(Ljava/lang/Object;)Z"⟩
def dkwJ2_add_1 : List UInt8 := [172]
abbrev dktJ2_add_1 : List UInt8 := dkwJ2_add_1 ++ []
def dkwJ2_add_0 : List UInt8 := [42, 89, 180, 0, 63, 4, 96, 181, 0, 63, 42, 43, 42, 180, 0, 9, 42, 180, 0, 48, 182, 0, 131, 4]
abbrev dktJ2_add_0 : List UInt8 := dkwJ2_add_0 ++ dktJ2_add_1
theorem dksJ2_add_0 : cJ2_add.data.toList.drop 0 = dktJ2_add_0 := by decide +kernel
theorem dksJ2_add_1 : cJ2_add.data.toList.drop 24 = dktJ2_add_1 := dk_seg dksJ2_add_0 24 rfl rfl
theorem dJ2_add_0 : decode cJ2_add 0 = .ok (.aload_n 0, 1) := dk_42 (dk_at dksJ2_add_0 0 rfl rfl)
theorem dJ2_add_1 : decode cJ2_add 1 = .ok (.dup, 1) := dk_89 (dk_at dksJ2_add_0 1 rfl rfl)
theorem dJ2_add_2 : decode cJ2_add 2 = .ok (.getfield 63, 3) := dk_180 0 63 (dk_at dksJ2_add_0 2 rfl rfl)
theorem dJ2_add_5 : decode cJ2_add 5 = .ok (.iconst 1, 1) := dk_4 (dk_at dksJ2_add_0 5 rfl rfl)
theorem dJ2_add_6 : decode cJ2_add 6 = .ok (.iadd, 1) := dk_96 (dk_at dksJ2_add_0 6 rfl rfl)
theorem dJ2_add_7 : decode cJ2_add 7 = .ok (.putfield 63, 3) := dk_181 0 63 (dk_at dksJ2_add_0 7 rfl rfl)
theorem dJ2_add_10 : decode cJ2_add 10 = .ok (.aload_n 0, 1) := dk_42 (dk_at dksJ2_add_0 10 rfl rfl)
theorem dJ2_add_11 : decode cJ2_add 11 = .ok (.aload_n 1, 1) := dk_43 (dk_at dksJ2_add_0 11 rfl rfl)
theorem dJ2_add_12 : decode cJ2_add 12 = .ok (.aload_n 0, 1) := dk_42 (dk_at dksJ2_add_0 12 rfl rfl)
theorem dJ2_add_13 : decode cJ2_add 13 = .ok (.getfield 9, 3) := dk_180 0 9 (dk_at dksJ2_add_0 13 rfl rfl)
theorem dJ2_add_16 : decode cJ2_add 16 = .ok (.aload_n 0, 1) := dk_42 (dk_at dksJ2_add_0 16 rfl rfl)
theorem dJ2_add_17 : decode cJ2_add 17 = .ok (.getfield 48, 3) := dk_180 0 48 (dk_at dksJ2_add_0 17 rfl rfl)
theorem dJ2_add_20 : decode cJ2_add 20 = .ok (.invokevirtual 131, 3) := dk_182 0 131 (dk_at dksJ2_add_0 20 rfl rfl)
theorem dJ2_add_23 : decode cJ2_add 23 = .ok (.iconst 1, 1) := dk_4 (dk_at dksJ2_add_0 23 rfl rfl)
theorem dJ2_add_24 : decode cJ2_add 24 = .ok (.ireturn, 1) := dk_172 (dk_at dksJ2_add_1 0 rfl rfl)
abbrev cJ2_add_2 : ByteArray := prog_37_method_24_code
def yJ2_add_2 : MethodName := ⟨RJ2, "add", "(Ljava/lang/Object;[Ljava/lang/Object;I)V"⟩
def dkwJ2_add_2_0 : List UInt8 := [29, 44, 190, 160, 0, 8, 42, 182, 0, 129, 77, 44, 29, 43, 83, 42, 29, 4, 96, 181, 0, 48, 177]
abbrev dktJ2_add_2_0 : List UInt8 := dkwJ2_add_2_0 ++ []
theorem dksJ2_add_2_0 : cJ2_add_2.data.toList.drop 0 = dktJ2_add_2_0 := by decide +kernel
theorem dJ2_add_2_0 : decode cJ2_add_2 0 = .ok (.iload_n 3, 1) := dk_29 (dk_at dksJ2_add_2_0 0 rfl rfl)
theorem dJ2_add_2_1 : decode cJ2_add_2 1 = .ok (.aload_n 2, 1) := dk_44 (dk_at dksJ2_add_2_0 1 rfl rfl)
theorem dJ2_add_2_2 : decode cJ2_add_2 2 = .ok (.arraylength, 1) := dk_190 (dk_at dksJ2_add_2_0 2 rfl rfl)
theorem dJ2_add_2_3 : decode cJ2_add_2 3 = .ok (.if_icmp .ne 8, 3) := dk_160 0 8 (dk_at dksJ2_add_2_0 3 rfl rfl)
theorem dJ2_add_2_6 : decode cJ2_add_2 6 = .ok (.aload_n 0, 1) := dk_42 (dk_at dksJ2_add_2_0 6 rfl rfl)
theorem dJ2_add_2_7 : decode cJ2_add_2 7 = .ok (.invokevirtual 129, 3) := dk_182 0 129 (dk_at dksJ2_add_2_0 7 rfl rfl)
theorem dJ2_add_2_10 : decode cJ2_add_2 10 = .ok (.astore_n 2, 1) := dk_77 (dk_at dksJ2_add_2_0 10 rfl rfl)
theorem dJ2_add_2_11 : decode cJ2_add_2 11 = .ok (.aload_n 2, 1) := dk_44 (dk_at dksJ2_add_2_0 11 rfl rfl)
theorem dJ2_add_2_12 : decode cJ2_add_2 12 = .ok (.iload_n 3, 1) := dk_29 (dk_at dksJ2_add_2_0 12 rfl rfl)
theorem dJ2_add_2_13 : decode cJ2_add_2 13 = .ok (.aload_n 1, 1) := dk_43 (dk_at dksJ2_add_2_0 13 rfl rfl)
theorem dJ2_add_2_14 : decode cJ2_add_2 14 = .ok (.aastore, 1) := dk_83 (dk_at dksJ2_add_2_0 14 rfl rfl)
theorem dJ2_add_2_15 : decode cJ2_add_2 15 = .ok (.aload_n 0, 1) := dk_42 (dk_at dksJ2_add_2_0 15 rfl rfl)
theorem dJ2_add_2_16 : decode cJ2_add_2 16 = .ok (.iload_n 3, 1) := dk_29 (dk_at dksJ2_add_2_0 16 rfl rfl)
theorem dJ2_add_2_17 : decode cJ2_add_2 17 = .ok (.iconst 1, 1) := dk_4 (dk_at dksJ2_add_2_0 17 rfl rfl)
theorem dJ2_add_2_18 : decode cJ2_add_2 18 = .ok (.iadd, 1) := dk_96 (dk_at dksJ2_add_2_0 18 rfl rfl)
theorem dJ2_add_2_19 : decode cJ2_add_2 19 = .ok (.putfield 48, 3) := dk_181 0 48 (dk_at dksJ2_add_2_0 19 rfl rfl)
theorem dJ2_add_2_22 : decode cJ2_add_2 22 = .ok (.return_, 1) := dk_177 (dk_at dksJ2_add_2_0 22 rfl rfl)
abbrev cJ2_grow : ByteArray := prog_37_method_7_code
def yJ2_grow : MethodName := ⟨RJ2, "grow", "()[Ljava/lang/Object;"⟩
def dkwJ2_grow_0 : List UInt8 := [42, 42, 180, 0, 48, 4, 96, 182, 0, 69, 176]
abbrev dktJ2_grow_0 : List UInt8 := dkwJ2_grow_0 ++ []
theorem dksJ2_grow_0 : cJ2_grow.data.toList.drop 0 = dktJ2_grow_0 := by decide +kernel
theorem dJ2_grow_0 : decode cJ2_grow 0 = .ok (.aload_n 0, 1) := dk_42 (dk_at dksJ2_grow_0 0 rfl rfl)
theorem dJ2_grow_1 : decode cJ2_grow 1 = .ok (.aload_n 0, 1) := dk_42 (dk_at dksJ2_grow_0 1 rfl rfl)
theorem dJ2_grow_2 : decode cJ2_grow 2 = .ok (.getfield 48, 3) := dk_180 0 48 (dk_at dksJ2_grow_0 2 rfl rfl)
theorem dJ2_grow_5 : decode cJ2_grow 5 = .ok (.iconst 1, 1) := dk_4 (dk_at dksJ2_grow_0 5 rfl rfl)
theorem dJ2_grow_6 : decode cJ2_grow 6 = .ok (.iadd, 1) := dk_96 (dk_at dksJ2_grow_0 6 rfl rfl)
theorem dJ2_grow_7 : decode cJ2_grow 7 = .ok (.invokevirtual 69, 3) := dk_182 0 69 (dk_at dksJ2_grow_0 7 rfl rfl)
theorem dJ2_grow_10 : decode cJ2_grow 10 = .ok (.areturn, 1) := dk_176 (dk_at dksJ2_grow_0 10 rfl rfl)
abbrev cJ2_grow_2 : ByteArray := prog_37_method_6_code
def yJ2_grow_2 : MethodName := ⟨RJ2, "grow", "(I)[Ljava/lang/Object;"⟩
def dkwJ2_grow_2_2 : List UInt8 := [27, 184, 0, 79, 189, 0, 7, 90, 181, 0, 9, 176]
abbrev dktJ2_grow_2_2 : List UInt8 := dkwJ2_grow_2_2 ++ []
def dkwJ2_grow_2_1 : List UInt8 := [28, 4, 122, 184, 0, 73, 62, 42, 42, 180, 0, 9, 29, 184, 0, 66, 90, 181, 0, 9, 176, 42, 16, 10]
abbrev dktJ2_grow_2_1 : List UInt8 := dkwJ2_grow_2_1 ++ dktJ2_grow_2_2
def dkwJ2_grow_2_0 : List UInt8 := [42, 180, 0, 9, 190, 61, 28, 157, 0, 13, 42, 180, 0, 9, 178, 0, 39, 165, 0, 28, 28, 27, 28, 100]
abbrev dktJ2_grow_2_0 : List UInt8 := dkwJ2_grow_2_0 ++ dktJ2_grow_2_1
theorem dksJ2_grow_2_0 : cJ2_grow_2.data.toList.drop 0 = dktJ2_grow_2_0 := by decide +kernel
theorem dksJ2_grow_2_1 : cJ2_grow_2.data.toList.drop 24 = dktJ2_grow_2_1 := dk_seg dksJ2_grow_2_0 24 rfl rfl
theorem dksJ2_grow_2_2 : cJ2_grow_2.data.toList.drop 48 = dktJ2_grow_2_2 := dk_seg dksJ2_grow_2_1 24 rfl rfl
theorem dJ2_grow_2_0 : decode cJ2_grow_2 0 = .ok (.aload_n 0, 1) := dk_42 (dk_at dksJ2_grow_2_0 0 rfl rfl)
theorem dJ2_grow_2_1 : decode cJ2_grow_2 1 = .ok (.getfield 9, 3) := dk_180 0 9 (dk_at dksJ2_grow_2_0 1 rfl rfl)
theorem dJ2_grow_2_4 : decode cJ2_grow_2 4 = .ok (.arraylength, 1) := dk_190 (dk_at dksJ2_grow_2_0 4 rfl rfl)
theorem dJ2_grow_2_5 : decode cJ2_grow_2 5 = .ok (.istore_n 2, 1) := dk_61 (dk_at dksJ2_grow_2_0 5 rfl rfl)
theorem dJ2_grow_2_6 : decode cJ2_grow_2 6 = .ok (.iload_n 2, 1) := dk_28 (dk_at dksJ2_grow_2_0 6 rfl rfl)
theorem dJ2_grow_2_7 : decode cJ2_grow_2 7 = .ok (.ifCond .gt 13, 3) := dk_157 0 13 (dk_at dksJ2_grow_2_0 7 rfl rfl)
theorem dJ2_grow_2_10 : decode cJ2_grow_2 10 = .ok (.aload_n 0, 1) := dk_42 (dk_at dksJ2_grow_2_0 10 rfl rfl)
theorem dJ2_grow_2_11 : decode cJ2_grow_2 11 = .ok (.getfield 9, 3) := dk_180 0 9 (dk_at dksJ2_grow_2_0 11 rfl rfl)
theorem dJ2_grow_2_14 : decode cJ2_grow_2 14 = .ok (.getstatic 39, 3) := dk_178 0 39 (dk_at dksJ2_grow_2_0 14 rfl rfl)
theorem dJ2_grow_2_17 : decode cJ2_grow_2 17 = .ok (.if_acmp .eq 28, 3) := dk_165 0 28 (dk_at dksJ2_grow_2_0 17 rfl rfl)
theorem dJ2_grow_2_20 : decode cJ2_grow_2 20 = .ok (.iload_n 2, 1) := dk_28 (dk_at dksJ2_grow_2_0 20 rfl rfl)
theorem dJ2_grow_2_21 : decode cJ2_grow_2 21 = .ok (.iload_n 1, 1) := dk_27 (dk_at dksJ2_grow_2_0 21 rfl rfl)
theorem dJ2_grow_2_22 : decode cJ2_grow_2 22 = .ok (.iload_n 2, 1) := dk_28 (dk_at dksJ2_grow_2_0 22 rfl rfl)
theorem dJ2_grow_2_23 : decode cJ2_grow_2 23 = .ok (.isub, 1) := dk_100 (dk_at dksJ2_grow_2_0 23 rfl rfl)
theorem dJ2_grow_2_24 : decode cJ2_grow_2 24 = .ok (.iload_n 2, 1) := dk_28 (dk_at dksJ2_grow_2_1 0 rfl rfl)
theorem dJ2_grow_2_25 : decode cJ2_grow_2 25 = .ok (.iconst 1, 1) := dk_4 (dk_at dksJ2_grow_2_1 1 rfl rfl)
theorem dJ2_grow_2_26 : decode cJ2_grow_2 26 = .ok (.ishr, 1) := dk_122 (dk_at dksJ2_grow_2_1 2 rfl rfl)
theorem dJ2_grow_2_27 : decode cJ2_grow_2 27 = .ok (.invokestatic 73, 3) := dk_184 0 73 (dk_at dksJ2_grow_2_1 3 rfl rfl)
theorem dJ2_grow_2_30 : decode cJ2_grow_2 30 = .ok (.istore_n 3, 1) := dk_62 (dk_at dksJ2_grow_2_1 6 rfl rfl)
theorem dJ2_grow_2_31 : decode cJ2_grow_2 31 = .ok (.aload_n 0, 1) := dk_42 (dk_at dksJ2_grow_2_1 7 rfl rfl)
theorem dJ2_grow_2_32 : decode cJ2_grow_2 32 = .ok (.aload_n 0, 1) := dk_42 (dk_at dksJ2_grow_2_1 8 rfl rfl)
theorem dJ2_grow_2_33 : decode cJ2_grow_2 33 = .ok (.getfield 9, 3) := dk_180 0 9 (dk_at dksJ2_grow_2_1 9 rfl rfl)
theorem dJ2_grow_2_36 : decode cJ2_grow_2 36 = .ok (.iload_n 3, 1) := dk_29 (dk_at dksJ2_grow_2_1 12 rfl rfl)
theorem dJ2_grow_2_37 : decode cJ2_grow_2 37 = .ok (.invokestatic 66, 3) := dk_184 0 66 (dk_at dksJ2_grow_2_1 13 rfl rfl)
theorem dJ2_grow_2_40 : decode cJ2_grow_2 40 = .ok (.dup_x1, 1) := dk_90 (dk_at dksJ2_grow_2_1 16 rfl rfl)
theorem dJ2_grow_2_41 : decode cJ2_grow_2 41 = .ok (.putfield 9, 3) := dk_181 0 9 (dk_at dksJ2_grow_2_1 17 rfl rfl)
theorem dJ2_grow_2_44 : decode cJ2_grow_2 44 = .ok (.areturn, 1) := dk_176 (dk_at dksJ2_grow_2_1 20 rfl rfl)
theorem dJ2_grow_2_45 : decode cJ2_grow_2 45 = .ok (.aload_n 0, 1) := dk_42 (dk_at dksJ2_grow_2_1 21 rfl rfl)
theorem dJ2_grow_2_46 : decode cJ2_grow_2 46 = .ok (.bipush 10, 2) := dk_16 10 (dk_at dksJ2_grow_2_1 22 rfl rfl)
theorem dJ2_grow_2_48 : decode cJ2_grow_2 48 = .ok (.iload_n 1, 1) := dk_27 (dk_at dksJ2_grow_2_2 0 rfl rfl)
theorem dJ2_grow_2_49 : decode cJ2_grow_2 49 = .ok (.invokestatic 79, 3) := dk_184 0 79 (dk_at dksJ2_grow_2_2 1 rfl rfl)
theorem dJ2_grow_2_52 : decode cJ2_grow_2 52 = .ok (.anewarray 7, 3) := dk_189 0 7 (dk_at dksJ2_grow_2_2 4 rfl rfl)
theorem dJ2_grow_2_55 : decode cJ2_grow_2 55 = .ok (.dup_x1, 1) := dk_90 (dk_at dksJ2_grow_2_2 7 rfl rfl)
theorem dJ2_grow_2_56 : decode cJ2_grow_2 56 = .ok (.putfield 9, 3) := dk_181 0 9 (dk_at dksJ2_grow_2_2 8 rfl rfl)
theorem dJ2_grow_2_59 : decode cJ2_grow_2 59 = .ok (.areturn, 1) := dk_176 (dk_at dksJ2_grow_2_2 11 rfl rfl)
abbrev cJ2_isEmpty : ByteArray := prog_37_method_9_code
def yJ2_isEmpty : MethodName := ⟨RJ2, "isEmpty", "()Z"⟩
def dkwJ2_isEmpty_0 : List UInt8 := [42, 180, 0, 48, 154, 0, 7, 4, 167, 0, 4, 3, 172]
abbrev dktJ2_isEmpty_0 : List UInt8 := dkwJ2_isEmpty_0 ++ []
theorem dksJ2_isEmpty_0 : cJ2_isEmpty.data.toList.drop 0 = dktJ2_isEmpty_0 := by decide +kernel
theorem dJ2_isEmpty_0 : decode cJ2_isEmpty 0 = .ok (.aload_n 0, 1) := dk_42 (dk_at dksJ2_isEmpty_0 0 rfl rfl)
theorem dJ2_isEmpty_1 : decode cJ2_isEmpty 1 = .ok (.getfield 48, 3) := dk_180 0 48 (dk_at dksJ2_isEmpty_0 1 rfl rfl)
theorem dJ2_isEmpty_4 : decode cJ2_isEmpty 4 = .ok (.ifCond .ne 7, 3) := dk_154 0 7 (dk_at dksJ2_isEmpty_0 4 rfl rfl)
theorem dJ2_isEmpty_7 : decode cJ2_isEmpty 7 = .ok (.iconst 1, 1) := dk_4 (dk_at dksJ2_isEmpty_0 7 rfl rfl)
theorem dJ2_isEmpty_8 : decode cJ2_isEmpty 8 = .ok (.goto 4, 3) := dk_167 0 4 (dk_at dksJ2_isEmpty_0 8 rfl rfl)
theorem dJ2_isEmpty_11 : decode cJ2_isEmpty 11 = .ok (.iconst 0, 1) := dk_3 (dk_at dksJ2_isEmpty_0 11 rfl rfl)
theorem dJ2_isEmpty_12 : decode cJ2_isEmpty 12 = .ok (.ireturn, 1) := dk_172 (dk_at dksJ2_isEmpty_0 12 rfl rfl)
abbrev cJ2_get : ByteArray := prog_37_method_20_code
def yJ2_get : MethodName := ⟨RJ2, "get", "(I)Ljava/lang/Object;"⟩
def dkwJ2_get_0 : List UInt8 := [27, 42, 180, 0, 48, 184, 0, 118, 87, 42, 27, 182, 0, 123, 176]
abbrev dktJ2_get_0 : List UInt8 := dkwJ2_get_0 ++ []
theorem dksJ2_get_0 : cJ2_get.data.toList.drop 0 = dktJ2_get_0 := by decide +kernel
theorem dJ2_get_0 : decode cJ2_get 0 = .ok (.iload_n 1, 1) := dk_27 (dk_at dksJ2_get_0 0 rfl rfl)
theorem dJ2_get_1 : decode cJ2_get 1 = .ok (.aload_n 0, 1) := dk_42 (dk_at dksJ2_get_0 1 rfl rfl)
theorem dJ2_get_2 : decode cJ2_get 2 = .ok (.getfield 48, 3) := dk_180 0 48 (dk_at dksJ2_get_0 2 rfl rfl)
theorem dJ2_get_5 : decode cJ2_get 5 = .ok (.invokestatic 118, 3) := dk_184 0 118 (dk_at dksJ2_get_0 5 rfl rfl)
theorem dJ2_get_8 : decode cJ2_get 8 = .ok (.pop, 1) := dk_87 (dk_at dksJ2_get_0 8 rfl rfl)
theorem dJ2_get_9 : decode cJ2_get 9 = .ok (.aload_n 0, 1) := dk_42 (dk_at dksJ2_get_0 9 rfl rfl)
theorem dJ2_get_10 : decode cJ2_get 10 = .ok (.iload_n 1, 1) := dk_27 (dk_at dksJ2_get_0 10 rfl rfl)
theorem dJ2_get_11 : decode cJ2_get 11 = .ok (.invokevirtual 123, 3) := dk_182 0 123 (dk_at dksJ2_get_0 11 rfl rfl)
theorem dJ2_get_14 : decode cJ2_get 14 = .ok (.areturn, 1) := dk_176 (dk_at dksJ2_get_0 14 rfl rfl)
abbrev cJ2_elementData : ByteArray := prog_37_method_18_code
def yJ2_elementData : MethodName := ⟨RJ2, "elementData", "(I)Ljava/lang/Object;"⟩
def dkwJ2_elementData_0 : List UInt8 := [42, 180, 0, 9, 27, 50, 176]
abbrev dktJ2_elementData_0 : List UInt8 := dkwJ2_elementData_0 ++ []
theorem dksJ2_elementData_0 : cJ2_elementData.data.toList.drop 0 = dktJ2_elementData_0 := by decide +kernel
theorem dJ2_elementData_0 : decode cJ2_elementData 0 = .ok (.aload_n 0, 1) := dk_42 (dk_at dksJ2_elementData_0 0 rfl rfl)
theorem dJ2_elementData_1 : decode cJ2_elementData 1 = .ok (.getfield 9, 3) := dk_180 0 9 (dk_at dksJ2_elementData_0 1 rfl rfl)
theorem dJ2_elementData_4 : decode cJ2_elementData 4 = .ok (.iload_n 1, 1) := dk_27 (dk_at dksJ2_elementData_0 4 rfl rfl)
theorem dJ2_elementData_5 : decode cJ2_elementData 5 = .ok (.aaload, 1) := dk_50 (dk_at dksJ2_elementData_0 5 rfl rfl)
theorem dJ2_elementData_6 : decode cJ2_elementData 6 = .ok (.areturn, 1) := dk_176 (dk_at dksJ2_elementData_0 6 rfl rfl)
theorem q81 : (Jvm.Cond.initialized "java/util/ArrayList") ∈ lw_all := lw_g (lw_at lw_m1 5 rfl) rfl
theorem q170 : (Jvm.Cond.instantiable "java/util/ArrayList" (3 : Nat)) ∈ lw_all := lw_g (lw_at lw_m1 94 rfl) rfl
theorem q172 : (Jvm.Cond.instanceMethod ({ cls := "java/util/ArrayList", name := "<init>", desc := "()V" } : Jvm.MethodName)) ∈ lw_all := lw_g (lw_at lw_m1 96 rfl) rfl
theorem q173 : (Jvm.Cond.code ({ cls := "java/util/ArrayList", name := "<init>", desc := "()V" } : Jvm.MethodName) prog_37_method_2_code (1 : Nat) (Option.none : Option Jvm.ClassFile.FieldType)) ∈ lw_all := lw_g (lw_at lw_m1 97 rfl) rfl
theorem q174 : (Jvm.Cond.methodLink "java/util/ArrayList" (1 : Nat) ({ cls := "java/util/AbstractList", name := "<init>", desc := "()V" } : Jvm.MethodName)) ∈ lw_all := lw_g (lw_at lw_m1 98 rfl) rfl
theorem q181 : (Jvm.Cond.fieldLink "java/util/ArrayList" (39 : Nat) "java/util/ArrayList" "DEFAULTCAPACITY_EMPTY_ELEMENTDATA" "[Ljava/lang/Object;") ∈ lw_all := lw_g (lw_at lw_m1 105 rfl) rfl
theorem q182 : (Jvm.Cond.laysStatic "java/util/ArrayList" "DEFAULTCAPACITY_EMPTY_ELEMENTDATA" "[Ljava/lang/Object;") ∈ lw_tbl := lw_at lw_m1 106 rfl
theorem q183 : (Jvm.Cond.fieldLink "java/util/ArrayList" (9 : Nat) "java/util/ArrayList" "elementData" "[Ljava/lang/Object;") ∈ lw_all := lw_g (lw_at lw_m1 107 rfl) rfl
theorem q184 : (Jvm.Cond.fieldLink "java/util/ArrayList" (48 : Nat) "java/util/ArrayList" "size" "I") ∈ lw_all := lw_g (lw_at lw_m1 108 rfl) rfl
theorem q186 : (Jvm.Cond.fieldLink "java/util/ArrayList" (63 : Nat) "java/util/ArrayList" "modCount" "I") ∈ lw_all := lw_g (lw_at lw_m1 110 rfl) rfl
theorem q187 : (Jvm.Cond.sameField "java/util/ArrayList" "java/util/AbstractList" "modCount" "I") ∈ lw_all := lw_g (lw_at lw_m1 111 rfl) rfl
theorem q188 : (Jvm.Cond.lays "java/util/ArrayList" "java/util/ArrayList" "elementData" "[Ljava/lang/Object;") ∈ lw_all := lw_g (lw_at lw_m1 112 rfl) rfl
theorem q189 : (Jvm.Cond.soleField "java/util/ArrayList" "elementData") ∈ lw_all := lw_g (lw_at lw_m1 113 rfl) rfl
theorem q190 : (Jvm.Cond.lays "java/util/ArrayList" "java/util/ArrayList" "size" "I") ∈ lw_all := lw_g (lw_at lw_m1 114 rfl) rfl
theorem q191 : (Jvm.Cond.soleField "java/util/ArrayList" "size") ∈ lw_all := lw_g (lw_at lw_m1 115 rfl) rfl
theorem q192 : (Jvm.Cond.lays "java/util/ArrayList" "java/util/AbstractList" "modCount" "I") ∈ lw_all := lw_g (lw_at lw_m1 116 rfl) rfl
theorem q194 : (Jvm.Cond.superclass "java/util/ArrayList" "java/util/AbstractList") ∈ lw_all := lw_g (lw_at lw_m1 118 rfl) rfl
theorem q755 : (Jvm.Cond.instanceMethod ({ cls := "java/util/ArrayList", name := "size", desc := "()I" } : Jvm.MethodName)) ∈ lw_all := lw_g (lw_at lw_m3 199 rfl) rfl
theorem q756 : (Jvm.Cond.selects "java/util/ArrayList" ({ cls := "java/util/ArrayList", name := "size", desc := "()I" } : Jvm.MethodName) ({ cls := "java/util/ArrayList", name := "size", desc := "()I" } : Jvm.MethodName)) ∈ lw_all := lw_g (lw_at lw_m3 200 rfl) rfl
theorem q757 : (Jvm.Cond.code ({ cls := "java/util/ArrayList", name := "size", desc := "()I" } : Jvm.MethodName) prog_37_method_8_code (1 : Nat) (Option.some Jvm.ClassFile.FieldType.int)) ∈ lw_all := lw_g (lw_at lw_m3 201 rfl) rfl
theorem q759 : (Jvm.Cond.instanceMethod ({ cls := "java/util/ArrayList", name := "add", desc := "(Ljava/lang/Object;)Z" } : Jvm.MethodName)) ∈ lw_all := lw_g (lw_at lw_m3 203 rfl) rfl
theorem q760 : (Jvm.Cond.selects "java/util/ArrayList" ({ cls := "java/util/ArrayList", name := "add", desc := "(Ljava/lang/Object;)Z" } : Jvm.MethodName) ({ cls := "java/util/ArrayList", name := "add", desc := "(Ljava/lang/Object;)Z" } : Jvm.MethodName)) ∈ lw_all := lw_g (lw_at lw_m3 204 rfl) rfl
theorem q761 : (Jvm.Cond.code ({ cls := "java/util/ArrayList", name := "add", desc := "(Ljava/lang/Object;)Z" } : Jvm.MethodName) prog_37_method_25_code (2 : Nat) (Option.some Jvm.ClassFile.FieldType.boolean)) ∈ lw_all := lw_g (lw_at lw_m3 205 rfl) rfl
theorem q762 : (Jvm.Cond.methodLink "java/util/ArrayList" (131 : Nat) ({ cls := "java/util/ArrayList", name := "add", desc := "(Ljava/lang/Object;[Ljava/lang/Object;I)V" } : Jvm.MethodName)) ∈ lw_all := lw_g (lw_at lw_m3 206 rfl) rfl
theorem q763 : (Jvm.Cond.privateMethod ({ cls := "java/util/ArrayList", name := "add", desc := "(Ljava/lang/Object;[Ljava/lang/Object;I)V" } : Jvm.MethodName)) ∈ lw_tbl := lw_at lw_m3 207 rfl
theorem q764 : (Jvm.Cond.instanceMethod ({ cls := "java/util/ArrayList", name := "add", desc := "(Ljava/lang/Object;[Ljava/lang/Object;I)V" } : Jvm.MethodName)) ∈ lw_all := lw_g (lw_at lw_m3 208 rfl) rfl
theorem q765 : (Jvm.Cond.code ({ cls := "java/util/ArrayList", name := "add", desc := "(Ljava/lang/Object;[Ljava/lang/Object;I)V" } : Jvm.MethodName) prog_37_method_24_code (4 : Nat) (Option.none : Option Jvm.ClassFile.FieldType)) ∈ lw_all := lw_g (lw_at lw_m3 209 rfl) rfl
theorem q766 : (Jvm.Cond.methodLink "java/util/ArrayList" (129 : Nat) ({ cls := "java/util/ArrayList", name := "grow", desc := "()[Ljava/lang/Object;" } : Jvm.MethodName)) ∈ lw_all := lw_g (lw_at lw_m3 210 rfl) rfl
theorem q767 : (Jvm.Cond.privateMethod ({ cls := "java/util/ArrayList", name := "grow", desc := "()[Ljava/lang/Object;" } : Jvm.MethodName)) ∈ lw_tbl := lw_at lw_m3 211 rfl
theorem q768 : (Jvm.Cond.instanceMethod ({ cls := "java/util/ArrayList", name := "grow", desc := "()[Ljava/lang/Object;" } : Jvm.MethodName)) ∈ lw_all := lw_g (lw_at lw_m3 212 rfl) rfl
theorem q769 : (Jvm.Cond.code ({ cls := "java/util/ArrayList", name := "grow", desc := "()[Ljava/lang/Object;" } : Jvm.MethodName) prog_37_method_7_code (1 : Nat) (Option.some (Jvm.ClassFile.FieldType.array (Jvm.ClassFile.FieldType.object "java/lang/Object")))) ∈ lw_all := lw_g (lw_at lw_m3 213 rfl) rfl
theorem q770 : (Jvm.Cond.methodLink "java/util/ArrayList" (69 : Nat) ({ cls := "java/util/ArrayList", name := "grow", desc := "(I)[Ljava/lang/Object;" } : Jvm.MethodName)) ∈ lw_all := lw_g (lw_at lw_m3 214 rfl) rfl
theorem q771 : (Jvm.Cond.privateMethod ({ cls := "java/util/ArrayList", name := "grow", desc := "(I)[Ljava/lang/Object;" } : Jvm.MethodName)) ∈ lw_tbl := lw_at lw_m3 215 rfl
theorem q772 : (Jvm.Cond.instanceMethod ({ cls := "java/util/ArrayList", name := "grow", desc := "(I)[Ljava/lang/Object;" } : Jvm.MethodName)) ∈ lw_all := lw_g (lw_at lw_m3 216 rfl) rfl
theorem q773 : (Jvm.Cond.code ({ cls := "java/util/ArrayList", name := "grow", desc := "(I)[Ljava/lang/Object;" } : Jvm.MethodName) prog_37_method_6_code (4 : Nat) (Option.some (Jvm.ClassFile.FieldType.array (Jvm.ClassFile.FieldType.object "java/lang/Object")))) ∈ lw_all := lw_g (lw_at lw_m3 217 rfl) rfl
theorem q774 : (Jvm.Cond.methodLink "java/util/ArrayList" (73 : Nat) ({ cls := "jdk/internal/util/ArraysSupport", name := "newLength", desc := "(III)I" } : Jvm.MethodName)) ∈ lw_all := lw_g (lw_at lw_m3 218 rfl) rfl
theorem q775 : (Jvm.Cond.methodLink "java/util/ArrayList" (66 : Nat) ({ cls := "java/util/Arrays", name := "copyOf", desc := "([Ljava/lang/Object;I)[Ljava/lang/Object;" } : Jvm.MethodName)) ∈ lw_all := lw_g (lw_at lw_m3 219 rfl) rfl
theorem q794 : (Jvm.Cond.selects "java/util/ArrayList" ({ cls := "java/lang/Object", name := "getClass", desc := "()Ljava/lang/Class;" } : Jvm.MethodName) ({ cls := "java/lang/Object", name := "getClass", desc := "()Ljava/lang/Class;" } : Jvm.MethodName)) ∈ lw_all := lw_g (lw_at lw_m3 238 rfl) rfl
theorem q801 : (Jvm.Cond.methodLink "java/util/ArrayList" (79 : Nat) ({ cls := "java/lang/Math", name := "max", desc := "(II)I" } : Jvm.MethodName)) ∈ lw_all := lw_g (lw_at lw_m4 5 rfl) rfl
theorem q802 : (Jvm.Cond.classLink "java/util/ArrayList" (7 : Nat) "java/lang/Object") ∈ lw_all := lw_g (lw_at lw_m4 6 rfl) rfl
theorem q843 : (Jvm.Cond.instanceMethod ({ cls := "java/util/ArrayList", name := "isEmpty", desc := "()Z" } : Jvm.MethodName)) ∈ lw_all := lw_g (lw_at lw_m4 47 rfl) rfl
theorem q844 : (Jvm.Cond.selects "java/util/ArrayList" ({ cls := "java/util/ArrayList", name := "isEmpty", desc := "()Z" } : Jvm.MethodName) ({ cls := "java/util/ArrayList", name := "isEmpty", desc := "()Z" } : Jvm.MethodName)) ∈ lw_all := lw_g (lw_at lw_m4 48 rfl) rfl
theorem q845 : (Jvm.Cond.code ({ cls := "java/util/ArrayList", name := "isEmpty", desc := "()Z" } : Jvm.MethodName) prog_37_method_9_code (1 : Nat) (Option.some Jvm.ClassFile.FieldType.boolean)) ∈ lw_all := lw_g (lw_at lw_m4 49 rfl) rfl
theorem q847 : (Jvm.Cond.instanceMethod ({ cls := "java/util/ArrayList", name := "get", desc := "(I)Ljava/lang/Object;" } : Jvm.MethodName)) ∈ lw_all := lw_g (lw_at lw_m4 51 rfl) rfl
theorem q848 : (Jvm.Cond.selects "java/util/ArrayList" ({ cls := "java/util/ArrayList", name := "get", desc := "(I)Ljava/lang/Object;" } : Jvm.MethodName) ({ cls := "java/util/ArrayList", name := "get", desc := "(I)Ljava/lang/Object;" } : Jvm.MethodName)) ∈ lw_all := lw_g (lw_at lw_m4 52 rfl) rfl
theorem q849 : (Jvm.Cond.code ({ cls := "java/util/ArrayList", name := "get", desc := "(I)Ljava/lang/Object;" } : Jvm.MethodName) prog_37_method_20_code (2 : Nat) (Option.some (Jvm.ClassFile.FieldType.object "java/lang/Object"))) ∈ lw_all := lw_g (lw_at lw_m4 53 rfl) rfl
theorem q850 : (Jvm.Cond.methodLink "java/util/ArrayList" (118 : Nat) ({ cls := "java/util/Objects", name := "checkIndex", desc := "(II)I" } : Jvm.MethodName)) ∈ lw_all := lw_g (lw_at lw_m4 54 rfl) rfl
theorem q854 : (Jvm.Cond.methodLink "java/util/ArrayList" (123 : Nat) ({ cls := "java/util/ArrayList", name := "elementData", desc := "(I)Ljava/lang/Object;" } : Jvm.MethodName)) ∈ lw_all := lw_g (lw_at lw_m4 58 rfl) rfl
theorem q855 : (Jvm.Cond.instanceMethod ({ cls := "java/util/ArrayList", name := "elementData", desc := "(I)Ljava/lang/Object;" } : Jvm.MethodName)) ∈ lw_all := lw_g (lw_at lw_m4 59 rfl) rfl
theorem q856 : (Jvm.Cond.selects "java/util/ArrayList" ({ cls := "java/util/ArrayList", name := "elementData", desc := "(I)Ljava/lang/Object;" } : Jvm.MethodName) ({ cls := "java/util/ArrayList", name := "elementData", desc := "(I)Ljava/lang/Object;" } : Jvm.MethodName)) ∈ lw_all := lw_g (lw_at lw_m4 60 rfl) rfl
theorem q857 : (Jvm.Cond.code ({ cls := "java/util/ArrayList", name := "elementData", desc := "(I)Ljava/lang/Object;" } : Jvm.MethodName) prog_37_method_18_code (2 : Nat) (Option.some (Jvm.ClassFile.FieldType.object "java/lang/Object"))) ∈ lw_all := lw_g (lw_at lw_m4 61 rfl) rfl
theorem q1555 : (Jvm.Cond.castable "java/util/ArrayList" "java/lang/Object") ∈ lw_tbl := lw_at lw_m7 39 rfl
theorem in_J2 : ∀ w ∈ wsJ20, w ∈ lw_all := lw_in wsJ20 [192, 188, 190] (by decide +kernel) (by decide +kernel)
/-! java/lang/AbstractStringBuilder -/
set_option maxRecDepth 100000
def RJ3 : String := "java/lang/AbstractStringBuilder"
abbrev cJ3_init : ByteArray := prog_14_method_2_code
def yJ3_init : MethodName := ⟨RJ3, "<init>", "(I)V"⟩
def dkwJ3_init_1 : List UInt8 := [167, 0, 16, 42, 27, 184, 0, 26, 181, 0, 15, 42, 4, 181, 0, 22, 177]
abbrev dktJ3_init_1 : List UInt8 := dkwJ3_init_1 ++ []
def dkwJ3_init_0 : List UInt8 := [42, 183, 0, 3, 178, 0, 18, 153, 0, 18, 42, 27, 188, 8, 181, 0, 15, 42, 3, 181, 0, 22]
abbrev dktJ3_init_0 : List UInt8 := dkwJ3_init_0 ++ dktJ3_init_1
theorem dksJ3_init_0 : cJ3_init.data.toList.drop 0 = dktJ3_init_0 := by decide +kernel
theorem dksJ3_init_1 : cJ3_init.data.toList.drop 22 = dktJ3_init_1 := dk_seg dksJ3_init_0 22 rfl rfl
theorem dJ3_init_0 : decode cJ3_init 0 = .ok (.aload_n 0, 1) := dk_42 (dk_at dksJ3_init_0 0 rfl rfl)
theorem dJ3_init_1 : decode cJ3_init 1 = .ok (.invokespecial 3, 3) := dk_183 0 3 (dk_at dksJ3_init_0 1 rfl rfl)
theorem dJ3_init_4 : decode cJ3_init 4 = .ok (.getstatic 18, 3) := dk_178 0 18 (dk_at dksJ3_init_0 4 rfl rfl)
theorem dJ3_init_7 : decode cJ3_init 7 = .ok (.ifCond .eq 18, 3) := dk_153 0 18 (dk_at dksJ3_init_0 7 rfl rfl)
theorem dJ3_init_10 : decode cJ3_init 10 = .ok (.aload_n 0, 1) := dk_42 (dk_at dksJ3_init_0 10 rfl rfl)
theorem dJ3_init_11 : decode cJ3_init 11 = .ok (.iload_n 1, 1) := dk_27 (dk_at dksJ3_init_0 11 rfl rfl)
theorem dJ3_init_12 : decode cJ3_init 12 = .ok (.newarray .byte, 2) := dk_188_8 (dk_at dksJ3_init_0 12 rfl rfl)
theorem dJ3_init_14 : decode cJ3_init 14 = .ok (.putfield 15, 3) := dk_181 0 15 (dk_at dksJ3_init_0 14 rfl rfl)
theorem dJ3_init_17 : decode cJ3_init 17 = .ok (.aload_n 0, 1) := dk_42 (dk_at dksJ3_init_0 17 rfl rfl)
theorem dJ3_init_18 : decode cJ3_init 18 = .ok (.iconst 0, 1) := dk_3 (dk_at dksJ3_init_0 18 rfl rfl)
theorem dJ3_init_19 : decode cJ3_init 19 = .ok (.putfield 22, 3) := dk_181 0 22 (dk_at dksJ3_init_0 19 rfl rfl)
theorem dJ3_init_22 : decode cJ3_init 22 = .ok (.goto 16, 3) := dk_167 0 16 (dk_at dksJ3_init_1 0 rfl rfl)
theorem dJ3_init_25 : decode cJ3_init 25 = .ok (.aload_n 0, 1) := dk_42 (dk_at dksJ3_init_1 3 rfl rfl)
theorem dJ3_init_26 : decode cJ3_init 26 = .ok (.iload_n 1, 1) := dk_27 (dk_at dksJ3_init_1 4 rfl rfl)
theorem dJ3_init_27 : decode cJ3_init 27 = .ok (.invokestatic 26, 3) := dk_184 0 26 (dk_at dksJ3_init_1 5 rfl rfl)
theorem dJ3_init_30 : decode cJ3_init 30 = .ok (.putfield 15, 3) := dk_181 0 15 (dk_at dksJ3_init_1 8 rfl rfl)
theorem dJ3_init_33 : decode cJ3_init 33 = .ok (.aload_n 0, 1) := dk_42 (dk_at dksJ3_init_1 11 rfl rfl)
theorem dJ3_init_34 : decode cJ3_init 34 = .ok (.iconst 1, 1) := dk_4 (dk_at dksJ3_init_1 12 rfl rfl)
theorem dJ3_init_35 : decode cJ3_init 35 = .ok (.putfield 22, 3) := dk_181 0 22 (dk_at dksJ3_init_1 13 rfl rfl)
theorem dJ3_init_38 : decode cJ3_init 38 = .ok (.return_, 1) := dk_177 (dk_at dksJ3_init_1 16 rfl rfl)
abbrev cJ3_append : ByteArray := prog_14_method_31_code
def yJ3_append : MethodName := ⟨RJ3, "append", "(C)Ljava/lang/AbstractStringBuilder;"⟩
def dkwJ3_append_3 : List UInt8 := [181, 0, 79, 27, 184, 0, 197, 42, 176]
abbrev dktJ3_append_3 : List UInt8 := dkwJ3_append_3 ++ []
def dkwJ3_append_2 : List UInt8 := [182, 0, 83, 153, 0, 7, 42, 182, 0, 195, 42, 180, 0, 15, 42, 89, 180, 0, 79, 90, 4, 96]
abbrev dktJ3_append_2 : List UInt8 := dkwJ3_append_2 ++ dktJ3_append_3
def dkwJ3_append_1 : List UInt8 := [42, 180, 0, 15, 42, 89, 180, 0, 79, 90, 4, 96, 181, 0, 79, 27, 145, 84, 167, 0, 33, 42]
abbrev dktJ3_append_1 : List UInt8 := dkwJ3_append_1 ++ dktJ3_append_2
def dkwJ3_append_0 : List UInt8 := [42, 42, 180, 0, 79, 4, 96, 182, 0, 100, 42, 182, 0, 83, 153, 0, 31, 27, 184, 0, 191, 153, 0, 24]
abbrev dktJ3_append_0 : List UInt8 := dkwJ3_append_0 ++ dktJ3_append_1
theorem dksJ3_append_0 : cJ3_append.data.toList.drop 0 = dktJ3_append_0 := by decide +kernel
theorem dksJ3_append_1 : cJ3_append.data.toList.drop 24 = dktJ3_append_1 := dk_seg dksJ3_append_0 24 rfl rfl
theorem dksJ3_append_2 : cJ3_append.data.toList.drop 46 = dktJ3_append_2 := dk_seg dksJ3_append_1 22 rfl rfl
theorem dksJ3_append_3 : cJ3_append.data.toList.drop 68 = dktJ3_append_3 := dk_seg dksJ3_append_2 22 rfl rfl
theorem dJ3_append_0 : decode cJ3_append 0 = .ok (.aload_n 0, 1) := dk_42 (dk_at dksJ3_append_0 0 rfl rfl)
theorem dJ3_append_1 : decode cJ3_append 1 = .ok (.aload_n 0, 1) := dk_42 (dk_at dksJ3_append_0 1 rfl rfl)
theorem dJ3_append_2 : decode cJ3_append 2 = .ok (.getfield 79, 3) := dk_180 0 79 (dk_at dksJ3_append_0 2 rfl rfl)
theorem dJ3_append_5 : decode cJ3_append 5 = .ok (.iconst 1, 1) := dk_4 (dk_at dksJ3_append_0 5 rfl rfl)
theorem dJ3_append_6 : decode cJ3_append 6 = .ok (.iadd, 1) := dk_96 (dk_at dksJ3_append_0 6 rfl rfl)
theorem dJ3_append_7 : decode cJ3_append 7 = .ok (.invokevirtual 100, 3) := dk_182 0 100 (dk_at dksJ3_append_0 7 rfl rfl)
theorem dJ3_append_10 : decode cJ3_append 10 = .ok (.aload_n 0, 1) := dk_42 (dk_at dksJ3_append_0 10 rfl rfl)
theorem dJ3_append_11 : decode cJ3_append 11 = .ok (.invokevirtual 83, 3) := dk_182 0 83 (dk_at dksJ3_append_0 11 rfl rfl)
theorem dJ3_append_14 : decode cJ3_append 14 = .ok (.ifCond .eq 31, 3) := dk_153 0 31 (dk_at dksJ3_append_0 14 rfl rfl)
theorem dJ3_append_17 : decode cJ3_append 17 = .ok (.iload_n 1, 1) := dk_27 (dk_at dksJ3_append_0 17 rfl rfl)
theorem dJ3_append_18 : decode cJ3_append 18 = .ok (.invokestatic 191, 3) := dk_184 0 191 (dk_at dksJ3_append_0 18 rfl rfl)
theorem dJ3_append_21 : decode cJ3_append 21 = .ok (.ifCond .eq 24, 3) := dk_153 0 24 (dk_at dksJ3_append_0 21 rfl rfl)
theorem dJ3_append_24 : decode cJ3_append 24 = .ok (.aload_n 0, 1) := dk_42 (dk_at dksJ3_append_1 0 rfl rfl)
theorem dJ3_append_25 : decode cJ3_append 25 = .ok (.getfield 15, 3) := dk_180 0 15 (dk_at dksJ3_append_1 1 rfl rfl)
theorem dJ3_append_28 : decode cJ3_append 28 = .ok (.aload_n 0, 1) := dk_42 (dk_at dksJ3_append_1 4 rfl rfl)
theorem dJ3_append_29 : decode cJ3_append 29 = .ok (.dup, 1) := dk_89 (dk_at dksJ3_append_1 5 rfl rfl)
theorem dJ3_append_30 : decode cJ3_append 30 = .ok (.getfield 79, 3) := dk_180 0 79 (dk_at dksJ3_append_1 6 rfl rfl)
theorem dJ3_append_33 : decode cJ3_append 33 = .ok (.dup_x1, 1) := dk_90 (dk_at dksJ3_append_1 9 rfl rfl)
theorem dJ3_append_34 : decode cJ3_append 34 = .ok (.iconst 1, 1) := dk_4 (dk_at dksJ3_append_1 10 rfl rfl)
theorem dJ3_append_35 : decode cJ3_append 35 = .ok (.iadd, 1) := dk_96 (dk_at dksJ3_append_1 11 rfl rfl)
theorem dJ3_append_36 : decode cJ3_append 36 = .ok (.putfield 79, 3) := dk_181 0 79 (dk_at dksJ3_append_1 12 rfl rfl)
theorem dJ3_append_39 : decode cJ3_append 39 = .ok (.iload_n 1, 1) := dk_27 (dk_at dksJ3_append_1 15 rfl rfl)
theorem dJ3_append_40 : decode cJ3_append 40 = .ok (.i2b, 1) := dk_145 (dk_at dksJ3_append_1 16 rfl rfl)
theorem dJ3_append_41 : decode cJ3_append 41 = .ok (.bastore, 1) := dk_84 (dk_at dksJ3_append_1 17 rfl rfl)
theorem dJ3_append_42 : decode cJ3_append 42 = .ok (.goto 33, 3) := dk_167 0 33 (dk_at dksJ3_append_1 18 rfl rfl)
theorem dJ3_append_45 : decode cJ3_append 45 = .ok (.aload_n 0, 1) := dk_42 (dk_at dksJ3_append_1 21 rfl rfl)
theorem dJ3_append_46 : decode cJ3_append 46 = .ok (.invokevirtual 83, 3) := dk_182 0 83 (dk_at dksJ3_append_2 0 rfl rfl)
theorem dJ3_append_49 : decode cJ3_append 49 = .ok (.ifCond .eq 7, 3) := dk_153 0 7 (dk_at dksJ3_append_2 3 rfl rfl)
theorem dJ3_append_52 : decode cJ3_append 52 = .ok (.aload_n 0, 1) := dk_42 (dk_at dksJ3_append_2 6 rfl rfl)
theorem dJ3_append_53 : decode cJ3_append 53 = .ok (.invokevirtual 195, 3) := dk_182 0 195 (dk_at dksJ3_append_2 7 rfl rfl)
theorem dJ3_append_56 : decode cJ3_append 56 = .ok (.aload_n 0, 1) := dk_42 (dk_at dksJ3_append_2 10 rfl rfl)
theorem dJ3_append_57 : decode cJ3_append 57 = .ok (.getfield 15, 3) := dk_180 0 15 (dk_at dksJ3_append_2 11 rfl rfl)
theorem dJ3_append_60 : decode cJ3_append 60 = .ok (.aload_n 0, 1) := dk_42 (dk_at dksJ3_append_2 14 rfl rfl)
theorem dJ3_append_61 : decode cJ3_append 61 = .ok (.dup, 1) := dk_89 (dk_at dksJ3_append_2 15 rfl rfl)
theorem dJ3_append_62 : decode cJ3_append 62 = .ok (.getfield 79, 3) := dk_180 0 79 (dk_at dksJ3_append_2 16 rfl rfl)
theorem dJ3_append_65 : decode cJ3_append 65 = .ok (.dup_x1, 1) := dk_90 (dk_at dksJ3_append_2 19 rfl rfl)
theorem dJ3_append_66 : decode cJ3_append 66 = .ok (.iconst 1, 1) := dk_4 (dk_at dksJ3_append_2 20 rfl rfl)
theorem dJ3_append_67 : decode cJ3_append 67 = .ok (.iadd, 1) := dk_96 (dk_at dksJ3_append_2 21 rfl rfl)
theorem dJ3_append_68 : decode cJ3_append 68 = .ok (.putfield 79, 3) := dk_181 0 79 (dk_at dksJ3_append_3 0 rfl rfl)
theorem dJ3_append_71 : decode cJ3_append 71 = .ok (.iload_n 1, 1) := dk_27 (dk_at dksJ3_append_3 3 rfl rfl)
theorem dJ3_append_72 : decode cJ3_append 72 = .ok (.invokestatic 197, 3) := dk_184 0 197 (dk_at dksJ3_append_3 4 rfl rfl)
theorem dJ3_append_75 : decode cJ3_append 75 = .ok (.aload_n 0, 1) := dk_42 (dk_at dksJ3_append_3 7 rfl rfl)
theorem dJ3_append_76 : decode cJ3_append 76 = .ok (.areturn, 1) := dk_176 (dk_at dksJ3_append_3 8 rfl rfl)
abbrev cJ3_ensureCapacityInternal : ByteArray := prog_14_method_9_code
def yJ3_ensureCapacityInternal : MethodName := ⟨RJ3, "ensureCapacityInternal", "(I)V"⟩
def dkwJ3_ensureCapacityInternal_1 : List UInt8 := [182, 0, 104, 42, 180, 0, 22, 120, 184, 0, 108, 181, 0, 15, 177]
abbrev dktJ3_ensureCapacityInternal_1 : List UInt8 := dkwJ3_ensureCapacityInternal_1 ++ []
def dkwJ3_ensureCapacityInternal_0 : List UInt8 := [42, 180, 0, 15, 190, 42, 180, 0, 22, 122, 61, 27, 28, 100, 158, 0, 24, 42, 42, 180, 0, 15, 42, 27]
abbrev dktJ3_ensureCapacityInternal_0 : List UInt8 := dkwJ3_ensureCapacityInternal_0 ++ dktJ3_ensureCapacityInternal_1
theorem dksJ3_ensureCapacityInternal_0 : cJ3_ensureCapacityInternal.data.toList.drop 0 = dktJ3_ensureCapacityInternal_0 := by decide +kernel
theorem dksJ3_ensureCapacityInternal_1 : cJ3_ensureCapacityInternal.data.toList.drop 24 = dktJ3_ensureCapacityInternal_1 := dk_seg dksJ3_ensureCapacityInternal_0 24 rfl rfl
theorem dJ3_ensureCapacityInternal_0 : decode cJ3_ensureCapacityInternal 0 = .ok (.aload_n 0, 1) := dk_42 (dk_at dksJ3_ensureCapacityInternal_0 0 rfl rfl)
theorem dJ3_ensureCapacityInternal_1 : decode cJ3_ensureCapacityInternal 1 = .ok (.getfield 15, 3) := dk_180 0 15 (dk_at dksJ3_ensureCapacityInternal_0 1 rfl rfl)
theorem dJ3_ensureCapacityInternal_4 : decode cJ3_ensureCapacityInternal 4 = .ok (.arraylength, 1) := dk_190 (dk_at dksJ3_ensureCapacityInternal_0 4 rfl rfl)
theorem dJ3_ensureCapacityInternal_5 : decode cJ3_ensureCapacityInternal 5 = .ok (.aload_n 0, 1) := dk_42 (dk_at dksJ3_ensureCapacityInternal_0 5 rfl rfl)
theorem dJ3_ensureCapacityInternal_6 : decode cJ3_ensureCapacityInternal 6 = .ok (.getfield 22, 3) := dk_180 0 22 (dk_at dksJ3_ensureCapacityInternal_0 6 rfl rfl)
theorem dJ3_ensureCapacityInternal_9 : decode cJ3_ensureCapacityInternal 9 = .ok (.ishr, 1) := dk_122 (dk_at dksJ3_ensureCapacityInternal_0 9 rfl rfl)
theorem dJ3_ensureCapacityInternal_10 : decode cJ3_ensureCapacityInternal 10 = .ok (.istore_n 2, 1) := dk_61 (dk_at dksJ3_ensureCapacityInternal_0 10 rfl rfl)
theorem dJ3_ensureCapacityInternal_11 : decode cJ3_ensureCapacityInternal 11 = .ok (.iload_n 1, 1) := dk_27 (dk_at dksJ3_ensureCapacityInternal_0 11 rfl rfl)
theorem dJ3_ensureCapacityInternal_12 : decode cJ3_ensureCapacityInternal 12 = .ok (.iload_n 2, 1) := dk_28 (dk_at dksJ3_ensureCapacityInternal_0 12 rfl rfl)
theorem dJ3_ensureCapacityInternal_13 : decode cJ3_ensureCapacityInternal 13 = .ok (.isub, 1) := dk_100 (dk_at dksJ3_ensureCapacityInternal_0 13 rfl rfl)
theorem dJ3_ensureCapacityInternal_14 : decode cJ3_ensureCapacityInternal 14 = .ok (.ifCond .le 24, 3) := dk_158 0 24 (dk_at dksJ3_ensureCapacityInternal_0 14 rfl rfl)
theorem dJ3_ensureCapacityInternal_17 : decode cJ3_ensureCapacityInternal 17 = .ok (.aload_n 0, 1) := dk_42 (dk_at dksJ3_ensureCapacityInternal_0 17 rfl rfl)
theorem dJ3_ensureCapacityInternal_18 : decode cJ3_ensureCapacityInternal 18 = .ok (.aload_n 0, 1) := dk_42 (dk_at dksJ3_ensureCapacityInternal_0 18 rfl rfl)
theorem dJ3_ensureCapacityInternal_19 : decode cJ3_ensureCapacityInternal 19 = .ok (.getfield 15, 3) := dk_180 0 15 (dk_at dksJ3_ensureCapacityInternal_0 19 rfl rfl)
theorem dJ3_ensureCapacityInternal_22 : decode cJ3_ensureCapacityInternal 22 = .ok (.aload_n 0, 1) := dk_42 (dk_at dksJ3_ensureCapacityInternal_0 22 rfl rfl)
theorem dJ3_ensureCapacityInternal_23 : decode cJ3_ensureCapacityInternal 23 = .ok (.iload_n 1, 1) := dk_27 (dk_at dksJ3_ensureCapacityInternal_0 23 rfl rfl)
theorem dJ3_ensureCapacityInternal_24 : decode cJ3_ensureCapacityInternal 24 = .ok (.invokevirtual 104, 3) := dk_182 0 104 (dk_at dksJ3_ensureCapacityInternal_1 0 rfl rfl)
theorem dJ3_ensureCapacityInternal_27 : decode cJ3_ensureCapacityInternal 27 = .ok (.aload_n 0, 1) := dk_42 (dk_at dksJ3_ensureCapacityInternal_1 3 rfl rfl)
theorem dJ3_ensureCapacityInternal_28 : decode cJ3_ensureCapacityInternal 28 = .ok (.getfield 22, 3) := dk_180 0 22 (dk_at dksJ3_ensureCapacityInternal_1 4 rfl rfl)
theorem dJ3_ensureCapacityInternal_31 : decode cJ3_ensureCapacityInternal 31 = .ok (.ishl, 1) := dk_120 (dk_at dksJ3_ensureCapacityInternal_1 7 rfl rfl)
theorem dJ3_ensureCapacityInternal_32 : decode cJ3_ensureCapacityInternal 32 = .ok (.invokestatic 108, 3) := dk_184 0 108 (dk_at dksJ3_ensureCapacityInternal_1 8 rfl rfl)
theorem dJ3_ensureCapacityInternal_35 : decode cJ3_ensureCapacityInternal 35 = .ok (.putfield 15, 3) := dk_181 0 15 (dk_at dksJ3_ensureCapacityInternal_1 11 rfl rfl)
theorem dJ3_ensureCapacityInternal_38 : decode cJ3_ensureCapacityInternal 38 = .ok (.return_, 1) := dk_177 (dk_at dksJ3_ensureCapacityInternal_1 14 rfl rfl)
abbrev cJ3_newCapacity : ByteArray := prog_14_method_10_code
def yJ3_newCapacity : MethodName := ⟨RJ3, "newCapacity", "(I)I"⟩
def dkwJ3_newCapacity_2 : List UInt8 := [183, 0, 124, 191, 21, 5, 42, 180, 0, 22, 122, 172]
abbrev dktJ3_newCapacity_2 : List UInt8 := dkwJ3_newCapacity_2 ++ []
def dkwJ3_newCapacity_1 : List UInt8 := [180, 0, 22, 120, 96, 184, 0, 114, 54, 5, 21, 5, 18, 39, 160, 0, 13, 187, 0, 120, 89, 18, 122]
abbrev dktJ3_newCapacity_1 : List UInt8 := dkwJ3_newCapacity_1 ++ dktJ3_newCapacity_2
def dkwJ3_newCapacity_0 : List UInt8 := [42, 180, 0, 15, 190, 61, 27, 42, 180, 0, 22, 120, 62, 29, 28, 100, 54, 4, 28, 21, 4, 28, 5, 42]
abbrev dktJ3_newCapacity_0 : List UInt8 := dkwJ3_newCapacity_0 ++ dktJ3_newCapacity_1
theorem dksJ3_newCapacity_0 : cJ3_newCapacity.data.toList.drop 0 = dktJ3_newCapacity_0 := by decide +kernel
theorem dksJ3_newCapacity_1 : cJ3_newCapacity.data.toList.drop 24 = dktJ3_newCapacity_1 := dk_seg dksJ3_newCapacity_0 24 rfl rfl
theorem dksJ3_newCapacity_2 : cJ3_newCapacity.data.toList.drop 47 = dktJ3_newCapacity_2 := dk_seg dksJ3_newCapacity_1 23 rfl rfl
theorem dJ3_newCapacity_0 : decode cJ3_newCapacity 0 = .ok (.aload_n 0, 1) := dk_42 (dk_at dksJ3_newCapacity_0 0 rfl rfl)
theorem dJ3_newCapacity_1 : decode cJ3_newCapacity 1 = .ok (.getfield 15, 3) := dk_180 0 15 (dk_at dksJ3_newCapacity_0 1 rfl rfl)
theorem dJ3_newCapacity_4 : decode cJ3_newCapacity 4 = .ok (.arraylength, 1) := dk_190 (dk_at dksJ3_newCapacity_0 4 rfl rfl)
theorem dJ3_newCapacity_5 : decode cJ3_newCapacity 5 = .ok (.istore_n 2, 1) := dk_61 (dk_at dksJ3_newCapacity_0 5 rfl rfl)
theorem dJ3_newCapacity_6 : decode cJ3_newCapacity 6 = .ok (.iload_n 1, 1) := dk_27 (dk_at dksJ3_newCapacity_0 6 rfl rfl)
theorem dJ3_newCapacity_7 : decode cJ3_newCapacity 7 = .ok (.aload_n 0, 1) := dk_42 (dk_at dksJ3_newCapacity_0 7 rfl rfl)
theorem dJ3_newCapacity_8 : decode cJ3_newCapacity 8 = .ok (.getfield 22, 3) := dk_180 0 22 (dk_at dksJ3_newCapacity_0 8 rfl rfl)
theorem dJ3_newCapacity_11 : decode cJ3_newCapacity 11 = .ok (.ishl, 1) := dk_120 (dk_at dksJ3_newCapacity_0 11 rfl rfl)
theorem dJ3_newCapacity_12 : decode cJ3_newCapacity 12 = .ok (.istore_n 3, 1) := dk_62 (dk_at dksJ3_newCapacity_0 12 rfl rfl)
theorem dJ3_newCapacity_13 : decode cJ3_newCapacity 13 = .ok (.iload_n 3, 1) := dk_29 (dk_at dksJ3_newCapacity_0 13 rfl rfl)
theorem dJ3_newCapacity_14 : decode cJ3_newCapacity 14 = .ok (.iload_n 2, 1) := dk_28 (dk_at dksJ3_newCapacity_0 14 rfl rfl)
theorem dJ3_newCapacity_15 : decode cJ3_newCapacity 15 = .ok (.isub, 1) := dk_100 (dk_at dksJ3_newCapacity_0 15 rfl rfl)
theorem dJ3_newCapacity_16 : decode cJ3_newCapacity 16 = .ok (.istore 4, 2) := dk_54 4 (dk_at dksJ3_newCapacity_0 16 rfl rfl)
theorem dJ3_newCapacity_18 : decode cJ3_newCapacity 18 = .ok (.iload_n 2, 1) := dk_28 (dk_at dksJ3_newCapacity_0 18 rfl rfl)
theorem dJ3_newCapacity_19 : decode cJ3_newCapacity 19 = .ok (.iload 4, 2) := dk_21 4 (dk_at dksJ3_newCapacity_0 19 rfl rfl)
theorem dJ3_newCapacity_21 : decode cJ3_newCapacity 21 = .ok (.iload_n 2, 1) := dk_28 (dk_at dksJ3_newCapacity_0 21 rfl rfl)
theorem dJ3_newCapacity_22 : decode cJ3_newCapacity 22 = .ok (.iconst 2, 1) := dk_5 (dk_at dksJ3_newCapacity_0 22 rfl rfl)
theorem dJ3_newCapacity_23 : decode cJ3_newCapacity 23 = .ok (.aload_n 0, 1) := dk_42 (dk_at dksJ3_newCapacity_0 23 rfl rfl)
theorem dJ3_newCapacity_24 : decode cJ3_newCapacity 24 = .ok (.getfield 22, 3) := dk_180 0 22 (dk_at dksJ3_newCapacity_1 0 rfl rfl)
theorem dJ3_newCapacity_27 : decode cJ3_newCapacity 27 = .ok (.ishl, 1) := dk_120 (dk_at dksJ3_newCapacity_1 3 rfl rfl)
theorem dJ3_newCapacity_28 : decode cJ3_newCapacity 28 = .ok (.iadd, 1) := dk_96 (dk_at dksJ3_newCapacity_1 4 rfl rfl)
theorem dJ3_newCapacity_29 : decode cJ3_newCapacity 29 = .ok (.invokestatic 114, 3) := dk_184 0 114 (dk_at dksJ3_newCapacity_1 5 rfl rfl)
theorem dJ3_newCapacity_32 : decode cJ3_newCapacity 32 = .ok (.istore 5, 2) := dk_54 5 (dk_at dksJ3_newCapacity_1 8 rfl rfl)
theorem dJ3_newCapacity_34 : decode cJ3_newCapacity 34 = .ok (.iload 5, 2) := dk_21 5 (dk_at dksJ3_newCapacity_1 10 rfl rfl)
theorem dJ3_newCapacity_36 : decode cJ3_newCapacity 36 = .ok (.ldc 39, 2) := dk_18 39 (dk_at dksJ3_newCapacity_1 12 rfl rfl)
theorem dJ3_newCapacity_38 : decode cJ3_newCapacity 38 = .ok (.if_icmp .ne 13, 3) := dk_160 0 13 (dk_at dksJ3_newCapacity_1 14 rfl rfl)
theorem dJ3_newCapacity_41 : decode cJ3_newCapacity 41 = .ok (.new 120, 3) := dk_187 0 120 (dk_at dksJ3_newCapacity_1 17 rfl rfl)
theorem dJ3_newCapacity_44 : decode cJ3_newCapacity 44 = .ok (.dup, 1) := dk_89 (dk_at dksJ3_newCapacity_1 20 rfl rfl)
theorem dJ3_newCapacity_45 : decode cJ3_newCapacity 45 = .ok (.ldc 122, 2) := dk_18 122 (dk_at dksJ3_newCapacity_1 21 rfl rfl)
theorem dJ3_newCapacity_47 : decode cJ3_newCapacity 47 = .ok (.invokespecial 124, 3) := dk_183 0 124 (dk_at dksJ3_newCapacity_2 0 rfl rfl)
theorem dJ3_newCapacity_50 : decode cJ3_newCapacity 50 = .ok (.athrow, 1) := dk_191 (dk_at dksJ3_newCapacity_2 3 rfl rfl)
theorem dJ3_newCapacity_51 : decode cJ3_newCapacity 51 = .ok (.iload 5, 2) := dk_21 5 (dk_at dksJ3_newCapacity_2 4 rfl rfl)
theorem dJ3_newCapacity_53 : decode cJ3_newCapacity 53 = .ok (.aload_n 0, 1) := dk_42 (dk_at dksJ3_newCapacity_2 6 rfl rfl)
theorem dJ3_newCapacity_54 : decode cJ3_newCapacity 54 = .ok (.getfield 22, 3) := dk_180 0 22 (dk_at dksJ3_newCapacity_2 7 rfl rfl)
theorem dJ3_newCapacity_57 : decode cJ3_newCapacity 57 = .ok (.ishr, 1) := dk_122 (dk_at dksJ3_newCapacity_2 10 rfl rfl)
theorem dJ3_newCapacity_58 : decode cJ3_newCapacity 58 = .ok (.ireturn, 1) := dk_172 (dk_at dksJ3_newCapacity_2 11 rfl rfl)
abbrev cJ3_isLatin1 : ByteArray := prog_14_method_68_code
def yJ3_isLatin1 : MethodName := ⟨RJ3, "isLatin1", "()Z"⟩
def dkwJ3_isLatin1_0 : List UInt8 := [178, 0, 18, 153, 0, 14, 42, 180, 0, 22, 154, 0, 7, 4, 167, 0, 4, 3, 172]
abbrev dktJ3_isLatin1_0 : List UInt8 := dkwJ3_isLatin1_0 ++ []
theorem dksJ3_isLatin1_0 : cJ3_isLatin1.data.toList.drop 0 = dktJ3_isLatin1_0 := by decide +kernel
theorem dJ3_isLatin1_0 : decode cJ3_isLatin1 0 = .ok (.getstatic 18, 3) := dk_178 0 18 (dk_at dksJ3_isLatin1_0 0 rfl rfl)
theorem dJ3_isLatin1_3 : decode cJ3_isLatin1 3 = .ok (.ifCond .eq 14, 3) := dk_153 0 14 (dk_at dksJ3_isLatin1_0 3 rfl rfl)
theorem dJ3_isLatin1_6 : decode cJ3_isLatin1 6 = .ok (.aload_n 0, 1) := dk_42 (dk_at dksJ3_isLatin1_0 6 rfl rfl)
theorem dJ3_isLatin1_7 : decode cJ3_isLatin1 7 = .ok (.getfield 22, 3) := dk_180 0 22 (dk_at dksJ3_isLatin1_0 7 rfl rfl)
theorem dJ3_isLatin1_10 : decode cJ3_isLatin1 10 = .ok (.ifCond .ne 7, 3) := dk_154 0 7 (dk_at dksJ3_isLatin1_0 10 rfl rfl)
theorem dJ3_isLatin1_13 : decode cJ3_isLatin1 13 = .ok (.iconst 1, 1) := dk_4 (dk_at dksJ3_isLatin1_0 13 rfl rfl)
theorem dJ3_isLatin1_14 : decode cJ3_isLatin1 14 = .ok (.goto 4, 3) := dk_167 0 4 (dk_at dksJ3_isLatin1_0 14 rfl rfl)
theorem dJ3_isLatin1_17 : decode cJ3_isLatin1 17 = .ok (.iconst 0, 1) := dk_3 (dk_at dksJ3_isLatin1_0 17 rfl rfl)
theorem dJ3_isLatin1_18 : decode cJ3_isLatin1 18 = .ok (.ireturn, 1) := dk_172 (dk_at dksJ3_isLatin1_0 18 rfl rfl)
abbrev cJ3_inflate : ByteArray := prog_14_method_11_code
def yJ3_inflate : MethodName := ⟨RJ3, "inflate", "()V"⟩
def dkwJ3_inflate_1 : List UInt8 := [42, 180, 0, 79, 184, 0, 125, 42, 43, 181, 0, 15, 42, 4, 181, 0, 22, 177]
abbrev dktJ3_inflate_1 : List UInt8 := dkwJ3_inflate_1 ++ []
def dkwJ3_inflate_0 : List UInt8 := [42, 182, 0, 83, 154, 0, 4, 177, 42, 180, 0, 15, 190, 184, 0, 26, 76, 42, 180, 0, 15, 3, 43, 3]
abbrev dktJ3_inflate_0 : List UInt8 := dkwJ3_inflate_0 ++ dktJ3_inflate_1
theorem dksJ3_inflate_0 : cJ3_inflate.data.toList.drop 0 = dktJ3_inflate_0 := by decide +kernel
theorem dksJ3_inflate_1 : cJ3_inflate.data.toList.drop 24 = dktJ3_inflate_1 := dk_seg dksJ3_inflate_0 24 rfl rfl
theorem dJ3_inflate_0 : decode cJ3_inflate 0 = .ok (.aload_n 0, 1) := dk_42 (dk_at dksJ3_inflate_0 0 rfl rfl)
theorem dJ3_inflate_1 : decode cJ3_inflate 1 = .ok (.invokevirtual 83, 3) := dk_182 0 83 (dk_at dksJ3_inflate_0 1 rfl rfl)
theorem dJ3_inflate_4 : decode cJ3_inflate 4 = .ok (.ifCond .ne 4, 3) := dk_154 0 4 (dk_at dksJ3_inflate_0 4 rfl rfl)
theorem dJ3_inflate_7 : decode cJ3_inflate 7 = .ok (.return_, 1) := dk_177 (dk_at dksJ3_inflate_0 7 rfl rfl)
theorem dJ3_inflate_8 : decode cJ3_inflate 8 = .ok (.aload_n 0, 1) := dk_42 (dk_at dksJ3_inflate_0 8 rfl rfl)
theorem dJ3_inflate_9 : decode cJ3_inflate 9 = .ok (.getfield 15, 3) := dk_180 0 15 (dk_at dksJ3_inflate_0 9 rfl rfl)
theorem dJ3_inflate_12 : decode cJ3_inflate 12 = .ok (.arraylength, 1) := dk_190 (dk_at dksJ3_inflate_0 12 rfl rfl)
theorem dJ3_inflate_13 : decode cJ3_inflate 13 = .ok (.invokestatic 26, 3) := dk_184 0 26 (dk_at dksJ3_inflate_0 13 rfl rfl)
theorem dJ3_inflate_16 : decode cJ3_inflate 16 = .ok (.astore_n 1, 1) := dk_76 (dk_at dksJ3_inflate_0 16 rfl rfl)
theorem dJ3_inflate_17 : decode cJ3_inflate 17 = .ok (.aload_n 0, 1) := dk_42 (dk_at dksJ3_inflate_0 17 rfl rfl)
theorem dJ3_inflate_18 : decode cJ3_inflate 18 = .ok (.getfield 15, 3) := dk_180 0 15 (dk_at dksJ3_inflate_0 18 rfl rfl)
theorem dJ3_inflate_21 : decode cJ3_inflate 21 = .ok (.iconst 0, 1) := dk_3 (dk_at dksJ3_inflate_0 21 rfl rfl)
theorem dJ3_inflate_22 : decode cJ3_inflate 22 = .ok (.aload_n 1, 1) := dk_43 (dk_at dksJ3_inflate_0 22 rfl rfl)
theorem dJ3_inflate_23 : decode cJ3_inflate 23 = .ok (.iconst 0, 1) := dk_3 (dk_at dksJ3_inflate_0 23 rfl rfl)
theorem dJ3_inflate_24 : decode cJ3_inflate 24 = .ok (.aload_n 0, 1) := dk_42 (dk_at dksJ3_inflate_1 0 rfl rfl)
theorem dJ3_inflate_25 : decode cJ3_inflate 25 = .ok (.getfield 79, 3) := dk_180 0 79 (dk_at dksJ3_inflate_1 1 rfl rfl)
theorem dJ3_inflate_28 : decode cJ3_inflate 28 = .ok (.invokestatic 125, 3) := dk_184 0 125 (dk_at dksJ3_inflate_1 4 rfl rfl)
theorem dJ3_inflate_31 : decode cJ3_inflate 31 = .ok (.aload_n 0, 1) := dk_42 (dk_at dksJ3_inflate_1 7 rfl rfl)
theorem dJ3_inflate_32 : decode cJ3_inflate 32 = .ok (.aload_n 1, 1) := dk_43 (dk_at dksJ3_inflate_1 8 rfl rfl)
theorem dJ3_inflate_33 : decode cJ3_inflate 33 = .ok (.putfield 15, 3) := dk_181 0 15 (dk_at dksJ3_inflate_1 9 rfl rfl)
theorem dJ3_inflate_36 : decode cJ3_inflate 36 = .ok (.aload_n 0, 1) := dk_42 (dk_at dksJ3_inflate_1 12 rfl rfl)
theorem dJ3_inflate_37 : decode cJ3_inflate 37 = .ok (.iconst 1, 1) := dk_4 (dk_at dksJ3_inflate_1 13 rfl rfl)
theorem dJ3_inflate_38 : decode cJ3_inflate 38 = .ok (.putfield 22, 3) := dk_181 0 22 (dk_at dksJ3_inflate_1 14 rfl rfl)
theorem dJ3_inflate_41 : decode cJ3_inflate 41 = .ok (.return_, 1) := dk_177 (dk_at dksJ3_inflate_1 17 rfl rfl)
abbrev cJ3_getValue : ByteArray := prog_14_method_64_code
def yJ3_getValue : MethodName := ⟨RJ3, "getValue", "()[B"⟩
theorem dJ3_getValue_0 : decode cJ3_getValue 0 = .ok (.aload_n 0, 1) := by decide +kernel
theorem dJ3_getValue_1 : decode cJ3_getValue 1 = .ok (.getfield 15, 3) := by decide +kernel
theorem dJ3_getValue_4 : decode cJ3_getValue 4 = .ok (.areturn, 1) := by decide +kernel
abbrev cJ3_length : ByteArray := prog_14_method_6_code
def yJ3_length : MethodName := ⟨RJ3, "length", "()I"⟩
theorem dJ3_length_0 : decode cJ3_length 0 = .ok (.aload_n 0, 1) := by decide +kernel
theorem dJ3_length_1 : decode cJ3_length 1 = .ok (.getfield 79, 3) := by decide +kernel
theorem dJ3_length_4 : decode cJ3_length 4 = .ok (.ireturn, 1) := by decide +kernel
theorem q85 : (Jvm.Cond.initialized "java/lang/AbstractStringBuilder") ∈ lw_all := lw_g (lw_at lw_m1 9 rfl) rfl
theorem q323 : (Jvm.Cond.instanceMethod ({ cls := "java/lang/AbstractStringBuilder", name := "<init>", desc := "(I)V" } : Jvm.MethodName)) ∈ lw_all := lw_g (lw_at lw_m2 7 rfl) rfl
theorem q324 : (Jvm.Cond.code ({ cls := "java/lang/AbstractStringBuilder", name := "<init>", desc := "(I)V" } : Jvm.MethodName) prog_14_method_2_code (2 : Nat) (Option.none : Option Jvm.ClassFile.FieldType)) ∈ lw_all := lw_g (lw_at lw_m2 8 rfl) rfl
theorem q325 : (Jvm.Cond.methodLink "java/lang/AbstractStringBuilder" (3 : Nat) ({ cls := "java/lang/Object", name := "<init>", desc := "()V" } : Jvm.MethodName)) ∈ lw_all := lw_g (lw_at lw_m2 9 rfl) rfl
theorem q326 : (Jvm.Cond.fieldLink "java/lang/AbstractStringBuilder" (18 : Nat) "java/lang/String" "COMPACT_STRINGS" "Z") ∈ lw_all := lw_g (lw_at lw_m2 10 rfl) rfl
theorem q328 : (Jvm.Cond.methodLink "java/lang/AbstractStringBuilder" (26 : Nat) ({ cls := "java/lang/StringUTF16", name := "newBytesFor", desc := "(I)[B" } : Jvm.MethodName)) ∈ lw_all := lw_g (lw_at lw_m2 12 rfl) rfl
theorem q335 : (Jvm.Cond.fieldLink "java/lang/AbstractStringBuilder" (15 : Nat) "java/lang/AbstractStringBuilder" "value" "[B") ∈ lw_all := lw_g (lw_at lw_m2 19 rfl) rfl
theorem q336 : (Jvm.Cond.fieldLink "java/lang/AbstractStringBuilder" (22 : Nat) "java/lang/AbstractStringBuilder" "coder" "B") ∈ lw_all := lw_g (lw_at lw_m2 20 rfl) rfl
theorem q338 : (Jvm.Cond.fieldLink "java/lang/AbstractStringBuilder" (79 : Nat) "java/lang/AbstractStringBuilder" "count" "I") ∈ lw_all := lw_g (lw_at lw_m2 22 rfl) rfl
theorem q340 : (Jvm.Cond.soleField "java/lang/AbstractStringBuilder" "value") ∈ lw_all := lw_g (lw_at lw_m2 24 rfl) rfl
theorem q342 : (Jvm.Cond.soleField "java/lang/AbstractStringBuilder" "coder") ∈ lw_all := lw_g (lw_at lw_m2 26 rfl) rfl
theorem q344 : (Jvm.Cond.soleField "java/lang/AbstractStringBuilder" "maybeLatin1") ∈ lw_all := lw_g (lw_at lw_m2 28 rfl) rfl
theorem q346 : (Jvm.Cond.soleField "java/lang/AbstractStringBuilder" "count") ∈ lw_all := lw_g (lw_at lw_m2 30 rfl) rfl
theorem q353 : (Jvm.Cond.instanceMethod ({ cls := "java/lang/AbstractStringBuilder", name := "append", desc := "(C)Ljava/lang/AbstractStringBuilder;" } : Jvm.MethodName)) ∈ lw_all := lw_g (lw_at lw_m2 37 rfl) rfl
theorem q354 : (Jvm.Cond.code ({ cls := "java/lang/AbstractStringBuilder", name := "append", desc := "(C)Ljava/lang/AbstractStringBuilder;" } : Jvm.MethodName) prog_14_method_31_code (2 : Nat) (Option.some (Jvm.ClassFile.FieldType.object "java/lang/AbstractStringBuilder"))) ∈ lw_all := lw_g (lw_at lw_m2 38 rfl) rfl
theorem q355 : (Jvm.Cond.methodLink "java/lang/AbstractStringBuilder" (100 : Nat) ({ cls := "java/lang/AbstractStringBuilder", name := "ensureCapacityInternal", desc := "(I)V" } : Jvm.MethodName)) ∈ lw_all := lw_g (lw_at lw_m2 39 rfl) rfl
theorem q356 : (Jvm.Cond.privateMethod ({ cls := "java/lang/AbstractStringBuilder", name := "ensureCapacityInternal", desc := "(I)V" } : Jvm.MethodName)) ∈ lw_tbl := lw_at lw_m2 40 rfl
theorem q357 : (Jvm.Cond.instanceMethod ({ cls := "java/lang/AbstractStringBuilder", name := "ensureCapacityInternal", desc := "(I)V" } : Jvm.MethodName)) ∈ lw_all := lw_g (lw_at lw_m2 41 rfl) rfl
theorem q358 : (Jvm.Cond.code ({ cls := "java/lang/AbstractStringBuilder", name := "ensureCapacityInternal", desc := "(I)V" } : Jvm.MethodName) prog_14_method_9_code (3 : Nat) (Option.none : Option Jvm.ClassFile.FieldType)) ∈ lw_all := lw_g (lw_at lw_m2 42 rfl) rfl
theorem q359 : (Jvm.Cond.methodLink "java/lang/AbstractStringBuilder" (104 : Nat) ({ cls := "java/lang/AbstractStringBuilder", name := "newCapacity", desc := "(I)I" } : Jvm.MethodName)) ∈ lw_all := lw_g (lw_at lw_m2 43 rfl) rfl
theorem q360 : (Jvm.Cond.privateMethod ({ cls := "java/lang/AbstractStringBuilder", name := "newCapacity", desc := "(I)I" } : Jvm.MethodName)) ∈ lw_tbl := lw_at lw_m2 44 rfl
theorem q361 : (Jvm.Cond.instanceMethod ({ cls := "java/lang/AbstractStringBuilder", name := "newCapacity", desc := "(I)I" } : Jvm.MethodName)) ∈ lw_all := lw_g (lw_at lw_m2 45 rfl) rfl
theorem q362 : (Jvm.Cond.code ({ cls := "java/lang/AbstractStringBuilder", name := "newCapacity", desc := "(I)I" } : Jvm.MethodName) prog_14_method_10_code (6 : Nat) (Option.some Jvm.ClassFile.FieldType.int)) ∈ lw_all := lw_g (lw_at lw_m2 46 rfl) rfl
theorem q363 : (Jvm.Cond.methodLink "java/lang/AbstractStringBuilder" (114 : Nat) ({ cls := "jdk/internal/util/ArraysSupport", name := "newLength", desc := "(III)I" } : Jvm.MethodName)) ∈ lw_all := lw_g (lw_at lw_m2 47 rfl) rfl
theorem q373 : (Jvm.Cond.constant "java/lang/AbstractStringBuilder" (39 : Nat) (2147483647 : Int32)) ∈ lw_all := lw_g (lw_at lw_m2 57 rfl) rfl
theorem q374 : (Jvm.Cond.methodLink "java/lang/AbstractStringBuilder" (108 : Nat) ({ cls := "java/util/Arrays", name := "copyOf", desc := "([BI)[B" } : Jvm.MethodName)) ∈ lw_all := lw_g (lw_at lw_m2 58 rfl) rfl
theorem q390 : (Jvm.Cond.methodLink "java/lang/AbstractStringBuilder" (83 : Nat) ({ cls := "java/lang/AbstractStringBuilder", name := "isLatin1", desc := "()Z" } : Jvm.MethodName)) ∈ lw_all := lw_g (lw_at lw_m2 74 rfl) rfl
theorem q391 : (Jvm.Cond.instanceMethod ({ cls := "java/lang/AbstractStringBuilder", name := "isLatin1", desc := "()Z" } : Jvm.MethodName)) ∈ lw_all := lw_g (lw_at lw_m2 75 rfl) rfl
theorem q392 : (Jvm.Cond.sameMethod "java/lang/AbstractStringBuilder" "java/lang/AbstractStringBuilder" "isLatin1" "()Z") ∈ lw_all := lw_g (lw_at lw_m2 76 rfl) rfl
theorem q394 : (Jvm.Cond.code ({ cls := "java/lang/AbstractStringBuilder", name := "isLatin1", desc := "()Z" } : Jvm.MethodName) prog_14_method_68_code (1 : Nat) (Option.some Jvm.ClassFile.FieldType.boolean)) ∈ lw_all := lw_g (lw_at lw_m2 78 rfl) rfl
theorem q395 : (Jvm.Cond.methodLink "java/lang/AbstractStringBuilder" (191 : Nat) ({ cls := "java/lang/StringLatin1", name := "canEncode", desc := "(C)Z" } : Jvm.MethodName)) ∈ lw_all := lw_g (lw_at lw_m2 79 rfl) rfl
theorem q398 : (Jvm.Cond.methodLink "java/lang/AbstractStringBuilder" (195 : Nat) ({ cls := "java/lang/AbstractStringBuilder", name := "inflate", desc := "()V" } : Jvm.MethodName)) ∈ lw_all := lw_g (lw_at lw_m2 82 rfl) rfl
theorem q399 : (Jvm.Cond.privateMethod ({ cls := "java/lang/AbstractStringBuilder", name := "inflate", desc := "()V" } : Jvm.MethodName)) ∈ lw_tbl := lw_at lw_m2 83 rfl
theorem q400 : (Jvm.Cond.instanceMethod ({ cls := "java/lang/AbstractStringBuilder", name := "inflate", desc := "()V" } : Jvm.MethodName)) ∈ lw_all := lw_g (lw_at lw_m2 84 rfl) rfl
theorem q401 : (Jvm.Cond.code ({ cls := "java/lang/AbstractStringBuilder", name := "inflate", desc := "()V" } : Jvm.MethodName) prog_14_method_11_code (2 : Nat) (Option.none : Option Jvm.ClassFile.FieldType)) ∈ lw_all := lw_g (lw_at lw_m2 85 rfl) rfl
theorem q402 : (Jvm.Cond.methodLink "java/lang/AbstractStringBuilder" (125 : Nat) ({ cls := "java/lang/StringLatin1", name := "inflate", desc := "([BI[BII)V" } : Jvm.MethodName)) ∈ lw_all := lw_g (lw_at lw_m2 86 rfl) rfl
theorem q431 : (Jvm.Cond.methodLink "java/lang/AbstractStringBuilder" (197 : Nat) ({ cls := "java/lang/StringUTF16", name := "putCharSB", desc := "([BII)V" } : Jvm.MethodName)) ∈ lw_all := lw_g (lw_at lw_m2 115 rfl) rfl
theorem q457 : (Jvm.Cond.instanceMethod ({ cls := "java/lang/AbstractStringBuilder", name := "getValue", desc := "()[B" } : Jvm.MethodName)) ∈ lw_all := lw_g (lw_at lw_m2 141 rfl) rfl
theorem q458 : (Jvm.Cond.sameMethod "java/lang/AbstractStringBuilder" "java/lang/AbstractStringBuilder" "getValue" "()[B") ∈ lw_all := lw_g (lw_at lw_m2 142 rfl) rfl
theorem q460 : (Jvm.Cond.code ({ cls := "java/lang/AbstractStringBuilder", name := "getValue", desc := "()[B" } : Jvm.MethodName) prog_14_method_64_code (1 : Nat) (Option.some (Jvm.ClassFile.FieldType.array Jvm.ClassFile.FieldType.byte))) ∈ lw_all := lw_g (lw_at lw_m2 144 rfl) rfl
theorem q462 : (Jvm.Cond.instanceMethod ({ cls := "java/lang/AbstractStringBuilder", name := "length", desc := "()I" } : Jvm.MethodName)) ∈ lw_all := lw_g (lw_at lw_m2 146 rfl) rfl
theorem q463 : (Jvm.Cond.sameMethod "java/lang/AbstractStringBuilder" "java/lang/AbstractStringBuilder" "length" "()I") ∈ lw_all := lw_g (lw_at lw_m2 147 rfl) rfl
theorem q468 : (Jvm.Cond.code ({ cls := "java/lang/AbstractStringBuilder", name := "length", desc := "()I" } : Jvm.MethodName) prog_14_method_6_code (1 : Nat) (Option.some Jvm.ClassFile.FieldType.int)) ∈ lw_all := lw_g (lw_at lw_m2 152 rfl) rfl
theorem q1543 : (Jvm.Cond.sameMethod "java/lang/AbstractStringBuilder" "java/lang/AbstractStringBuilder" "append" "(C)Ljava/lang/AbstractStringBuilder;") ∈ lw_all := lw_g (lw_at lw_m7 27 rfl) rfl
theorem q1544 : (Jvm.Cond.sameMethod "java/lang/AbstractStringBuilder" "java/lang/AbstractStringBuilder" "ensureCapacityInternal" "(I)V") ∈ lw_all := lw_g (lw_at lw_m7 28 rfl) rfl
theorem q1545 : (Jvm.Cond.sameMethod "java/lang/AbstractStringBuilder" "java/lang/AbstractStringBuilder" "newCapacity" "(I)I") ∈ lw_all := lw_g (lw_at lw_m7 29 rfl) rfl
theorem q1546 : (Jvm.Cond.sameMethod "java/lang/AbstractStringBuilder" "java/lang/AbstractStringBuilder" "inflate" "()V") ∈ lw_all := lw_g (lw_at lw_m7 30 rfl) rfl
/-! java/lang/StringBuilder -/
set_option maxRecDepth 100000
def RJ4 : String := "java/lang/StringBuilder"
def TJ4 : u_T := fun k => match k with
  | 0 => ("java/lang/AbstractStringBuilder", "value", "[B", false)
  | 1 => ("java/lang/AbstractStringBuilder", "coder", "B", false)
  | 2 => ("java/lang/AbstractStringBuilder", "maybeLatin1", "Z", false)
  | _ => ("java/lang/AbstractStringBuilder", "count", "I", false)
def tyJ4 : Nat → FieldType := fun k => match k with
  | 0 => .array .byte
  | 1 => .byte
  | 2 => .boolean
  | _ => .int
abbrev wsJ40 : List Cond := u_ws RJ4 TJ4 4
theorem nmJ4 : ∀ a, a < 4 → ∀ b, b < 4 → a ≠ b → (TJ4 a).2.1 ≠ (TJ4 b).2.1 := by decide +kernel
theorem tyJ4_ok : ∀ k, k < 4 → parseFieldDescriptor (TJ4 k).2.2.1 = some (tyJ4 k) := by decide +kernel
abbrev cJ4_init : ByteArray := prog_28_method_1_code
def yJ4_init : MethodName := ⟨RJ4, "<init>", "()V"⟩
def dkwJ4_init_0 : List UInt8 := [42, 16, 16, 183, 0, 1, 177]
abbrev dktJ4_init_0 : List UInt8 := dkwJ4_init_0 ++ []
theorem dksJ4_init_0 : cJ4_init.data.toList.drop 0 = dktJ4_init_0 := by decide +kernel
theorem dJ4_init_0 : decode cJ4_init 0 = .ok (.aload_n 0, 1) := dk_42 (dk_at dksJ4_init_0 0 rfl rfl)
theorem dJ4_init_1 : decode cJ4_init 1 = .ok (.bipush 16, 2) := dk_16 16 (dk_at dksJ4_init_0 1 rfl rfl)
theorem dJ4_init_3 : decode cJ4_init 3 = .ok (.invokespecial 1, 3) := dk_183 0 1 (dk_at dksJ4_init_0 3 rfl rfl)
theorem dJ4_init_6 : decode cJ4_init 6 = .ok (.return_, 1) := dk_177 (dk_at dksJ4_init_0 6 rfl rfl)
abbrev cJ4_append : ByteArray := prog_28_method_14_code
def yJ4_append : MethodName := ⟨RJ4, "append", "(C)Ljava/lang/StringBuilder;"⟩
def dkwJ4_append_0 : List UInt8 := [42, 27, 183, 0, 50, 87, 42, 176]
abbrev dktJ4_append_0 : List UInt8 := dkwJ4_append_0 ++ []
theorem dksJ4_append_0 : cJ4_append.data.toList.drop 0 = dktJ4_append_0 := by decide +kernel
theorem dJ4_append_0 : decode cJ4_append 0 = .ok (.aload_n 0, 1) := dk_42 (dk_at dksJ4_append_0 0 rfl rfl)
theorem dJ4_append_1 : decode cJ4_append 1 = .ok (.iload_n 1, 1) := dk_27 (dk_at dksJ4_append_0 1 rfl rfl)
theorem dJ4_append_2 : decode cJ4_append 2 = .ok (.invokespecial 50, 3) := dk_183 0 50 (dk_at dksJ4_append_0 2 rfl rfl)
theorem dJ4_append_5 : decode cJ4_append 5 = .ok (.pop, 1) := dk_87 (dk_at dksJ4_append_0 5 rfl rfl)
theorem dJ4_append_6 : decode cJ4_append 6 = .ok (.aload_n 0, 1) := dk_42 (dk_at dksJ4_append_0 6 rfl rfl)
theorem dJ4_append_7 : decode cJ4_append 7 = .ok (.areturn, 1) := dk_176 (dk_at dksJ4_append_0 7 rfl rfl)
abbrev cJ4_toString : ByteArray := prog_28_method_42_code
def yJ4_toString : MethodName := ⟨RJ4, "toString", "()Ljava/lang/String;"⟩
def dkwJ4_toString_0 : List UInt8 := [187, 0, 18, 89, 42, 183, 0, 137, 176]
abbrev dktJ4_toString_0 : List UInt8 := dkwJ4_toString_0 ++ []
theorem dksJ4_toString_0 : cJ4_toString.data.toList.drop 0 = dktJ4_toString_0 := by decide +kernel
theorem dJ4_toString_0 : decode cJ4_toString 0 = .ok (.new 18, 3) := dk_187 0 18 (dk_at dksJ4_toString_0 0 rfl rfl)
theorem dJ4_toString_3 : decode cJ4_toString 3 = .ok (.dup, 1) := dk_89 (dk_at dksJ4_toString_0 3 rfl rfl)
theorem dJ4_toString_4 : decode cJ4_toString 4 = .ok (.aload_n 0, 1) := dk_42 (dk_at dksJ4_toString_0 4 rfl rfl)
theorem dJ4_toString_5 : decode cJ4_toString 5 = .ok (.invokespecial 137, 3) := dk_183 0 137 (dk_at dksJ4_toString_0 5 rfl rfl)
theorem dJ4_toString_8 : decode cJ4_toString 8 = .ok (.areturn, 1) := dk_176 (dk_at dksJ4_toString_0 8 rfl rfl)
abbrev cJ4_length : ByteArray := prog_28_method_93_code
def yJ4_length : MethodName := ⟨RJ4, "length", "()I"⟩
theorem dJ4_length_0 : decode cJ4_length 0 = .ok (.aload_n 0, 1) := by decide +kernel
theorem dJ4_length_1 : decode cJ4_length 1 = .ok (.invokespecial 343, 3) := by decide +kernel
theorem dJ4_length_4 : decode cJ4_length 4 = .ok (.ireturn, 1) := by decide +kernel
theorem q86 : (Jvm.Cond.initialized "java/lang/StringBuilder") ∈ lw_all := lw_g (lw_at lw_m1 10 rfl) rfl
theorem q318 : (Jvm.Cond.instantiable "java/lang/StringBuilder" (4 : Nat)) ∈ lw_all := lw_g (lw_at lw_m2 2 rfl) rfl
theorem q320 : (Jvm.Cond.instanceMethod ({ cls := "java/lang/StringBuilder", name := "<init>", desc := "()V" } : Jvm.MethodName)) ∈ lw_all := lw_g (lw_at lw_m2 4 rfl) rfl
theorem q321 : (Jvm.Cond.code ({ cls := "java/lang/StringBuilder", name := "<init>", desc := "()V" } : Jvm.MethodName) prog_28_method_1_code (1 : Nat) (Option.none : Option Jvm.ClassFile.FieldType)) ∈ lw_all := lw_g (lw_at lw_m2 5 rfl) rfl
theorem q322 : (Jvm.Cond.methodLink "java/lang/StringBuilder" (1 : Nat) ({ cls := "java/lang/AbstractStringBuilder", name := "<init>", desc := "(I)V" } : Jvm.MethodName)) ∈ lw_all := lw_g (lw_at lw_m2 6 rfl) rfl
theorem q339 : (Jvm.Cond.lays "java/lang/StringBuilder" "java/lang/AbstractStringBuilder" "value" "[B") ∈ lw_all := lw_g (lw_at lw_m2 23 rfl) rfl
theorem q341 : (Jvm.Cond.lays "java/lang/StringBuilder" "java/lang/AbstractStringBuilder" "coder" "B") ∈ lw_all := lw_g (lw_at lw_m2 25 rfl) rfl
theorem q343 : (Jvm.Cond.lays "java/lang/StringBuilder" "java/lang/AbstractStringBuilder" "maybeLatin1" "Z") ∈ lw_all := lw_g (lw_at lw_m2 27 rfl) rfl
theorem q345 : (Jvm.Cond.lays "java/lang/StringBuilder" "java/lang/AbstractStringBuilder" "count" "I") ∈ lw_all := lw_g (lw_at lw_m2 29 rfl) rfl
theorem q347 : (Jvm.Cond.superclass "java/lang/StringBuilder" "java/lang/AbstractStringBuilder") ∈ lw_all := lw_g (lw_at lw_m2 31 rfl) rfl
theorem q349 : (Jvm.Cond.instanceMethod ({ cls := "java/lang/StringBuilder", name := "append", desc := "(C)Ljava/lang/StringBuilder;" } : Jvm.MethodName)) ∈ lw_all := lw_g (lw_at lw_m2 33 rfl) rfl
theorem q350 : (Jvm.Cond.selects "java/lang/StringBuilder" ({ cls := "java/lang/StringBuilder", name := "append", desc := "(C)Ljava/lang/StringBuilder;" } : Jvm.MethodName) ({ cls := "java/lang/StringBuilder", name := "append", desc := "(C)Ljava/lang/StringBuilder;" } : Jvm.MethodName)) ∈ lw_all := lw_g (lw_at lw_m2 34 rfl) rfl
theorem q351 : (Jvm.Cond.code ({ cls := "java/lang/StringBuilder", name := "append", desc := "(C)Ljava/lang/StringBuilder;" } : Jvm.MethodName) prog_28_method_14_code (2 : Nat) (Option.some (Jvm.ClassFile.FieldType.object "java/lang/StringBuilder"))) ∈ lw_all := lw_g (lw_at lw_m2 35 rfl) rfl
theorem q352 : (Jvm.Cond.methodLink "java/lang/StringBuilder" (50 : Nat) ({ cls := "java/lang/AbstractStringBuilder", name := "append", desc := "(C)Ljava/lang/AbstractStringBuilder;" } : Jvm.MethodName)) ∈ lw_all := lw_g (lw_at lw_m2 36 rfl) rfl
theorem q393 : (Jvm.Cond.selects "java/lang/StringBuilder" ({ cls := "java/lang/AbstractStringBuilder", name := "isLatin1", desc := "()Z" } : Jvm.MethodName) ({ cls := "java/lang/AbstractStringBuilder", name := "isLatin1", desc := "()Z" } : Jvm.MethodName)) ∈ lw_all := lw_g (lw_at lw_m2 77 rfl) rfl
theorem q444 : (Jvm.Cond.instanceMethod ({ cls := "java/lang/StringBuilder", name := "toString", desc := "()Ljava/lang/String;" } : Jvm.MethodName)) ∈ lw_all := lw_g (lw_at lw_m2 128 rfl) rfl
theorem q445 : (Jvm.Cond.selects "java/lang/StringBuilder" ({ cls := "java/lang/StringBuilder", name := "toString", desc := "()Ljava/lang/String;" } : Jvm.MethodName) ({ cls := "java/lang/StringBuilder", name := "toString", desc := "()Ljava/lang/String;" } : Jvm.MethodName)) ∈ lw_all := lw_g (lw_at lw_m2 129 rfl) rfl
theorem q446 : (Jvm.Cond.code ({ cls := "java/lang/StringBuilder", name := "toString", desc := "()Ljava/lang/String;" } : Jvm.MethodName) prog_28_method_42_code (1 : Nat) (Option.some (Jvm.ClassFile.FieldType.object "java/lang/String"))) ∈ lw_all := lw_g (lw_at lw_m2 130 rfl) rfl
theorem q447 : (Jvm.Cond.classLink "java/lang/StringBuilder" (18 : Nat) "java/lang/String") ∈ lw_all := lw_g (lw_at lw_m2 131 rfl) rfl
theorem q449 : (Jvm.Cond.methodLink "java/lang/StringBuilder" (137 : Nat) ({ cls := "java/lang/String", name := "<init>", desc := "(Ljava/lang/StringBuilder;)V" } : Jvm.MethodName)) ∈ lw_all := lw_g (lw_at lw_m2 133 rfl) rfl
theorem q459 : (Jvm.Cond.selects "java/lang/StringBuilder" ({ cls := "java/lang/AbstractStringBuilder", name := "getValue", desc := "()[B" } : Jvm.MethodName) ({ cls := "java/lang/AbstractStringBuilder", name := "getValue", desc := "()[B" } : Jvm.MethodName)) ∈ lw_all := lw_g (lw_at lw_m2 143 rfl) rfl
theorem q464 : (Jvm.Cond.selects "java/lang/StringBuilder" ({ cls := "java/lang/AbstractStringBuilder", name := "length", desc := "()I" } : Jvm.MethodName) ({ cls := "java/lang/StringBuilder", name := "length", desc := "()I" } : Jvm.MethodName)) ∈ lw_all := lw_g (lw_at lw_m2 148 rfl) rfl
theorem q465 : (Jvm.Cond.instanceMethod ({ cls := "java/lang/StringBuilder", name := "length", desc := "()I" } : Jvm.MethodName)) ∈ lw_all := lw_g (lw_at lw_m2 149 rfl) rfl
theorem q466 : (Jvm.Cond.code ({ cls := "java/lang/StringBuilder", name := "length", desc := "()I" } : Jvm.MethodName) prog_28_method_93_code (1 : Nat) (Option.some Jvm.ClassFile.FieldType.int)) ∈ lw_all := lw_g (lw_at lw_m2 150 rfl) rfl
theorem q467 : (Jvm.Cond.methodLink "java/lang/StringBuilder" (343 : Nat) ({ cls := "java/lang/AbstractStringBuilder", name := "length", desc := "()I" } : Jvm.MethodName)) ∈ lw_all := lw_g (lw_at lw_m2 151 rfl) rfl
theorem q793 : (Jvm.Cond.selects "java/lang/StringBuilder" ({ cls := "java/lang/Object", name := "getClass", desc := "()Ljava/lang/Class;" } : Jvm.MethodName) ({ cls := "java/lang/Object", name := "getClass", desc := "()Ljava/lang/Class;" } : Jvm.MethodName)) ∈ lw_all := lw_g (lw_at lw_m3 237 rfl) rfl
theorem q1559 : (Jvm.Cond.castable "java/lang/StringBuilder" "java/lang/Object") ∈ lw_tbl := lw_at lw_m7 43 rfl
theorem in_J4 : ∀ w ∈ wsJ40, w ∈ lw_all := lw_in wsJ40 [339, 341, 343, 345] (by decide +kernel) (by decide +kernel)
/-! java/lang/String -/
set_option maxRecDepth 100000
def RJ5 : String := "java/lang/String"
def TJ5 : u_T := fun k => match k with
  | 0 => ("java/lang/String", "value", "[B", true)
  | 1 => ("java/lang/String", "coder", "B", true)
  | 2 => ("java/lang/String", "hash", "I", false)
  | _ => ("java/lang/String", "hashIsZero", "Z", false)
def tyJ5 : Nat → FieldType := fun k => match k with
  | 0 => .array .byte
  | 1 => .byte
  | 2 => .int
  | _ => .boolean
abbrev wsJ50 : List Cond := u_ws RJ5 TJ5 4
theorem nmJ5 : ∀ a, a < 4 → ∀ b, b < 4 → a ≠ b → (TJ5 a).2.1 ≠ (TJ5 b).2.1 := by decide +kernel
theorem tyJ5_ok : ∀ k, k < 4 → parseFieldDescriptor (TJ5 k).2.2.1 = some (tyJ5 k) := by decide +kernel
abbrev cJ5_checkBoundsOffCount : ByteArray := prog_27_method_157_code
def yJ5_checkBoundsOffCount : MethodName := ⟨RJ5, "checkBoundsOffCount", "(III)I"⟩
def dkwJ5_checkBoundsOffCount_0 : List UInt8 := [26, 27, 28, 178, 4, 29, 184, 4, 41, 172]
abbrev dktJ5_checkBoundsOffCount_0 : List UInt8 := dkwJ5_checkBoundsOffCount_0 ++ []
theorem dksJ5_checkBoundsOffCount_0 : cJ5_checkBoundsOffCount.data.toList.drop 0 = dktJ5_checkBoundsOffCount_0 := by decide +kernel
theorem dJ5_checkBoundsOffCount_0 : decode cJ5_checkBoundsOffCount 0 = .ok (.iload_n 0, 1) := dk_26 (dk_at dksJ5_checkBoundsOffCount_0 0 rfl rfl)
theorem dJ5_checkBoundsOffCount_1 : decode cJ5_checkBoundsOffCount 1 = .ok (.iload_n 1, 1) := dk_27 (dk_at dksJ5_checkBoundsOffCount_0 1 rfl rfl)
theorem dJ5_checkBoundsOffCount_2 : decode cJ5_checkBoundsOffCount 2 = .ok (.iload_n 2, 1) := dk_28 (dk_at dksJ5_checkBoundsOffCount_0 2 rfl rfl)
theorem dJ5_checkBoundsOffCount_3 : decode cJ5_checkBoundsOffCount 3 = .ok (.getstatic 1053, 3) := dk_178 4 29 (dk_at dksJ5_checkBoundsOffCount_0 3 rfl rfl)
theorem dJ5_checkBoundsOffCount_6 : decode cJ5_checkBoundsOffCount 6 = .ok (.invokestatic 1065, 3) := dk_184 4 41 (dk_at dksJ5_checkBoundsOffCount_0 6 rfl rfl)
theorem dJ5_checkBoundsOffCount_9 : decode cJ5_checkBoundsOffCount 9 = .ok (.ireturn, 1) := dk_172 (dk_at dksJ5_checkBoundsOffCount_0 9 rfl rfl)
abbrev cJ5_checkIndex : ByteArray := prog_27_method_155_code
def yJ5_checkIndex : MethodName := ⟨RJ5, "checkIndex", "(II)V"⟩
def dkwJ5_checkIndex_0 : List UInt8 := [26, 27, 178, 4, 29, 184, 4, 35, 87, 177]
abbrev dktJ5_checkIndex_0 : List UInt8 := dkwJ5_checkIndex_0 ++ []
theorem dksJ5_checkIndex_0 : cJ5_checkIndex.data.toList.drop 0 = dktJ5_checkIndex_0 := by decide +kernel
theorem dJ5_checkIndex_0 : decode cJ5_checkIndex 0 = .ok (.iload_n 0, 1) := dk_26 (dk_at dksJ5_checkIndex_0 0 rfl rfl)
theorem dJ5_checkIndex_1 : decode cJ5_checkIndex 1 = .ok (.iload_n 1, 1) := dk_27 (dk_at dksJ5_checkIndex_0 1 rfl rfl)
theorem dJ5_checkIndex_2 : decode cJ5_checkIndex 2 = .ok (.getstatic 1053, 3) := dk_178 4 29 (dk_at dksJ5_checkIndex_0 2 rfl rfl)
theorem dJ5_checkIndex_5 : decode cJ5_checkIndex 5 = .ok (.invokestatic 1059, 3) := dk_184 4 35 (dk_at dksJ5_checkIndex_0 5 rfl rfl)
theorem dJ5_checkIndex_8 : decode cJ5_checkIndex 8 = .ok (.pop, 1) := dk_87 (dk_at dksJ5_checkIndex_0 8 rfl rfl)
theorem dJ5_checkIndex_9 : decode cJ5_checkIndex 9 = .ok (.return_, 1) := dk_177 (dk_at dksJ5_checkIndex_0 9 rfl rfl)
abbrev cJ5_init : ByteArray := prog_27_method_53_code
def yJ5_init : MethodName := ⟨RJ5, "<init>", "(Ljava/lang/StringBuilder;)V"⟩
def dkwJ5_init_0 : List UInt8 := [42, 43, 1, 183, 1, 233, 177]
abbrev dktJ5_init_0 : List UInt8 := dkwJ5_init_0 ++ []
theorem dksJ5_init_0 : cJ5_init.data.toList.drop 0 = dktJ5_init_0 := by decide +kernel
theorem dJ5_init_0 : decode cJ5_init 0 = .ok (.aload_n 0, 1) := dk_42 (dk_at dksJ5_init_0 0 rfl rfl)
theorem dJ5_init_1 : decode cJ5_init 1 = .ok (.aload_n 1, 1) := dk_43 (dk_at dksJ5_init_0 1 rfl rfl)
theorem dJ5_init_2 : decode cJ5_init 2 = .ok (.aconst_null, 1) := dk_1 (dk_at dksJ5_init_0 2 rfl rfl)
theorem dJ5_init_3 : decode cJ5_init 3 = .ok (.invokespecial 489, 3) := dk_183 1 233 (dk_at dksJ5_init_0 3 rfl rfl)
theorem dJ5_init_6 : decode cJ5_init 6 = .ok (.return_, 1) := dk_177 (dk_at dksJ5_init_0 6 rfl rfl)
abbrev cJ5_init_2 : ByteArray := prog_27_method_150_code
def yJ5_init_2 : MethodName := ⟨RJ5, "<init>", "(Ljava/lang/AbstractStringBuilder;Ljava/lang/Void;)V"⟩
def dkwJ5_init_2_4 : List UInt8 := [181, 0, 9, 177]
abbrev dktJ5_init_2_4 : List UInt8 := dkwJ5_init_2_4 ++ []
def dkwJ5_init_2_3 : List UInt8 := [184, 0, 47, 181, 0, 15, 177, 42, 4, 181, 0, 15, 42, 45, 3, 21, 4, 4, 120, 184, 0, 54]
abbrev dktJ5_init_2_3 : List UInt8 := dkwJ5_init_2_3 ++ dktJ5_init_2_4
def dkwJ5_init_2_2 : List UInt8 := [180, 4, 24, 153, 0, 28, 42, 45, 3, 21, 4, 184, 4, 27, 181, 0, 9, 42, 42, 180, 0, 9, 21, 4]
abbrev dktJ5_init_2_2 : List UInt8 := dkwJ5_init_2_2 ++ dktJ5_init_2_3
def dkwJ5_init_2_1 : List UInt8 := [181, 0, 15, 42, 45, 3, 21, 4, 184, 0, 54, 181, 0, 9, 167, 0, 59, 178, 0, 38, 153, 0, 35, 43]
abbrev dktJ5_init_2_1 : List UInt8 := dkwJ5_init_2_1 ++ dktJ5_init_2_2
def dkwJ5_init_2_0 : List UInt8 := [42, 183, 0, 1, 43, 182, 2, 40, 78, 43, 182, 2, 37, 54, 4, 43, 182, 4, 23, 153, 0, 22, 42, 3]
abbrev dktJ5_init_2_0 : List UInt8 := dkwJ5_init_2_0 ++ dktJ5_init_2_1
theorem dksJ5_init_2_0 : cJ5_init_2.data.toList.drop 0 = dktJ5_init_2_0 := by decide +kernel
theorem dksJ5_init_2_1 : cJ5_init_2.data.toList.drop 24 = dktJ5_init_2_1 := dk_seg dksJ5_init_2_0 24 rfl rfl
theorem dksJ5_init_2_2 : cJ5_init_2.data.toList.drop 48 = dktJ5_init_2_2 := dk_seg dksJ5_init_2_1 24 rfl rfl
theorem dksJ5_init_2_3 : cJ5_init_2.data.toList.drop 72 = dktJ5_init_2_3 := dk_seg dksJ5_init_2_2 24 rfl rfl
theorem dksJ5_init_2_4 : cJ5_init_2.data.toList.drop 94 = dktJ5_init_2_4 := dk_seg dksJ5_init_2_3 22 rfl rfl
theorem dJ5_init_2_0 : decode cJ5_init_2 0 = .ok (.aload_n 0, 1) := dk_42 (dk_at dksJ5_init_2_0 0 rfl rfl)
theorem dJ5_init_2_1 : decode cJ5_init_2 1 = .ok (.invokespecial 1, 3) := dk_183 0 1 (dk_at dksJ5_init_2_0 1 rfl rfl)
theorem dJ5_init_2_4 : decode cJ5_init_2 4 = .ok (.aload_n 1, 1) := dk_43 (dk_at dksJ5_init_2_0 4 rfl rfl)
theorem dJ5_init_2_5 : decode cJ5_init_2 5 = .ok (.invokevirtual 552, 3) := dk_182 2 40 (dk_at dksJ5_init_2_0 5 rfl rfl)
theorem dJ5_init_2_8 : decode cJ5_init_2 8 = .ok (.astore_n 3, 1) := dk_78 (dk_at dksJ5_init_2_0 8 rfl rfl)
theorem dJ5_init_2_9 : decode cJ5_init_2 9 = .ok (.aload_n 1, 1) := dk_43 (dk_at dksJ5_init_2_0 9 rfl rfl)
theorem dJ5_init_2_10 : decode cJ5_init_2 10 = .ok (.invokevirtual 549, 3) := dk_182 2 37 (dk_at dksJ5_init_2_0 10 rfl rfl)
theorem dJ5_init_2_13 : decode cJ5_init_2 13 = .ok (.istore 4, 2) := dk_54 4 (dk_at dksJ5_init_2_0 13 rfl rfl)
theorem dJ5_init_2_15 : decode cJ5_init_2 15 = .ok (.aload_n 1, 1) := dk_43 (dk_at dksJ5_init_2_0 15 rfl rfl)
theorem dJ5_init_2_16 : decode cJ5_init_2 16 = .ok (.invokevirtual 1047, 3) := dk_182 4 23 (dk_at dksJ5_init_2_0 16 rfl rfl)
theorem dJ5_init_2_19 : decode cJ5_init_2 19 = .ok (.ifCond .eq 22, 3) := dk_153 0 22 (dk_at dksJ5_init_2_0 19 rfl rfl)
theorem dJ5_init_2_22 : decode cJ5_init_2 22 = .ok (.aload_n 0, 1) := dk_42 (dk_at dksJ5_init_2_0 22 rfl rfl)
theorem dJ5_init_2_23 : decode cJ5_init_2 23 = .ok (.iconst 0, 1) := dk_3 (dk_at dksJ5_init_2_0 23 rfl rfl)
theorem dJ5_init_2_24 : decode cJ5_init_2 24 = .ok (.putfield 15, 3) := dk_181 0 15 (dk_at dksJ5_init_2_1 0 rfl rfl)
theorem dJ5_init_2_27 : decode cJ5_init_2 27 = .ok (.aload_n 0, 1) := dk_42 (dk_at dksJ5_init_2_1 3 rfl rfl)
theorem dJ5_init_2_28 : decode cJ5_init_2 28 = .ok (.aload_n 3, 1) := dk_45 (dk_at dksJ5_init_2_1 4 rfl rfl)
theorem dJ5_init_2_29 : decode cJ5_init_2 29 = .ok (.iconst 0, 1) := dk_3 (dk_at dksJ5_init_2_1 5 rfl rfl)
theorem dJ5_init_2_30 : decode cJ5_init_2 30 = .ok (.iload 4, 2) := dk_21 4 (dk_at dksJ5_init_2_1 6 rfl rfl)
theorem dJ5_init_2_32 : decode cJ5_init_2 32 = .ok (.invokestatic 54, 3) := dk_184 0 54 (dk_at dksJ5_init_2_1 8 rfl rfl)
theorem dJ5_init_2_35 : decode cJ5_init_2 35 = .ok (.putfield 9, 3) := dk_181 0 9 (dk_at dksJ5_init_2_1 11 rfl rfl)
theorem dJ5_init_2_38 : decode cJ5_init_2 38 = .ok (.goto 59, 3) := dk_167 0 59 (dk_at dksJ5_init_2_1 14 rfl rfl)
theorem dJ5_init_2_41 : decode cJ5_init_2 41 = .ok (.getstatic 38, 3) := dk_178 0 38 (dk_at dksJ5_init_2_1 17 rfl rfl)
theorem dJ5_init_2_44 : decode cJ5_init_2 44 = .ok (.ifCond .eq 35, 3) := dk_153 0 35 (dk_at dksJ5_init_2_1 20 rfl rfl)
theorem dJ5_init_2_47 : decode cJ5_init_2 47 = .ok (.aload_n 1, 1) := dk_43 (dk_at dksJ5_init_2_1 23 rfl rfl)
theorem dJ5_init_2_48 : decode cJ5_init_2 48 = .ok (.getfield 1048, 3) := dk_180 4 24 (dk_at dksJ5_init_2_2 0 rfl rfl)
theorem dJ5_init_2_51 : decode cJ5_init_2 51 = .ok (.ifCond .eq 28, 3) := dk_153 0 28 (dk_at dksJ5_init_2_2 3 rfl rfl)
theorem dJ5_init_2_54 : decode cJ5_init_2 54 = .ok (.aload_n 0, 1) := dk_42 (dk_at dksJ5_init_2_2 6 rfl rfl)
theorem dJ5_init_2_55 : decode cJ5_init_2 55 = .ok (.aload_n 3, 1) := dk_45 (dk_at dksJ5_init_2_2 7 rfl rfl)
theorem dJ5_init_2_56 : decode cJ5_init_2 56 = .ok (.iconst 0, 1) := dk_3 (dk_at dksJ5_init_2_2 8 rfl rfl)
theorem dJ5_init_2_57 : decode cJ5_init_2 57 = .ok (.iload 4, 2) := dk_21 4 (dk_at dksJ5_init_2_2 9 rfl rfl)
theorem dJ5_init_2_59 : decode cJ5_init_2 59 = .ok (.invokestatic 1051, 3) := dk_184 4 27 (dk_at dksJ5_init_2_2 11 rfl rfl)
theorem dJ5_init_2_62 : decode cJ5_init_2 62 = .ok (.putfield 9, 3) := dk_181 0 9 (dk_at dksJ5_init_2_2 14 rfl rfl)
theorem dJ5_init_2_65 : decode cJ5_init_2 65 = .ok (.aload_n 0, 1) := dk_42 (dk_at dksJ5_init_2_2 17 rfl rfl)
theorem dJ5_init_2_66 : decode cJ5_init_2 66 = .ok (.aload_n 0, 1) := dk_42 (dk_at dksJ5_init_2_2 18 rfl rfl)
theorem dJ5_init_2_67 : decode cJ5_init_2 67 = .ok (.getfield 9, 3) := dk_180 0 9 (dk_at dksJ5_init_2_2 19 rfl rfl)
theorem dJ5_init_2_70 : decode cJ5_init_2 70 = .ok (.iload 4, 2) := dk_21 4 (dk_at dksJ5_init_2_2 22 rfl rfl)
theorem dJ5_init_2_72 : decode cJ5_init_2 72 = .ok (.invokestatic 47, 3) := dk_184 0 47 (dk_at dksJ5_init_2_3 0 rfl rfl)
theorem dJ5_init_2_75 : decode cJ5_init_2 75 = .ok (.putfield 15, 3) := dk_181 0 15 (dk_at dksJ5_init_2_3 3 rfl rfl)
theorem dJ5_init_2_78 : decode cJ5_init_2 78 = .ok (.return_, 1) := dk_177 (dk_at dksJ5_init_2_3 6 rfl rfl)
theorem dJ5_init_2_79 : decode cJ5_init_2 79 = .ok (.aload_n 0, 1) := dk_42 (dk_at dksJ5_init_2_3 7 rfl rfl)
theorem dJ5_init_2_80 : decode cJ5_init_2 80 = .ok (.iconst 1, 1) := dk_4 (dk_at dksJ5_init_2_3 8 rfl rfl)
theorem dJ5_init_2_81 : decode cJ5_init_2 81 = .ok (.putfield 15, 3) := dk_181 0 15 (dk_at dksJ5_init_2_3 9 rfl rfl)
theorem dJ5_init_2_84 : decode cJ5_init_2 84 = .ok (.aload_n 0, 1) := dk_42 (dk_at dksJ5_init_2_3 12 rfl rfl)
theorem dJ5_init_2_85 : decode cJ5_init_2 85 = .ok (.aload_n 3, 1) := dk_45 (dk_at dksJ5_init_2_3 13 rfl rfl)
theorem dJ5_init_2_86 : decode cJ5_init_2 86 = .ok (.iconst 0, 1) := dk_3 (dk_at dksJ5_init_2_3 14 rfl rfl)
theorem dJ5_init_2_87 : decode cJ5_init_2 87 = .ok (.iload 4, 2) := dk_21 4 (dk_at dksJ5_init_2_3 15 rfl rfl)
theorem dJ5_init_2_89 : decode cJ5_init_2 89 = .ok (.iconst 1, 1) := dk_4 (dk_at dksJ5_init_2_3 17 rfl rfl)
theorem dJ5_init_2_90 : decode cJ5_init_2 90 = .ok (.ishl, 1) := dk_120 (dk_at dksJ5_init_2_3 18 rfl rfl)
theorem dJ5_init_2_91 : decode cJ5_init_2 91 = .ok (.invokestatic 54, 3) := dk_184 0 54 (dk_at dksJ5_init_2_3 19 rfl rfl)
theorem dJ5_init_2_94 : decode cJ5_init_2 94 = .ok (.putfield 9, 3) := dk_181 0 9 (dk_at dksJ5_init_2_4 0 rfl rfl)
theorem dJ5_init_2_97 : decode cJ5_init_2 97 = .ok (.return_, 1) := dk_177 (dk_at dksJ5_init_2_4 3 rfl rfl)
abbrev cJ5_equals : ByteArray := prog_27_method_66_code
def yJ5_equals : MethodName := ⟨RJ5, "equals", "(Ljava/lang/Object;)Z"⟩
def dkwJ5_equals_2 : List UInt8 := [184, 2, 29, 153, 0, 7, 4, 167, 0, 4, 3, 172]
abbrev dktJ5_equals_2 : List UInt8 := dkwJ5_equals_2 ++ []
def dkwJ5_equals_1 : List UInt8 := [153, 0, 14, 42, 180, 0, 15, 44, 180, 0, 15, 160, 0, 21, 42, 180, 0, 9, 44, 180, 0, 9]
abbrev dktJ5_equals_1 : List UInt8 := dkwJ5_equals_1 ++ dktJ5_equals_2
def dkwJ5_equals_0 : List UInt8 := [42, 43, 166, 0, 5, 4, 172, 43, 193, 0, 10, 153, 0, 43, 43, 192, 0, 10, 77, 178, 0, 38]
abbrev dktJ5_equals_0 : List UInt8 := dkwJ5_equals_0 ++ dktJ5_equals_1
theorem dksJ5_equals_0 : cJ5_equals.data.toList.drop 0 = dktJ5_equals_0 := by decide +kernel
theorem dksJ5_equals_1 : cJ5_equals.data.toList.drop 22 = dktJ5_equals_1 := dk_seg dksJ5_equals_0 22 rfl rfl
theorem dksJ5_equals_2 : cJ5_equals.data.toList.drop 44 = dktJ5_equals_2 := dk_seg dksJ5_equals_1 22 rfl rfl
theorem dJ5_equals_0 : decode cJ5_equals 0 = .ok (.aload_n 0, 1) := dk_42 (dk_at dksJ5_equals_0 0 rfl rfl)
theorem dJ5_equals_1 : decode cJ5_equals 1 = .ok (.aload_n 1, 1) := dk_43 (dk_at dksJ5_equals_0 1 rfl rfl)
theorem dJ5_equals_2 : decode cJ5_equals 2 = .ok (.if_acmp .ne 5, 3) := dk_166 0 5 (dk_at dksJ5_equals_0 2 rfl rfl)
theorem dJ5_equals_5 : decode cJ5_equals 5 = .ok (.iconst 1, 1) := dk_4 (dk_at dksJ5_equals_0 5 rfl rfl)
theorem dJ5_equals_6 : decode cJ5_equals 6 = .ok (.ireturn, 1) := dk_172 (dk_at dksJ5_equals_0 6 rfl rfl)
theorem dJ5_equals_7 : decode cJ5_equals 7 = .ok (.aload_n 1, 1) := dk_43 (dk_at dksJ5_equals_0 7 rfl rfl)
theorem dJ5_equals_8 : decode cJ5_equals 8 = .ok (.instanceof 10, 3) := dk_193 0 10 (dk_at dksJ5_equals_0 8 rfl rfl)
theorem dJ5_equals_11 : decode cJ5_equals 11 = .ok (.ifCond .eq 43, 3) := dk_153 0 43 (dk_at dksJ5_equals_0 11 rfl rfl)
theorem dJ5_equals_14 : decode cJ5_equals 14 = .ok (.aload_n 1, 1) := dk_43 (dk_at dksJ5_equals_0 14 rfl rfl)
theorem dJ5_equals_15 : decode cJ5_equals 15 = .ok (.checkcast 10, 3) := dk_192 0 10 (dk_at dksJ5_equals_0 15 rfl rfl)
theorem dJ5_equals_18 : decode cJ5_equals 18 = .ok (.astore_n 2, 1) := dk_77 (dk_at dksJ5_equals_0 18 rfl rfl)
theorem dJ5_equals_19 : decode cJ5_equals 19 = .ok (.getstatic 38, 3) := dk_178 0 38 (dk_at dksJ5_equals_0 19 rfl rfl)
theorem dJ5_equals_22 : decode cJ5_equals 22 = .ok (.ifCond .eq 14, 3) := dk_153 0 14 (dk_at dksJ5_equals_1 0 rfl rfl)
theorem dJ5_equals_25 : decode cJ5_equals 25 = .ok (.aload_n 0, 1) := dk_42 (dk_at dksJ5_equals_1 3 rfl rfl)
theorem dJ5_equals_26 : decode cJ5_equals 26 = .ok (.getfield 15, 3) := dk_180 0 15 (dk_at dksJ5_equals_1 4 rfl rfl)
theorem dJ5_equals_29 : decode cJ5_equals 29 = .ok (.aload_n 2, 1) := dk_44 (dk_at dksJ5_equals_1 7 rfl rfl)
theorem dJ5_equals_30 : decode cJ5_equals 30 = .ok (.getfield 15, 3) := dk_180 0 15 (dk_at dksJ5_equals_1 8 rfl rfl)
theorem dJ5_equals_33 : decode cJ5_equals 33 = .ok (.if_icmp .ne 21, 3) := dk_160 0 21 (dk_at dksJ5_equals_1 11 rfl rfl)
theorem dJ5_equals_36 : decode cJ5_equals 36 = .ok (.aload_n 0, 1) := dk_42 (dk_at dksJ5_equals_1 14 rfl rfl)
theorem dJ5_equals_37 : decode cJ5_equals 37 = .ok (.getfield 9, 3) := dk_180 0 9 (dk_at dksJ5_equals_1 15 rfl rfl)
theorem dJ5_equals_40 : decode cJ5_equals 40 = .ok (.aload_n 2, 1) := dk_44 (dk_at dksJ5_equals_1 18 rfl rfl)
theorem dJ5_equals_41 : decode cJ5_equals 41 = .ok (.getfield 9, 3) := dk_180 0 9 (dk_at dksJ5_equals_1 19 rfl rfl)
theorem dJ5_equals_44 : decode cJ5_equals 44 = .ok (.invokestatic 541, 3) := dk_184 2 29 (dk_at dksJ5_equals_2 0 rfl rfl)
theorem dJ5_equals_47 : decode cJ5_equals 47 = .ok (.ifCond .eq 7, 3) := dk_153 0 7 (dk_at dksJ5_equals_2 3 rfl rfl)
theorem dJ5_equals_50 : decode cJ5_equals 50 = .ok (.iconst 1, 1) := dk_4 (dk_at dksJ5_equals_2 6 rfl rfl)
theorem dJ5_equals_51 : decode cJ5_equals 51 = .ok (.goto 4, 3) := dk_167 0 4 (dk_at dksJ5_equals_2 7 rfl rfl)
theorem dJ5_equals_54 : decode cJ5_equals 54 = .ok (.iconst 0, 1) := dk_3 (dk_at dksJ5_equals_2 10 rfl rfl)
theorem dJ5_equals_55 : decode cJ5_equals 55 = .ok (.ireturn, 1) := dk_172 (dk_at dksJ5_equals_2 11 rfl rfl)
abbrev cJ5_isEmpty : ByteArray := prog_27_method_55_code
def yJ5_isEmpty : MethodName := ⟨RJ5, "isEmpty", "()Z"⟩
def dkwJ5_isEmpty_0 : List UInt8 := [42, 180, 0, 9, 190, 154, 0, 7, 4, 167, 0, 4, 3, 172]
abbrev dktJ5_isEmpty_0 : List UInt8 := dkwJ5_isEmpty_0 ++ []
theorem dksJ5_isEmpty_0 : cJ5_isEmpty.data.toList.drop 0 = dktJ5_isEmpty_0 := by decide +kernel
theorem dJ5_isEmpty_0 : decode cJ5_isEmpty 0 = .ok (.aload_n 0, 1) := dk_42 (dk_at dksJ5_isEmpty_0 0 rfl rfl)
theorem dJ5_isEmpty_1 : decode cJ5_isEmpty 1 = .ok (.getfield 9, 3) := dk_180 0 9 (dk_at dksJ5_isEmpty_0 1 rfl rfl)
theorem dJ5_isEmpty_4 : decode cJ5_isEmpty 4 = .ok (.arraylength, 1) := dk_190 (dk_at dksJ5_isEmpty_0 4 rfl rfl)
theorem dJ5_isEmpty_5 : decode cJ5_isEmpty 5 = .ok (.ifCond .ne 7, 3) := dk_154 0 7 (dk_at dksJ5_isEmpty_0 5 rfl rfl)
theorem dJ5_isEmpty_8 : decode cJ5_isEmpty 8 = .ok (.iconst 1, 1) := dk_4 (dk_at dksJ5_isEmpty_0 8 rfl rfl)
theorem dJ5_isEmpty_9 : decode cJ5_isEmpty 9 = .ok (.goto 4, 3) := dk_167 0 4 (dk_at dksJ5_isEmpty_0 9 rfl rfl)
theorem dJ5_isEmpty_12 : decode cJ5_isEmpty 12 = .ok (.iconst 0, 1) := dk_3 (dk_at dksJ5_isEmpty_0 12 rfl rfl)
theorem dJ5_isEmpty_13 : decode cJ5_isEmpty 13 = .ok (.ireturn, 1) := dk_172 (dk_at dksJ5_isEmpty_0 13 rfl rfl)
abbrev cJ5_length : ByteArray := prog_27_method_54_code
def yJ5_length : MethodName := ⟨RJ5, "length", "()I"⟩
def dkwJ5_length_0 : List UInt8 := [42, 180, 0, 9, 190, 42, 182, 1, 79, 122, 172]
abbrev dktJ5_length_0 : List UInt8 := dkwJ5_length_0 ++ []
theorem dksJ5_length_0 : cJ5_length.data.toList.drop 0 = dktJ5_length_0 := by decide +kernel
theorem dJ5_length_0 : decode cJ5_length 0 = .ok (.aload_n 0, 1) := dk_42 (dk_at dksJ5_length_0 0 rfl rfl)
theorem dJ5_length_1 : decode cJ5_length 1 = .ok (.getfield 9, 3) := dk_180 0 9 (dk_at dksJ5_length_0 1 rfl rfl)
theorem dJ5_length_4 : decode cJ5_length 4 = .ok (.arraylength, 1) := dk_190 (dk_at dksJ5_length_0 4 rfl rfl)
theorem dJ5_length_5 : decode cJ5_length 5 = .ok (.aload_n 0, 1) := dk_42 (dk_at dksJ5_length_0 5 rfl rfl)
theorem dJ5_length_6 : decode cJ5_length 6 = .ok (.invokevirtual 335, 3) := dk_182 1 79 (dk_at dksJ5_length_0 6 rfl rfl)
theorem dJ5_length_9 : decode cJ5_length 9 = .ok (.ishr, 1) := dk_122 (dk_at dksJ5_length_0 9 rfl rfl)
theorem dJ5_length_10 : decode cJ5_length 10 = .ok (.ireturn, 1) := dk_172 (dk_at dksJ5_length_0 10 rfl rfl)
abbrev cJ5_coder : ByteArray := prog_27_method_152_code
def yJ5_coder : MethodName := ⟨RJ5, "coder", "()B"⟩
def dkwJ5_coder_0 : List UInt8 := [178, 0, 38, 153, 0, 10, 42, 180, 0, 15, 167, 0, 4, 4, 172]
abbrev dktJ5_coder_0 : List UInt8 := dkwJ5_coder_0 ++ []
theorem dksJ5_coder_0 : cJ5_coder.data.toList.drop 0 = dktJ5_coder_0 := by decide +kernel
theorem dJ5_coder_0 : decode cJ5_coder 0 = .ok (.getstatic 38, 3) := dk_178 0 38 (dk_at dksJ5_coder_0 0 rfl rfl)
theorem dJ5_coder_3 : decode cJ5_coder 3 = .ok (.ifCond .eq 10, 3) := dk_153 0 10 (dk_at dksJ5_coder_0 3 rfl rfl)
theorem dJ5_coder_6 : decode cJ5_coder 6 = .ok (.aload_n 0, 1) := dk_42 (dk_at dksJ5_coder_0 6 rfl rfl)
theorem dJ5_coder_7 : decode cJ5_coder 7 = .ok (.getfield 15, 3) := dk_180 0 15 (dk_at dksJ5_coder_0 7 rfl rfl)
theorem dJ5_coder_10 : decode cJ5_coder 10 = .ok (.goto 4, 3) := dk_167 0 4 (dk_at dksJ5_coder_0 10 rfl rfl)
theorem dJ5_coder_13 : decode cJ5_coder 13 = .ok (.iconst 1, 1) := dk_4 (dk_at dksJ5_coder_0 13 rfl rfl)
theorem dJ5_coder_14 : decode cJ5_coder 14 = .ok (.ireturn, 1) := dk_172 (dk_at dksJ5_coder_0 14 rfl rfl)
abbrev cJ5_charAt : ByteArray := prog_27_method_56_code
def yJ5_charAt : MethodName := ⟨RJ5, "charAt", "(I)C"⟩
def dkwJ5_charAt_1 : List UInt8 := [172]
abbrev dktJ5_charAt_1 : List UInt8 := dkwJ5_charAt_1 ++ []
def dkwJ5_charAt_0 : List UInt8 := [42, 182, 1, 236, 153, 0, 12, 42, 180, 0, 9, 27, 184, 1, 239, 172, 42, 180, 0, 9, 27, 184, 1, 242]
abbrev dktJ5_charAt_0 : List UInt8 := dkwJ5_charAt_0 ++ dktJ5_charAt_1
theorem dksJ5_charAt_0 : cJ5_charAt.data.toList.drop 0 = dktJ5_charAt_0 := by decide +kernel
theorem dksJ5_charAt_1 : cJ5_charAt.data.toList.drop 24 = dktJ5_charAt_1 := dk_seg dksJ5_charAt_0 24 rfl rfl
theorem dJ5_charAt_0 : decode cJ5_charAt 0 = .ok (.aload_n 0, 1) := dk_42 (dk_at dksJ5_charAt_0 0 rfl rfl)
theorem dJ5_charAt_1 : decode cJ5_charAt 1 = .ok (.invokevirtual 492, 3) := dk_182 1 236 (dk_at dksJ5_charAt_0 1 rfl rfl)
theorem dJ5_charAt_4 : decode cJ5_charAt 4 = .ok (.ifCond .eq 12, 3) := dk_153 0 12 (dk_at dksJ5_charAt_0 4 rfl rfl)
theorem dJ5_charAt_7 : decode cJ5_charAt 7 = .ok (.aload_n 0, 1) := dk_42 (dk_at dksJ5_charAt_0 7 rfl rfl)
theorem dJ5_charAt_8 : decode cJ5_charAt 8 = .ok (.getfield 9, 3) := dk_180 0 9 (dk_at dksJ5_charAt_0 8 rfl rfl)
theorem dJ5_charAt_11 : decode cJ5_charAt 11 = .ok (.iload_n 1, 1) := dk_27 (dk_at dksJ5_charAt_0 11 rfl rfl)
theorem dJ5_charAt_12 : decode cJ5_charAt 12 = .ok (.invokestatic 495, 3) := dk_184 1 239 (dk_at dksJ5_charAt_0 12 rfl rfl)
theorem dJ5_charAt_15 : decode cJ5_charAt 15 = .ok (.ireturn, 1) := dk_172 (dk_at dksJ5_charAt_0 15 rfl rfl)
theorem dJ5_charAt_16 : decode cJ5_charAt 16 = .ok (.aload_n 0, 1) := dk_42 (dk_at dksJ5_charAt_0 16 rfl rfl)
theorem dJ5_charAt_17 : decode cJ5_charAt 17 = .ok (.getfield 9, 3) := dk_180 0 9 (dk_at dksJ5_charAt_0 17 rfl rfl)
theorem dJ5_charAt_20 : decode cJ5_charAt 20 = .ok (.iload_n 1, 1) := dk_27 (dk_at dksJ5_charAt_0 20 rfl rfl)
theorem dJ5_charAt_21 : decode cJ5_charAt 21 = .ok (.invokestatic 498, 3) := dk_184 1 242 (dk_at dksJ5_charAt_0 21 rfl rfl)
theorem dJ5_charAt_24 : decode cJ5_charAt 24 = .ok (.ireturn, 1) := dk_172 (dk_at dksJ5_charAt_1 0 rfl rfl)
abbrev cJ5_isLatin1 : ByteArray := prog_27_method_154_code
def yJ5_isLatin1 : MethodName := ⟨RJ5, "isLatin1", "()Z"⟩
def dkwJ5_isLatin1_0 : List UInt8 := [178, 0, 38, 153, 0, 14, 42, 180, 0, 15, 154, 0, 7, 4, 167, 0, 4, 3, 172]
abbrev dktJ5_isLatin1_0 : List UInt8 := dkwJ5_isLatin1_0 ++ []
theorem dksJ5_isLatin1_0 : cJ5_isLatin1.data.toList.drop 0 = dktJ5_isLatin1_0 := by decide +kernel
theorem dJ5_isLatin1_0 : decode cJ5_isLatin1 0 = .ok (.getstatic 38, 3) := dk_178 0 38 (dk_at dksJ5_isLatin1_0 0 rfl rfl)
theorem dJ5_isLatin1_3 : decode cJ5_isLatin1 3 = .ok (.ifCond .eq 14, 3) := dk_153 0 14 (dk_at dksJ5_isLatin1_0 3 rfl rfl)
theorem dJ5_isLatin1_6 : decode cJ5_isLatin1 6 = .ok (.aload_n 0, 1) := dk_42 (dk_at dksJ5_isLatin1_0 6 rfl rfl)
theorem dJ5_isLatin1_7 : decode cJ5_isLatin1 7 = .ok (.getfield 15, 3) := dk_180 0 15 (dk_at dksJ5_isLatin1_0 7 rfl rfl)
theorem dJ5_isLatin1_10 : decode cJ5_isLatin1 10 = .ok (.ifCond .ne 7, 3) := dk_154 0 7 (dk_at dksJ5_isLatin1_0 10 rfl rfl)
theorem dJ5_isLatin1_13 : decode cJ5_isLatin1 13 = .ok (.iconst 1, 1) := dk_4 (dk_at dksJ5_isLatin1_0 13 rfl rfl)
theorem dJ5_isLatin1_14 : decode cJ5_isLatin1 14 = .ok (.goto 4, 3) := dk_167 0 4 (dk_at dksJ5_isLatin1_0 14 rfl rfl)
theorem dJ5_isLatin1_17 : decode cJ5_isLatin1 17 = .ok (.iconst 0, 1) := dk_3 (dk_at dksJ5_isLatin1_0 17 rfl rfl)
theorem dJ5_isLatin1_18 : decode cJ5_isLatin1 18 = .ok (.ireturn, 1) := dk_172 (dk_at dksJ5_isLatin1_0 18 rfl rfl)
theorem q87 : (Jvm.Cond.initialized "java/lang/String") ∈ lw_all := lw_g (lw_at lw_m1 11 rfl) rfl
theorem q327 : (Jvm.Cond.laysStatic "java/lang/String" "COMPACT_STRINGS" "Z") ∈ lw_tbl := lw_at lw_m2 11 rfl
theorem q337 : (Jvm.Cond.fieldLink "java/lang/String" (1048 : Nat) "java/lang/AbstractStringBuilder" "maybeLatin1" "Z") ∈ lw_all := lw_g (lw_at lw_m2 21 rfl) rfl
theorem q415 : (Jvm.Cond.static ({ cls := "java/lang/String", name := "checkBoundsOffCount", desc := "(III)I" } : Jvm.MethodName)) ∈ lw_all := lw_g (lw_at lw_m2 99 rfl) rfl
theorem q416 : (Jvm.Cond.code ({ cls := "java/lang/String", name := "checkBoundsOffCount", desc := "(III)I" } : Jvm.MethodName) prog_27_method_157_code (3 : Nat) (Option.some Jvm.ClassFile.FieldType.int)) ∈ lw_all := lw_g (lw_at lw_m2 100 rfl) rfl
theorem q417 : (Jvm.Cond.fieldLink "java/lang/String" (1053 : Nat) "jdk/internal/util/Preconditions" "SIOOBE_FORMATTER" "Ljava/util/function/BiFunction;") ∈ lw_all := lw_g (lw_at lw_m2 101 rfl) rfl
theorem q419 : (Jvm.Cond.methodLink "java/lang/String" (1065 : Nat) ({ cls := "jdk/internal/util/Preconditions", name := "checkFromIndexSize", desc := "(IIILjava/util/function/BiFunction;)I" } : Jvm.MethodName)) ∈ lw_all := lw_g (lw_at lw_m2 103 rfl) rfl
theorem q438 : (Jvm.Cond.static ({ cls := "java/lang/String", name := "checkIndex", desc := "(II)V" } : Jvm.MethodName)) ∈ lw_all := lw_g (lw_at lw_m2 122 rfl) rfl
theorem q439 : (Jvm.Cond.code ({ cls := "java/lang/String", name := "checkIndex", desc := "(II)V" } : Jvm.MethodName) prog_27_method_155_code (2 : Nat) (Option.none : Option Jvm.ClassFile.FieldType)) ∈ lw_all := lw_g (lw_at lw_m2 123 rfl) rfl
theorem q440 : (Jvm.Cond.methodLink "java/lang/String" (1059 : Nat) ({ cls := "jdk/internal/util/Preconditions", name := "checkIndex", desc := "(IILjava/util/function/BiFunction;)I" } : Jvm.MethodName)) ∈ lw_all := lw_g (lw_at lw_m2 124 rfl) rfl
theorem q448 : (Jvm.Cond.instantiable "java/lang/String" (4 : Nat)) ∈ lw_all := lw_g (lw_at lw_m2 132 rfl) rfl
theorem q450 : (Jvm.Cond.instanceMethod ({ cls := "java/lang/String", name := "<init>", desc := "(Ljava/lang/StringBuilder;)V" } : Jvm.MethodName)) ∈ lw_all := lw_g (lw_at lw_m2 134 rfl) rfl
theorem q451 : (Jvm.Cond.code ({ cls := "java/lang/String", name := "<init>", desc := "(Ljava/lang/StringBuilder;)V" } : Jvm.MethodName) prog_27_method_53_code (2 : Nat) (Option.none : Option Jvm.ClassFile.FieldType)) ∈ lw_all := lw_g (lw_at lw_m2 135 rfl) rfl
theorem q452 : (Jvm.Cond.methodLink "java/lang/String" (489 : Nat) ({ cls := "java/lang/String", name := "<init>", desc := "(Ljava/lang/AbstractStringBuilder;Ljava/lang/Void;)V" } : Jvm.MethodName)) ∈ lw_all := lw_g (lw_at lw_m2 136 rfl) rfl
theorem q453 : (Jvm.Cond.instanceMethod ({ cls := "java/lang/String", name := "<init>", desc := "(Ljava/lang/AbstractStringBuilder;Ljava/lang/Void;)V" } : Jvm.MethodName)) ∈ lw_all := lw_g (lw_at lw_m2 137 rfl) rfl
theorem q454 : (Jvm.Cond.code ({ cls := "java/lang/String", name := "<init>", desc := "(Ljava/lang/AbstractStringBuilder;Ljava/lang/Void;)V" } : Jvm.MethodName) prog_27_method_150_code (5 : Nat) (Option.none : Option Jvm.ClassFile.FieldType)) ∈ lw_all := lw_g (lw_at lw_m2 138 rfl) rfl
theorem q455 : (Jvm.Cond.methodLink "java/lang/String" (1 : Nat) ({ cls := "java/lang/Object", name := "<init>", desc := "()V" } : Jvm.MethodName)) ∈ lw_all := lw_g (lw_at lw_m2 139 rfl) rfl
theorem q456 : (Jvm.Cond.methodLink "java/lang/String" (552 : Nat) ({ cls := "java/lang/AbstractStringBuilder", name := "getValue", desc := "()[B" } : Jvm.MethodName)) ∈ lw_all := lw_g (lw_at lw_m2 140 rfl) rfl
theorem q461 : (Jvm.Cond.methodLink "java/lang/String" (549 : Nat) ({ cls := "java/lang/AbstractStringBuilder", name := "length", desc := "()I" } : Jvm.MethodName)) ∈ lw_all := lw_g (lw_at lw_m2 145 rfl) rfl
theorem q469 : (Jvm.Cond.methodLink "java/lang/String" (1047 : Nat) ({ cls := "java/lang/AbstractStringBuilder", name := "isLatin1", desc := "()Z" } : Jvm.MethodName)) ∈ lw_all := lw_g (lw_at lw_m2 153 rfl) rfl
theorem q470 : (Jvm.Cond.methodLink "java/lang/String" (54 : Nat) ({ cls := "java/util/Arrays", name := "copyOfRange", desc := "([BII)[B" } : Jvm.MethodName)) ∈ lw_all := lw_g (lw_at lw_m2 154 rfl) rfl
theorem q479 : (Jvm.Cond.fieldLink "java/lang/String" (38 : Nat) "java/lang/String" "COMPACT_STRINGS" "Z") ∈ lw_all := lw_g (lw_at lw_m2 163 rfl) rfl
theorem q480 : (Jvm.Cond.methodLink "java/lang/String" (1051 : Nat) ({ cls := "java/lang/StringUTF16", name := "compress", desc := "([BII)[B" } : Jvm.MethodName)) ∈ lw_all := lw_g (lw_at lw_m2 164 rfl) rfl
theorem q490 : (Jvm.Cond.methodLink "java/lang/String" (47 : Nat) ({ cls := "java/lang/StringUTF16", name := "coderFromArrayLen", desc := "([BI)B" } : Jvm.MethodName)) ∈ lw_all := lw_g (lw_at lw_m2 174 rfl) rfl
theorem q493 : (Jvm.Cond.fieldLink "java/lang/String" (9 : Nat) "java/lang/String" "value" "[B") ∈ lw_all := lw_g (lw_at lw_m2 177 rfl) rfl
theorem q494 : (Jvm.Cond.fieldLink "java/lang/String" (15 : Nat) "java/lang/String" "coder" "B") ∈ lw_all := lw_g (lw_at lw_m2 178 rfl) rfl
theorem q495 : (Jvm.Cond.laysFinal "java/lang/String" "java/lang/String" "value" "[B") ∈ lw_all := lw_g (lw_at lw_m2 179 rfl) rfl
theorem q496 : (Jvm.Cond.soleField "java/lang/String" "value") ∈ lw_all := lw_g (lw_at lw_m2 180 rfl) rfl
theorem q497 : (Jvm.Cond.laysFinal "java/lang/String" "java/lang/String" "coder" "B") ∈ lw_all := lw_g (lw_at lw_m2 181 rfl) rfl
theorem q498 : (Jvm.Cond.soleField "java/lang/String" "coder") ∈ lw_all := lw_g (lw_at lw_m2 182 rfl) rfl
theorem q499 : (Jvm.Cond.lays "java/lang/String" "java/lang/String" "hash" "I") ∈ lw_all := lw_g (lw_at lw_m2 183 rfl) rfl
theorem q500 : (Jvm.Cond.soleField "java/lang/String" "hash") ∈ lw_all := lw_g (lw_at lw_m2 184 rfl) rfl
theorem q501 : (Jvm.Cond.lays "java/lang/String" "java/lang/String" "hashIsZero" "Z") ∈ lw_all := lw_g (lw_at lw_m2 185 rfl) rfl
theorem q502 : (Jvm.Cond.soleField "java/lang/String" "hashIsZero") ∈ lw_all := lw_g (lw_at lw_m2 186 rfl) rfl
theorem q503 : (Jvm.Cond.superclass "java/lang/String" "java/lang/Object") ∈ lw_all := lw_g (lw_at lw_m2 187 rfl) rfl
theorem q507 : (Jvm.Cond.instanceMethod ({ cls := "java/lang/String", name := "equals", desc := "(Ljava/lang/Object;)Z" } : Jvm.MethodName)) ∈ lw_all := lw_g (lw_at lw_m2 191 rfl) rfl
theorem q508 : (Jvm.Cond.selects "java/lang/String" ({ cls := "java/lang/String", name := "equals", desc := "(Ljava/lang/Object;)Z" } : Jvm.MethodName) ({ cls := "java/lang/String", name := "equals", desc := "(Ljava/lang/Object;)Z" } : Jvm.MethodName)) ∈ lw_all := lw_g (lw_at lw_m2 192 rfl) rfl
theorem q509 : (Jvm.Cond.code ({ cls := "java/lang/String", name := "equals", desc := "(Ljava/lang/Object;)Z" } : Jvm.MethodName) prog_27_method_66_code (3 : Nat) (Option.some Jvm.ClassFile.FieldType.boolean)) ∈ lw_all := lw_g (lw_at lw_m2 193 rfl) rfl
theorem q510 : (Jvm.Cond.classLink "java/lang/String" (10 : Nat) "java/lang/String") ∈ lw_all := lw_g (lw_at lw_m2 194 rfl) rfl
theorem q511 : (Jvm.Cond.methodLink "java/lang/String" (541 : Nat) ({ cls := "java/lang/StringLatin1", name := "equals", desc := "([B[B)Z" } : Jvm.MethodName)) ∈ lw_all := lw_g (lw_at lw_m2 195 rfl) rfl
theorem q590 : (Jvm.Cond.instanceMethod ({ cls := "java/lang/String", name := "isEmpty", desc := "()Z" } : Jvm.MethodName)) ∈ lw_all := lw_g (lw_at lw_m3 34 rfl) rfl
theorem q591 : (Jvm.Cond.selects "java/lang/String" ({ cls := "java/lang/String", name := "isEmpty", desc := "()Z" } : Jvm.MethodName) ({ cls := "java/lang/String", name := "isEmpty", desc := "()Z" } : Jvm.MethodName)) ∈ lw_all := lw_g (lw_at lw_m3 35 rfl) rfl
theorem q592 : (Jvm.Cond.code ({ cls := "java/lang/String", name := "isEmpty", desc := "()Z" } : Jvm.MethodName) prog_27_method_55_code (1 : Nat) (Option.some Jvm.ClassFile.FieldType.boolean)) ∈ lw_all := lw_g (lw_at lw_m3 36 rfl) rfl
theorem q594 : (Jvm.Cond.instanceMethod ({ cls := "java/lang/String", name := "length", desc := "()I" } : Jvm.MethodName)) ∈ lw_all := lw_g (lw_at lw_m3 38 rfl) rfl
theorem q595 : (Jvm.Cond.selects "java/lang/String" ({ cls := "java/lang/String", name := "length", desc := "()I" } : Jvm.MethodName) ({ cls := "java/lang/String", name := "length", desc := "()I" } : Jvm.MethodName)) ∈ lw_all := lw_g (lw_at lw_m3 39 rfl) rfl
theorem q596 : (Jvm.Cond.code ({ cls := "java/lang/String", name := "length", desc := "()I" } : Jvm.MethodName) prog_27_method_54_code (1 : Nat) (Option.some Jvm.ClassFile.FieldType.int)) ∈ lw_all := lw_g (lw_at lw_m3 40 rfl) rfl
theorem q597 : (Jvm.Cond.methodLink "java/lang/String" (335 : Nat) ({ cls := "java/lang/String", name := "coder", desc := "()B" } : Jvm.MethodName)) ∈ lw_all := lw_g (lw_at lw_m3 41 rfl) rfl
theorem q598 : (Jvm.Cond.instanceMethod ({ cls := "java/lang/String", name := "coder", desc := "()B" } : Jvm.MethodName)) ∈ lw_all := lw_g (lw_at lw_m3 42 rfl) rfl
theorem q599 : (Jvm.Cond.selects "java/lang/String" ({ cls := "java/lang/String", name := "coder", desc := "()B" } : Jvm.MethodName) ({ cls := "java/lang/String", name := "coder", desc := "()B" } : Jvm.MethodName)) ∈ lw_all := lw_g (lw_at lw_m3 43 rfl) rfl
theorem q600 : (Jvm.Cond.code ({ cls := "java/lang/String", name := "coder", desc := "()B" } : Jvm.MethodName) prog_27_method_152_code (1 : Nat) (Option.some Jvm.ClassFile.FieldType.byte)) ∈ lw_all := lw_g (lw_at lw_m3 44 rfl) rfl
theorem q602 : (Jvm.Cond.instanceMethod ({ cls := "java/lang/String", name := "charAt", desc := "(I)C" } : Jvm.MethodName)) ∈ lw_all := lw_g (lw_at lw_m3 46 rfl) rfl
theorem q603 : (Jvm.Cond.selects "java/lang/String" ({ cls := "java/lang/String", name := "charAt", desc := "(I)C" } : Jvm.MethodName) ({ cls := "java/lang/String", name := "charAt", desc := "(I)C" } : Jvm.MethodName)) ∈ lw_all := lw_g (lw_at lw_m3 47 rfl) rfl
theorem q604 : (Jvm.Cond.code ({ cls := "java/lang/String", name := "charAt", desc := "(I)C" } : Jvm.MethodName) prog_27_method_56_code (2 : Nat) (Option.some Jvm.ClassFile.FieldType.char)) ∈ lw_all := lw_g (lw_at lw_m3 48 rfl) rfl
theorem q605 : (Jvm.Cond.methodLink "java/lang/String" (492 : Nat) ({ cls := "java/lang/String", name := "isLatin1", desc := "()Z" } : Jvm.MethodName)) ∈ lw_all := lw_g (lw_at lw_m3 49 rfl) rfl
theorem q606 : (Jvm.Cond.instanceMethod ({ cls := "java/lang/String", name := "isLatin1", desc := "()Z" } : Jvm.MethodName)) ∈ lw_all := lw_g (lw_at lw_m3 50 rfl) rfl
theorem q607 : (Jvm.Cond.selects "java/lang/String" ({ cls := "java/lang/String", name := "isLatin1", desc := "()Z" } : Jvm.MethodName) ({ cls := "java/lang/String", name := "isLatin1", desc := "()Z" } : Jvm.MethodName)) ∈ lw_all := lw_g (lw_at lw_m3 51 rfl) rfl
theorem q608 : (Jvm.Cond.code ({ cls := "java/lang/String", name := "isLatin1", desc := "()Z" } : Jvm.MethodName) prog_27_method_154_code (1 : Nat) (Option.some Jvm.ClassFile.FieldType.boolean)) ∈ lw_all := lw_g (lw_at lw_m3 52 rfl) rfl
theorem q609 : (Jvm.Cond.methodLink "java/lang/String" (495 : Nat) ({ cls := "java/lang/StringLatin1", name := "charAt", desc := "([BI)C" } : Jvm.MethodName)) ∈ lw_all := lw_g (lw_at lw_m3 53 rfl) rfl
theorem q613 : (Jvm.Cond.methodLink "java/lang/String" (498 : Nat) ({ cls := "java/lang/StringUTF16", name := "charAt", desc := "([BI)C" } : Jvm.MethodName)) ∈ lw_all := lw_g (lw_at lw_m3 57 rfl) rfl
theorem q792 : (Jvm.Cond.selects "java/lang/String" ({ cls := "java/lang/Object", name := "getClass", desc := "()Ljava/lang/Class;" } : Jvm.MethodName) ({ cls := "java/lang/Object", name := "getClass", desc := "()Ljava/lang/Class;" } : Jvm.MethodName)) ∈ lw_all := lw_g (lw_at lw_m3 236 rfl) rfl
theorem q1552 : (Jvm.Cond.castable "java/lang/String" "java/lang/Object") ∈ lw_tbl := lw_at lw_m7 36 rfl
theorem in_J5 : ∀ w ∈ wsJ50, w ∈ lw_all := lw_in wsJ50 [495, 497, 499, 501] (by decide +kernel) (by decide +kernel)
/-! java/lang/StringUTF16 -/
set_option maxRecDepth 100000
def RJ6 : String := "java/lang/StringUTF16"
abbrev cJ6_newBytesFor : ByteArray := prog_30_method_2_code
def yJ6_newBytesFor : MethodName := ⟨RJ6, "newBytesFor", "(I)[B"⟩
def dkwJ6_newBytesFor_0 : List UInt8 := [26, 184, 0, 11, 188, 8, 176]
abbrev dktJ6_newBytesFor_0 : List UInt8 := dkwJ6_newBytesFor_0 ++ []
theorem dksJ6_newBytesFor_0 : cJ6_newBytesFor.data.toList.drop 0 = dktJ6_newBytesFor_0 := by decide +kernel
theorem dJ6_newBytesFor_0 : decode cJ6_newBytesFor 0 = .ok (.iload_n 0, 1) := dk_26 (dk_at dksJ6_newBytesFor_0 0 rfl rfl)
theorem dJ6_newBytesFor_1 : decode cJ6_newBytesFor 1 = .ok (.invokestatic 11, 3) := dk_184 0 11 (dk_at dksJ6_newBytesFor_0 1 rfl rfl)
theorem dJ6_newBytesFor_4 : decode cJ6_newBytesFor 4 = .ok (.newarray .byte, 2) := dk_188_8 (dk_at dksJ6_newBytesFor_0 4 rfl rfl)
theorem dJ6_newBytesFor_6 : decode cJ6_newBytesFor 6 = .ok (.areturn, 1) := dk_176 (dk_at dksJ6_newBytesFor_0 6 rfl rfl)
abbrev cJ6_newBytesLength : ByteArray := prog_30_method_3_code
def yJ6_newBytesLength : MethodName := ⟨RJ6, "newBytesLength", "(I)I"⟩
def dkwJ6_newBytesLength_2 : List UInt8 := [182, 0, 32, 182, 0, 37, 183, 0, 41, 191, 26, 4, 120, 172]
abbrev dktJ6_newBytesLength_2 : List UInt8 := dkwJ6_newBytesLength_2 ++ []
def dkwJ6_newBytesLength_1 : List UInt8 := [187, 0, 23, 89, 183, 0, 25, 18, 26, 182, 0, 28, 26, 182, 0, 32, 18, 35, 182, 0, 28, 18, 20]
abbrev dktJ6_newBytesLength_1 : List UInt8 := dkwJ6_newBytesLength_1 ++ dktJ6_newBytesLength_2
def dkwJ6_newBytesLength_0 : List UInt8 := [26, 156, 0, 11, 187, 0, 17, 89, 183, 0, 19, 191, 26, 18, 20, 161, 0, 40, 187, 0, 21, 89]
abbrev dktJ6_newBytesLength_0 : List UInt8 := dkwJ6_newBytesLength_0 ++ dktJ6_newBytesLength_1
theorem dksJ6_newBytesLength_0 : cJ6_newBytesLength.data.toList.drop 0 = dktJ6_newBytesLength_0 := by decide +kernel
theorem dksJ6_newBytesLength_1 : cJ6_newBytesLength.data.toList.drop 22 = dktJ6_newBytesLength_1 := dk_seg dksJ6_newBytesLength_0 22 rfl rfl
theorem dksJ6_newBytesLength_2 : cJ6_newBytesLength.data.toList.drop 45 = dktJ6_newBytesLength_2 := dk_seg dksJ6_newBytesLength_1 23 rfl rfl
theorem dJ6_newBytesLength_0 : decode cJ6_newBytesLength 0 = .ok (.iload_n 0, 1) := dk_26 (dk_at dksJ6_newBytesLength_0 0 rfl rfl)
theorem dJ6_newBytesLength_1 : decode cJ6_newBytesLength 1 = .ok (.ifCond .ge 11, 3) := dk_156 0 11 (dk_at dksJ6_newBytesLength_0 1 rfl rfl)
theorem dJ6_newBytesLength_4 : decode cJ6_newBytesLength 4 = .ok (.new 17, 3) := dk_187 0 17 (dk_at dksJ6_newBytesLength_0 4 rfl rfl)
theorem dJ6_newBytesLength_7 : decode cJ6_newBytesLength 7 = .ok (.dup, 1) := dk_89 (dk_at dksJ6_newBytesLength_0 7 rfl rfl)
theorem dJ6_newBytesLength_8 : decode cJ6_newBytesLength 8 = .ok (.invokespecial 19, 3) := dk_183 0 19 (dk_at dksJ6_newBytesLength_0 8 rfl rfl)
theorem dJ6_newBytesLength_11 : decode cJ6_newBytesLength 11 = .ok (.athrow, 1) := dk_191 (dk_at dksJ6_newBytesLength_0 11 rfl rfl)
theorem dJ6_newBytesLength_12 : decode cJ6_newBytesLength 12 = .ok (.iload_n 0, 1) := dk_26 (dk_at dksJ6_newBytesLength_0 12 rfl rfl)
theorem dJ6_newBytesLength_13 : decode cJ6_newBytesLength 13 = .ok (.ldc 20, 2) := dk_18 20 (dk_at dksJ6_newBytesLength_0 13 rfl rfl)
theorem dJ6_newBytesLength_15 : decode cJ6_newBytesLength 15 = .ok (.if_icmp .lt 40, 3) := dk_161 0 40 (dk_at dksJ6_newBytesLength_0 15 rfl rfl)
theorem dJ6_newBytesLength_18 : decode cJ6_newBytesLength 18 = .ok (.new 21, 3) := dk_187 0 21 (dk_at dksJ6_newBytesLength_0 18 rfl rfl)
theorem dJ6_newBytesLength_21 : decode cJ6_newBytesLength 21 = .ok (.dup, 1) := dk_89 (dk_at dksJ6_newBytesLength_0 21 rfl rfl)
theorem dJ6_newBytesLength_22 : decode cJ6_newBytesLength 22 = .ok (.new 23, 3) := dk_187 0 23 (dk_at dksJ6_newBytesLength_1 0 rfl rfl)
theorem dJ6_newBytesLength_25 : decode cJ6_newBytesLength 25 = .ok (.dup, 1) := dk_89 (dk_at dksJ6_newBytesLength_1 3 rfl rfl)
theorem dJ6_newBytesLength_26 : decode cJ6_newBytesLength 26 = .ok (.invokespecial 25, 3) := dk_183 0 25 (dk_at dksJ6_newBytesLength_1 4 rfl rfl)
theorem dJ6_newBytesLength_29 : decode cJ6_newBytesLength 29 = .ok (.ldc 26, 2) := dk_18 26 (dk_at dksJ6_newBytesLength_1 7 rfl rfl)
theorem dJ6_newBytesLength_31 : decode cJ6_newBytesLength 31 = .ok (.invokevirtual 28, 3) := dk_182 0 28 (dk_at dksJ6_newBytesLength_1 9 rfl rfl)
theorem dJ6_newBytesLength_34 : decode cJ6_newBytesLength 34 = .ok (.iload_n 0, 1) := dk_26 (dk_at dksJ6_newBytesLength_1 12 rfl rfl)
theorem dJ6_newBytesLength_35 : decode cJ6_newBytesLength 35 = .ok (.invokevirtual 32, 3) := dk_182 0 32 (dk_at dksJ6_newBytesLength_1 13 rfl rfl)
theorem dJ6_newBytesLength_38 : decode cJ6_newBytesLength 38 = .ok (.ldc 35, 2) := dk_18 35 (dk_at dksJ6_newBytesLength_1 16 rfl rfl)
theorem dJ6_newBytesLength_40 : decode cJ6_newBytesLength 40 = .ok (.invokevirtual 28, 3) := dk_182 0 28 (dk_at dksJ6_newBytesLength_1 18 rfl rfl)
theorem dJ6_newBytesLength_43 : decode cJ6_newBytesLength 43 = .ok (.ldc 20, 2) := dk_18 20 (dk_at dksJ6_newBytesLength_1 21 rfl rfl)
theorem dJ6_newBytesLength_45 : decode cJ6_newBytesLength 45 = .ok (.invokevirtual 32, 3) := dk_182 0 32 (dk_at dksJ6_newBytesLength_2 0 rfl rfl)
theorem dJ6_newBytesLength_48 : decode cJ6_newBytesLength 48 = .ok (.invokevirtual 37, 3) := dk_182 0 37 (dk_at dksJ6_newBytesLength_2 3 rfl rfl)
theorem dJ6_newBytesLength_51 : decode cJ6_newBytesLength 51 = .ok (.invokespecial 41, 3) := dk_183 0 41 (dk_at dksJ6_newBytesLength_2 6 rfl rfl)
theorem dJ6_newBytesLength_54 : decode cJ6_newBytesLength 54 = .ok (.athrow, 1) := dk_191 (dk_at dksJ6_newBytesLength_2 9 rfl rfl)
theorem dJ6_newBytesLength_55 : decode cJ6_newBytesLength 55 = .ok (.iload_n 0, 1) := dk_26 (dk_at dksJ6_newBytesLength_2 10 rfl rfl)
theorem dJ6_newBytesLength_56 : decode cJ6_newBytesLength 56 = .ok (.iconst 1, 1) := dk_4 (dk_at dksJ6_newBytesLength_2 11 rfl rfl)
theorem dJ6_newBytesLength_57 : decode cJ6_newBytesLength 57 = .ok (.ishl, 1) := dk_120 (dk_at dksJ6_newBytesLength_2 12 rfl rfl)
theorem dJ6_newBytesLength_58 : decode cJ6_newBytesLength 58 = .ok (.ireturn, 1) := dk_172 (dk_at dksJ6_newBytesLength_2 13 rfl rfl)
abbrev cJ6_inflate : ByteArray := prog_30_method_86_code
def yJ6_inflate : MethodName := ⟨RJ6, "inflate", "([BI[BII)V"⟩
def dkwJ6_inflate_1 : List UInt8 := [132, 1, 1, 51, 17, 0, 255, 126, 184, 0, 111, 132, 5, 1, 167, 255, 228, 177]
abbrev dktJ6_inflate_1 : List UInt8 := dkwJ6_inflate_1 ++ []
def dkwJ6_inflate_0 : List UInt8 := [29, 21, 4, 44, 184, 0, 173, 3, 54, 5, 21, 5, 21, 4, 162, 0, 27, 44, 29, 132, 3, 1, 42, 27]
abbrev dktJ6_inflate_0 : List UInt8 := dkwJ6_inflate_0 ++ dktJ6_inflate_1
theorem dksJ6_inflate_0 : cJ6_inflate.data.toList.drop 0 = dktJ6_inflate_0 := by decide +kernel
theorem dksJ6_inflate_1 : cJ6_inflate.data.toList.drop 24 = dktJ6_inflate_1 := dk_seg dksJ6_inflate_0 24 rfl rfl
theorem dJ6_inflate_0 : decode cJ6_inflate 0 = .ok (.iload_n 3, 1) := dk_29 (dk_at dksJ6_inflate_0 0 rfl rfl)
theorem dJ6_inflate_1 : decode cJ6_inflate 1 = .ok (.iload 4, 2) := dk_21 4 (dk_at dksJ6_inflate_0 1 rfl rfl)
theorem dJ6_inflate_3 : decode cJ6_inflate 3 = .ok (.aload_n 2, 1) := dk_44 (dk_at dksJ6_inflate_0 3 rfl rfl)
theorem dJ6_inflate_4 : decode cJ6_inflate 4 = .ok (.invokestatic 173, 3) := dk_184 0 173 (dk_at dksJ6_inflate_0 4 rfl rfl)
theorem dJ6_inflate_7 : decode cJ6_inflate 7 = .ok (.iconst 0, 1) := dk_3 (dk_at dksJ6_inflate_0 7 rfl rfl)
theorem dJ6_inflate_8 : decode cJ6_inflate 8 = .ok (.istore 5, 2) := dk_54 5 (dk_at dksJ6_inflate_0 8 rfl rfl)
theorem dJ6_inflate_10 : decode cJ6_inflate 10 = .ok (.iload 5, 2) := dk_21 5 (dk_at dksJ6_inflate_0 10 rfl rfl)
theorem dJ6_inflate_12 : decode cJ6_inflate 12 = .ok (.iload 4, 2) := dk_21 4 (dk_at dksJ6_inflate_0 12 rfl rfl)
theorem dJ6_inflate_14 : decode cJ6_inflate 14 = .ok (.if_icmp .ge 27, 3) := dk_162 0 27 (dk_at dksJ6_inflate_0 14 rfl rfl)
theorem dJ6_inflate_17 : decode cJ6_inflate 17 = .ok (.aload_n 2, 1) := dk_44 (dk_at dksJ6_inflate_0 17 rfl rfl)
theorem dJ6_inflate_18 : decode cJ6_inflate 18 = .ok (.iload_n 3, 1) := dk_29 (dk_at dksJ6_inflate_0 18 rfl rfl)
theorem dJ6_inflate_19 : decode cJ6_inflate 19 = .ok (.iinc 3 1, 3) := dk_132 3 1 (dk_at dksJ6_inflate_0 19 rfl rfl)
theorem dJ6_inflate_22 : decode cJ6_inflate 22 = .ok (.aload_n 0, 1) := dk_42 (dk_at dksJ6_inflate_0 22 rfl rfl)
theorem dJ6_inflate_23 : decode cJ6_inflate 23 = .ok (.iload_n 1, 1) := dk_27 (dk_at dksJ6_inflate_0 23 rfl rfl)
theorem dJ6_inflate_24 : decode cJ6_inflate 24 = .ok (.iinc 1 1, 3) := dk_132 1 1 (dk_at dksJ6_inflate_1 0 rfl rfl)
theorem dJ6_inflate_27 : decode cJ6_inflate 27 = .ok (.baload, 1) := dk_51 (dk_at dksJ6_inflate_1 3 rfl rfl)
theorem dJ6_inflate_28 : decode cJ6_inflate 28 = .ok (.sipush 255, 3) := dk_17 0 255 (dk_at dksJ6_inflate_1 4 rfl rfl)
theorem dJ6_inflate_31 : decode cJ6_inflate 31 = .ok (.iand, 1) := dk_126 (dk_at dksJ6_inflate_1 7 rfl rfl)
theorem dJ6_inflate_32 : decode cJ6_inflate 32 = .ok (.invokestatic 111, 3) := dk_184 0 111 (dk_at dksJ6_inflate_1 8 rfl rfl)
theorem dJ6_inflate_35 : decode cJ6_inflate 35 = .ok (.iinc 5 1, 3) := dk_132 5 1 (dk_at dksJ6_inflate_1 11 rfl rfl)
theorem dJ6_inflate_38 : decode cJ6_inflate 38 = .ok (.goto (-28), 3) := dk_167 255 228 (dk_at dksJ6_inflate_1 14 rfl rfl)
theorem dJ6_inflate_41 : decode cJ6_inflate 41 = .ok (.return_, 1) := dk_177 (dk_at dksJ6_inflate_1 17 rfl rfl)
abbrev cJ6_checkBoundsOffCount : ByteArray := prog_30_method_94_code
def yJ6_checkBoundsOffCount : MethodName := ⟨RJ6, "checkBoundsOffCount", "(II[B)V"⟩
def dkwJ6_checkBoundsOffCount_0 : List UInt8 := [26, 27, 44, 184, 0, 48, 184, 1, 163, 87, 177]
abbrev dktJ6_checkBoundsOffCount_0 : List UInt8 := dkwJ6_checkBoundsOffCount_0 ++ []
theorem dksJ6_checkBoundsOffCount_0 : cJ6_checkBoundsOffCount.data.toList.drop 0 = dktJ6_checkBoundsOffCount_0 := by decide +kernel
theorem dJ6_checkBoundsOffCount_0 : decode cJ6_checkBoundsOffCount 0 = .ok (.iload_n 0, 1) := dk_26 (dk_at dksJ6_checkBoundsOffCount_0 0 rfl rfl)
theorem dJ6_checkBoundsOffCount_1 : decode cJ6_checkBoundsOffCount 1 = .ok (.iload_n 1, 1) := dk_27 (dk_at dksJ6_checkBoundsOffCount_0 1 rfl rfl)
theorem dJ6_checkBoundsOffCount_2 : decode cJ6_checkBoundsOffCount 2 = .ok (.aload_n 2, 1) := dk_44 (dk_at dksJ6_checkBoundsOffCount_0 2 rfl rfl)
theorem dJ6_checkBoundsOffCount_3 : decode cJ6_checkBoundsOffCount 3 = .ok (.invokestatic 48, 3) := dk_184 0 48 (dk_at dksJ6_checkBoundsOffCount_0 3 rfl rfl)
theorem dJ6_checkBoundsOffCount_6 : decode cJ6_checkBoundsOffCount 6 = .ok (.invokestatic 419, 3) := dk_184 1 163 (dk_at dksJ6_checkBoundsOffCount_0 6 rfl rfl)
theorem dJ6_checkBoundsOffCount_9 : decode cJ6_checkBoundsOffCount 9 = .ok (.pop, 1) := dk_87 (dk_at dksJ6_checkBoundsOffCount_0 9 rfl rfl)
theorem dJ6_checkBoundsOffCount_10 : decode cJ6_checkBoundsOffCount 10 = .ok (.return_, 1) := dk_177 (dk_at dksJ6_checkBoundsOffCount_0 10 rfl rfl)
abbrev cJ6_length : ByteArray := prog_30_method_6_code
def yJ6_length : MethodName := ⟨RJ6, "length", "([B)I"⟩
def dkwJ6_length_0 : List UInt8 := [42, 190, 4, 122, 172]
abbrev dktJ6_length_0 : List UInt8 := dkwJ6_length_0 ++ []
theorem dksJ6_length_0 : cJ6_length.data.toList.drop 0 = dktJ6_length_0 := by decide +kernel
theorem dJ6_length_0 : decode cJ6_length 0 = .ok (.aload_n 0, 1) := dk_42 (dk_at dksJ6_length_0 0 rfl rfl)
theorem dJ6_length_1 : decode cJ6_length 1 = .ok (.arraylength, 1) := dk_190 (dk_at dksJ6_length_0 1 rfl rfl)
theorem dJ6_length_2 : decode cJ6_length 2 = .ok (.iconst 1, 1) := dk_4 (dk_at dksJ6_length_0 2 rfl rfl)
theorem dJ6_length_3 : decode cJ6_length 3 = .ok (.ishr, 1) := dk_122 (dk_at dksJ6_length_0 3 rfl rfl)
theorem dJ6_length_4 : decode cJ6_length 4 = .ok (.ireturn, 1) := dk_172 (dk_at dksJ6_length_0 4 rfl rfl)
abbrev cJ6_putChar : ByteArray := prog_30_method_4_code
def yJ6_putChar : MethodName := ⟨RJ6, "putChar", "([BII)V"⟩
def dkwJ6_putChar_2 : List UInt8 := [178, 0, 63, 122, 145, 84, 177]
abbrev dktJ6_putChar_2 : List UInt8 := dkwJ6_putChar_2 ++ []
def dkwJ6_putChar_1 : List UInt8 := [183, 0, 56, 191, 27, 4, 120, 60, 42, 27, 132, 1, 1, 28, 178, 0, 59, 122, 145, 84, 42, 27, 28]
abbrev dktJ6_putChar_1 : List UInt8 := dkwJ6_putChar_1 ++ dktJ6_putChar_2
def dkwJ6_putChar_0 : List UInt8 := [178, 0, 44, 154, 0, 25, 27, 155, 0, 11, 27, 42, 184, 0, 48, 161, 0, 13, 187, 0, 52, 89, 18, 54]
abbrev dktJ6_putChar_0 : List UInt8 := dkwJ6_putChar_0 ++ dktJ6_putChar_1
theorem dksJ6_putChar_0 : cJ6_putChar.data.toList.drop 0 = dktJ6_putChar_0 := by decide +kernel
theorem dksJ6_putChar_1 : cJ6_putChar.data.toList.drop 24 = dktJ6_putChar_1 := dk_seg dksJ6_putChar_0 24 rfl rfl
theorem dksJ6_putChar_2 : cJ6_putChar.data.toList.drop 47 = dktJ6_putChar_2 := dk_seg dksJ6_putChar_1 23 rfl rfl
theorem dJ6_putChar_0 : decode cJ6_putChar 0 = .ok (.getstatic 44, 3) := dk_178 0 44 (dk_at dksJ6_putChar_0 0 rfl rfl)
theorem dJ6_putChar_3 : decode cJ6_putChar 3 = .ok (.ifCond .ne 25, 3) := dk_154 0 25 (dk_at dksJ6_putChar_0 3 rfl rfl)
theorem dJ6_putChar_6 : decode cJ6_putChar 6 = .ok (.iload_n 1, 1) := dk_27 (dk_at dksJ6_putChar_0 6 rfl rfl)
theorem dJ6_putChar_7 : decode cJ6_putChar 7 = .ok (.ifCond .lt 11, 3) := dk_155 0 11 (dk_at dksJ6_putChar_0 7 rfl rfl)
theorem dJ6_putChar_10 : decode cJ6_putChar 10 = .ok (.iload_n 1, 1) := dk_27 (dk_at dksJ6_putChar_0 10 rfl rfl)
theorem dJ6_putChar_11 : decode cJ6_putChar 11 = .ok (.aload_n 0, 1) := dk_42 (dk_at dksJ6_putChar_0 11 rfl rfl)
theorem dJ6_putChar_12 : decode cJ6_putChar 12 = .ok (.invokestatic 48, 3) := dk_184 0 48 (dk_at dksJ6_putChar_0 12 rfl rfl)
theorem dJ6_putChar_15 : decode cJ6_putChar 15 = .ok (.if_icmp .lt 13, 3) := dk_161 0 13 (dk_at dksJ6_putChar_0 15 rfl rfl)
theorem dJ6_putChar_18 : decode cJ6_putChar 18 = .ok (.new 52, 3) := dk_187 0 52 (dk_at dksJ6_putChar_0 18 rfl rfl)
theorem dJ6_putChar_21 : decode cJ6_putChar 21 = .ok (.dup, 1) := dk_89 (dk_at dksJ6_putChar_0 21 rfl rfl)
theorem dJ6_putChar_22 : decode cJ6_putChar 22 = .ok (.ldc 54, 2) := dk_18 54 (dk_at dksJ6_putChar_0 22 rfl rfl)
theorem dJ6_putChar_24 : decode cJ6_putChar 24 = .ok (.invokespecial 56, 3) := dk_183 0 56 (dk_at dksJ6_putChar_1 0 rfl rfl)
theorem dJ6_putChar_27 : decode cJ6_putChar 27 = .ok (.athrow, 1) := dk_191 (dk_at dksJ6_putChar_1 3 rfl rfl)
theorem dJ6_putChar_28 : decode cJ6_putChar 28 = .ok (.iload_n 1, 1) := dk_27 (dk_at dksJ6_putChar_1 4 rfl rfl)
theorem dJ6_putChar_29 : decode cJ6_putChar 29 = .ok (.iconst 1, 1) := dk_4 (dk_at dksJ6_putChar_1 5 rfl rfl)
theorem dJ6_putChar_30 : decode cJ6_putChar 30 = .ok (.ishl, 1) := dk_120 (dk_at dksJ6_putChar_1 6 rfl rfl)
theorem dJ6_putChar_31 : decode cJ6_putChar 31 = .ok (.istore_n 1, 1) := dk_60 (dk_at dksJ6_putChar_1 7 rfl rfl)
theorem dJ6_putChar_32 : decode cJ6_putChar 32 = .ok (.aload_n 0, 1) := dk_42 (dk_at dksJ6_putChar_1 8 rfl rfl)
theorem dJ6_putChar_33 : decode cJ6_putChar 33 = .ok (.iload_n 1, 1) := dk_27 (dk_at dksJ6_putChar_1 9 rfl rfl)
theorem dJ6_putChar_34 : decode cJ6_putChar 34 = .ok (.iinc 1 1, 3) := dk_132 1 1 (dk_at dksJ6_putChar_1 10 rfl rfl)
theorem dJ6_putChar_37 : decode cJ6_putChar 37 = .ok (.iload_n 2, 1) := dk_28 (dk_at dksJ6_putChar_1 13 rfl rfl)
theorem dJ6_putChar_38 : decode cJ6_putChar 38 = .ok (.getstatic 59, 3) := dk_178 0 59 (dk_at dksJ6_putChar_1 14 rfl rfl)
theorem dJ6_putChar_41 : decode cJ6_putChar 41 = .ok (.ishr, 1) := dk_122 (dk_at dksJ6_putChar_1 17 rfl rfl)
theorem dJ6_putChar_42 : decode cJ6_putChar 42 = .ok (.i2b, 1) := dk_145 (dk_at dksJ6_putChar_1 18 rfl rfl)
theorem dJ6_putChar_43 : decode cJ6_putChar 43 = .ok (.bastore, 1) := dk_84 (dk_at dksJ6_putChar_1 19 rfl rfl)
theorem dJ6_putChar_44 : decode cJ6_putChar 44 = .ok (.aload_n 0, 1) := dk_42 (dk_at dksJ6_putChar_1 20 rfl rfl)
theorem dJ6_putChar_45 : decode cJ6_putChar 45 = .ok (.iload_n 1, 1) := dk_27 (dk_at dksJ6_putChar_1 21 rfl rfl)
theorem dJ6_putChar_46 : decode cJ6_putChar 46 = .ok (.iload_n 2, 1) := dk_28 (dk_at dksJ6_putChar_1 22 rfl rfl)
theorem dJ6_putChar_47 : decode cJ6_putChar 47 = .ok (.getstatic 63, 3) := dk_178 0 63 (dk_at dksJ6_putChar_2 0 rfl rfl)
theorem dJ6_putChar_50 : decode cJ6_putChar 50 = .ok (.ishr, 1) := dk_122 (dk_at dksJ6_putChar_2 3 rfl rfl)
theorem dJ6_putChar_51 : decode cJ6_putChar 51 = .ok (.i2b, 1) := dk_145 (dk_at dksJ6_putChar_2 4 rfl rfl)
theorem dJ6_putChar_52 : decode cJ6_putChar 52 = .ok (.bastore, 1) := dk_84 (dk_at dksJ6_putChar_2 5 rfl rfl)
theorem dJ6_putChar_53 : decode cJ6_putChar 53 = .ok (.return_, 1) := dk_177 (dk_at dksJ6_putChar_2 6 rfl rfl)
abbrev cJ6_putCharSB : ByteArray := prog_30_method_71_code
def yJ6_putCharSB : MethodName := ⟨RJ6, "putCharSB", "([BII)V"⟩
def dkwJ6_putCharSB_0 : List UInt8 := [27, 42, 184, 0, 67, 42, 27, 28, 184, 0, 111, 177]
abbrev dktJ6_putCharSB_0 : List UInt8 := dkwJ6_putCharSB_0 ++ []
theorem dksJ6_putCharSB_0 : cJ6_putCharSB.data.toList.drop 0 = dktJ6_putCharSB_0 := by decide +kernel
theorem dJ6_putCharSB_0 : decode cJ6_putCharSB 0 = .ok (.iload_n 1, 1) := dk_27 (dk_at dksJ6_putCharSB_0 0 rfl rfl)
theorem dJ6_putCharSB_1 : decode cJ6_putCharSB 1 = .ok (.aload_n 0, 1) := dk_42 (dk_at dksJ6_putCharSB_0 1 rfl rfl)
theorem dJ6_putCharSB_2 : decode cJ6_putCharSB 2 = .ok (.invokestatic 67, 3) := dk_184 0 67 (dk_at dksJ6_putCharSB_0 2 rfl rfl)
theorem dJ6_putCharSB_5 : decode cJ6_putCharSB 5 = .ok (.aload_n 0, 1) := dk_42 (dk_at dksJ6_putCharSB_0 5 rfl rfl)
theorem dJ6_putCharSB_6 : decode cJ6_putCharSB 6 = .ok (.iload_n 1, 1) := dk_27 (dk_at dksJ6_putCharSB_0 6 rfl rfl)
theorem dJ6_putCharSB_7 : decode cJ6_putCharSB 7 = .ok (.iload_n 2, 1) := dk_28 (dk_at dksJ6_putCharSB_0 7 rfl rfl)
theorem dJ6_putCharSB_8 : decode cJ6_putCharSB 8 = .ok (.invokestatic 111, 3) := dk_184 0 111 (dk_at dksJ6_putCharSB_0 8 rfl rfl)
theorem dJ6_putCharSB_11 : decode cJ6_putCharSB 11 = .ok (.return_, 1) := dk_177 (dk_at dksJ6_putCharSB_0 11 rfl rfl)
abbrev cJ6_checkIndex : ByteArray := prog_30_method_91_code
def yJ6_checkIndex : MethodName := ⟨RJ6, "checkIndex", "(I[B)V"⟩
def dkwJ6_checkIndex_0 : List UInt8 := [26, 43, 184, 0, 48, 184, 1, 158, 177]
abbrev dktJ6_checkIndex_0 : List UInt8 := dkwJ6_checkIndex_0 ++ []
theorem dksJ6_checkIndex_0 : cJ6_checkIndex.data.toList.drop 0 = dktJ6_checkIndex_0 := by decide +kernel
theorem dJ6_checkIndex_0 : decode cJ6_checkIndex 0 = .ok (.iload_n 0, 1) := dk_26 (dk_at dksJ6_checkIndex_0 0 rfl rfl)
theorem dJ6_checkIndex_1 : decode cJ6_checkIndex 1 = .ok (.aload_n 1, 1) := dk_43 (dk_at dksJ6_checkIndex_0 1 rfl rfl)
theorem dJ6_checkIndex_2 : decode cJ6_checkIndex 2 = .ok (.invokestatic 48, 3) := dk_184 0 48 (dk_at dksJ6_checkIndex_0 2 rfl rfl)
theorem dJ6_checkIndex_5 : decode cJ6_checkIndex 5 = .ok (.invokestatic 414, 3) := dk_184 1 158 (dk_at dksJ6_checkIndex_0 5 rfl rfl)
theorem dJ6_checkIndex_8 : decode cJ6_checkIndex 8 = .ok (.return_, 1) := dk_177 (dk_at dksJ6_checkIndex_0 8 rfl rfl)
abbrev cJ6_compress : ByteArray := prog_30_method_17_code
def yJ6_compress : MethodName := ⟨RJ6, "compress", "([BII)[B"⟩
def dkwJ6_compress_2 : List UInt8 := [25, 5, 3, 45, 3, 28, 184, 0, 123, 28, 159, 0, 6, 25, 5, 176, 45, 176]
abbrev dktJ6_compress_2 : List UInt8 := dkwJ6_compress_2 ++ []
def dkwJ6_compress_1 : List UInt8 := [27, 28, 96, 184, 0, 11, 184, 0, 126, 58, 5, 25, 5, 21, 4, 184, 0, 71, 17, 0, 255, 163, 0, 16]
abbrev dktJ6_compress_1 : List UInt8 := dkwJ6_compress_1 ++ dktJ6_compress_2
def dkwJ6_compress_0 : List UInt8 := [28, 188, 8, 78, 42, 27, 45, 3, 28, 184, 0, 123, 54, 4, 21, 4, 28, 159, 0, 47, 42, 27, 4, 120]
abbrev dktJ6_compress_0 : List UInt8 := dkwJ6_compress_0 ++ dktJ6_compress_1
theorem dksJ6_compress_0 : cJ6_compress.data.toList.drop 0 = dktJ6_compress_0 := by decide +kernel
theorem dksJ6_compress_1 : cJ6_compress.data.toList.drop 24 = dktJ6_compress_1 := dk_seg dksJ6_compress_0 24 rfl rfl
theorem dksJ6_compress_2 : cJ6_compress.data.toList.drop 48 = dktJ6_compress_2 := dk_seg dksJ6_compress_1 24 rfl rfl
theorem dJ6_compress_0 : decode cJ6_compress 0 = .ok (.iload_n 2, 1) := dk_28 (dk_at dksJ6_compress_0 0 rfl rfl)
theorem dJ6_compress_1 : decode cJ6_compress 1 = .ok (.newarray .byte, 2) := dk_188_8 (dk_at dksJ6_compress_0 1 rfl rfl)
theorem dJ6_compress_3 : decode cJ6_compress 3 = .ok (.astore_n 3, 1) := dk_78 (dk_at dksJ6_compress_0 3 rfl rfl)
theorem dJ6_compress_4 : decode cJ6_compress 4 = .ok (.aload_n 0, 1) := dk_42 (dk_at dksJ6_compress_0 4 rfl rfl)
theorem dJ6_compress_5 : decode cJ6_compress 5 = .ok (.iload_n 1, 1) := dk_27 (dk_at dksJ6_compress_0 5 rfl rfl)
theorem dJ6_compress_6 : decode cJ6_compress 6 = .ok (.aload_n 3, 1) := dk_45 (dk_at dksJ6_compress_0 6 rfl rfl)
theorem dJ6_compress_7 : decode cJ6_compress 7 = .ok (.iconst 0, 1) := dk_3 (dk_at dksJ6_compress_0 7 rfl rfl)
theorem dJ6_compress_8 : decode cJ6_compress 8 = .ok (.iload_n 2, 1) := dk_28 (dk_at dksJ6_compress_0 8 rfl rfl)
theorem dJ6_compress_9 : decode cJ6_compress 9 = .ok (.invokestatic 123, 3) := dk_184 0 123 (dk_at dksJ6_compress_0 9 rfl rfl)
theorem dJ6_compress_12 : decode cJ6_compress 12 = .ok (.istore 4, 2) := dk_54 4 (dk_at dksJ6_compress_0 12 rfl rfl)
theorem dJ6_compress_14 : decode cJ6_compress 14 = .ok (.iload 4, 2) := dk_21 4 (dk_at dksJ6_compress_0 14 rfl rfl)
theorem dJ6_compress_16 : decode cJ6_compress 16 = .ok (.iload_n 2, 1) := dk_28 (dk_at dksJ6_compress_0 16 rfl rfl)
theorem dJ6_compress_17 : decode cJ6_compress 17 = .ok (.if_icmp .eq 47, 3) := dk_159 0 47 (dk_at dksJ6_compress_0 17 rfl rfl)
theorem dJ6_compress_20 : decode cJ6_compress 20 = .ok (.aload_n 0, 1) := dk_42 (dk_at dksJ6_compress_0 20 rfl rfl)
theorem dJ6_compress_21 : decode cJ6_compress 21 = .ok (.iload_n 1, 1) := dk_27 (dk_at dksJ6_compress_0 21 rfl rfl)
theorem dJ6_compress_22 : decode cJ6_compress 22 = .ok (.iconst 1, 1) := dk_4 (dk_at dksJ6_compress_0 22 rfl rfl)
theorem dJ6_compress_23 : decode cJ6_compress 23 = .ok (.ishl, 1) := dk_120 (dk_at dksJ6_compress_0 23 rfl rfl)
theorem dJ6_compress_24 : decode cJ6_compress 24 = .ok (.iload_n 1, 1) := dk_27 (dk_at dksJ6_compress_1 0 rfl rfl)
theorem dJ6_compress_25 : decode cJ6_compress 25 = .ok (.iload_n 2, 1) := dk_28 (dk_at dksJ6_compress_1 1 rfl rfl)
theorem dJ6_compress_26 : decode cJ6_compress 26 = .ok (.iadd, 1) := dk_96 (dk_at dksJ6_compress_1 2 rfl rfl)
theorem dJ6_compress_27 : decode cJ6_compress 27 = .ok (.invokestatic 11, 3) := dk_184 0 11 (dk_at dksJ6_compress_1 3 rfl rfl)
theorem dJ6_compress_30 : decode cJ6_compress 30 = .ok (.invokestatic 126, 3) := dk_184 0 126 (dk_at dksJ6_compress_1 6 rfl rfl)
theorem dJ6_compress_33 : decode cJ6_compress 33 = .ok (.astore 5, 2) := dk_58 5 (dk_at dksJ6_compress_1 9 rfl rfl)
theorem dJ6_compress_35 : decode cJ6_compress 35 = .ok (.aload 5, 2) := dk_25 5 (dk_at dksJ6_compress_1 11 rfl rfl)
theorem dJ6_compress_37 : decode cJ6_compress 37 = .ok (.iload 4, 2) := dk_21 4 (dk_at dksJ6_compress_1 13 rfl rfl)
theorem dJ6_compress_39 : decode cJ6_compress 39 = .ok (.invokestatic 71, 3) := dk_184 0 71 (dk_at dksJ6_compress_1 15 rfl rfl)
theorem dJ6_compress_42 : decode cJ6_compress 42 = .ok (.sipush 255, 3) := dk_17 0 255 (dk_at dksJ6_compress_1 18 rfl rfl)
theorem dJ6_compress_45 : decode cJ6_compress 45 = .ok (.if_icmp .gt 16, 3) := dk_163 0 16 (dk_at dksJ6_compress_1 21 rfl rfl)
theorem dJ6_compress_48 : decode cJ6_compress 48 = .ok (.aload 5, 2) := dk_25 5 (dk_at dksJ6_compress_2 0 rfl rfl)
theorem dJ6_compress_50 : decode cJ6_compress 50 = .ok (.iconst 0, 1) := dk_3 (dk_at dksJ6_compress_2 2 rfl rfl)
theorem dJ6_compress_51 : decode cJ6_compress 51 = .ok (.aload_n 3, 1) := dk_45 (dk_at dksJ6_compress_2 3 rfl rfl)
theorem dJ6_compress_52 : decode cJ6_compress 52 = .ok (.iconst 0, 1) := dk_3 (dk_at dksJ6_compress_2 4 rfl rfl)
theorem dJ6_compress_53 : decode cJ6_compress 53 = .ok (.iload_n 2, 1) := dk_28 (dk_at dksJ6_compress_2 5 rfl rfl)
theorem dJ6_compress_54 : decode cJ6_compress 54 = .ok (.invokestatic 123, 3) := dk_184 0 123 (dk_at dksJ6_compress_2 6 rfl rfl)
theorem dJ6_compress_57 : decode cJ6_compress 57 = .ok (.iload_n 2, 1) := dk_28 (dk_at dksJ6_compress_2 9 rfl rfl)
theorem dJ6_compress_58 : decode cJ6_compress 58 = .ok (.if_icmp .eq 6, 3) := dk_159 0 6 (dk_at dksJ6_compress_2 10 rfl rfl)
theorem dJ6_compress_61 : decode cJ6_compress 61 = .ok (.aload 5, 2) := dk_25 5 (dk_at dksJ6_compress_2 13 rfl rfl)
theorem dJ6_compress_63 : decode cJ6_compress 63 = .ok (.areturn, 1) := dk_176 (dk_at dksJ6_compress_2 15 rfl rfl)
theorem dJ6_compress_64 : decode cJ6_compress 64 = .ok (.aload_n 3, 1) := dk_45 (dk_at dksJ6_compress_2 16 rfl rfl)
theorem dJ6_compress_65 : decode cJ6_compress 65 = .ok (.areturn, 1) := dk_176 (dk_at dksJ6_compress_2 17 rfl rfl)
abbrev cJ6_compress_2 : ByteArray := prog_30_method_22_code
def yJ6_compress_2 : MethodName := ⟨RJ6, "compress", "([BI[BII)I"⟩
def dkwJ6_compress_2_2 : List UInt8 := [132, 5, 1, 167, 255, 216, 21, 4, 172]
abbrev dktJ6_compress_2_2 : List UInt8 := dkwJ6_compress_2_2 ++ []
def dkwJ6_compress_2_1 : List UInt8 := [21, 6, 17, 0, 255, 164, 0, 6, 21, 5, 172, 44, 29, 21, 6, 145, 84, 132, 1, 1, 132, 3, 1]
abbrev dktJ6_compress_2_1 : List UInt8 := dkwJ6_compress_2_1 ++ dktJ6_compress_2_2
def dkwJ6_compress_2_0 : List UInt8 := [27, 21, 4, 42, 184, 0, 173, 3, 54, 5, 21, 5, 21, 4, 162, 0, 39, 42, 27, 184, 0, 71, 54, 6]
abbrev dktJ6_compress_2_0 : List UInt8 := dkwJ6_compress_2_0 ++ dktJ6_compress_2_1
theorem dksJ6_compress_2_0 : cJ6_compress_2.data.toList.drop 0 = dktJ6_compress_2_0 := by decide +kernel
theorem dksJ6_compress_2_1 : cJ6_compress_2.data.toList.drop 24 = dktJ6_compress_2_1 := dk_seg dksJ6_compress_2_0 24 rfl rfl
theorem dksJ6_compress_2_2 : cJ6_compress_2.data.toList.drop 47 = dktJ6_compress_2_2 := dk_seg dksJ6_compress_2_1 23 rfl rfl
theorem dJ6_compress_2_0 : decode cJ6_compress_2 0 = .ok (.iload_n 1, 1) := dk_27 (dk_at dksJ6_compress_2_0 0 rfl rfl)
theorem dJ6_compress_2_1 : decode cJ6_compress_2 1 = .ok (.iload 4, 2) := dk_21 4 (dk_at dksJ6_compress_2_0 1 rfl rfl)
theorem dJ6_compress_2_3 : decode cJ6_compress_2 3 = .ok (.aload_n 0, 1) := dk_42 (dk_at dksJ6_compress_2_0 3 rfl rfl)
theorem dJ6_compress_2_4 : decode cJ6_compress_2 4 = .ok (.invokestatic 173, 3) := dk_184 0 173 (dk_at dksJ6_compress_2_0 4 rfl rfl)
theorem dJ6_compress_2_7 : decode cJ6_compress_2 7 = .ok (.iconst 0, 1) := dk_3 (dk_at dksJ6_compress_2_0 7 rfl rfl)
theorem dJ6_compress_2_8 : decode cJ6_compress_2 8 = .ok (.istore 5, 2) := dk_54 5 (dk_at dksJ6_compress_2_0 8 rfl rfl)
theorem dJ6_compress_2_10 : decode cJ6_compress_2 10 = .ok (.iload 5, 2) := dk_21 5 (dk_at dksJ6_compress_2_0 10 rfl rfl)
theorem dJ6_compress_2_12 : decode cJ6_compress_2 12 = .ok (.iload 4, 2) := dk_21 4 (dk_at dksJ6_compress_2_0 12 rfl rfl)
theorem dJ6_compress_2_14 : decode cJ6_compress_2 14 = .ok (.if_icmp .ge 39, 3) := dk_162 0 39 (dk_at dksJ6_compress_2_0 14 rfl rfl)
theorem dJ6_compress_2_17 : decode cJ6_compress_2 17 = .ok (.aload_n 0, 1) := dk_42 (dk_at dksJ6_compress_2_0 17 rfl rfl)
theorem dJ6_compress_2_18 : decode cJ6_compress_2 18 = .ok (.iload_n 1, 1) := dk_27 (dk_at dksJ6_compress_2_0 18 rfl rfl)
theorem dJ6_compress_2_19 : decode cJ6_compress_2 19 = .ok (.invokestatic 71, 3) := dk_184 0 71 (dk_at dksJ6_compress_2_0 19 rfl rfl)
theorem dJ6_compress_2_22 : decode cJ6_compress_2 22 = .ok (.istore 6, 2) := dk_54 6 (dk_at dksJ6_compress_2_0 22 rfl rfl)
theorem dJ6_compress_2_24 : decode cJ6_compress_2 24 = .ok (.iload 6, 2) := dk_21 6 (dk_at dksJ6_compress_2_1 0 rfl rfl)
theorem dJ6_compress_2_26 : decode cJ6_compress_2 26 = .ok (.sipush 255, 3) := dk_17 0 255 (dk_at dksJ6_compress_2_1 2 rfl rfl)
theorem dJ6_compress_2_29 : decode cJ6_compress_2 29 = .ok (.if_icmp .le 6, 3) := dk_164 0 6 (dk_at dksJ6_compress_2_1 5 rfl rfl)
theorem dJ6_compress_2_32 : decode cJ6_compress_2 32 = .ok (.iload 5, 2) := dk_21 5 (dk_at dksJ6_compress_2_1 8 rfl rfl)
theorem dJ6_compress_2_34 : decode cJ6_compress_2 34 = .ok (.ireturn, 1) := dk_172 (dk_at dksJ6_compress_2_1 10 rfl rfl)
theorem dJ6_compress_2_35 : decode cJ6_compress_2 35 = .ok (.aload_n 2, 1) := dk_44 (dk_at dksJ6_compress_2_1 11 rfl rfl)
theorem dJ6_compress_2_36 : decode cJ6_compress_2 36 = .ok (.iload_n 3, 1) := dk_29 (dk_at dksJ6_compress_2_1 12 rfl rfl)
theorem dJ6_compress_2_37 : decode cJ6_compress_2 37 = .ok (.iload 6, 2) := dk_21 6 (dk_at dksJ6_compress_2_1 13 rfl rfl)
theorem dJ6_compress_2_39 : decode cJ6_compress_2 39 = .ok (.i2b, 1) := dk_145 (dk_at dksJ6_compress_2_1 15 rfl rfl)
theorem dJ6_compress_2_40 : decode cJ6_compress_2 40 = .ok (.bastore, 1) := dk_84 (dk_at dksJ6_compress_2_1 16 rfl rfl)
theorem dJ6_compress_2_41 : decode cJ6_compress_2 41 = .ok (.iinc 1 1, 3) := dk_132 1 1 (dk_at dksJ6_compress_2_1 17 rfl rfl)
theorem dJ6_compress_2_44 : decode cJ6_compress_2 44 = .ok (.iinc 3 1, 3) := dk_132 3 1 (dk_at dksJ6_compress_2_1 20 rfl rfl)
theorem dJ6_compress_2_47 : decode cJ6_compress_2 47 = .ok (.iinc 5 1, 3) := dk_132 5 1 (dk_at dksJ6_compress_2_2 0 rfl rfl)
theorem dJ6_compress_2_50 : decode cJ6_compress_2 50 = .ok (.goto (-40), 3) := dk_167 255 216 (dk_at dksJ6_compress_2_2 3 rfl rfl)
theorem dJ6_compress_2_53 : decode cJ6_compress_2 53 = .ok (.iload 4, 2) := dk_21 4 (dk_at dksJ6_compress_2_2 6 rfl rfl)
theorem dJ6_compress_2_55 : decode cJ6_compress_2 55 = .ok (.ireturn, 1) := dk_172 (dk_at dksJ6_compress_2_2 8 rfl rfl)
abbrev cJ6_getChar : ByteArray := prog_30_method_5_code
def yJ6_getChar : MethodName := ⟨RJ6, "getChar", "([BI)C"⟩
def dkwJ6_getChar_2 : List UInt8 := [51, 17, 0, 255, 126, 178, 0, 63, 120, 128, 146, 172]
abbrev dktJ6_getChar_2 : List UInt8 := dkwJ6_getChar_2 ++ []
def dkwJ6_getChar_1 : List UInt8 := [183, 0, 56, 191, 27, 4, 120, 60, 42, 27, 132, 1, 1, 51, 17, 0, 255, 126, 178, 0, 59, 120, 42, 27]
abbrev dktJ6_getChar_1 : List UInt8 := dkwJ6_getChar_1 ++ dktJ6_getChar_2
def dkwJ6_getChar_0 : List UInt8 := [178, 0, 44, 154, 0, 25, 27, 155, 0, 11, 27, 42, 184, 0, 48, 161, 0, 13, 187, 0, 52, 89, 18, 54]
abbrev dktJ6_getChar_0 : List UInt8 := dkwJ6_getChar_0 ++ dktJ6_getChar_1
theorem dksJ6_getChar_0 : cJ6_getChar.data.toList.drop 0 = dktJ6_getChar_0 := by decide +kernel
theorem dksJ6_getChar_1 : cJ6_getChar.data.toList.drop 24 = dktJ6_getChar_1 := dk_seg dksJ6_getChar_0 24 rfl rfl
theorem dksJ6_getChar_2 : cJ6_getChar.data.toList.drop 48 = dktJ6_getChar_2 := dk_seg dksJ6_getChar_1 24 rfl rfl
theorem dJ6_getChar_0 : decode cJ6_getChar 0 = .ok (.getstatic 44, 3) := dk_178 0 44 (dk_at dksJ6_getChar_0 0 rfl rfl)
theorem dJ6_getChar_3 : decode cJ6_getChar 3 = .ok (.ifCond .ne 25, 3) := dk_154 0 25 (dk_at dksJ6_getChar_0 3 rfl rfl)
theorem dJ6_getChar_6 : decode cJ6_getChar 6 = .ok (.iload_n 1, 1) := dk_27 (dk_at dksJ6_getChar_0 6 rfl rfl)
theorem dJ6_getChar_7 : decode cJ6_getChar 7 = .ok (.ifCond .lt 11, 3) := dk_155 0 11 (dk_at dksJ6_getChar_0 7 rfl rfl)
theorem dJ6_getChar_10 : decode cJ6_getChar 10 = .ok (.iload_n 1, 1) := dk_27 (dk_at dksJ6_getChar_0 10 rfl rfl)
theorem dJ6_getChar_11 : decode cJ6_getChar 11 = .ok (.aload_n 0, 1) := dk_42 (dk_at dksJ6_getChar_0 11 rfl rfl)
theorem dJ6_getChar_12 : decode cJ6_getChar 12 = .ok (.invokestatic 48, 3) := dk_184 0 48 (dk_at dksJ6_getChar_0 12 rfl rfl)
theorem dJ6_getChar_15 : decode cJ6_getChar 15 = .ok (.if_icmp .lt 13, 3) := dk_161 0 13 (dk_at dksJ6_getChar_0 15 rfl rfl)
theorem dJ6_getChar_18 : decode cJ6_getChar 18 = .ok (.new 52, 3) := dk_187 0 52 (dk_at dksJ6_getChar_0 18 rfl rfl)
theorem dJ6_getChar_21 : decode cJ6_getChar 21 = .ok (.dup, 1) := dk_89 (dk_at dksJ6_getChar_0 21 rfl rfl)
theorem dJ6_getChar_22 : decode cJ6_getChar 22 = .ok (.ldc 54, 2) := dk_18 54 (dk_at dksJ6_getChar_0 22 rfl rfl)
theorem dJ6_getChar_24 : decode cJ6_getChar 24 = .ok (.invokespecial 56, 3) := dk_183 0 56 (dk_at dksJ6_getChar_1 0 rfl rfl)
theorem dJ6_getChar_27 : decode cJ6_getChar 27 = .ok (.athrow, 1) := dk_191 (dk_at dksJ6_getChar_1 3 rfl rfl)
theorem dJ6_getChar_28 : decode cJ6_getChar 28 = .ok (.iload_n 1, 1) := dk_27 (dk_at dksJ6_getChar_1 4 rfl rfl)
theorem dJ6_getChar_29 : decode cJ6_getChar 29 = .ok (.iconst 1, 1) := dk_4 (dk_at dksJ6_getChar_1 5 rfl rfl)
theorem dJ6_getChar_30 : decode cJ6_getChar 30 = .ok (.ishl, 1) := dk_120 (dk_at dksJ6_getChar_1 6 rfl rfl)
theorem dJ6_getChar_31 : decode cJ6_getChar 31 = .ok (.istore_n 1, 1) := dk_60 (dk_at dksJ6_getChar_1 7 rfl rfl)
theorem dJ6_getChar_32 : decode cJ6_getChar 32 = .ok (.aload_n 0, 1) := dk_42 (dk_at dksJ6_getChar_1 8 rfl rfl)
theorem dJ6_getChar_33 : decode cJ6_getChar 33 = .ok (.iload_n 1, 1) := dk_27 (dk_at dksJ6_getChar_1 9 rfl rfl)
theorem dJ6_getChar_34 : decode cJ6_getChar 34 = .ok (.iinc 1 1, 3) := dk_132 1 1 (dk_at dksJ6_getChar_1 10 rfl rfl)
theorem dJ6_getChar_37 : decode cJ6_getChar 37 = .ok (.baload, 1) := dk_51 (dk_at dksJ6_getChar_1 13 rfl rfl)
theorem dJ6_getChar_38 : decode cJ6_getChar 38 = .ok (.sipush 255, 3) := dk_17 0 255 (dk_at dksJ6_getChar_1 14 rfl rfl)
theorem dJ6_getChar_41 : decode cJ6_getChar 41 = .ok (.iand, 1) := dk_126 (dk_at dksJ6_getChar_1 17 rfl rfl)
theorem dJ6_getChar_42 : decode cJ6_getChar 42 = .ok (.getstatic 59, 3) := dk_178 0 59 (dk_at dksJ6_getChar_1 18 rfl rfl)
theorem dJ6_getChar_45 : decode cJ6_getChar 45 = .ok (.ishl, 1) := dk_120 (dk_at dksJ6_getChar_1 21 rfl rfl)
theorem dJ6_getChar_46 : decode cJ6_getChar 46 = .ok (.aload_n 0, 1) := dk_42 (dk_at dksJ6_getChar_1 22 rfl rfl)
theorem dJ6_getChar_47 : decode cJ6_getChar 47 = .ok (.iload_n 1, 1) := dk_27 (dk_at dksJ6_getChar_1 23 rfl rfl)
theorem dJ6_getChar_48 : decode cJ6_getChar 48 = .ok (.baload, 1) := dk_51 (dk_at dksJ6_getChar_2 0 rfl rfl)
theorem dJ6_getChar_49 : decode cJ6_getChar 49 = .ok (.sipush 255, 3) := dk_17 0 255 (dk_at dksJ6_getChar_2 1 rfl rfl)
theorem dJ6_getChar_52 : decode cJ6_getChar 52 = .ok (.iand, 1) := dk_126 (dk_at dksJ6_getChar_2 4 rfl rfl)
theorem dJ6_getChar_53 : decode cJ6_getChar 53 = .ok (.getstatic 63, 3) := dk_178 0 63 (dk_at dksJ6_getChar_2 5 rfl rfl)
theorem dJ6_getChar_56 : decode cJ6_getChar 56 = .ok (.ishl, 1) := dk_120 (dk_at dksJ6_getChar_2 8 rfl rfl)
theorem dJ6_getChar_57 : decode cJ6_getChar 57 = .ok (.ior, 1) := dk_128 (dk_at dksJ6_getChar_2 9 rfl rfl)
theorem dJ6_getChar_58 : decode cJ6_getChar 58 = .ok (.i2c, 1) := dk_146 (dk_at dksJ6_getChar_2 10 rfl rfl)
theorem dJ6_getChar_59 : decode cJ6_getChar 59 = .ok (.ireturn, 1) := dk_172 (dk_at dksJ6_getChar_2 11 rfl rfl)
abbrev cJ6_coderFromArrayLen : ByteArray := prog_30_method_15_code
def yJ6_coderFromArrayLen : MethodName := ⟨RJ6, "coderFromArrayLen", "([BI)B"⟩
def dkwJ6_coderFromArrayLen_0 : List UInt8 := [27, 42, 190, 100, 16, 31, 124, 145, 172]
abbrev dktJ6_coderFromArrayLen_0 : List UInt8 := dkwJ6_coderFromArrayLen_0 ++ []
theorem dksJ6_coderFromArrayLen_0 : cJ6_coderFromArrayLen.data.toList.drop 0 = dktJ6_coderFromArrayLen_0 := by decide +kernel
theorem dJ6_coderFromArrayLen_0 : decode cJ6_coderFromArrayLen 0 = .ok (.iload_n 1, 1) := dk_27 (dk_at dksJ6_coderFromArrayLen_0 0 rfl rfl)
theorem dJ6_coderFromArrayLen_1 : decode cJ6_coderFromArrayLen 1 = .ok (.aload_n 0, 1) := dk_42 (dk_at dksJ6_coderFromArrayLen_0 1 rfl rfl)
theorem dJ6_coderFromArrayLen_2 : decode cJ6_coderFromArrayLen 2 = .ok (.arraylength, 1) := dk_190 (dk_at dksJ6_coderFromArrayLen_0 2 rfl rfl)
theorem dJ6_coderFromArrayLen_3 : decode cJ6_coderFromArrayLen 3 = .ok (.isub, 1) := dk_100 (dk_at dksJ6_coderFromArrayLen_0 3 rfl rfl)
theorem dJ6_coderFromArrayLen_4 : decode cJ6_coderFromArrayLen 4 = .ok (.bipush 31, 2) := dk_16 31 (dk_at dksJ6_coderFromArrayLen_0 4 rfl rfl)
theorem dJ6_coderFromArrayLen_6 : decode cJ6_coderFromArrayLen 6 = .ok (.iushr, 1) := dk_124 (dk_at dksJ6_coderFromArrayLen_0 6 rfl rfl)
theorem dJ6_coderFromArrayLen_7 : decode cJ6_coderFromArrayLen 7 = .ok (.i2b, 1) := dk_145 (dk_at dksJ6_coderFromArrayLen_0 7 rfl rfl)
theorem dJ6_coderFromArrayLen_8 : decode cJ6_coderFromArrayLen 8 = .ok (.ireturn, 1) := dk_172 (dk_at dksJ6_coderFromArrayLen_0 8 rfl rfl)
abbrev cJ6_charAt : ByteArray := prog_30_method_83_code
def yJ6_charAt : MethodName := ⟨RJ6, "charAt", "([BI)C"⟩
def dkwJ6_charAt_0 : List UInt8 := [27, 42, 184, 0, 67, 42, 27, 184, 0, 71, 172]
abbrev dktJ6_charAt_0 : List UInt8 := dkwJ6_charAt_0 ++ []
theorem dksJ6_charAt_0 : cJ6_charAt.data.toList.drop 0 = dktJ6_charAt_0 := by decide +kernel
theorem dJ6_charAt_0 : decode cJ6_charAt 0 = .ok (.iload_n 1, 1) := dk_27 (dk_at dksJ6_charAt_0 0 rfl rfl)
theorem dJ6_charAt_1 : decode cJ6_charAt 1 = .ok (.aload_n 0, 1) := dk_42 (dk_at dksJ6_charAt_0 1 rfl rfl)
theorem dJ6_charAt_2 : decode cJ6_charAt 2 = .ok (.invokestatic 67, 3) := dk_184 0 67 (dk_at dksJ6_charAt_0 2 rfl rfl)
theorem dJ6_charAt_5 : decode cJ6_charAt 5 = .ok (.aload_n 0, 1) := dk_42 (dk_at dksJ6_charAt_0 5 rfl rfl)
theorem dJ6_charAt_6 : decode cJ6_charAt 6 = .ok (.iload_n 1, 1) := dk_27 (dk_at dksJ6_charAt_0 6 rfl rfl)
theorem dJ6_charAt_7 : decode cJ6_charAt 7 = .ok (.invokestatic 71, 3) := dk_184 0 71 (dk_at dksJ6_charAt_0 7 rfl rfl)
theorem dJ6_charAt_10 : decode cJ6_charAt 10 = .ok (.ireturn, 1) := dk_172 (dk_at dksJ6_charAt_0 10 rfl rfl)
theorem q88 : (Jvm.Cond.initialized "java/lang/StringUTF16") ∈ lw_all := lw_g (lw_at lw_m1 12 rfl) rfl
theorem q329 : (Jvm.Cond.static ({ cls := "java/lang/StringUTF16", name := "newBytesFor", desc := "(I)[B" } : Jvm.MethodName)) ∈ lw_all := lw_g (lw_at lw_m2 13 rfl) rfl
theorem q330 : (Jvm.Cond.code ({ cls := "java/lang/StringUTF16", name := "newBytesFor", desc := "(I)[B" } : Jvm.MethodName) prog_30_method_2_code (1 : Nat) (Option.some (Jvm.ClassFile.FieldType.array Jvm.ClassFile.FieldType.byte))) ∈ lw_all := lw_g (lw_at lw_m2 14 rfl) rfl
theorem q331 : (Jvm.Cond.methodLink "java/lang/StringUTF16" (11 : Nat) ({ cls := "java/lang/StringUTF16", name := "newBytesLength", desc := "(I)I" } : Jvm.MethodName)) ∈ lw_all := lw_g (lw_at lw_m2 15 rfl) rfl
theorem q332 : (Jvm.Cond.static ({ cls := "java/lang/StringUTF16", name := "newBytesLength", desc := "(I)I" } : Jvm.MethodName)) ∈ lw_all := lw_g (lw_at lw_m2 16 rfl) rfl
theorem q333 : (Jvm.Cond.code ({ cls := "java/lang/StringUTF16", name := "newBytesLength", desc := "(I)I" } : Jvm.MethodName) prog_30_method_3_code (1 : Nat) (Option.some Jvm.ClassFile.FieldType.int)) ∈ lw_all := lw_g (lw_at lw_m2 17 rfl) rfl
theorem q334 : (Jvm.Cond.constant "java/lang/StringUTF16" (20 : Nat) (1073741823 : Int32)) ∈ lw_all := lw_g (lw_at lw_m2 18 rfl) rfl
theorem q406 : (Jvm.Cond.static ({ cls := "java/lang/StringUTF16", name := "inflate", desc := "([BI[BII)V" } : Jvm.MethodName)) ∈ lw_all := lw_g (lw_at lw_m2 90 rfl) rfl
theorem q407 : (Jvm.Cond.code ({ cls := "java/lang/StringUTF16", name := "inflate", desc := "([BI[BII)V" } : Jvm.MethodName) prog_30_method_86_code (6 : Nat) (Option.none : Option Jvm.ClassFile.FieldType)) ∈ lw_all := lw_g (lw_at lw_m2 91 rfl) rfl
theorem q408 : (Jvm.Cond.methodLink "java/lang/StringUTF16" (173 : Nat) ({ cls := "java/lang/StringUTF16", name := "checkBoundsOffCount", desc := "(II[B)V" } : Jvm.MethodName)) ∈ lw_all := lw_g (lw_at lw_m2 92 rfl) rfl
theorem q409 : (Jvm.Cond.static ({ cls := "java/lang/StringUTF16", name := "checkBoundsOffCount", desc := "(II[B)V" } : Jvm.MethodName)) ∈ lw_all := lw_g (lw_at lw_m2 93 rfl) rfl
theorem q410 : (Jvm.Cond.code ({ cls := "java/lang/StringUTF16", name := "checkBoundsOffCount", desc := "(II[B)V" } : Jvm.MethodName) prog_30_method_94_code (3 : Nat) (Option.none : Option Jvm.ClassFile.FieldType)) ∈ lw_all := lw_g (lw_at lw_m2 94 rfl) rfl
theorem q411 : (Jvm.Cond.methodLink "java/lang/StringUTF16" (48 : Nat) ({ cls := "java/lang/StringUTF16", name := "length", desc := "([B)I" } : Jvm.MethodName)) ∈ lw_all := lw_g (lw_at lw_m2 95 rfl) rfl
theorem q412 : (Jvm.Cond.static ({ cls := "java/lang/StringUTF16", name := "length", desc := "([B)I" } : Jvm.MethodName)) ∈ lw_all := lw_g (lw_at lw_m2 96 rfl) rfl
theorem q413 : (Jvm.Cond.code ({ cls := "java/lang/StringUTF16", name := "length", desc := "([B)I" } : Jvm.MethodName) prog_30_method_6_code (1 : Nat) (Option.some Jvm.ClassFile.FieldType.int)) ∈ lw_all := lw_g (lw_at lw_m2 97 rfl) rfl
theorem q414 : (Jvm.Cond.methodLink "java/lang/StringUTF16" (419 : Nat) ({ cls := "java/lang/String", name := "checkBoundsOffCount", desc := "(III)I" } : Jvm.MethodName)) ∈ lw_all := lw_g (lw_at lw_m2 98 rfl) rfl
theorem q422 : (Jvm.Cond.methodLink "java/lang/StringUTF16" (111 : Nat) ({ cls := "java/lang/StringUTF16", name := "putChar", desc := "([BII)V" } : Jvm.MethodName)) ∈ lw_all := lw_g (lw_at lw_m2 106 rfl) rfl
theorem q423 : (Jvm.Cond.static ({ cls := "java/lang/StringUTF16", name := "putChar", desc := "([BII)V" } : Jvm.MethodName)) ∈ lw_all := lw_g (lw_at lw_m2 107 rfl) rfl
theorem q424 : (Jvm.Cond.code ({ cls := "java/lang/StringUTF16", name := "putChar", desc := "([BII)V" } : Jvm.MethodName) prog_30_method_4_code (3 : Nat) (Option.none : Option Jvm.ClassFile.FieldType)) ∈ lw_all := lw_g (lw_at lw_m2 108 rfl) rfl
theorem q425 : (Jvm.Cond.fieldLink "java/lang/StringUTF16" (44 : Nat) "java/lang/StringUTF16" "$assertionsDisabled" "Z") ∈ lw_all := lw_g (lw_at lw_m2 109 rfl) rfl
theorem q426 : (Jvm.Cond.laysStatic "java/lang/StringUTF16" "$assertionsDisabled" "Z") ∈ lw_tbl := lw_at lw_m2 110 rfl
theorem q427 : (Jvm.Cond.fieldLink "java/lang/StringUTF16" (59 : Nat) "java/lang/StringUTF16" "HI_BYTE_SHIFT" "I") ∈ lw_all := lw_g (lw_at lw_m2 111 rfl) rfl
theorem q428 : (Jvm.Cond.laysStatic "java/lang/StringUTF16" "HI_BYTE_SHIFT" "I") ∈ lw_tbl := lw_at lw_m2 112 rfl
theorem q429 : (Jvm.Cond.fieldLink "java/lang/StringUTF16" (63 : Nat) "java/lang/StringUTF16" "LO_BYTE_SHIFT" "I") ∈ lw_all := lw_g (lw_at lw_m2 113 rfl) rfl
theorem q430 : (Jvm.Cond.laysStatic "java/lang/StringUTF16" "LO_BYTE_SHIFT" "I") ∈ lw_tbl := lw_at lw_m2 114 rfl
theorem q432 : (Jvm.Cond.static ({ cls := "java/lang/StringUTF16", name := "putCharSB", desc := "([BII)V" } : Jvm.MethodName)) ∈ lw_all := lw_g (lw_at lw_m2 116 rfl) rfl
theorem q433 : (Jvm.Cond.code ({ cls := "java/lang/StringUTF16", name := "putCharSB", desc := "([BII)V" } : Jvm.MethodName) prog_30_method_71_code (3 : Nat) (Option.none : Option Jvm.ClassFile.FieldType)) ∈ lw_all := lw_g (lw_at lw_m2 117 rfl) rfl
theorem q434 : (Jvm.Cond.methodLink "java/lang/StringUTF16" (67 : Nat) ({ cls := "java/lang/StringUTF16", name := "checkIndex", desc := "(I[B)V" } : Jvm.MethodName)) ∈ lw_all := lw_g (lw_at lw_m2 118 rfl) rfl
theorem q435 : (Jvm.Cond.static ({ cls := "java/lang/StringUTF16", name := "checkIndex", desc := "(I[B)V" } : Jvm.MethodName)) ∈ lw_all := lw_g (lw_at lw_m2 119 rfl) rfl
theorem q436 : (Jvm.Cond.code ({ cls := "java/lang/StringUTF16", name := "checkIndex", desc := "(I[B)V" } : Jvm.MethodName) prog_30_method_91_code (2 : Nat) (Option.none : Option Jvm.ClassFile.FieldType)) ∈ lw_all := lw_g (lw_at lw_m2 120 rfl) rfl
theorem q437 : (Jvm.Cond.methodLink "java/lang/StringUTF16" (414 : Nat) ({ cls := "java/lang/String", name := "checkIndex", desc := "(II)V" } : Jvm.MethodName)) ∈ lw_all := lw_g (lw_at lw_m2 121 rfl) rfl
theorem q481 : (Jvm.Cond.static ({ cls := "java/lang/StringUTF16", name := "compress", desc := "([BII)[B" } : Jvm.MethodName)) ∈ lw_all := lw_g (lw_at lw_m2 165 rfl) rfl
theorem q482 : (Jvm.Cond.code ({ cls := "java/lang/StringUTF16", name := "compress", desc := "([BII)[B" } : Jvm.MethodName) prog_30_method_17_code (6 : Nat) (Option.some (Jvm.ClassFile.FieldType.array Jvm.ClassFile.FieldType.byte))) ∈ lw_all := lw_g (lw_at lw_m2 166 rfl) rfl
theorem q483 : (Jvm.Cond.methodLink "java/lang/StringUTF16" (123 : Nat) ({ cls := "java/lang/StringUTF16", name := "compress", desc := "([BI[BII)I" } : Jvm.MethodName)) ∈ lw_all := lw_g (lw_at lw_m2 167 rfl) rfl
theorem q484 : (Jvm.Cond.static ({ cls := "java/lang/StringUTF16", name := "compress", desc := "([BI[BII)I" } : Jvm.MethodName)) ∈ lw_all := lw_g (lw_at lw_m2 168 rfl) rfl
theorem q485 : (Jvm.Cond.code ({ cls := "java/lang/StringUTF16", name := "compress", desc := "([BI[BII)I" } : Jvm.MethodName) prog_30_method_22_code (7 : Nat) (Option.some Jvm.ClassFile.FieldType.int)) ∈ lw_all := lw_g (lw_at lw_m2 169 rfl) rfl
theorem q486 : (Jvm.Cond.methodLink "java/lang/StringUTF16" (71 : Nat) ({ cls := "java/lang/StringUTF16", name := "getChar", desc := "([BI)C" } : Jvm.MethodName)) ∈ lw_all := lw_g (lw_at lw_m2 170 rfl) rfl
theorem q487 : (Jvm.Cond.static ({ cls := "java/lang/StringUTF16", name := "getChar", desc := "([BI)C" } : Jvm.MethodName)) ∈ lw_all := lw_g (lw_at lw_m2 171 rfl) rfl
theorem q488 : (Jvm.Cond.code ({ cls := "java/lang/StringUTF16", name := "getChar", desc := "([BI)C" } : Jvm.MethodName) prog_30_method_5_code (2 : Nat) (Option.some Jvm.ClassFile.FieldType.char)) ∈ lw_all := lw_g (lw_at lw_m2 172 rfl) rfl
theorem q489 : (Jvm.Cond.methodLink "java/lang/StringUTF16" (126 : Nat) ({ cls := "java/util/Arrays", name := "copyOfRange", desc := "([BII)[B" } : Jvm.MethodName)) ∈ lw_all := lw_g (lw_at lw_m2 173 rfl) rfl
theorem q491 : (Jvm.Cond.static ({ cls := "java/lang/StringUTF16", name := "coderFromArrayLen", desc := "([BI)B" } : Jvm.MethodName)) ∈ lw_all := lw_g (lw_at lw_m2 175 rfl) rfl
theorem q492 : (Jvm.Cond.code ({ cls := "java/lang/StringUTF16", name := "coderFromArrayLen", desc := "([BI)B" } : Jvm.MethodName) prog_30_method_15_code (2 : Nat) (Option.some Jvm.ClassFile.FieldType.byte)) ∈ lw_all := lw_g (lw_at lw_m2 176 rfl) rfl
theorem q614 : (Jvm.Cond.static ({ cls := "java/lang/StringUTF16", name := "charAt", desc := "([BI)C" } : Jvm.MethodName)) ∈ lw_all := lw_g (lw_at lw_m3 58 rfl) rfl
theorem q615 : (Jvm.Cond.code ({ cls := "java/lang/StringUTF16", name := "charAt", desc := "([BI)C" } : Jvm.MethodName) prog_30_method_83_code (2 : Nat) (Option.some Jvm.ClassFile.FieldType.char)) ∈ lw_all := lw_g (lw_at lw_m3 59 rfl) rfl
/-! jdk/internal/util/ArraysSupport -/
set_option maxRecDepth 100000
def RJ7 : String := "jdk/internal/util/ArraysSupport"
abbrev cJ7_newLength : ByteArray := prog_44_method_27_code
def yJ7_newLength : MethodName := ⟨RJ7, "newLength", "(III)I"⟩
def dkwJ7_newLength_1 : List UInt8 := [184, 0, 201, 172]
abbrev dktJ7_newLength_1 : List UInt8 := dkwJ7_newLength_1 ++ []
def dkwJ7_newLength_0 : List UInt8 := [26, 27, 28, 184, 0, 194, 96, 62, 3, 29, 162, 0, 11, 29, 18, 200, 163, 0, 5, 29, 172, 26, 27]
abbrev dktJ7_newLength_0 : List UInt8 := dkwJ7_newLength_0 ++ dktJ7_newLength_1
theorem dksJ7_newLength_0 : cJ7_newLength.data.toList.drop 0 = dktJ7_newLength_0 := by decide +kernel
theorem dksJ7_newLength_1 : cJ7_newLength.data.toList.drop 23 = dktJ7_newLength_1 := dk_seg dksJ7_newLength_0 23 rfl rfl
theorem dJ7_newLength_0 : decode cJ7_newLength 0 = .ok (.iload_n 0, 1) := dk_26 (dk_at dksJ7_newLength_0 0 rfl rfl)
theorem dJ7_newLength_1 : decode cJ7_newLength 1 = .ok (.iload_n 1, 1) := dk_27 (dk_at dksJ7_newLength_0 1 rfl rfl)
theorem dJ7_newLength_2 : decode cJ7_newLength 2 = .ok (.iload_n 2, 1) := dk_28 (dk_at dksJ7_newLength_0 2 rfl rfl)
theorem dJ7_newLength_3 : decode cJ7_newLength 3 = .ok (.invokestatic 194, 3) := dk_184 0 194 (dk_at dksJ7_newLength_0 3 rfl rfl)
theorem dJ7_newLength_6 : decode cJ7_newLength 6 = .ok (.iadd, 1) := dk_96 (dk_at dksJ7_newLength_0 6 rfl rfl)
theorem dJ7_newLength_7 : decode cJ7_newLength 7 = .ok (.istore_n 3, 1) := dk_62 (dk_at dksJ7_newLength_0 7 rfl rfl)
theorem dJ7_newLength_8 : decode cJ7_newLength 8 = .ok (.iconst 0, 1) := dk_3 (dk_at dksJ7_newLength_0 8 rfl rfl)
theorem dJ7_newLength_9 : decode cJ7_newLength 9 = .ok (.iload_n 3, 1) := dk_29 (dk_at dksJ7_newLength_0 9 rfl rfl)
theorem dJ7_newLength_10 : decode cJ7_newLength 10 = .ok (.if_icmp .ge 11, 3) := dk_162 0 11 (dk_at dksJ7_newLength_0 10 rfl rfl)
theorem dJ7_newLength_13 : decode cJ7_newLength 13 = .ok (.iload_n 3, 1) := dk_29 (dk_at dksJ7_newLength_0 13 rfl rfl)
theorem dJ7_newLength_14 : decode cJ7_newLength 14 = .ok (.ldc 200, 2) := dk_18 200 (dk_at dksJ7_newLength_0 14 rfl rfl)
theorem dJ7_newLength_16 : decode cJ7_newLength 16 = .ok (.if_icmp .gt 5, 3) := dk_163 0 5 (dk_at dksJ7_newLength_0 16 rfl rfl)
theorem dJ7_newLength_19 : decode cJ7_newLength 19 = .ok (.iload_n 3, 1) := dk_29 (dk_at dksJ7_newLength_0 19 rfl rfl)
theorem dJ7_newLength_20 : decode cJ7_newLength 20 = .ok (.ireturn, 1) := dk_172 (dk_at dksJ7_newLength_0 20 rfl rfl)
theorem dJ7_newLength_21 : decode cJ7_newLength 21 = .ok (.iload_n 0, 1) := dk_26 (dk_at dksJ7_newLength_0 21 rfl rfl)
theorem dJ7_newLength_22 : decode cJ7_newLength 22 = .ok (.iload_n 1, 1) := dk_27 (dk_at dksJ7_newLength_0 22 rfl rfl)
theorem dJ7_newLength_23 : decode cJ7_newLength 23 = .ok (.invokestatic 201, 3) := dk_184 0 201 (dk_at dksJ7_newLength_1 0 rfl rfl)
theorem dJ7_newLength_26 : decode cJ7_newLength 26 = .ok (.ireturn, 1) := dk_172 (dk_at dksJ7_newLength_1 3 rfl rfl)
abbrev cJ7_hugeLength : ByteArray := prog_44_method_28_code
def yJ7_hugeLength : MethodName := ⟨RJ7, "hugeLength", "(II)I"⟩
def dkwJ7_hugeLength_2 : List UInt8 := [191, 28, 18, 200, 163, 0, 6, 18, 200, 172, 28, 172]
abbrev dktJ7_hugeLength_2 : List UInt8 := dkwJ7_hugeLength_2 ++ []
def dkwJ7_hugeLength_1 : List UInt8 := [26, 182, 0, 98, 18, 208, 182, 0, 94, 27, 182, 0, 98, 18, 210, 182, 0, 94, 182, 0, 101, 183, 0, 212]
abbrev dktJ7_hugeLength_1 : List UInt8 := dkwJ7_hugeLength_1 ++ dktJ7_hugeLength_2
def dkwJ7_hugeLength_0 : List UInt8 := [26, 27, 96, 61, 28, 156, 0, 44, 187, 0, 204, 89, 187, 0, 89, 89, 183, 0, 91, 18, 206, 182, 0, 94]
abbrev dktJ7_hugeLength_0 : List UInt8 := dkwJ7_hugeLength_0 ++ dktJ7_hugeLength_1
theorem dksJ7_hugeLength_0 : cJ7_hugeLength.data.toList.drop 0 = dktJ7_hugeLength_0 := by decide +kernel
theorem dksJ7_hugeLength_1 : cJ7_hugeLength.data.toList.drop 24 = dktJ7_hugeLength_1 := dk_seg dksJ7_hugeLength_0 24 rfl rfl
theorem dksJ7_hugeLength_2 : cJ7_hugeLength.data.toList.drop 48 = dktJ7_hugeLength_2 := dk_seg dksJ7_hugeLength_1 24 rfl rfl
theorem dJ7_hugeLength_0 : decode cJ7_hugeLength 0 = .ok (.iload_n 0, 1) := dk_26 (dk_at dksJ7_hugeLength_0 0 rfl rfl)
theorem dJ7_hugeLength_1 : decode cJ7_hugeLength 1 = .ok (.iload_n 1, 1) := dk_27 (dk_at dksJ7_hugeLength_0 1 rfl rfl)
theorem dJ7_hugeLength_2 : decode cJ7_hugeLength 2 = .ok (.iadd, 1) := dk_96 (dk_at dksJ7_hugeLength_0 2 rfl rfl)
theorem dJ7_hugeLength_3 : decode cJ7_hugeLength 3 = .ok (.istore_n 2, 1) := dk_61 (dk_at dksJ7_hugeLength_0 3 rfl rfl)
theorem dJ7_hugeLength_4 : decode cJ7_hugeLength 4 = .ok (.iload_n 2, 1) := dk_28 (dk_at dksJ7_hugeLength_0 4 rfl rfl)
theorem dJ7_hugeLength_5 : decode cJ7_hugeLength 5 = .ok (.ifCond .ge 44, 3) := dk_156 0 44 (dk_at dksJ7_hugeLength_0 5 rfl rfl)
theorem dJ7_hugeLength_8 : decode cJ7_hugeLength 8 = .ok (.new 204, 3) := dk_187 0 204 (dk_at dksJ7_hugeLength_0 8 rfl rfl)
theorem dJ7_hugeLength_11 : decode cJ7_hugeLength 11 = .ok (.dup, 1) := dk_89 (dk_at dksJ7_hugeLength_0 11 rfl rfl)
theorem dJ7_hugeLength_12 : decode cJ7_hugeLength 12 = .ok (.new 89, 3) := dk_187 0 89 (dk_at dksJ7_hugeLength_0 12 rfl rfl)
theorem dJ7_hugeLength_15 : decode cJ7_hugeLength 15 = .ok (.dup, 1) := dk_89 (dk_at dksJ7_hugeLength_0 15 rfl rfl)
theorem dJ7_hugeLength_16 : decode cJ7_hugeLength 16 = .ok (.invokespecial 91, 3) := dk_183 0 91 (dk_at dksJ7_hugeLength_0 16 rfl rfl)
theorem dJ7_hugeLength_19 : decode cJ7_hugeLength 19 = .ok (.ldc 206, 2) := dk_18 206 (dk_at dksJ7_hugeLength_0 19 rfl rfl)
theorem dJ7_hugeLength_21 : decode cJ7_hugeLength 21 = .ok (.invokevirtual 94, 3) := dk_182 0 94 (dk_at dksJ7_hugeLength_0 21 rfl rfl)
theorem dJ7_hugeLength_24 : decode cJ7_hugeLength 24 = .ok (.iload_n 0, 1) := dk_26 (dk_at dksJ7_hugeLength_1 0 rfl rfl)
theorem dJ7_hugeLength_25 : decode cJ7_hugeLength 25 = .ok (.invokevirtual 98, 3) := dk_182 0 98 (dk_at dksJ7_hugeLength_1 1 rfl rfl)
theorem dJ7_hugeLength_28 : decode cJ7_hugeLength 28 = .ok (.ldc 208, 2) := dk_18 208 (dk_at dksJ7_hugeLength_1 4 rfl rfl)
theorem dJ7_hugeLength_30 : decode cJ7_hugeLength 30 = .ok (.invokevirtual 94, 3) := dk_182 0 94 (dk_at dksJ7_hugeLength_1 6 rfl rfl)
theorem dJ7_hugeLength_33 : decode cJ7_hugeLength 33 = .ok (.iload_n 1, 1) := dk_27 (dk_at dksJ7_hugeLength_1 9 rfl rfl)
theorem dJ7_hugeLength_34 : decode cJ7_hugeLength 34 = .ok (.invokevirtual 98, 3) := dk_182 0 98 (dk_at dksJ7_hugeLength_1 10 rfl rfl)
theorem dJ7_hugeLength_37 : decode cJ7_hugeLength 37 = .ok (.ldc 210, 2) := dk_18 210 (dk_at dksJ7_hugeLength_1 13 rfl rfl)
theorem dJ7_hugeLength_39 : decode cJ7_hugeLength 39 = .ok (.invokevirtual 94, 3) := dk_182 0 94 (dk_at dksJ7_hugeLength_1 15 rfl rfl)
theorem dJ7_hugeLength_42 : decode cJ7_hugeLength 42 = .ok (.invokevirtual 101, 3) := dk_182 0 101 (dk_at dksJ7_hugeLength_1 18 rfl rfl)
theorem dJ7_hugeLength_45 : decode cJ7_hugeLength 45 = .ok (.invokespecial 212, 3) := dk_183 0 212 (dk_at dksJ7_hugeLength_1 21 rfl rfl)
theorem dJ7_hugeLength_48 : decode cJ7_hugeLength 48 = .ok (.athrow, 1) := dk_191 (dk_at dksJ7_hugeLength_2 0 rfl rfl)
theorem dJ7_hugeLength_49 : decode cJ7_hugeLength 49 = .ok (.iload_n 2, 1) := dk_28 (dk_at dksJ7_hugeLength_2 1 rfl rfl)
theorem dJ7_hugeLength_50 : decode cJ7_hugeLength 50 = .ok (.ldc 200, 2) := dk_18 200 (dk_at dksJ7_hugeLength_2 2 rfl rfl)
theorem dJ7_hugeLength_52 : decode cJ7_hugeLength 52 = .ok (.if_icmp .gt 6, 3) := dk_163 0 6 (dk_at dksJ7_hugeLength_2 4 rfl rfl)
theorem dJ7_hugeLength_55 : decode cJ7_hugeLength 55 = .ok (.ldc 200, 2) := dk_18 200 (dk_at dksJ7_hugeLength_2 7 rfl rfl)
theorem dJ7_hugeLength_57 : decode cJ7_hugeLength 57 = .ok (.ireturn, 1) := dk_172 (dk_at dksJ7_hugeLength_2 9 rfl rfl)
theorem dJ7_hugeLength_58 : decode cJ7_hugeLength 58 = .ok (.iload_n 2, 1) := dk_28 (dk_at dksJ7_hugeLength_2 10 rfl rfl)
theorem dJ7_hugeLength_59 : decode cJ7_hugeLength 59 = .ok (.ireturn, 1) := dk_172 (dk_at dksJ7_hugeLength_2 11 rfl rfl)
theorem q89 : (Jvm.Cond.initialized "jdk/internal/util/ArraysSupport") ∈ lw_all := lw_g (lw_at lw_m1 13 rfl) rfl
theorem q364 : (Jvm.Cond.static ({ cls := "jdk/internal/util/ArraysSupport", name := "newLength", desc := "(III)I" } : Jvm.MethodName)) ∈ lw_all := lw_g (lw_at lw_m2 48 rfl) rfl
theorem q365 : (Jvm.Cond.code ({ cls := "jdk/internal/util/ArraysSupport", name := "newLength", desc := "(III)I" } : Jvm.MethodName) prog_44_method_27_code (4 : Nat) (Option.some Jvm.ClassFile.FieldType.int)) ∈ lw_all := lw_g (lw_at lw_m2 49 rfl) rfl
theorem q366 : (Jvm.Cond.methodLink "jdk/internal/util/ArraysSupport" (194 : Nat) ({ cls := "java/lang/Math", name := "max", desc := "(II)I" } : Jvm.MethodName)) ∈ lw_all := lw_g (lw_at lw_m2 50 rfl) rfl
theorem q369 : (Jvm.Cond.constant "jdk/internal/util/ArraysSupport" (200 : Nat) (2147483639 : Int32)) ∈ lw_all := lw_g (lw_at lw_m2 53 rfl) rfl
theorem q370 : (Jvm.Cond.methodLink "jdk/internal/util/ArraysSupport" (201 : Nat) ({ cls := "jdk/internal/util/ArraysSupport", name := "hugeLength", desc := "(II)I" } : Jvm.MethodName)) ∈ lw_all := lw_g (lw_at lw_m2 54 rfl) rfl
theorem q371 : (Jvm.Cond.static ({ cls := "jdk/internal/util/ArraysSupport", name := "hugeLength", desc := "(II)I" } : Jvm.MethodName)) ∈ lw_all := lw_g (lw_at lw_m2 55 rfl) rfl
theorem q372 : (Jvm.Cond.code ({ cls := "jdk/internal/util/ArraysSupport", name := "hugeLength", desc := "(II)I" } : Jvm.MethodName) prog_44_method_28_code (3 : Nat) (Option.some Jvm.ClassFile.FieldType.int)) ∈ lw_all := lw_g (lw_at lw_m2 56 rfl) rfl
/-! java/lang/Math -/
set_option maxRecDepth 100000
def RJ8 : String := "java/lang/Math"
abbrev cJ8_max : ByteArray := prog_25_method_65_code
def yJ8_max : MethodName := ⟨RJ8, "max", "(II)I"⟩
def dkwJ8_max_0 : List UInt8 := [26, 27, 161, 0, 7, 26, 167, 0, 4, 27, 172]
abbrev dktJ8_max_0 : List UInt8 := dkwJ8_max_0 ++ []
theorem dksJ8_max_0 : cJ8_max.data.toList.drop 0 = dktJ8_max_0 := by decide +kernel
theorem dJ8_max_0 : decode cJ8_max 0 = .ok (.iload_n 0, 1) := dk_26 (dk_at dksJ8_max_0 0 rfl rfl)
theorem dJ8_max_1 : decode cJ8_max 1 = .ok (.iload_n 1, 1) := dk_27 (dk_at dksJ8_max_0 1 rfl rfl)
theorem dJ8_max_2 : decode cJ8_max 2 = .ok (.if_icmp .lt 7, 3) := dk_161 0 7 (dk_at dksJ8_max_0 2 rfl rfl)
theorem dJ8_max_5 : decode cJ8_max 5 = .ok (.iload_n 0, 1) := dk_26 (dk_at dksJ8_max_0 5 rfl rfl)
theorem dJ8_max_6 : decode cJ8_max 6 = .ok (.goto 4, 3) := dk_167 0 4 (dk_at dksJ8_max_0 6 rfl rfl)
theorem dJ8_max_9 : decode cJ8_max 9 = .ok (.iload_n 1, 1) := dk_27 (dk_at dksJ8_max_0 9 rfl rfl)
theorem dJ8_max_10 : decode cJ8_max 10 = .ok (.ireturn, 1) := dk_172 (dk_at dksJ8_max_0 10 rfl rfl)
abbrev cJ8_min : ByteArray := prog_25_method_69_code
def yJ8_min : MethodName := ⟨RJ8, "min", "(II)I"⟩
def dkwJ8_min_0 : List UInt8 := [26, 27, 163, 0, 7, 26, 167, 0, 4, 27, 172]
abbrev dktJ8_min_0 : List UInt8 := dkwJ8_min_0 ++ []
theorem dksJ8_min_0 : cJ8_min.data.toList.drop 0 = dktJ8_min_0 := by decide +kernel
theorem dJ8_min_0 : decode cJ8_min 0 = .ok (.iload_n 0, 1) := dk_26 (dk_at dksJ8_min_0 0 rfl rfl)
theorem dJ8_min_1 : decode cJ8_min 1 = .ok (.iload_n 1, 1) := dk_27 (dk_at dksJ8_min_0 1 rfl rfl)
theorem dJ8_min_2 : decode cJ8_min 2 = .ok (.if_icmp .gt 7, 3) := dk_163 0 7 (dk_at dksJ8_min_0 2 rfl rfl)
theorem dJ8_min_5 : decode cJ8_min 5 = .ok (.iload_n 0, 1) := dk_26 (dk_at dksJ8_min_0 5 rfl rfl)
theorem dJ8_min_6 : decode cJ8_min 6 = .ok (.goto 4, 3) := dk_167 0 4 (dk_at dksJ8_min_0 6 rfl rfl)
theorem dJ8_min_9 : decode cJ8_min 9 = .ok (.iload_n 1, 1) := dk_27 (dk_at dksJ8_min_0 9 rfl rfl)
theorem dJ8_min_10 : decode cJ8_min 10 = .ok (.ireturn, 1) := dk_172 (dk_at dksJ8_min_0 10 rfl rfl)
abbrev cJ8_abs : ByteArray := prog_25_method_61_code
def yJ8_abs : MethodName := ⟨RJ8, "abs", "(J)J"⟩
def dkwJ8_abs_0 : List UInt8 := [30, 9, 148, 156, 0, 8, 30, 117, 167, 0, 4, 30, 173]
abbrev dktJ8_abs_0 : List UInt8 := dkwJ8_abs_0 ++ []
theorem dksJ8_abs_0 : cJ8_abs.data.toList.drop 0 = dktJ8_abs_0 := by decide +kernel
theorem dJ8_abs_0 : decode cJ8_abs 0 = .ok (.lload_n 0, 1) := dk_30 (dk_at dksJ8_abs_0 0 rfl rfl)
theorem dJ8_abs_1 : decode cJ8_abs 1 = .ok (.lconst 0, 1) := dk_9 (dk_at dksJ8_abs_0 1 rfl rfl)
theorem dJ8_abs_2 : decode cJ8_abs 2 = .ok (.lcmp, 1) := dk_148 (dk_at dksJ8_abs_0 2 rfl rfl)
theorem dJ8_abs_3 : decode cJ8_abs 3 = .ok (.ifCond .ge 8, 3) := dk_156 0 8 (dk_at dksJ8_abs_0 3 rfl rfl)
theorem dJ8_abs_6 : decode cJ8_abs 6 = .ok (.lload_n 0, 1) := dk_30 (dk_at dksJ8_abs_0 6 rfl rfl)
theorem dJ8_abs_7 : decode cJ8_abs 7 = .ok (.lneg, 1) := dk_117 (dk_at dksJ8_abs_0 7 rfl rfl)
theorem dJ8_abs_8 : decode cJ8_abs 8 = .ok (.goto 4, 3) := dk_167 0 4 (dk_at dksJ8_abs_0 8 rfl rfl)
theorem dJ8_abs_11 : decode cJ8_abs 11 = .ok (.lload_n 0, 1) := dk_30 (dk_at dksJ8_abs_0 11 rfl rfl)
theorem dJ8_abs_12 : decode cJ8_abs 12 = .ok (.lreturn, 1) := dk_173 (dk_at dksJ8_abs_0 12 rfl rfl)
abbrev cJ8_max_2 : ByteArray := prog_25_method_66_code
def yJ8_max_2 : MethodName := ⟨RJ8, "max", "(JJ)J"⟩
def dkwJ8_max_2_0 : List UInt8 := [30, 32, 148, 155, 0, 7, 30, 167, 0, 4, 32, 173]
abbrev dktJ8_max_2_0 : List UInt8 := dkwJ8_max_2_0 ++ []
theorem dksJ8_max_2_0 : cJ8_max_2.data.toList.drop 0 = dktJ8_max_2_0 := by decide +kernel
theorem dJ8_max_2_0 : decode cJ8_max_2 0 = .ok (.lload_n 0, 1) := dk_30 (dk_at dksJ8_max_2_0 0 rfl rfl)
theorem dJ8_max_2_1 : decode cJ8_max_2 1 = .ok (.lload_n 2, 1) := dk_32 (dk_at dksJ8_max_2_0 1 rfl rfl)
theorem dJ8_max_2_2 : decode cJ8_max_2 2 = .ok (.lcmp, 1) := dk_148 (dk_at dksJ8_max_2_0 2 rfl rfl)
theorem dJ8_max_2_3 : decode cJ8_max_2 3 = .ok (.ifCond .lt 7, 3) := dk_155 0 7 (dk_at dksJ8_max_2_0 3 rfl rfl)
theorem dJ8_max_2_6 : decode cJ8_max_2 6 = .ok (.lload_n 0, 1) := dk_30 (dk_at dksJ8_max_2_0 6 rfl rfl)
theorem dJ8_max_2_7 : decode cJ8_max_2 7 = .ok (.goto 4, 3) := dk_167 0 4 (dk_at dksJ8_max_2_0 7 rfl rfl)
theorem dJ8_max_2_10 : decode cJ8_max_2 10 = .ok (.lload_n 2, 1) := dk_32 (dk_at dksJ8_max_2_0 10 rfl rfl)
theorem dJ8_max_2_11 : decode cJ8_max_2 11 = .ok (.lreturn, 1) := dk_173 (dk_at dksJ8_max_2_0 11 rfl rfl)
theorem q90 : (Jvm.Cond.initialized "java/lang/Math") ∈ lw_all := lw_g (lw_at lw_m1 14 rfl) rfl
theorem q367 : (Jvm.Cond.static ({ cls := "java/lang/Math", name := "max", desc := "(II)I" } : Jvm.MethodName)) ∈ lw_all := lw_g (lw_at lw_m2 51 rfl) rfl
theorem q368 : (Jvm.Cond.code ({ cls := "java/lang/Math", name := "max", desc := "(II)I" } : Jvm.MethodName) prog_25_method_65_code (2 : Nat) (Option.some Jvm.ClassFile.FieldType.int)) ∈ lw_all := lw_g (lw_at lw_m2 52 rfl) rfl
theorem q385 : (Jvm.Cond.static ({ cls := "java/lang/Math", name := "min", desc := "(II)I" } : Jvm.MethodName)) ∈ lw_all := lw_g (lw_at lw_m2 69 rfl) rfl
theorem q386 : (Jvm.Cond.code ({ cls := "java/lang/Math", name := "min", desc := "(II)I" } : Jvm.MethodName) prog_25_method_69_code (2 : Nat) (Option.some Jvm.ClassFile.FieldType.int)) ∈ lw_all := lw_g (lw_at lw_m2 70 rfl) rfl
theorem q909 : (Jvm.Cond.static ({ cls := "java/lang/Math", name := "abs", desc := "(J)J" } : Jvm.MethodName)) ∈ lw_all := lw_g (lw_at lw_m4 113 rfl) rfl
theorem q910 : (Jvm.Cond.code ({ cls := "java/lang/Math", name := "abs", desc := "(J)J" } : Jvm.MethodName) prog_25_method_61_code (2 : Nat) (Option.some Jvm.ClassFile.FieldType.long)) ∈ lw_all := lw_g (lw_at lw_m4 114 rfl) rfl
theorem q1038 : (Jvm.Cond.static ({ cls := "java/lang/Math", name := "max", desc := "(JJ)J" } : Jvm.MethodName)) ∈ lw_all := lw_g (lw_at lw_m5 2 rfl) rfl
theorem q1039 : (Jvm.Cond.code ({ cls := "java/lang/Math", name := "max", desc := "(JJ)J" } : Jvm.MethodName) prog_25_method_66_code (4 : Nat) (Option.some Jvm.ClassFile.FieldType.long)) ∈ lw_all := lw_g (lw_at lw_m5 3 rfl) rfl
/-! java/util/Arrays -/
set_option maxRecDepth 100000
def RJ9 : String := "java/util/Arrays"
abbrev cJ9_copyOf : ByteArray := prog_38_method_121_code
def yJ9_copyOf : MethodName := ⟨RJ9, "copyOf", "([BI)[B"⟩
def dkwJ9_copyOf_1 : List UInt8 := [27, 184, 1, 48, 184, 0, 150, 44, 176]
abbrev dktJ9_copyOf_1 : List UInt8 := dkwJ9_copyOf_1 ++ []
def dkwJ9_copyOf_0 : List UInt8 := [27, 42, 190, 160, 0, 11, 42, 182, 1, 54, 192, 1, 55, 176, 27, 188, 8, 77, 42, 3, 44, 3, 42, 190]
abbrev dktJ9_copyOf_0 : List UInt8 := dkwJ9_copyOf_0 ++ dktJ9_copyOf_1
theorem dksJ9_copyOf_0 : cJ9_copyOf.data.toList.drop 0 = dktJ9_copyOf_0 := by decide +kernel
theorem dksJ9_copyOf_1 : cJ9_copyOf.data.toList.drop 24 = dktJ9_copyOf_1 := dk_seg dksJ9_copyOf_0 24 rfl rfl
theorem dJ9_copyOf_0 : decode cJ9_copyOf 0 = .ok (.iload_n 1, 1) := dk_27 (dk_at dksJ9_copyOf_0 0 rfl rfl)
theorem dJ9_copyOf_1 : decode cJ9_copyOf 1 = .ok (.aload_n 0, 1) := dk_42 (dk_at dksJ9_copyOf_0 1 rfl rfl)
theorem dJ9_copyOf_2 : decode cJ9_copyOf 2 = .ok (.arraylength, 1) := dk_190 (dk_at dksJ9_copyOf_0 2 rfl rfl)
theorem dJ9_copyOf_3 : decode cJ9_copyOf 3 = .ok (.if_icmp .ne 11, 3) := dk_160 0 11 (dk_at dksJ9_copyOf_0 3 rfl rfl)
theorem dJ9_copyOf_6 : decode cJ9_copyOf 6 = .ok (.aload_n 0, 1) := dk_42 (dk_at dksJ9_copyOf_0 6 rfl rfl)
theorem dJ9_copyOf_7 : decode cJ9_copyOf 7 = .ok (.invokevirtual 310, 3) := dk_182 1 54 (dk_at dksJ9_copyOf_0 7 rfl rfl)
theorem dJ9_copyOf_10 : decode cJ9_copyOf 10 = .ok (.checkcast 311, 3) := dk_192 1 55 (dk_at dksJ9_copyOf_0 10 rfl rfl)
theorem dJ9_copyOf_13 : decode cJ9_copyOf 13 = .ok (.areturn, 1) := dk_176 (dk_at dksJ9_copyOf_0 13 rfl rfl)
theorem dJ9_copyOf_14 : decode cJ9_copyOf 14 = .ok (.iload_n 1, 1) := dk_27 (dk_at dksJ9_copyOf_0 14 rfl rfl)
theorem dJ9_copyOf_15 : decode cJ9_copyOf 15 = .ok (.newarray .byte, 2) := dk_188_8 (dk_at dksJ9_copyOf_0 15 rfl rfl)
theorem dJ9_copyOf_17 : decode cJ9_copyOf 17 = .ok (.astore_n 2, 1) := dk_77 (dk_at dksJ9_copyOf_0 17 rfl rfl)
theorem dJ9_copyOf_18 : decode cJ9_copyOf 18 = .ok (.aload_n 0, 1) := dk_42 (dk_at dksJ9_copyOf_0 18 rfl rfl)
theorem dJ9_copyOf_19 : decode cJ9_copyOf 19 = .ok (.iconst 0, 1) := dk_3 (dk_at dksJ9_copyOf_0 19 rfl rfl)
theorem dJ9_copyOf_20 : decode cJ9_copyOf 20 = .ok (.aload_n 2, 1) := dk_44 (dk_at dksJ9_copyOf_0 20 rfl rfl)
theorem dJ9_copyOf_21 : decode cJ9_copyOf 21 = .ok (.iconst 0, 1) := dk_3 (dk_at dksJ9_copyOf_0 21 rfl rfl)
theorem dJ9_copyOf_22 : decode cJ9_copyOf 22 = .ok (.aload_n 0, 1) := dk_42 (dk_at dksJ9_copyOf_0 22 rfl rfl)
theorem dJ9_copyOf_23 : decode cJ9_copyOf 23 = .ok (.arraylength, 1) := dk_190 (dk_at dksJ9_copyOf_0 23 rfl rfl)
theorem dJ9_copyOf_24 : decode cJ9_copyOf 24 = .ok (.iload_n 1, 1) := dk_27 (dk_at dksJ9_copyOf_1 0 rfl rfl)
theorem dJ9_copyOf_25 : decode cJ9_copyOf 25 = .ok (.invokestatic 304, 3) := dk_184 1 48 (dk_at dksJ9_copyOf_1 1 rfl rfl)
theorem dJ9_copyOf_28 : decode cJ9_copyOf 28 = .ok (.invokestatic 150, 3) := dk_184 0 150 (dk_at dksJ9_copyOf_1 4 rfl rfl)
theorem dJ9_copyOf_31 : decode cJ9_copyOf 31 = .ok (.aload_n 2, 1) := dk_44 (dk_at dksJ9_copyOf_1 7 rfl rfl)
theorem dJ9_copyOf_32 : decode cJ9_copyOf 32 = .ok (.areturn, 1) := dk_176 (dk_at dksJ9_copyOf_1 8 rfl rfl)
abbrev cJ9_copyOfRange : ByteArray := prog_38_method_132_code
def yJ9_copyOfRange : MethodName := ⟨RJ9, "copyOfRange", "([BII)[B"⟩
def dkwJ9_copyOfRange_1 : List UInt8 := [176]
abbrev dktJ9_copyOfRange_1 : List UInt8 := dkwJ9_copyOfRange_1 ++ []
def dkwJ9_copyOfRange_0 : List UInt8 := [27, 154, 0, 9, 28, 42, 190, 159, 0, 10, 42, 27, 28, 184, 1, 83, 176, 42, 182, 1, 54, 192, 1, 55]
abbrev dktJ9_copyOfRange_0 : List UInt8 := dkwJ9_copyOfRange_0 ++ dktJ9_copyOfRange_1
theorem dksJ9_copyOfRange_0 : cJ9_copyOfRange.data.toList.drop 0 = dktJ9_copyOfRange_0 := by decide +kernel
theorem dksJ9_copyOfRange_1 : cJ9_copyOfRange.data.toList.drop 24 = dktJ9_copyOfRange_1 := dk_seg dksJ9_copyOfRange_0 24 rfl rfl
theorem dJ9_copyOfRange_0 : decode cJ9_copyOfRange 0 = .ok (.iload_n 1, 1) := dk_27 (dk_at dksJ9_copyOfRange_0 0 rfl rfl)
theorem dJ9_copyOfRange_1 : decode cJ9_copyOfRange 1 = .ok (.ifCond .ne 9, 3) := dk_154 0 9 (dk_at dksJ9_copyOfRange_0 1 rfl rfl)
theorem dJ9_copyOfRange_4 : decode cJ9_copyOfRange 4 = .ok (.iload_n 2, 1) := dk_28 (dk_at dksJ9_copyOfRange_0 4 rfl rfl)
theorem dJ9_copyOfRange_5 : decode cJ9_copyOfRange 5 = .ok (.aload_n 0, 1) := dk_42 (dk_at dksJ9_copyOfRange_0 5 rfl rfl)
theorem dJ9_copyOfRange_6 : decode cJ9_copyOfRange 6 = .ok (.arraylength, 1) := dk_190 (dk_at dksJ9_copyOfRange_0 6 rfl rfl)
theorem dJ9_copyOfRange_7 : decode cJ9_copyOfRange 7 = .ok (.if_icmp .eq 10, 3) := dk_159 0 10 (dk_at dksJ9_copyOfRange_0 7 rfl rfl)
theorem dJ9_copyOfRange_10 : decode cJ9_copyOfRange 10 = .ok (.aload_n 0, 1) := dk_42 (dk_at dksJ9_copyOfRange_0 10 rfl rfl)
theorem dJ9_copyOfRange_11 : decode cJ9_copyOfRange 11 = .ok (.iload_n 1, 1) := dk_27 (dk_at dksJ9_copyOfRange_0 11 rfl rfl)
theorem dJ9_copyOfRange_12 : decode cJ9_copyOfRange 12 = .ok (.iload_n 2, 1) := dk_28 (dk_at dksJ9_copyOfRange_0 12 rfl rfl)
theorem dJ9_copyOfRange_13 : decode cJ9_copyOfRange 13 = .ok (.invokestatic 339, 3) := dk_184 1 83 (dk_at dksJ9_copyOfRange_0 13 rfl rfl)
theorem dJ9_copyOfRange_16 : decode cJ9_copyOfRange 16 = .ok (.areturn, 1) := dk_176 (dk_at dksJ9_copyOfRange_0 16 rfl rfl)
theorem dJ9_copyOfRange_17 : decode cJ9_copyOfRange 17 = .ok (.aload_n 0, 1) := dk_42 (dk_at dksJ9_copyOfRange_0 17 rfl rfl)
theorem dJ9_copyOfRange_18 : decode cJ9_copyOfRange 18 = .ok (.invokevirtual 310, 3) := dk_182 1 54 (dk_at dksJ9_copyOfRange_0 18 rfl rfl)
theorem dJ9_copyOfRange_21 : decode cJ9_copyOfRange 21 = .ok (.checkcast 311, 3) := dk_192 1 55 (dk_at dksJ9_copyOfRange_0 21 rfl rfl)
theorem dJ9_copyOfRange_24 : decode cJ9_copyOfRange 24 = .ok (.areturn, 1) := dk_176 (dk_at dksJ9_copyOfRange_1 0 rfl rfl)
abbrev cJ9_copyOfRangeByte : ByteArray := prog_38_method_133_code
def yJ9_copyOfRangeByte : MethodName := ⟨RJ9, "copyOfRangeByte", "([BII)[B"⟩
def dkwJ9_copyOfRangeByte_1 : List UInt8 := [184, 1, 48, 184, 0, 150, 25, 4, 176]
abbrev dktJ9_copyOfRangeByte_1 : List UInt8 := dkwJ9_copyOfRangeByte_1 ++ []
def dkwJ9_copyOfRangeByte_0 : List UInt8 := [27, 28, 184, 1, 87, 28, 27, 100, 62, 29, 188, 8, 58, 4, 42, 27, 25, 4, 3, 42, 190, 27, 100, 29]
abbrev dktJ9_copyOfRangeByte_0 : List UInt8 := dkwJ9_copyOfRangeByte_0 ++ dktJ9_copyOfRangeByte_1
theorem dksJ9_copyOfRangeByte_0 : cJ9_copyOfRangeByte.data.toList.drop 0 = dktJ9_copyOfRangeByte_0 := by decide +kernel
theorem dksJ9_copyOfRangeByte_1 : cJ9_copyOfRangeByte.data.toList.drop 24 = dktJ9_copyOfRangeByte_1 := dk_seg dksJ9_copyOfRangeByte_0 24 rfl rfl
theorem dJ9_copyOfRangeByte_0 : decode cJ9_copyOfRangeByte 0 = .ok (.iload_n 1, 1) := dk_27 (dk_at dksJ9_copyOfRangeByte_0 0 rfl rfl)
theorem dJ9_copyOfRangeByte_1 : decode cJ9_copyOfRangeByte 1 = .ok (.iload_n 2, 1) := dk_28 (dk_at dksJ9_copyOfRangeByte_0 1 rfl rfl)
theorem dJ9_copyOfRangeByte_2 : decode cJ9_copyOfRangeByte 2 = .ok (.invokestatic 343, 3) := dk_184 1 87 (dk_at dksJ9_copyOfRangeByte_0 2 rfl rfl)
theorem dJ9_copyOfRangeByte_5 : decode cJ9_copyOfRangeByte 5 = .ok (.iload_n 2, 1) := dk_28 (dk_at dksJ9_copyOfRangeByte_0 5 rfl rfl)
theorem dJ9_copyOfRangeByte_6 : decode cJ9_copyOfRangeByte 6 = .ok (.iload_n 1, 1) := dk_27 (dk_at dksJ9_copyOfRangeByte_0 6 rfl rfl)
theorem dJ9_copyOfRangeByte_7 : decode cJ9_copyOfRangeByte 7 = .ok (.isub, 1) := dk_100 (dk_at dksJ9_copyOfRangeByte_0 7 rfl rfl)
theorem dJ9_copyOfRangeByte_8 : decode cJ9_copyOfRangeByte 8 = .ok (.istore_n 3, 1) := dk_62 (dk_at dksJ9_copyOfRangeByte_0 8 rfl rfl)
theorem dJ9_copyOfRangeByte_9 : decode cJ9_copyOfRangeByte 9 = .ok (.iload_n 3, 1) := dk_29 (dk_at dksJ9_copyOfRangeByte_0 9 rfl rfl)
theorem dJ9_copyOfRangeByte_10 : decode cJ9_copyOfRangeByte 10 = .ok (.newarray .byte, 2) := dk_188_8 (dk_at dksJ9_copyOfRangeByte_0 10 rfl rfl)
theorem dJ9_copyOfRangeByte_12 : decode cJ9_copyOfRangeByte 12 = .ok (.astore 4, 2) := dk_58 4 (dk_at dksJ9_copyOfRangeByte_0 12 rfl rfl)
theorem dJ9_copyOfRangeByte_14 : decode cJ9_copyOfRangeByte 14 = .ok (.aload_n 0, 1) := dk_42 (dk_at dksJ9_copyOfRangeByte_0 14 rfl rfl)
theorem dJ9_copyOfRangeByte_15 : decode cJ9_copyOfRangeByte 15 = .ok (.iload_n 1, 1) := dk_27 (dk_at dksJ9_copyOfRangeByte_0 15 rfl rfl)
theorem dJ9_copyOfRangeByte_16 : decode cJ9_copyOfRangeByte 16 = .ok (.aload 4, 2) := dk_25 4 (dk_at dksJ9_copyOfRangeByte_0 16 rfl rfl)
theorem dJ9_copyOfRangeByte_18 : decode cJ9_copyOfRangeByte 18 = .ok (.iconst 0, 1) := dk_3 (dk_at dksJ9_copyOfRangeByte_0 18 rfl rfl)
theorem dJ9_copyOfRangeByte_19 : decode cJ9_copyOfRangeByte 19 = .ok (.aload_n 0, 1) := dk_42 (dk_at dksJ9_copyOfRangeByte_0 19 rfl rfl)
theorem dJ9_copyOfRangeByte_20 : decode cJ9_copyOfRangeByte 20 = .ok (.arraylength, 1) := dk_190 (dk_at dksJ9_copyOfRangeByte_0 20 rfl rfl)
theorem dJ9_copyOfRangeByte_21 : decode cJ9_copyOfRangeByte 21 = .ok (.iload_n 1, 1) := dk_27 (dk_at dksJ9_copyOfRangeByte_0 21 rfl rfl)
theorem dJ9_copyOfRangeByte_22 : decode cJ9_copyOfRangeByte 22 = .ok (.isub, 1) := dk_100 (dk_at dksJ9_copyOfRangeByte_0 22 rfl rfl)
theorem dJ9_copyOfRangeByte_23 : decode cJ9_copyOfRangeByte 23 = .ok (.iload_n 3, 1) := dk_29 (dk_at dksJ9_copyOfRangeByte_0 23 rfl rfl)
theorem dJ9_copyOfRangeByte_24 : decode cJ9_copyOfRangeByte 24 = .ok (.invokestatic 304, 3) := dk_184 1 48 (dk_at dksJ9_copyOfRangeByte_1 0 rfl rfl)
theorem dJ9_copyOfRangeByte_27 : decode cJ9_copyOfRangeByte 27 = .ok (.invokestatic 150, 3) := dk_184 0 150 (dk_at dksJ9_copyOfRangeByte_1 3 rfl rfl)
theorem dJ9_copyOfRangeByte_30 : decode cJ9_copyOfRangeByte 30 = .ok (.aload 4, 2) := dk_25 4 (dk_at dksJ9_copyOfRangeByte_1 6 rfl rfl)
theorem dJ9_copyOfRangeByte_32 : decode cJ9_copyOfRangeByte 32 = .ok (.areturn, 1) := dk_176 (dk_at dksJ9_copyOfRangeByte_1 8 rfl rfl)
abbrev cJ9_checkLength : ByteArray := prog_38_method_131_code
def yJ9_checkLength : MethodName := ⟨RJ9, "checkLength", "(II)V"⟩
def dkwJ9_checkLength_1 : List UInt8 := [182, 0, 50, 27, 182, 0, 54, 182, 0, 61, 183, 0, 65, 191, 177]
abbrev dktJ9_checkLength_1 : List UInt8 := dkwJ9_checkLength_1 ++ []
def dkwJ9_checkLength_0 : List UInt8 := [27, 26, 162, 0, 35, 187, 0, 43, 89, 187, 0, 45, 89, 183, 0, 47, 26, 182, 0, 54, 19, 1, 81]
abbrev dktJ9_checkLength_0 : List UInt8 := dkwJ9_checkLength_0 ++ dktJ9_checkLength_1
theorem dksJ9_checkLength_0 : cJ9_checkLength.data.toList.drop 0 = dktJ9_checkLength_0 := by decide +kernel
theorem dksJ9_checkLength_1 : cJ9_checkLength.data.toList.drop 23 = dktJ9_checkLength_1 := dk_seg dksJ9_checkLength_0 23 rfl rfl
theorem dJ9_checkLength_0 : decode cJ9_checkLength 0 = .ok (.iload_n 1, 1) := dk_27 (dk_at dksJ9_checkLength_0 0 rfl rfl)
theorem dJ9_checkLength_1 : decode cJ9_checkLength 1 = .ok (.iload_n 0, 1) := dk_26 (dk_at dksJ9_checkLength_0 1 rfl rfl)
theorem dJ9_checkLength_2 : decode cJ9_checkLength 2 = .ok (.if_icmp .ge 35, 3) := dk_162 0 35 (dk_at dksJ9_checkLength_0 2 rfl rfl)
theorem dJ9_checkLength_5 : decode cJ9_checkLength 5 = .ok (.new 43, 3) := dk_187 0 43 (dk_at dksJ9_checkLength_0 5 rfl rfl)
theorem dJ9_checkLength_8 : decode cJ9_checkLength 8 = .ok (.dup, 1) := dk_89 (dk_at dksJ9_checkLength_0 8 rfl rfl)
theorem dJ9_checkLength_9 : decode cJ9_checkLength 9 = .ok (.new 45, 3) := dk_187 0 45 (dk_at dksJ9_checkLength_0 9 rfl rfl)
theorem dJ9_checkLength_12 : decode cJ9_checkLength 12 = .ok (.dup, 1) := dk_89 (dk_at dksJ9_checkLength_0 12 rfl rfl)
theorem dJ9_checkLength_13 : decode cJ9_checkLength 13 = .ok (.invokespecial 47, 3) := dk_183 0 47 (dk_at dksJ9_checkLength_0 13 rfl rfl)
theorem dJ9_checkLength_16 : decode cJ9_checkLength 16 = .ok (.iload_n 0, 1) := dk_26 (dk_at dksJ9_checkLength_0 16 rfl rfl)
theorem dJ9_checkLength_17 : decode cJ9_checkLength 17 = .ok (.invokevirtual 54, 3) := dk_182 0 54 (dk_at dksJ9_checkLength_0 17 rfl rfl)
theorem dJ9_checkLength_20 : decode cJ9_checkLength 20 = .ok (.ldc_w 337, 3) := dk_19 1 81 (dk_at dksJ9_checkLength_0 20 rfl rfl)
theorem dJ9_checkLength_23 : decode cJ9_checkLength 23 = .ok (.invokevirtual 50, 3) := dk_182 0 50 (dk_at dksJ9_checkLength_1 0 rfl rfl)
theorem dJ9_checkLength_26 : decode cJ9_checkLength 26 = .ok (.iload_n 1, 1) := dk_27 (dk_at dksJ9_checkLength_1 3 rfl rfl)
theorem dJ9_checkLength_27 : decode cJ9_checkLength 27 = .ok (.invokevirtual 54, 3) := dk_182 0 54 (dk_at dksJ9_checkLength_1 4 rfl rfl)
theorem dJ9_checkLength_30 : decode cJ9_checkLength 30 = .ok (.invokevirtual 61, 3) := dk_182 0 61 (dk_at dksJ9_checkLength_1 7 rfl rfl)
theorem dJ9_checkLength_33 : decode cJ9_checkLength 33 = .ok (.invokespecial 65, 3) := dk_183 0 65 (dk_at dksJ9_checkLength_1 10 rfl rfl)
theorem dJ9_checkLength_36 : decode cJ9_checkLength 36 = .ok (.athrow, 1) := dk_191 (dk_at dksJ9_checkLength_1 13 rfl rfl)
theorem dJ9_checkLength_37 : decode cJ9_checkLength 37 = .ok (.return_, 1) := dk_177 (dk_at dksJ9_checkLength_1 14 rfl rfl)
abbrev cJ9_copyOf_2 : ByteArray := prog_38_method_119_code
def yJ9_copyOf_2 : MethodName := ⟨RJ9, "copyOf", "([Ljava/lang/Object;I)[Ljava/lang/Object;"⟩
def dkwJ9_copyOf_2_0 : List UInt8 := [42, 27, 42, 182, 0, 86, 184, 1, 44, 176]
abbrev dktJ9_copyOf_2_0 : List UInt8 := dkwJ9_copyOf_2_0 ++ []
theorem dksJ9_copyOf_2_0 : cJ9_copyOf_2.data.toList.drop 0 = dktJ9_copyOf_2_0 := by decide +kernel
theorem dJ9_copyOf_2_0 : decode cJ9_copyOf_2 0 = .ok (.aload_n 0, 1) := dk_42 (dk_at dksJ9_copyOf_2_0 0 rfl rfl)
theorem dJ9_copyOf_2_1 : decode cJ9_copyOf_2 1 = .ok (.iload_n 1, 1) := dk_27 (dk_at dksJ9_copyOf_2_0 1 rfl rfl)
theorem dJ9_copyOf_2_2 : decode cJ9_copyOf_2 2 = .ok (.aload_n 0, 1) := dk_42 (dk_at dksJ9_copyOf_2_0 2 rfl rfl)
theorem dJ9_copyOf_2_3 : decode cJ9_copyOf_2 3 = .ok (.invokevirtual 86, 3) := dk_182 0 86 (dk_at dksJ9_copyOf_2_0 3 rfl rfl)
theorem dJ9_copyOf_2_6 : decode cJ9_copyOf_2 6 = .ok (.invokestatic 300, 3) := dk_184 1 44 (dk_at dksJ9_copyOf_2_0 6 rfl rfl)
theorem dJ9_copyOf_2_9 : decode cJ9_copyOf_2 9 = .ok (.areturn, 1) := dk_176 (dk_at dksJ9_copyOf_2_0 9 rfl rfl)
abbrev cJ9_copyOf_3 : ByteArray := prog_38_method_120_code
def yJ9_copyOf_3 : MethodName := ⟨RJ9, "copyOf", "([Ljava/lang/Object;ILjava/lang/Class;)[Ljava/lang/Object;"⟩
def dkwJ9_copyOf_3_1 : List UInt8 := [78, 42, 3, 45, 3, 42, 190, 27, 184, 1, 48, 184, 0, 150, 45, 176]
abbrev dktJ9_copyOf_3_1 : List UInt8 := dkwJ9_copyOf_3_1 ++ []
def dkwJ9_copyOf_3_0 : List UInt8 := [44, 18, 110, 166, 0, 10, 27, 189, 0, 2, 167, 0, 14, 44, 182, 0, 90, 27, 184, 0, 95, 192, 0, 110]
abbrev dktJ9_copyOf_3_0 : List UInt8 := dkwJ9_copyOf_3_0 ++ dktJ9_copyOf_3_1
theorem dksJ9_copyOf_3_0 : cJ9_copyOf_3.data.toList.drop 0 = dktJ9_copyOf_3_0 := by decide +kernel
theorem dksJ9_copyOf_3_1 : cJ9_copyOf_3.data.toList.drop 24 = dktJ9_copyOf_3_1 := dk_seg dksJ9_copyOf_3_0 24 rfl rfl
theorem dJ9_copyOf_3_0 : decode cJ9_copyOf_3 0 = .ok (.aload_n 2, 1) := dk_44 (dk_at dksJ9_copyOf_3_0 0 rfl rfl)
theorem dJ9_copyOf_3_1 : decode cJ9_copyOf_3 1 = .ok (.ldc 110, 2) := dk_18 110 (dk_at dksJ9_copyOf_3_0 1 rfl rfl)
theorem dJ9_copyOf_3_3 : decode cJ9_copyOf_3 3 = .ok (.if_acmp .ne 10, 3) := dk_166 0 10 (dk_at dksJ9_copyOf_3_0 3 rfl rfl)
theorem dJ9_copyOf_3_6 : decode cJ9_copyOf_3 6 = .ok (.iload_n 1, 1) := dk_27 (dk_at dksJ9_copyOf_3_0 6 rfl rfl)
theorem dJ9_copyOf_3_7 : decode cJ9_copyOf_3 7 = .ok (.anewarray 2, 3) := dk_189 0 2 (dk_at dksJ9_copyOf_3_0 7 rfl rfl)
theorem dJ9_copyOf_3_10 : decode cJ9_copyOf_3 10 = .ok (.goto 14, 3) := dk_167 0 14 (dk_at dksJ9_copyOf_3_0 10 rfl rfl)
theorem dJ9_copyOf_3_13 : decode cJ9_copyOf_3 13 = .ok (.aload_n 2, 1) := dk_44 (dk_at dksJ9_copyOf_3_0 13 rfl rfl)
theorem dJ9_copyOf_3_14 : decode cJ9_copyOf_3 14 = .ok (.invokevirtual 90, 3) := dk_182 0 90 (dk_at dksJ9_copyOf_3_0 14 rfl rfl)
theorem dJ9_copyOf_3_17 : decode cJ9_copyOf_3 17 = .ok (.iload_n 1, 1) := dk_27 (dk_at dksJ9_copyOf_3_0 17 rfl rfl)
theorem dJ9_copyOf_3_18 : decode cJ9_copyOf_3 18 = .ok (.invokestatic 95, 3) := dk_184 0 95 (dk_at dksJ9_copyOf_3_0 18 rfl rfl)
theorem dJ9_copyOf_3_21 : decode cJ9_copyOf_3 21 = .ok (.checkcast 110, 3) := dk_192 0 110 (dk_at dksJ9_copyOf_3_0 21 rfl rfl)
theorem dJ9_copyOf_3_24 : decode cJ9_copyOf_3 24 = .ok (.astore_n 3, 1) := dk_78 (dk_at dksJ9_copyOf_3_1 0 rfl rfl)
theorem dJ9_copyOf_3_25 : decode cJ9_copyOf_3 25 = .ok (.aload_n 0, 1) := dk_42 (dk_at dksJ9_copyOf_3_1 1 rfl rfl)
theorem dJ9_copyOf_3_26 : decode cJ9_copyOf_3 26 = .ok (.iconst 0, 1) := dk_3 (dk_at dksJ9_copyOf_3_1 2 rfl rfl)
theorem dJ9_copyOf_3_27 : decode cJ9_copyOf_3 27 = .ok (.aload_n 3, 1) := dk_45 (dk_at dksJ9_copyOf_3_1 3 rfl rfl)
theorem dJ9_copyOf_3_28 : decode cJ9_copyOf_3 28 = .ok (.iconst 0, 1) := dk_3 (dk_at dksJ9_copyOf_3_1 4 rfl rfl)
theorem dJ9_copyOf_3_29 : decode cJ9_copyOf_3 29 = .ok (.aload_n 0, 1) := dk_42 (dk_at dksJ9_copyOf_3_1 5 rfl rfl)
theorem dJ9_copyOf_3_30 : decode cJ9_copyOf_3 30 = .ok (.arraylength, 1) := dk_190 (dk_at dksJ9_copyOf_3_1 6 rfl rfl)
theorem dJ9_copyOf_3_31 : decode cJ9_copyOf_3 31 = .ok (.iload_n 1, 1) := dk_27 (dk_at dksJ9_copyOf_3_1 7 rfl rfl)
theorem dJ9_copyOf_3_32 : decode cJ9_copyOf_3 32 = .ok (.invokestatic 304, 3) := dk_184 1 48 (dk_at dksJ9_copyOf_3_1 8 rfl rfl)
theorem dJ9_copyOf_3_35 : decode cJ9_copyOf_3 35 = .ok (.invokestatic 150, 3) := dk_184 0 150 (dk_at dksJ9_copyOf_3_1 11 rfl rfl)
theorem dJ9_copyOf_3_38 : decode cJ9_copyOf_3 38 = .ok (.aload_n 3, 1) := dk_45 (dk_at dksJ9_copyOf_3_1 14 rfl rfl)
theorem dJ9_copyOf_3_39 : decode cJ9_copyOf_3 39 = .ok (.areturn, 1) := dk_176 (dk_at dksJ9_copyOf_3_1 15 rfl rfl)
theorem q91 : (Jvm.Cond.initialized "java/util/Arrays") ∈ lw_all := lw_g (lw_at lw_m1 15 rfl) rfl
theorem q375 : (Jvm.Cond.static ({ cls := "java/util/Arrays", name := "copyOf", desc := "([BI)[B" } : Jvm.MethodName)) ∈ lw_all := lw_g (lw_at lw_m2 59 rfl) rfl
theorem q376 : (Jvm.Cond.code ({ cls := "java/util/Arrays", name := "copyOf", desc := "([BI)[B" } : Jvm.MethodName) prog_38_method_121_code (3 : Nat) (Option.some (Jvm.ClassFile.FieldType.array Jvm.ClassFile.FieldType.byte))) ∈ lw_all := lw_g (lw_at lw_m2 60 rfl) rfl
theorem q377 : (Jvm.Cond.methodLink "java/util/Arrays" (310 : Nat) ({ cls := "[B", name := "clone", desc := "()Ljava/lang/Object;" } : Jvm.MethodName)) ∈ lw_all := lw_g (lw_at lw_m2 61 rfl) rfl
theorem q383 : (Jvm.Cond.classLink "java/util/Arrays" (311 : Nat) "[B") ∈ lw_all := lw_g (lw_at lw_m2 67 rfl) rfl
theorem q384 : (Jvm.Cond.methodLink "java/util/Arrays" (304 : Nat) ({ cls := "java/lang/Math", name := "min", desc := "(II)I" } : Jvm.MethodName)) ∈ lw_all := lw_g (lw_at lw_m2 68 rfl) rfl
theorem q387 : (Jvm.Cond.methodLink "java/util/Arrays" (150 : Nat) ({ cls := "java/lang/System", name := "arraycopy", desc := "(Ljava/lang/Object;ILjava/lang/Object;II)V" } : Jvm.MethodName)) ∈ lw_all := lw_g (lw_at lw_m2 71 rfl) rfl
theorem q471 : (Jvm.Cond.static ({ cls := "java/util/Arrays", name := "copyOfRange", desc := "([BII)[B" } : Jvm.MethodName)) ∈ lw_all := lw_g (lw_at lw_m2 155 rfl) rfl
theorem q472 : (Jvm.Cond.code ({ cls := "java/util/Arrays", name := "copyOfRange", desc := "([BII)[B" } : Jvm.MethodName) prog_38_method_132_code (3 : Nat) (Option.some (Jvm.ClassFile.FieldType.array Jvm.ClassFile.FieldType.byte))) ∈ lw_all := lw_g (lw_at lw_m2 156 rfl) rfl
theorem q473 : (Jvm.Cond.methodLink "java/util/Arrays" (339 : Nat) ({ cls := "java/util/Arrays", name := "copyOfRangeByte", desc := "([BII)[B" } : Jvm.MethodName)) ∈ lw_all := lw_g (lw_at lw_m2 157 rfl) rfl
theorem q474 : (Jvm.Cond.static ({ cls := "java/util/Arrays", name := "copyOfRangeByte", desc := "([BII)[B" } : Jvm.MethodName)) ∈ lw_all := lw_g (lw_at lw_m2 158 rfl) rfl
theorem q475 : (Jvm.Cond.code ({ cls := "java/util/Arrays", name := "copyOfRangeByte", desc := "([BII)[B" } : Jvm.MethodName) prog_38_method_133_code (5 : Nat) (Option.some (Jvm.ClassFile.FieldType.array Jvm.ClassFile.FieldType.byte))) ∈ lw_all := lw_g (lw_at lw_m2 159 rfl) rfl
theorem q476 : (Jvm.Cond.methodLink "java/util/Arrays" (343 : Nat) ({ cls := "java/util/Arrays", name := "checkLength", desc := "(II)V" } : Jvm.MethodName)) ∈ lw_all := lw_g (lw_at lw_m2 160 rfl) rfl
theorem q477 : (Jvm.Cond.static ({ cls := "java/util/Arrays", name := "checkLength", desc := "(II)V" } : Jvm.MethodName)) ∈ lw_all := lw_g (lw_at lw_m2 161 rfl) rfl
theorem q478 : (Jvm.Cond.code ({ cls := "java/util/Arrays", name := "checkLength", desc := "(II)V" } : Jvm.MethodName) prog_38_method_131_code (2 : Nat) (Option.none : Option Jvm.ClassFile.FieldType)) ∈ lw_all := lw_g (lw_at lw_m2 162 rfl) rfl
theorem q776 : (Jvm.Cond.static ({ cls := "java/util/Arrays", name := "copyOf", desc := "([Ljava/lang/Object;I)[Ljava/lang/Object;" } : Jvm.MethodName)) ∈ lw_all := lw_g (lw_at lw_m3 220 rfl) rfl
theorem q777 : (Jvm.Cond.code ({ cls := "java/util/Arrays", name := "copyOf", desc := "([Ljava/lang/Object;I)[Ljava/lang/Object;" } : Jvm.MethodName) prog_38_method_119_code (2 : Nat) (Option.some (Jvm.ClassFile.FieldType.array (Jvm.ClassFile.FieldType.object "java/lang/Object")))) ∈ lw_all := lw_g (lw_at lw_m3 221 rfl) rfl
theorem q778 : (Jvm.Cond.methodLink "java/util/Arrays" (86 : Nat) ({ cls := "java/lang/Object", name := "getClass", desc := "()Ljava/lang/Class;" } : Jvm.MethodName)) ∈ lw_all := lw_g (lw_at lw_m3 222 rfl) rfl
theorem q796 : (Jvm.Cond.methodLink "java/util/Arrays" (300 : Nat) ({ cls := "java/util/Arrays", name := "copyOf", desc := "([Ljava/lang/Object;ILjava/lang/Class;)[Ljava/lang/Object;" } : Jvm.MethodName)) ∈ lw_all := lw_g (lw_at lw_m4 0 rfl) rfl
theorem q797 : (Jvm.Cond.static ({ cls := "java/util/Arrays", name := "copyOf", desc := "([Ljava/lang/Object;ILjava/lang/Class;)[Ljava/lang/Object;" } : Jvm.MethodName)) ∈ lw_all := lw_g (lw_at lw_m4 1 rfl) rfl
theorem q798 : (Jvm.Cond.code ({ cls := "java/util/Arrays", name := "copyOf", desc := "([Ljava/lang/Object;ILjava/lang/Class;)[Ljava/lang/Object;" } : Jvm.MethodName) prog_38_method_120_code (4 : Nat) (Option.some (Jvm.ClassFile.FieldType.array (Jvm.ClassFile.FieldType.object "java/lang/Object")))) ∈ lw_all := lw_g (lw_at lw_m4 2 rfl) rfl
theorem q799 : (Jvm.Cond.classLink "java/util/Arrays" (110 : Nat) "[Ljava/lang/Object;") ∈ lw_all := lw_g (lw_at lw_m4 3 rfl) rfl
theorem q800 : (Jvm.Cond.classLink "java/util/Arrays" (2 : Nat) "java/lang/Object") ∈ lw_all := lw_g (lw_at lw_m4 4 rfl) rfl
/-! CarryUp$Walk -/
set_option maxRecDepth 100000
def RX1 : String := "CarryUp$Walk"
def TX1 : u_T := fun k => match k with
  | 0 => ("CarryUp$Walk", "full", "I", false)
  | 1 => ("CarryUp$Walk", "row", "I", false)
  | 2 => ("CarryUp$Walk", "many", "I", false)
  | 3 => ("CarryUp$Walk", "parts", "I", false)
  | 4 => ("CarryUp$Walk", "known", "I", false)
  | 5 => ("CarryUp$Walk", "sort", "I", false)
  | 6 => ("CarryUp$Walk", "brings", "J", false)
  | 7 => ("CarryUp$Walk", "done", "J", false)
  | 8 => ("CarryUp$Walk", "below", "J", false)
  | 9 => ("CarryUp$Walk", "end", "I", false)
  | _ => ("CarryUp$Walk", "this$0", "LCarryUp;", true)
def tyX1 : Nat → FieldType := fun k => match k with
  | 0 => .int
  | 1 => .int
  | 2 => .int
  | 3 => .int
  | 4 => .int
  | 5 => .int
  | 6 => .long
  | 7 => .long
  | 8 => .long
  | 9 => .int
  | _ => .object "CarryUp"
abbrev wsX10 : List Cond := u_ws RX1 TX1 11
theorem nmX1 : ∀ a, a < 11 → ∀ b, b < 11 → a ≠ b → (TX1 a).2.1 ≠ (TX1 b).2.1 := by decide +kernel
theorem tyX1_ok : ∀ k, k < 11 → parseFieldDescriptor (TX1 k).2.2.1 = some (tyX1 k) := by decide +kernel
abbrev cX1_init : ByteArray := prog_9_method_1_code
def yX1_init : MethodName := ⟨RX1, "<init>", "(LCarryUp;)V"⟩
def dkwX1_init_0 : List UInt8 := [42, 43, 181, 0, 3, 42, 183, 0, 9, 177]
abbrev dktX1_init_0 : List UInt8 := dkwX1_init_0 ++ []
theorem dksX1_init_0 : cX1_init.data.toList.drop 0 = dktX1_init_0 := by decide +kernel
theorem dX1_init_0 : decode cX1_init 0 = .ok (.aload_n 0, 1) := dk_42 (dk_at dksX1_init_0 0 rfl rfl)
theorem dX1_init_1 : decode cX1_init 1 = .ok (.aload_n 1, 1) := dk_43 (dk_at dksX1_init_0 1 rfl rfl)
theorem dX1_init_2 : decode cX1_init 2 = .ok (.putfield 3, 3) := dk_181 0 3 (dk_at dksX1_init_0 2 rfl rfl)
theorem dX1_init_5 : decode cX1_init 5 = .ok (.aload_n 0, 1) := dk_42 (dk_at dksX1_init_0 5 rfl rfl)
theorem dX1_init_6 : decode cX1_init 6 = .ok (.invokespecial 9, 3) := dk_183 0 9 (dk_at dksX1_init_0 6 rfl rfl)
theorem dX1_init_9 : decode cX1_init 9 = .ok (.return_, 1) := dk_177 (dk_at dksX1_init_0 9 rfl rfl)
abbrev cX1_lay : ByteArray := prog_9_method_3_code
def yX1_lay : MethodName := ⟨RX1, "lay", "(IIII)LCarryUp$Walk;"⟩
def dkwX1_lay_1 : List UInt8 := [180, 0, 3, 182, 0, 28, 181, 0, 32, 42, 176]
abbrev dktX1_lay_1 : List UInt8 := dkwX1_lay_1 ++ []
def dkwX1_lay_0 : List UInt8 := [42, 27, 181, 0, 15, 42, 28, 181, 0, 19, 42, 29, 181, 0, 22, 42, 21, 4, 181, 0, 25, 42, 42]
abbrev dktX1_lay_0 : List UInt8 := dkwX1_lay_0 ++ dktX1_lay_1
theorem dksX1_lay_0 : cX1_lay.data.toList.drop 0 = dktX1_lay_0 := by decide +kernel
theorem dksX1_lay_1 : cX1_lay.data.toList.drop 23 = dktX1_lay_1 := dk_seg dksX1_lay_0 23 rfl rfl
theorem dX1_lay_0 : decode cX1_lay 0 = .ok (.aload_n 0, 1) := dk_42 (dk_at dksX1_lay_0 0 rfl rfl)
theorem dX1_lay_1 : decode cX1_lay 1 = .ok (.iload_n 1, 1) := dk_27 (dk_at dksX1_lay_0 1 rfl rfl)
theorem dX1_lay_2 : decode cX1_lay 2 = .ok (.putfield 15, 3) := dk_181 0 15 (dk_at dksX1_lay_0 2 rfl rfl)
theorem dX1_lay_5 : decode cX1_lay 5 = .ok (.aload_n 0, 1) := dk_42 (dk_at dksX1_lay_0 5 rfl rfl)
theorem dX1_lay_6 : decode cX1_lay 6 = .ok (.iload_n 2, 1) := dk_28 (dk_at dksX1_lay_0 6 rfl rfl)
theorem dX1_lay_7 : decode cX1_lay 7 = .ok (.putfield 19, 3) := dk_181 0 19 (dk_at dksX1_lay_0 7 rfl rfl)
theorem dX1_lay_10 : decode cX1_lay 10 = .ok (.aload_n 0, 1) := dk_42 (dk_at dksX1_lay_0 10 rfl rfl)
theorem dX1_lay_11 : decode cX1_lay 11 = .ok (.iload_n 3, 1) := dk_29 (dk_at dksX1_lay_0 11 rfl rfl)
theorem dX1_lay_12 : decode cX1_lay 12 = .ok (.putfield 22, 3) := dk_181 0 22 (dk_at dksX1_lay_0 12 rfl rfl)
theorem dX1_lay_15 : decode cX1_lay 15 = .ok (.aload_n 0, 1) := dk_42 (dk_at dksX1_lay_0 15 rfl rfl)
theorem dX1_lay_16 : decode cX1_lay 16 = .ok (.iload 4, 2) := dk_21 4 (dk_at dksX1_lay_0 16 rfl rfl)
theorem dX1_lay_18 : decode cX1_lay 18 = .ok (.putfield 25, 3) := dk_181 0 25 (dk_at dksX1_lay_0 18 rfl rfl)
theorem dX1_lay_21 : decode cX1_lay 21 = .ok (.aload_n 0, 1) := dk_42 (dk_at dksX1_lay_0 21 rfl rfl)
theorem dX1_lay_22 : decode cX1_lay 22 = .ok (.aload_n 0, 1) := dk_42 (dk_at dksX1_lay_0 22 rfl rfl)
theorem dX1_lay_23 : decode cX1_lay 23 = .ok (.getfield 3, 3) := dk_180 0 3 (dk_at dksX1_lay_1 0 rfl rfl)
theorem dX1_lay_26 : decode cX1_lay 26 = .ok (.invokevirtual 28, 3) := dk_182 0 28 (dk_at dksX1_lay_1 3 rfl rfl)
theorem dX1_lay_29 : decode cX1_lay 29 = .ok (.putfield 32, 3) := dk_181 0 32 (dk_at dksX1_lay_1 6 rfl rfl)
theorem dX1_lay_32 : decode cX1_lay 32 = .ok (.aload_n 0, 1) := dk_42 (dk_at dksX1_lay_1 9 rfl rfl)
theorem dX1_lay_33 : decode cX1_lay 33 = .ok (.areturn, 1) := dk_176 (dk_at dksX1_lay_1 10 rfl rfl)
abbrev cX1_run : ByteArray := prog_9_method_4_code
def yX1_run : MethodName := ⟨RX1, "run", "(I)LCarryUp$Walk;"⟩
def dkwX1_run_5 : List UInt8 := [182, 0, 66, 42, 176]
abbrev dktX1_run_5 : List UInt8 := dkwX1_run_5 ++ []
def dkwX1_run_4 : List UInt8 := [167, 255, 193, 42, 3, 3, 42, 180, 0, 3, 180, 0, 63, 42, 180, 0, 34, 3, 42, 180, 0, 44, 4]
abbrev dktX1_run_4 : List UInt8 := dkwX1_run_4 ++ dktX1_run_5
def dkwX1_run_3 : List UInt8 := [180, 0, 3, 180, 0, 54, 42, 28, 182, 0, 50, 50, 180, 0, 58, 133, 105, 181, 0, 44, 132, 2, 1]
abbrev dktX1_run_3 : List UInt8 := dkwX1_run_3 ++ dktX1_run_4
def dkwX1_run_2 : List UInt8 := [16, 6, 159, 0, 15, 42, 28, 182, 0, 50, 42, 180, 0, 22, 160, 0, 7, 10, 167, 0, 20, 42]
abbrev dktX1_run_2 : List UInt8 := dkwX1_run_2 ++ dktX1_run_3
def dkwX1_run_1 : List UInt8 := [181, 0, 47, 3, 61, 28, 42, 180, 0, 19, 162, 0, 61, 42, 89, 180, 0, 44, 42, 28, 182, 0, 50]
abbrev dktX1_run_1 : List UInt8 := dkwX1_run_1 ++ dktX1_run_2
def dkwX1_run_0 : List UInt8 := [42, 27, 181, 0, 34, 42, 9, 181, 0, 37, 42, 9, 181, 0, 41, 42, 10, 181, 0, 44, 42, 3]
abbrev dktX1_run_0 : List UInt8 := dkwX1_run_0 ++ dktX1_run_1
theorem dksX1_run_0 : cX1_run.data.toList.drop 0 = dktX1_run_0 := by decide +kernel
theorem dksX1_run_1 : cX1_run.data.toList.drop 22 = dktX1_run_1 := dk_seg dksX1_run_0 22 rfl rfl
theorem dksX1_run_2 : cX1_run.data.toList.drop 45 = dktX1_run_2 := dk_seg dksX1_run_1 23 rfl rfl
theorem dksX1_run_3 : cX1_run.data.toList.drop 67 = dktX1_run_3 := dk_seg dksX1_run_2 22 rfl rfl
theorem dksX1_run_4 : cX1_run.data.toList.drop 90 = dktX1_run_4 := dk_seg dksX1_run_3 23 rfl rfl
theorem dksX1_run_5 : cX1_run.data.toList.drop 113 = dktX1_run_5 := dk_seg dksX1_run_4 23 rfl rfl
theorem dX1_run_0 : decode cX1_run 0 = .ok (.aload_n 0, 1) := dk_42 (dk_at dksX1_run_0 0 rfl rfl)
theorem dX1_run_1 : decode cX1_run 1 = .ok (.iload_n 1, 1) := dk_27 (dk_at dksX1_run_0 1 rfl rfl)
theorem dX1_run_2 : decode cX1_run 2 = .ok (.putfield 34, 3) := dk_181 0 34 (dk_at dksX1_run_0 2 rfl rfl)
theorem dX1_run_5 : decode cX1_run 5 = .ok (.aload_n 0, 1) := dk_42 (dk_at dksX1_run_0 5 rfl rfl)
theorem dX1_run_6 : decode cX1_run 6 = .ok (.lconst 0, 1) := dk_9 (dk_at dksX1_run_0 6 rfl rfl)
theorem dX1_run_7 : decode cX1_run 7 = .ok (.putfield 37, 3) := dk_181 0 37 (dk_at dksX1_run_0 7 rfl rfl)
theorem dX1_run_10 : decode cX1_run 10 = .ok (.aload_n 0, 1) := dk_42 (dk_at dksX1_run_0 10 rfl rfl)
theorem dX1_run_11 : decode cX1_run 11 = .ok (.lconst 0, 1) := dk_9 (dk_at dksX1_run_0 11 rfl rfl)
theorem dX1_run_12 : decode cX1_run 12 = .ok (.putfield 41, 3) := dk_181 0 41 (dk_at dksX1_run_0 12 rfl rfl)
theorem dX1_run_15 : decode cX1_run 15 = .ok (.aload_n 0, 1) := dk_42 (dk_at dksX1_run_0 15 rfl rfl)
theorem dX1_run_16 : decode cX1_run 16 = .ok (.lconst 1, 1) := dk_10 (dk_at dksX1_run_0 16 rfl rfl)
theorem dX1_run_17 : decode cX1_run 17 = .ok (.putfield 44, 3) := dk_181 0 44 (dk_at dksX1_run_0 17 rfl rfl)
theorem dX1_run_20 : decode cX1_run 20 = .ok (.aload_n 0, 1) := dk_42 (dk_at dksX1_run_0 20 rfl rfl)
theorem dX1_run_21 : decode cX1_run 21 = .ok (.iconst 0, 1) := dk_3 (dk_at dksX1_run_0 21 rfl rfl)
theorem dX1_run_22 : decode cX1_run 22 = .ok (.putfield 47, 3) := dk_181 0 47 (dk_at dksX1_run_1 0 rfl rfl)
theorem dX1_run_25 : decode cX1_run 25 = .ok (.iconst 0, 1) := dk_3 (dk_at dksX1_run_1 3 rfl rfl)
theorem dX1_run_26 : decode cX1_run 26 = .ok (.istore_n 2, 1) := dk_61 (dk_at dksX1_run_1 4 rfl rfl)
theorem dX1_run_27 : decode cX1_run 27 = .ok (.iload_n 2, 1) := dk_28 (dk_at dksX1_run_1 5 rfl rfl)
theorem dX1_run_28 : decode cX1_run 28 = .ok (.aload_n 0, 1) := dk_42 (dk_at dksX1_run_1 6 rfl rfl)
theorem dX1_run_29 : decode cX1_run 29 = .ok (.getfield 19, 3) := dk_180 0 19 (dk_at dksX1_run_1 7 rfl rfl)
theorem dX1_run_32 : decode cX1_run 32 = .ok (.if_icmp .ge 61, 3) := dk_162 0 61 (dk_at dksX1_run_1 10 rfl rfl)
theorem dX1_run_35 : decode cX1_run 35 = .ok (.aload_n 0, 1) := dk_42 (dk_at dksX1_run_1 13 rfl rfl)
theorem dX1_run_36 : decode cX1_run 36 = .ok (.dup, 1) := dk_89 (dk_at dksX1_run_1 14 rfl rfl)
theorem dX1_run_37 : decode cX1_run 37 = .ok (.getfield 44, 3) := dk_180 0 44 (dk_at dksX1_run_1 15 rfl rfl)
theorem dX1_run_40 : decode cX1_run 40 = .ok (.aload_n 0, 1) := dk_42 (dk_at dksX1_run_1 18 rfl rfl)
theorem dX1_run_41 : decode cX1_run 41 = .ok (.iload_n 2, 1) := dk_28 (dk_at dksX1_run_1 19 rfl rfl)
theorem dX1_run_42 : decode cX1_run 42 = .ok (.invokevirtual 50, 3) := dk_182 0 50 (dk_at dksX1_run_1 20 rfl rfl)
theorem dX1_run_45 : decode cX1_run 45 = .ok (.bipush 6, 2) := dk_16 6 (dk_at dksX1_run_2 0 rfl rfl)
theorem dX1_run_47 : decode cX1_run 47 = .ok (.if_icmp .eq 15, 3) := dk_159 0 15 (dk_at dksX1_run_2 2 rfl rfl)
theorem dX1_run_50 : decode cX1_run 50 = .ok (.aload_n 0, 1) := dk_42 (dk_at dksX1_run_2 5 rfl rfl)
theorem dX1_run_51 : decode cX1_run 51 = .ok (.iload_n 2, 1) := dk_28 (dk_at dksX1_run_2 6 rfl rfl)
theorem dX1_run_52 : decode cX1_run 52 = .ok (.invokevirtual 50, 3) := dk_182 0 50 (dk_at dksX1_run_2 7 rfl rfl)
theorem dX1_run_55 : decode cX1_run 55 = .ok (.aload_n 0, 1) := dk_42 (dk_at dksX1_run_2 10 rfl rfl)
theorem dX1_run_56 : decode cX1_run 56 = .ok (.getfield 22, 3) := dk_180 0 22 (dk_at dksX1_run_2 11 rfl rfl)
theorem dX1_run_59 : decode cX1_run 59 = .ok (.if_icmp .ne 7, 3) := dk_160 0 7 (dk_at dksX1_run_2 14 rfl rfl)
theorem dX1_run_62 : decode cX1_run 62 = .ok (.lconst 1, 1) := dk_10 (dk_at dksX1_run_2 17 rfl rfl)
theorem dX1_run_63 : decode cX1_run 63 = .ok (.goto 20, 3) := dk_167 0 20 (dk_at dksX1_run_2 18 rfl rfl)
theorem dX1_run_66 : decode cX1_run 66 = .ok (.aload_n 0, 1) := dk_42 (dk_at dksX1_run_2 21 rfl rfl)
theorem dX1_run_67 : decode cX1_run 67 = .ok (.getfield 3, 3) := dk_180 0 3 (dk_at dksX1_run_3 0 rfl rfl)
theorem dX1_run_70 : decode cX1_run 70 = .ok (.getfield 54, 3) := dk_180 0 54 (dk_at dksX1_run_3 3 rfl rfl)
theorem dX1_run_73 : decode cX1_run 73 = .ok (.aload_n 0, 1) := dk_42 (dk_at dksX1_run_3 6 rfl rfl)
theorem dX1_run_74 : decode cX1_run 74 = .ok (.iload_n 2, 1) := dk_28 (dk_at dksX1_run_3 7 rfl rfl)
theorem dX1_run_75 : decode cX1_run 75 = .ok (.invokevirtual 50, 3) := dk_182 0 50 (dk_at dksX1_run_3 8 rfl rfl)
theorem dX1_run_78 : decode cX1_run 78 = .ok (.aaload, 1) := dk_50 (dk_at dksX1_run_3 11 rfl rfl)
theorem dX1_run_79 : decode cX1_run 79 = .ok (.getfield 58, 3) := dk_180 0 58 (dk_at dksX1_run_3 12 rfl rfl)
theorem dX1_run_82 : decode cX1_run 82 = .ok (.i2l, 1) := dk_133 (dk_at dksX1_run_3 15 rfl rfl)
theorem dX1_run_83 : decode cX1_run 83 = .ok (.lmul, 1) := dk_105 (dk_at dksX1_run_3 16 rfl rfl)
theorem dX1_run_84 : decode cX1_run 84 = .ok (.putfield 44, 3) := dk_181 0 44 (dk_at dksX1_run_3 17 rfl rfl)
theorem dX1_run_87 : decode cX1_run 87 = .ok (.iinc 2 1, 3) := dk_132 2 1 (dk_at dksX1_run_3 20 rfl rfl)
theorem dX1_run_90 : decode cX1_run 90 = .ok (.goto (-63), 3) := dk_167 255 193 (dk_at dksX1_run_4 0 rfl rfl)
theorem dX1_run_93 : decode cX1_run 93 = .ok (.aload_n 0, 1) := dk_42 (dk_at dksX1_run_4 3 rfl rfl)
theorem dX1_run_94 : decode cX1_run 94 = .ok (.iconst 0, 1) := dk_3 (dk_at dksX1_run_4 4 rfl rfl)
theorem dX1_run_95 : decode cX1_run 95 = .ok (.iconst 0, 1) := dk_3 (dk_at dksX1_run_4 5 rfl rfl)
theorem dX1_run_96 : decode cX1_run 96 = .ok (.aload_n 0, 1) := dk_42 (dk_at dksX1_run_4 6 rfl rfl)
theorem dX1_run_97 : decode cX1_run 97 = .ok (.getfield 3, 3) := dk_180 0 3 (dk_at dksX1_run_4 7 rfl rfl)
theorem dX1_run_100 : decode cX1_run 100 = .ok (.getfield 63, 3) := dk_180 0 63 (dk_at dksX1_run_4 10 rfl rfl)
theorem dX1_run_103 : decode cX1_run 103 = .ok (.aload_n 0, 1) := dk_42 (dk_at dksX1_run_4 13 rfl rfl)
theorem dX1_run_104 : decode cX1_run 104 = .ok (.getfield 34, 3) := dk_180 0 34 (dk_at dksX1_run_4 14 rfl rfl)
theorem dX1_run_107 : decode cX1_run 107 = .ok (.iconst 0, 1) := dk_3 (dk_at dksX1_run_4 17 rfl rfl)
theorem dX1_run_108 : decode cX1_run 108 = .ok (.aload_n 0, 1) := dk_42 (dk_at dksX1_run_4 18 rfl rfl)
theorem dX1_run_109 : decode cX1_run 109 = .ok (.getfield 44, 3) := dk_180 0 44 (dk_at dksX1_run_4 19 rfl rfl)
theorem dX1_run_112 : decode cX1_run 112 = .ok (.iconst 1, 1) := dk_4 (dk_at dksX1_run_4 22 rfl rfl)
theorem dX1_run_113 : decode cX1_run 113 = .ok (.invokevirtual 66, 3) := dk_182 0 66 (dk_at dksX1_run_5 0 rfl rfl)
theorem dX1_run_116 : decode cX1_run 116 = .ok (.aload_n 0, 1) := dk_42 (dk_at dksX1_run_5 3 rfl rfl)
theorem dX1_run_117 : decode cX1_run 117 = .ok (.areturn, 1) := dk_176 (dk_at dksX1_run_5 4 rfl rfl)
abbrev cX1_at : ByteArray := prog_9_method_2_code
def yX1_at : MethodName := ⟨RX1, "at", "(I)I"⟩
def dkwX1_at_0 : List UInt8 := [42, 180, 0, 15, 7, 27, 104, 122, 16, 15, 126, 172]
abbrev dktX1_at_0 : List UInt8 := dkwX1_at_0 ++ []
theorem dksX1_at_0 : cX1_at.data.toList.drop 0 = dktX1_at_0 := by decide +kernel
theorem dX1_at_0 : decode cX1_at 0 = .ok (.aload_n 0, 1) := dk_42 (dk_at dksX1_at_0 0 rfl rfl)
theorem dX1_at_1 : decode cX1_at 1 = .ok (.getfield 15, 3) := dk_180 0 15 (dk_at dksX1_at_0 1 rfl rfl)
theorem dX1_at_4 : decode cX1_at 4 = .ok (.iconst 4, 1) := dk_7 (dk_at dksX1_at_0 4 rfl rfl)
theorem dX1_at_5 : decode cX1_at 5 = .ok (.iload_n 1, 1) := dk_27 (dk_at dksX1_at_0 5 rfl rfl)
theorem dX1_at_6 : decode cX1_at 6 = .ok (.imul, 1) := dk_104 (dk_at dksX1_at_0 6 rfl rfl)
theorem dX1_at_7 : decode cX1_at 7 = .ok (.ishr, 1) := dk_122 (dk_at dksX1_at_0 7 rfl rfl)
theorem dX1_at_8 : decode cX1_at 8 = .ok (.bipush 15, 2) := dk_16 15 (dk_at dksX1_at_0 8 rfl rfl)
theorem dX1_at_10 : decode cX1_at 10 = .ok (.iand, 1) := dk_126 (dk_at dksX1_at_0 10 rfl rfl)
theorem dX1_at_11 : decode cX1_at 11 = .ok (.ireturn, 1) := dk_172 (dk_at dksX1_at_0 11 rfl rfl)
abbrev cX1_goOn : ByteArray := prog_9_method_5_code
def yX1_goOn : MethodName := ⟨RX1, "goOn", "(IIIIIJZ)V"⟩
def dkwX1_goOn_15 : List UInt8 := [22, 14, 3, 182, 0, 66, 132, 12, 1, 167, 255, 75, 177]
abbrev dktX1_goOn_15 : List UInt8 := dkwX1_goOn_15 ++ []
def dkwX1_goOn_14 : List UInt8 := [182, 0, 80, 21, 11, 25, 9, 180, 0, 118, 8, 46, 96, 21, 4, 21, 5, 25, 9, 182, 0, 86, 100]
abbrev dktX1_goOn_14 : List UInt8 := dkwX1_goOn_14 ++ dktX1_goOn_15
def dkwX1_goOn_13 : List UInt8 := [25, 9, 182, 0, 115, 96, 22, 14, 21, 8, 182, 0, 66, 167, 0, 38, 42, 27, 4, 96, 25, 9]
abbrev dktX1_goOn_13 : List UInt8 := dkwX1_goOn_13 ++ dktX1_goOn_14
def dkwX1_goOn_12 : List UInt8 := [182, 0, 80, 21, 11, 25, 13, 180, 0, 109, 96, 25, 13, 21, 4, 42, 180, 0, 32, 182, 0, 112, 21, 5]
abbrev dktX1_goOn_12 : List UInt8 := dkwX1_goOn_12 ++ dktX1_goOn_13
def dkwX1_goOn_11 : List UInt8 := [180, 0, 104, 133, 105, 55, 14, 25, 13, 21, 4, 182, 0, 105, 153, 0, 49, 42, 27, 4, 96, 25, 9]
abbrev dktX1_goOn_11 : List UInt8 := dkwX1_goOn_11 ++ dktX1_goOn_12
def dkwX1_goOn_10 : List UInt8 := [180, 0, 22, 160, 0, 8, 22, 6, 167, 0, 19, 22, 6, 25, 9, 180, 0, 58, 133, 109, 25, 13]
abbrev dktX1_goOn_10 : List UInt8 := dkwX1_goOn_10 ++ dktX1_goOn_11
def dkwX1_goOn_9 : List UInt8 := [180, 0, 22, 160, 0, 15, 21, 12, 42, 180, 0, 25, 159, 0, 6, 167, 0, 129, 42, 27, 182, 0, 50, 42]
abbrev dktX1_goOn_9 : List UInt8 := dkwX1_goOn_9 ++ dktX1_goOn_10
def dkwX1_goOn_8 : List UInt8 := [162, 0, 174, 25, 9, 180, 0, 89, 21, 12, 182, 0, 98, 192, 0, 102, 58, 13, 42, 27, 182, 0, 50, 42]
abbrev dktX1_goOn_8 : List UInt8 := dkwX1_goOn_8 ++ dktX1_goOn_9
def dkwX1_goOn_7 : List UInt8 := [182, 0, 86, 100, 22, 6, 3, 182, 0, 66, 177, 3, 54, 12, 21, 12, 25, 9, 180, 0, 89, 182, 0, 93]
abbrev dktX1_goOn_7 : List UInt8 := dkwX1_goOn_7 ++ dktX1_goOn_8
def dkwX1_goOn_6 : List UInt8 := [21, 11, 2, 160, 0, 31, 42, 27, 4, 96, 25, 9, 182, 0, 80, 21, 10, 21, 4, 21, 5, 25, 9]
abbrev dktX1_goOn_6 : List UInt8 := dkwX1_goOn_6 ++ dktX1_goOn_7
def dkwX1_goOn_5 : List UInt8 := [180, 0, 76, 28, 50, 25, 9, 182, 0, 80, 53, 96, 54, 10, 25, 9, 21, 10, 182, 0, 83, 54, 11]
abbrev dktX1_goOn_5 : List UInt8 := dkwX1_goOn_5 ++ dktX1_goOn_6
def dkwX1_goOn_4 : List UInt8 := [182, 0, 66, 177, 42, 180, 0, 3, 180, 0, 54, 42, 27, 182, 0, 50, 50, 58, 9, 29, 42, 180, 0, 3]
abbrev dktX1_goOn_4 : List UInt8 := dkwX1_goOn_4 ++ dktX1_goOn_5
def dkwX1_goOn_3 : List UInt8 := [42, 180, 0, 3, 180, 0, 76, 28, 50, 3, 53, 96, 42, 180, 0, 34, 21, 5, 22, 6, 21, 8]
abbrev dktX1_goOn_3 : List UInt8 := dkwX1_goOn_3 ++ dktX1_goOn_4
def dkwX1_goOn_2 : List UInt8 := [29, 184, 0, 70, 181, 0, 47, 177, 42, 27, 182, 0, 50, 16, 6, 160, 0, 35, 42, 27, 4, 96, 3, 29]
abbrev dktX1_goOn_2 : List UInt8 := dkwX1_goOn_2 ++ dktX1_goOn_3
def dkwX1_goOn_1 : List UInt8 := [89, 180, 0, 41, 21, 8, 153, 0, 8, 22, 6, 167, 0, 4, 9, 97, 181, 0, 41, 42, 42, 180, 0, 47]
abbrev dktX1_goOn_1 : List UInt8 := dkwX1_goOn_1 ++ dktX1_goOn_2
def dkwX1_goOn_0 : List UInt8 := [27, 42, 180, 0, 19, 160, 0, 51, 42, 89, 180, 0, 37, 22, 6, 21, 5, 133, 105, 97, 181, 0, 37, 42]
abbrev dktX1_goOn_0 : List UInt8 := dkwX1_goOn_0 ++ dktX1_goOn_1
theorem dksX1_goOn_0 : cX1_goOn.data.toList.drop 0 = dktX1_goOn_0 := by decide +kernel
theorem dksX1_goOn_1 : cX1_goOn.data.toList.drop 24 = dktX1_goOn_1 := dk_seg dksX1_goOn_0 24 rfl rfl
theorem dksX1_goOn_2 : cX1_goOn.data.toList.drop 48 = dktX1_goOn_2 := dk_seg dksX1_goOn_1 24 rfl rfl
theorem dksX1_goOn_3 : cX1_goOn.data.toList.drop 72 = dktX1_goOn_3 := dk_seg dksX1_goOn_2 24 rfl rfl
theorem dksX1_goOn_4 : cX1_goOn.data.toList.drop 94 = dktX1_goOn_4 := dk_seg dksX1_goOn_3 22 rfl rfl
theorem dksX1_goOn_5 : cX1_goOn.data.toList.drop 118 = dktX1_goOn_5 := dk_seg dksX1_goOn_4 24 rfl rfl
theorem dksX1_goOn_6 : cX1_goOn.data.toList.drop 141 = dktX1_goOn_6 := dk_seg dksX1_goOn_5 23 rfl rfl
theorem dksX1_goOn_7 : cX1_goOn.data.toList.drop 164 = dktX1_goOn_7 := dk_seg dksX1_goOn_6 23 rfl rfl
theorem dksX1_goOn_8 : cX1_goOn.data.toList.drop 188 = dktX1_goOn_8 := dk_seg dksX1_goOn_7 24 rfl rfl
theorem dksX1_goOn_9 : cX1_goOn.data.toList.drop 212 = dktX1_goOn_9 := dk_seg dksX1_goOn_8 24 rfl rfl
theorem dksX1_goOn_10 : cX1_goOn.data.toList.drop 236 = dktX1_goOn_10 := dk_seg dksX1_goOn_9 24 rfl rfl
theorem dksX1_goOn_11 : cX1_goOn.data.toList.drop 258 = dktX1_goOn_11 := dk_seg dksX1_goOn_10 22 rfl rfl
theorem dksX1_goOn_12 : cX1_goOn.data.toList.drop 281 = dktX1_goOn_12 := dk_seg dksX1_goOn_11 23 rfl rfl
theorem dksX1_goOn_13 : cX1_goOn.data.toList.drop 305 = dktX1_goOn_13 := dk_seg dksX1_goOn_12 24 rfl rfl
theorem dksX1_goOn_14 : cX1_goOn.data.toList.drop 327 = dktX1_goOn_14 := dk_seg dksX1_goOn_13 22 rfl rfl
theorem dksX1_goOn_15 : cX1_goOn.data.toList.drop 350 = dktX1_goOn_15 := dk_seg dksX1_goOn_14 23 rfl rfl
theorem dX1_goOn_0 : decode cX1_goOn 0 = .ok (.iload_n 1, 1) := dk_27 (dk_at dksX1_goOn_0 0 rfl rfl)
theorem dX1_goOn_1 : decode cX1_goOn 1 = .ok (.aload_n 0, 1) := dk_42 (dk_at dksX1_goOn_0 1 rfl rfl)
theorem dX1_goOn_2 : decode cX1_goOn 2 = .ok (.getfield 19, 3) := dk_180 0 19 (dk_at dksX1_goOn_0 2 rfl rfl)
theorem dX1_goOn_5 : decode cX1_goOn 5 = .ok (.if_icmp .ne 51, 3) := dk_160 0 51 (dk_at dksX1_goOn_0 5 rfl rfl)
theorem dX1_goOn_8 : decode cX1_goOn 8 = .ok (.aload_n 0, 1) := dk_42 (dk_at dksX1_goOn_0 8 rfl rfl)
theorem dX1_goOn_9 : decode cX1_goOn 9 = .ok (.dup, 1) := dk_89 (dk_at dksX1_goOn_0 9 rfl rfl)
theorem dX1_goOn_10 : decode cX1_goOn 10 = .ok (.getfield 37, 3) := dk_180 0 37 (dk_at dksX1_goOn_0 10 rfl rfl)
theorem dX1_goOn_13 : decode cX1_goOn 13 = .ok (.lload 6, 2) := dk_22 6 (dk_at dksX1_goOn_0 13 rfl rfl)
theorem dX1_goOn_15 : decode cX1_goOn 15 = .ok (.iload 5, 2) := dk_21 5 (dk_at dksX1_goOn_0 15 rfl rfl)
theorem dX1_goOn_17 : decode cX1_goOn 17 = .ok (.i2l, 1) := dk_133 (dk_at dksX1_goOn_0 17 rfl rfl)
theorem dX1_goOn_18 : decode cX1_goOn 18 = .ok (.lmul, 1) := dk_105 (dk_at dksX1_goOn_0 18 rfl rfl)
theorem dX1_goOn_19 : decode cX1_goOn 19 = .ok (.ladd, 1) := dk_97 (dk_at dksX1_goOn_0 19 rfl rfl)
theorem dX1_goOn_20 : decode cX1_goOn 20 = .ok (.putfield 37, 3) := dk_181 0 37 (dk_at dksX1_goOn_0 20 rfl rfl)
theorem dX1_goOn_23 : decode cX1_goOn 23 = .ok (.aload_n 0, 1) := dk_42 (dk_at dksX1_goOn_0 23 rfl rfl)
theorem dX1_goOn_24 : decode cX1_goOn 24 = .ok (.dup, 1) := dk_89 (dk_at dksX1_goOn_1 0 rfl rfl)
theorem dX1_goOn_25 : decode cX1_goOn 25 = .ok (.getfield 41, 3) := dk_180 0 41 (dk_at dksX1_goOn_1 1 rfl rfl)
theorem dX1_goOn_28 : decode cX1_goOn 28 = .ok (.iload 8, 2) := dk_21 8 (dk_at dksX1_goOn_1 4 rfl rfl)
theorem dX1_goOn_30 : decode cX1_goOn 30 = .ok (.ifCond .eq 8, 3) := dk_153 0 8 (dk_at dksX1_goOn_1 6 rfl rfl)
theorem dX1_goOn_33 : decode cX1_goOn 33 = .ok (.lload 6, 2) := dk_22 6 (dk_at dksX1_goOn_1 9 rfl rfl)
theorem dX1_goOn_35 : decode cX1_goOn 35 = .ok (.goto 4, 3) := dk_167 0 4 (dk_at dksX1_goOn_1 11 rfl rfl)
theorem dX1_goOn_38 : decode cX1_goOn 38 = .ok (.lconst 0, 1) := dk_9 (dk_at dksX1_goOn_1 14 rfl rfl)
theorem dX1_goOn_39 : decode cX1_goOn 39 = .ok (.ladd, 1) := dk_97 (dk_at dksX1_goOn_1 15 rfl rfl)
theorem dX1_goOn_40 : decode cX1_goOn 40 = .ok (.putfield 41, 3) := dk_181 0 41 (dk_at dksX1_goOn_1 16 rfl rfl)
theorem dX1_goOn_43 : decode cX1_goOn 43 = .ok (.aload_n 0, 1) := dk_42 (dk_at dksX1_goOn_1 19 rfl rfl)
theorem dX1_goOn_44 : decode cX1_goOn 44 = .ok (.aload_n 0, 1) := dk_42 (dk_at dksX1_goOn_1 20 rfl rfl)
theorem dX1_goOn_45 : decode cX1_goOn 45 = .ok (.getfield 47, 3) := dk_180 0 47 (dk_at dksX1_goOn_1 21 rfl rfl)
theorem dX1_goOn_48 : decode cX1_goOn 48 = .ok (.iload_n 3, 1) := dk_29 (dk_at dksX1_goOn_2 0 rfl rfl)
theorem dX1_goOn_49 : decode cX1_goOn 49 = .ok (.invokestatic 70, 3) := dk_184 0 70 (dk_at dksX1_goOn_2 1 rfl rfl)
theorem dX1_goOn_52 : decode cX1_goOn 52 = .ok (.putfield 47, 3) := dk_181 0 47 (dk_at dksX1_goOn_2 4 rfl rfl)
theorem dX1_goOn_55 : decode cX1_goOn 55 = .ok (.return_, 1) := dk_177 (dk_at dksX1_goOn_2 7 rfl rfl)
theorem dX1_goOn_56 : decode cX1_goOn 56 = .ok (.aload_n 0, 1) := dk_42 (dk_at dksX1_goOn_2 8 rfl rfl)
theorem dX1_goOn_57 : decode cX1_goOn 57 = .ok (.iload_n 1, 1) := dk_27 (dk_at dksX1_goOn_2 9 rfl rfl)
theorem dX1_goOn_58 : decode cX1_goOn 58 = .ok (.invokevirtual 50, 3) := dk_182 0 50 (dk_at dksX1_goOn_2 10 rfl rfl)
theorem dX1_goOn_61 : decode cX1_goOn 61 = .ok (.bipush 6, 2) := dk_16 6 (dk_at dksX1_goOn_2 13 rfl rfl)
theorem dX1_goOn_63 : decode cX1_goOn 63 = .ok (.if_icmp .ne 35, 3) := dk_160 0 35 (dk_at dksX1_goOn_2 15 rfl rfl)
theorem dX1_goOn_66 : decode cX1_goOn 66 = .ok (.aload_n 0, 1) := dk_42 (dk_at dksX1_goOn_2 18 rfl rfl)
theorem dX1_goOn_67 : decode cX1_goOn 67 = .ok (.iload_n 1, 1) := dk_27 (dk_at dksX1_goOn_2 19 rfl rfl)
theorem dX1_goOn_68 : decode cX1_goOn 68 = .ok (.iconst 1, 1) := dk_4 (dk_at dksX1_goOn_2 20 rfl rfl)
theorem dX1_goOn_69 : decode cX1_goOn 69 = .ok (.iadd, 1) := dk_96 (dk_at dksX1_goOn_2 21 rfl rfl)
theorem dX1_goOn_70 : decode cX1_goOn 70 = .ok (.iconst 0, 1) := dk_3 (dk_at dksX1_goOn_2 22 rfl rfl)
theorem dX1_goOn_71 : decode cX1_goOn 71 = .ok (.iload_n 3, 1) := dk_29 (dk_at dksX1_goOn_2 23 rfl rfl)
theorem dX1_goOn_72 : decode cX1_goOn 72 = .ok (.aload_n 0, 1) := dk_42 (dk_at dksX1_goOn_3 0 rfl rfl)
theorem dX1_goOn_73 : decode cX1_goOn 73 = .ok (.getfield 3, 3) := dk_180 0 3 (dk_at dksX1_goOn_3 1 rfl rfl)
theorem dX1_goOn_76 : decode cX1_goOn 76 = .ok (.getfield 76, 3) := dk_180 0 76 (dk_at dksX1_goOn_3 4 rfl rfl)
theorem dX1_goOn_79 : decode cX1_goOn 79 = .ok (.iload_n 2, 1) := dk_28 (dk_at dksX1_goOn_3 7 rfl rfl)
theorem dX1_goOn_80 : decode cX1_goOn 80 = .ok (.aaload, 1) := dk_50 (dk_at dksX1_goOn_3 8 rfl rfl)
theorem dX1_goOn_81 : decode cX1_goOn 81 = .ok (.iconst 0, 1) := dk_3 (dk_at dksX1_goOn_3 9 rfl rfl)
theorem dX1_goOn_82 : decode cX1_goOn 82 = .ok (.saload, 1) := dk_53 (dk_at dksX1_goOn_3 10 rfl rfl)
theorem dX1_goOn_83 : decode cX1_goOn 83 = .ok (.iadd, 1) := dk_96 (dk_at dksX1_goOn_3 11 rfl rfl)
theorem dX1_goOn_84 : decode cX1_goOn 84 = .ok (.aload_n 0, 1) := dk_42 (dk_at dksX1_goOn_3 12 rfl rfl)
theorem dX1_goOn_85 : decode cX1_goOn 85 = .ok (.getfield 34, 3) := dk_180 0 34 (dk_at dksX1_goOn_3 13 rfl rfl)
theorem dX1_goOn_88 : decode cX1_goOn 88 = .ok (.iload 5, 2) := dk_21 5 (dk_at dksX1_goOn_3 16 rfl rfl)
theorem dX1_goOn_90 : decode cX1_goOn 90 = .ok (.lload 6, 2) := dk_22 6 (dk_at dksX1_goOn_3 18 rfl rfl)
theorem dX1_goOn_92 : decode cX1_goOn 92 = .ok (.iload 8, 2) := dk_21 8 (dk_at dksX1_goOn_3 20 rfl rfl)
theorem dX1_goOn_94 : decode cX1_goOn 94 = .ok (.invokevirtual 66, 3) := dk_182 0 66 (dk_at dksX1_goOn_4 0 rfl rfl)
theorem dX1_goOn_97 : decode cX1_goOn 97 = .ok (.return_, 1) := dk_177 (dk_at dksX1_goOn_4 3 rfl rfl)
theorem dX1_goOn_98 : decode cX1_goOn 98 = .ok (.aload_n 0, 1) := dk_42 (dk_at dksX1_goOn_4 4 rfl rfl)
theorem dX1_goOn_99 : decode cX1_goOn 99 = .ok (.getfield 3, 3) := dk_180 0 3 (dk_at dksX1_goOn_4 5 rfl rfl)
theorem dX1_goOn_102 : decode cX1_goOn 102 = .ok (.getfield 54, 3) := dk_180 0 54 (dk_at dksX1_goOn_4 8 rfl rfl)
theorem dX1_goOn_105 : decode cX1_goOn 105 = .ok (.aload_n 0, 1) := dk_42 (dk_at dksX1_goOn_4 11 rfl rfl)
theorem dX1_goOn_106 : decode cX1_goOn 106 = .ok (.iload_n 1, 1) := dk_27 (dk_at dksX1_goOn_4 12 rfl rfl)
theorem dX1_goOn_107 : decode cX1_goOn 107 = .ok (.invokevirtual 50, 3) := dk_182 0 50 (dk_at dksX1_goOn_4 13 rfl rfl)
theorem dX1_goOn_110 : decode cX1_goOn 110 = .ok (.aaload, 1) := dk_50 (dk_at dksX1_goOn_4 16 rfl rfl)
theorem dX1_goOn_111 : decode cX1_goOn 111 = .ok (.astore 9, 2) := dk_58 9 (dk_at dksX1_goOn_4 17 rfl rfl)
theorem dX1_goOn_113 : decode cX1_goOn 113 = .ok (.iload_n 3, 1) := dk_29 (dk_at dksX1_goOn_4 19 rfl rfl)
theorem dX1_goOn_114 : decode cX1_goOn 114 = .ok (.aload_n 0, 1) := dk_42 (dk_at dksX1_goOn_4 20 rfl rfl)
theorem dX1_goOn_115 : decode cX1_goOn 115 = .ok (.getfield 3, 3) := dk_180 0 3 (dk_at dksX1_goOn_4 21 rfl rfl)
theorem dX1_goOn_118 : decode cX1_goOn 118 = .ok (.getfield 76, 3) := dk_180 0 76 (dk_at dksX1_goOn_5 0 rfl rfl)
theorem dX1_goOn_121 : decode cX1_goOn 121 = .ok (.iload_n 2, 1) := dk_28 (dk_at dksX1_goOn_5 3 rfl rfl)
theorem dX1_goOn_122 : decode cX1_goOn 122 = .ok (.aaload, 1) := dk_50 (dk_at dksX1_goOn_5 4 rfl rfl)
theorem dX1_goOn_123 : decode cX1_goOn 123 = .ok (.aload 9, 2) := dk_25 9 (dk_at dksX1_goOn_5 5 rfl rfl)
theorem dX1_goOn_125 : decode cX1_goOn 125 = .ok (.invokevirtual 80, 3) := dk_182 0 80 (dk_at dksX1_goOn_5 7 rfl rfl)
theorem dX1_goOn_128 : decode cX1_goOn 128 = .ok (.saload, 1) := dk_53 (dk_at dksX1_goOn_5 10 rfl rfl)
theorem dX1_goOn_129 : decode cX1_goOn 129 = .ok (.iadd, 1) := dk_96 (dk_at dksX1_goOn_5 11 rfl rfl)
theorem dX1_goOn_130 : decode cX1_goOn 130 = .ok (.istore 10, 2) := dk_54 10 (dk_at dksX1_goOn_5 12 rfl rfl)
theorem dX1_goOn_132 : decode cX1_goOn 132 = .ok (.aload 9, 2) := dk_25 9 (dk_at dksX1_goOn_5 14 rfl rfl)
theorem dX1_goOn_134 : decode cX1_goOn 134 = .ok (.iload 10, 2) := dk_21 10 (dk_at dksX1_goOn_5 16 rfl rfl)
theorem dX1_goOn_136 : decode cX1_goOn 136 = .ok (.invokevirtual 83, 3) := dk_182 0 83 (dk_at dksX1_goOn_5 18 rfl rfl)
theorem dX1_goOn_139 : decode cX1_goOn 139 = .ok (.istore 11, 2) := dk_54 11 (dk_at dksX1_goOn_5 21 rfl rfl)
theorem dX1_goOn_141 : decode cX1_goOn 141 = .ok (.iload 11, 2) := dk_21 11 (dk_at dksX1_goOn_6 0 rfl rfl)
theorem dX1_goOn_143 : decode cX1_goOn 143 = .ok (.iconst (-1), 1) := dk_2 (dk_at dksX1_goOn_6 2 rfl rfl)
theorem dX1_goOn_144 : decode cX1_goOn 144 = .ok (.if_icmp .ne 31, 3) := dk_160 0 31 (dk_at dksX1_goOn_6 3 rfl rfl)
theorem dX1_goOn_147 : decode cX1_goOn 147 = .ok (.aload_n 0, 1) := dk_42 (dk_at dksX1_goOn_6 6 rfl rfl)
theorem dX1_goOn_148 : decode cX1_goOn 148 = .ok (.iload_n 1, 1) := dk_27 (dk_at dksX1_goOn_6 7 rfl rfl)
theorem dX1_goOn_149 : decode cX1_goOn 149 = .ok (.iconst 1, 1) := dk_4 (dk_at dksX1_goOn_6 8 rfl rfl)
theorem dX1_goOn_150 : decode cX1_goOn 150 = .ok (.iadd, 1) := dk_96 (dk_at dksX1_goOn_6 9 rfl rfl)
theorem dX1_goOn_151 : decode cX1_goOn 151 = .ok (.aload 9, 2) := dk_25 9 (dk_at dksX1_goOn_6 10 rfl rfl)
theorem dX1_goOn_153 : decode cX1_goOn 153 = .ok (.invokevirtual 80, 3) := dk_182 0 80 (dk_at dksX1_goOn_6 12 rfl rfl)
theorem dX1_goOn_156 : decode cX1_goOn 156 = .ok (.iload 10, 2) := dk_21 10 (dk_at dksX1_goOn_6 15 rfl rfl)
theorem dX1_goOn_158 : decode cX1_goOn 158 = .ok (.iload 4, 2) := dk_21 4 (dk_at dksX1_goOn_6 17 rfl rfl)
theorem dX1_goOn_160 : decode cX1_goOn 160 = .ok (.iload 5, 2) := dk_21 5 (dk_at dksX1_goOn_6 19 rfl rfl)
theorem dX1_goOn_162 : decode cX1_goOn 162 = .ok (.aload 9, 2) := dk_25 9 (dk_at dksX1_goOn_6 21 rfl rfl)
theorem dX1_goOn_164 : decode cX1_goOn 164 = .ok (.invokevirtual 86, 3) := dk_182 0 86 (dk_at dksX1_goOn_7 0 rfl rfl)
theorem dX1_goOn_167 : decode cX1_goOn 167 = .ok (.isub, 1) := dk_100 (dk_at dksX1_goOn_7 3 rfl rfl)
theorem dX1_goOn_168 : decode cX1_goOn 168 = .ok (.lload 6, 2) := dk_22 6 (dk_at dksX1_goOn_7 4 rfl rfl)
theorem dX1_goOn_170 : decode cX1_goOn 170 = .ok (.iconst 0, 1) := dk_3 (dk_at dksX1_goOn_7 6 rfl rfl)
theorem dX1_goOn_171 : decode cX1_goOn 171 = .ok (.invokevirtual 66, 3) := dk_182 0 66 (dk_at dksX1_goOn_7 7 rfl rfl)
theorem dX1_goOn_174 : decode cX1_goOn 174 = .ok (.return_, 1) := dk_177 (dk_at dksX1_goOn_7 10 rfl rfl)
theorem dX1_goOn_175 : decode cX1_goOn 175 = .ok (.iconst 0, 1) := dk_3 (dk_at dksX1_goOn_7 11 rfl rfl)
theorem dX1_goOn_176 : decode cX1_goOn 176 = .ok (.istore 12, 2) := dk_54 12 (dk_at dksX1_goOn_7 12 rfl rfl)
theorem dX1_goOn_178 : decode cX1_goOn 178 = .ok (.iload 12, 2) := dk_21 12 (dk_at dksX1_goOn_7 14 rfl rfl)
theorem dX1_goOn_180 : decode cX1_goOn 180 = .ok (.aload 9, 2) := dk_25 9 (dk_at dksX1_goOn_7 16 rfl rfl)
theorem dX1_goOn_182 : decode cX1_goOn 182 = .ok (.getfield 89, 3) := dk_180 0 89 (dk_at dksX1_goOn_7 18 rfl rfl)
theorem dX1_goOn_185 : decode cX1_goOn 185 = .ok (.invokevirtual 93, 3) := dk_182 0 93 (dk_at dksX1_goOn_7 21 rfl rfl)
theorem dX1_goOn_188 : decode cX1_goOn 188 = .ok (.if_icmp .ge 174, 3) := dk_162 0 174 (dk_at dksX1_goOn_8 0 rfl rfl)
theorem dX1_goOn_191 : decode cX1_goOn 191 = .ok (.aload 9, 2) := dk_25 9 (dk_at dksX1_goOn_8 3 rfl rfl)
theorem dX1_goOn_193 : decode cX1_goOn 193 = .ok (.getfield 89, 3) := dk_180 0 89 (dk_at dksX1_goOn_8 5 rfl rfl)
theorem dX1_goOn_196 : decode cX1_goOn 196 = .ok (.iload 12, 2) := dk_21 12 (dk_at dksX1_goOn_8 8 rfl rfl)
theorem dX1_goOn_198 : decode cX1_goOn 198 = .ok (.invokevirtual 98, 3) := dk_182 0 98 (dk_at dksX1_goOn_8 10 rfl rfl)
theorem dX1_goOn_201 : decode cX1_goOn 201 = .ok (.checkcast 102, 3) := dk_192 0 102 (dk_at dksX1_goOn_8 13 rfl rfl)
theorem dX1_goOn_204 : decode cX1_goOn 204 = .ok (.astore 13, 2) := dk_58 13 (dk_at dksX1_goOn_8 16 rfl rfl)
theorem dX1_goOn_206 : decode cX1_goOn 206 = .ok (.aload_n 0, 1) := dk_42 (dk_at dksX1_goOn_8 18 rfl rfl)
theorem dX1_goOn_207 : decode cX1_goOn 207 = .ok (.iload_n 1, 1) := dk_27 (dk_at dksX1_goOn_8 19 rfl rfl)
theorem dX1_goOn_208 : decode cX1_goOn 208 = .ok (.invokevirtual 50, 3) := dk_182 0 50 (dk_at dksX1_goOn_8 20 rfl rfl)
theorem dX1_goOn_211 : decode cX1_goOn 211 = .ok (.aload_n 0, 1) := dk_42 (dk_at dksX1_goOn_8 23 rfl rfl)
theorem dX1_goOn_212 : decode cX1_goOn 212 = .ok (.getfield 22, 3) := dk_180 0 22 (dk_at dksX1_goOn_9 0 rfl rfl)
theorem dX1_goOn_215 : decode cX1_goOn 215 = .ok (.if_icmp .ne 15, 3) := dk_160 0 15 (dk_at dksX1_goOn_9 3 rfl rfl)
theorem dX1_goOn_218 : decode cX1_goOn 218 = .ok (.iload 12, 2) := dk_21 12 (dk_at dksX1_goOn_9 6 rfl rfl)
theorem dX1_goOn_220 : decode cX1_goOn 220 = .ok (.aload_n 0, 1) := dk_42 (dk_at dksX1_goOn_9 8 rfl rfl)
theorem dX1_goOn_221 : decode cX1_goOn 221 = .ok (.getfield 25, 3) := dk_180 0 25 (dk_at dksX1_goOn_9 9 rfl rfl)
theorem dX1_goOn_224 : decode cX1_goOn 224 = .ok (.if_icmp .eq 6, 3) := dk_159 0 6 (dk_at dksX1_goOn_9 12 rfl rfl)
theorem dX1_goOn_227 : decode cX1_goOn 227 = .ok (.goto 129, 3) := dk_167 0 129 (dk_at dksX1_goOn_9 15 rfl rfl)
theorem dX1_goOn_230 : decode cX1_goOn 230 = .ok (.aload_n 0, 1) := dk_42 (dk_at dksX1_goOn_9 18 rfl rfl)
theorem dX1_goOn_231 : decode cX1_goOn 231 = .ok (.iload_n 1, 1) := dk_27 (dk_at dksX1_goOn_9 19 rfl rfl)
theorem dX1_goOn_232 : decode cX1_goOn 232 = .ok (.invokevirtual 50, 3) := dk_182 0 50 (dk_at dksX1_goOn_9 20 rfl rfl)
theorem dX1_goOn_235 : decode cX1_goOn 235 = .ok (.aload_n 0, 1) := dk_42 (dk_at dksX1_goOn_9 23 rfl rfl)
theorem dX1_goOn_236 : decode cX1_goOn 236 = .ok (.getfield 22, 3) := dk_180 0 22 (dk_at dksX1_goOn_10 0 rfl rfl)
theorem dX1_goOn_239 : decode cX1_goOn 239 = .ok (.if_icmp .ne 8, 3) := dk_160 0 8 (dk_at dksX1_goOn_10 3 rfl rfl)
theorem dX1_goOn_242 : decode cX1_goOn 242 = .ok (.lload 6, 2) := dk_22 6 (dk_at dksX1_goOn_10 6 rfl rfl)
theorem dX1_goOn_244 : decode cX1_goOn 244 = .ok (.goto 19, 3) := dk_167 0 19 (dk_at dksX1_goOn_10 8 rfl rfl)
theorem dX1_goOn_247 : decode cX1_goOn 247 = .ok (.lload 6, 2) := dk_22 6 (dk_at dksX1_goOn_10 11 rfl rfl)
theorem dX1_goOn_249 : decode cX1_goOn 249 = .ok (.aload 9, 2) := dk_25 9 (dk_at dksX1_goOn_10 13 rfl rfl)
theorem dX1_goOn_251 : decode cX1_goOn 251 = .ok (.getfield 58, 3) := dk_180 0 58 (dk_at dksX1_goOn_10 15 rfl rfl)
theorem dX1_goOn_254 : decode cX1_goOn 254 = .ok (.i2l, 1) := dk_133 (dk_at dksX1_goOn_10 18 rfl rfl)
theorem dX1_goOn_255 : decode cX1_goOn 255 = .ok (.ldiv, 1) := dk_109 (dk_at dksX1_goOn_10 19 rfl rfl)
theorem dX1_goOn_256 : decode cX1_goOn 256 = .ok (.aload 13, 2) := dk_25 13 (dk_at dksX1_goOn_10 20 rfl rfl)
theorem dX1_goOn_258 : decode cX1_goOn 258 = .ok (.getfield 104, 3) := dk_180 0 104 (dk_at dksX1_goOn_11 0 rfl rfl)
theorem dX1_goOn_261 : decode cX1_goOn 261 = .ok (.i2l, 1) := dk_133 (dk_at dksX1_goOn_11 3 rfl rfl)
theorem dX1_goOn_262 : decode cX1_goOn 262 = .ok (.lmul, 1) := dk_105 (dk_at dksX1_goOn_11 4 rfl rfl)
theorem dX1_goOn_263 : decode cX1_goOn 263 = .ok (.lstore 14, 2) := dk_55 14 (dk_at dksX1_goOn_11 5 rfl rfl)
theorem dX1_goOn_265 : decode cX1_goOn 265 = .ok (.aload 13, 2) := dk_25 13 (dk_at dksX1_goOn_11 7 rfl rfl)
theorem dX1_goOn_267 : decode cX1_goOn 267 = .ok (.iload 4, 2) := dk_21 4 (dk_at dksX1_goOn_11 9 rfl rfl)
theorem dX1_goOn_269 : decode cX1_goOn 269 = .ok (.invokevirtual 105, 3) := dk_182 0 105 (dk_at dksX1_goOn_11 11 rfl rfl)
theorem dX1_goOn_272 : decode cX1_goOn 272 = .ok (.ifCond .eq 49, 3) := dk_153 0 49 (dk_at dksX1_goOn_11 14 rfl rfl)
theorem dX1_goOn_275 : decode cX1_goOn 275 = .ok (.aload_n 0, 1) := dk_42 (dk_at dksX1_goOn_11 17 rfl rfl)
theorem dX1_goOn_276 : decode cX1_goOn 276 = .ok (.iload_n 1, 1) := dk_27 (dk_at dksX1_goOn_11 18 rfl rfl)
theorem dX1_goOn_277 : decode cX1_goOn 277 = .ok (.iconst 1, 1) := dk_4 (dk_at dksX1_goOn_11 19 rfl rfl)
theorem dX1_goOn_278 : decode cX1_goOn 278 = .ok (.iadd, 1) := dk_96 (dk_at dksX1_goOn_11 20 rfl rfl)
theorem dX1_goOn_279 : decode cX1_goOn 279 = .ok (.aload 9, 2) := dk_25 9 (dk_at dksX1_goOn_11 21 rfl rfl)
theorem dX1_goOn_281 : decode cX1_goOn 281 = .ok (.invokevirtual 80, 3) := dk_182 0 80 (dk_at dksX1_goOn_12 0 rfl rfl)
theorem dX1_goOn_284 : decode cX1_goOn 284 = .ok (.iload 11, 2) := dk_21 11 (dk_at dksX1_goOn_12 3 rfl rfl)
theorem dX1_goOn_286 : decode cX1_goOn 286 = .ok (.aload 13, 2) := dk_25 13 (dk_at dksX1_goOn_12 5 rfl rfl)
theorem dX1_goOn_288 : decode cX1_goOn 288 = .ok (.getfield 109, 3) := dk_180 0 109 (dk_at dksX1_goOn_12 7 rfl rfl)
theorem dX1_goOn_291 : decode cX1_goOn 291 = .ok (.iadd, 1) := dk_96 (dk_at dksX1_goOn_12 10 rfl rfl)
theorem dX1_goOn_292 : decode cX1_goOn 292 = .ok (.aload 13, 2) := dk_25 13 (dk_at dksX1_goOn_12 11 rfl rfl)
theorem dX1_goOn_294 : decode cX1_goOn 294 = .ok (.iload 4, 2) := dk_21 4 (dk_at dksX1_goOn_12 13 rfl rfl)
theorem dX1_goOn_296 : decode cX1_goOn 296 = .ok (.aload_n 0, 1) := dk_42 (dk_at dksX1_goOn_12 15 rfl rfl)
theorem dX1_goOn_297 : decode cX1_goOn 297 = .ok (.getfield 32, 3) := dk_180 0 32 (dk_at dksX1_goOn_12 16 rfl rfl)
theorem dX1_goOn_300 : decode cX1_goOn 300 = .ok (.invokevirtual 112, 3) := dk_182 0 112 (dk_at dksX1_goOn_12 19 rfl rfl)
theorem dX1_goOn_303 : decode cX1_goOn 303 = .ok (.iload 5, 2) := dk_21 5 (dk_at dksX1_goOn_12 22 rfl rfl)
theorem dX1_goOn_305 : decode cX1_goOn 305 = .ok (.aload 9, 2) := dk_25 9 (dk_at dksX1_goOn_13 0 rfl rfl)
theorem dX1_goOn_307 : decode cX1_goOn 307 = .ok (.invokevirtual 115, 3) := dk_182 0 115 (dk_at dksX1_goOn_13 2 rfl rfl)
theorem dX1_goOn_310 : decode cX1_goOn 310 = .ok (.iadd, 1) := dk_96 (dk_at dksX1_goOn_13 5 rfl rfl)
theorem dX1_goOn_311 : decode cX1_goOn 311 = .ok (.lload 14, 2) := dk_22 14 (dk_at dksX1_goOn_13 6 rfl rfl)
theorem dX1_goOn_313 : decode cX1_goOn 313 = .ok (.iload 8, 2) := dk_21 8 (dk_at dksX1_goOn_13 8 rfl rfl)
theorem dX1_goOn_315 : decode cX1_goOn 315 = .ok (.invokevirtual 66, 3) := dk_182 0 66 (dk_at dksX1_goOn_13 10 rfl rfl)
theorem dX1_goOn_318 : decode cX1_goOn 318 = .ok (.goto 38, 3) := dk_167 0 38 (dk_at dksX1_goOn_13 13 rfl rfl)
theorem dX1_goOn_321 : decode cX1_goOn 321 = .ok (.aload_n 0, 1) := dk_42 (dk_at dksX1_goOn_13 16 rfl rfl)
theorem dX1_goOn_322 : decode cX1_goOn 322 = .ok (.iload_n 1, 1) := dk_27 (dk_at dksX1_goOn_13 17 rfl rfl)
theorem dX1_goOn_323 : decode cX1_goOn 323 = .ok (.iconst 1, 1) := dk_4 (dk_at dksX1_goOn_13 18 rfl rfl)
theorem dX1_goOn_324 : decode cX1_goOn 324 = .ok (.iadd, 1) := dk_96 (dk_at dksX1_goOn_13 19 rfl rfl)
theorem dX1_goOn_325 : decode cX1_goOn 325 = .ok (.aload 9, 2) := dk_25 9 (dk_at dksX1_goOn_13 20 rfl rfl)
theorem dX1_goOn_327 : decode cX1_goOn 327 = .ok (.invokevirtual 80, 3) := dk_182 0 80 (dk_at dksX1_goOn_14 0 rfl rfl)
theorem dX1_goOn_330 : decode cX1_goOn 330 = .ok (.iload 11, 2) := dk_21 11 (dk_at dksX1_goOn_14 3 rfl rfl)
theorem dX1_goOn_332 : decode cX1_goOn 332 = .ok (.aload 9, 2) := dk_25 9 (dk_at dksX1_goOn_14 5 rfl rfl)
theorem dX1_goOn_334 : decode cX1_goOn 334 = .ok (.getfield 118, 3) := dk_180 0 118 (dk_at dksX1_goOn_14 7 rfl rfl)
theorem dX1_goOn_337 : decode cX1_goOn 337 = .ok (.iconst 5, 1) := dk_8 (dk_at dksX1_goOn_14 10 rfl rfl)
theorem dX1_goOn_338 : decode cX1_goOn 338 = .ok (.iaload, 1) := dk_46 (dk_at dksX1_goOn_14 11 rfl rfl)
theorem dX1_goOn_339 : decode cX1_goOn 339 = .ok (.iadd, 1) := dk_96 (dk_at dksX1_goOn_14 12 rfl rfl)
theorem dX1_goOn_340 : decode cX1_goOn 340 = .ok (.iload 4, 2) := dk_21 4 (dk_at dksX1_goOn_14 13 rfl rfl)
theorem dX1_goOn_342 : decode cX1_goOn 342 = .ok (.iload 5, 2) := dk_21 5 (dk_at dksX1_goOn_14 15 rfl rfl)
theorem dX1_goOn_344 : decode cX1_goOn 344 = .ok (.aload 9, 2) := dk_25 9 (dk_at dksX1_goOn_14 17 rfl rfl)
theorem dX1_goOn_346 : decode cX1_goOn 346 = .ok (.invokevirtual 86, 3) := dk_182 0 86 (dk_at dksX1_goOn_14 19 rfl rfl)
theorem dX1_goOn_349 : decode cX1_goOn 349 = .ok (.isub, 1) := dk_100 (dk_at dksX1_goOn_14 22 rfl rfl)
theorem dX1_goOn_350 : decode cX1_goOn 350 = .ok (.lload 14, 2) := dk_22 14 (dk_at dksX1_goOn_15 0 rfl rfl)
theorem dX1_goOn_352 : decode cX1_goOn 352 = .ok (.iconst 0, 1) := dk_3 (dk_at dksX1_goOn_15 2 rfl rfl)
theorem dX1_goOn_353 : decode cX1_goOn 353 = .ok (.invokevirtual 66, 3) := dk_182 0 66 (dk_at dksX1_goOn_15 3 rfl rfl)
theorem dX1_goOn_356 : decode cX1_goOn 356 = .ok (.iinc 12 1, 3) := dk_132 12 1 (dk_at dksX1_goOn_15 6 rfl rfl)
theorem dX1_goOn_359 : decode cX1_goOn 359 = .ok (.goto (-181), 3) := dk_167 255 75 (dk_at dksX1_goOn_15 9 rfl rfl)
theorem dX1_goOn_362 : decode cX1_goOn 362 = .ok (.return_, 1) := dk_177 (dk_at dksX1_goOn_15 12 rfl rfl)
theorem q78 : (Jvm.Cond.initialized "CarryUp$Walk") ∈ lw_all := lw_g (lw_at lw_m1 2 rfl) rfl
theorem q124 : (Jvm.Cond.instantiable "CarryUp$Walk" (11 : Nat)) ∈ lw_all := lw_g (lw_at lw_m1 48 rfl) rfl
theorem q126 : (Jvm.Cond.instanceMethod ({ cls := "CarryUp$Walk", name := "<init>", desc := "(LCarryUp;)V" } : Jvm.MethodName)) ∈ lw_all := lw_g (lw_at lw_m1 50 rfl) rfl
theorem q127 : (Jvm.Cond.code ({ cls := "CarryUp$Walk", name := "<init>", desc := "(LCarryUp;)V" } : Jvm.MethodName) prog_9_method_1_code (2 : Nat) (Option.none : Option Jvm.ClassFile.FieldType)) ∈ lw_all := lw_g (lw_at lw_m1 51 rfl) rfl
theorem q128 : (Jvm.Cond.methodLink "CarryUp$Walk" (9 : Nat) ({ cls := "java/lang/Object", name := "<init>", desc := "()V" } : Jvm.MethodName)) ∈ lw_all := lw_g (lw_at lw_m1 52 rfl) rfl
theorem q129 : (Jvm.Cond.fieldLink "CarryUp$Walk" (34 : Nat) "CarryUp$Walk" "full" "I") ∈ lw_all := lw_g (lw_at lw_m1 53 rfl) rfl
theorem q130 : (Jvm.Cond.fieldLink "CarryUp$Walk" (15 : Nat) "CarryUp$Walk" "row" "I") ∈ lw_all := lw_g (lw_at lw_m1 54 rfl) rfl
theorem q131 : (Jvm.Cond.fieldLink "CarryUp$Walk" (19 : Nat) "CarryUp$Walk" "many" "I") ∈ lw_all := lw_g (lw_at lw_m1 55 rfl) rfl
theorem q132 : (Jvm.Cond.fieldLink "CarryUp$Walk" (32 : Nat) "CarryUp$Walk" "parts" "I") ∈ lw_all := lw_g (lw_at lw_m1 56 rfl) rfl
theorem q133 : (Jvm.Cond.fieldLink "CarryUp$Walk" (22 : Nat) "CarryUp$Walk" "known" "I") ∈ lw_all := lw_g (lw_at lw_m1 57 rfl) rfl
theorem q134 : (Jvm.Cond.fieldLink "CarryUp$Walk" (25 : Nat) "CarryUp$Walk" "sort" "I") ∈ lw_all := lw_g (lw_at lw_m1 58 rfl) rfl
theorem q135 : (Jvm.Cond.fieldLink "CarryUp$Walk" (37 : Nat) "CarryUp$Walk" "brings" "J") ∈ lw_all := lw_g (lw_at lw_m1 59 rfl) rfl
theorem q137 : (Jvm.Cond.fieldLink "CarryUp$Walk" (41 : Nat) "CarryUp$Walk" "done" "J") ∈ lw_all := lw_g (lw_at lw_m1 61 rfl) rfl
theorem q139 : (Jvm.Cond.fieldLink "CarryUp$Walk" (44 : Nat) "CarryUp$Walk" "below" "J") ∈ lw_all := lw_g (lw_at lw_m1 63 rfl) rfl
theorem q141 : (Jvm.Cond.fieldLink "CarryUp$Walk" (47 : Nat) "CarryUp$Walk" "end" "I") ∈ lw_all := lw_g (lw_at lw_m1 65 rfl) rfl
theorem q143 : (Jvm.Cond.fieldLink "CarryUp$Walk" (3 : Nat) "CarryUp$Walk" "this$0" "LCarryUp;") ∈ lw_all := lw_g (lw_at lw_m1 67 rfl) rfl
theorem q144 : (Jvm.Cond.lays "CarryUp$Walk" "CarryUp$Walk" "full" "I") ∈ lw_all := lw_g (lw_at lw_m1 68 rfl) rfl
theorem q145 : (Jvm.Cond.soleField "CarryUp$Walk" "full") ∈ lw_all := lw_g (lw_at lw_m1 69 rfl) rfl
theorem q146 : (Jvm.Cond.lays "CarryUp$Walk" "CarryUp$Walk" "row" "I") ∈ lw_all := lw_g (lw_at lw_m1 70 rfl) rfl
theorem q147 : (Jvm.Cond.soleField "CarryUp$Walk" "row") ∈ lw_all := lw_g (lw_at lw_m1 71 rfl) rfl
theorem q148 : (Jvm.Cond.lays "CarryUp$Walk" "CarryUp$Walk" "many" "I") ∈ lw_all := lw_g (lw_at lw_m1 72 rfl) rfl
theorem q149 : (Jvm.Cond.soleField "CarryUp$Walk" "many") ∈ lw_all := lw_g (lw_at lw_m1 73 rfl) rfl
theorem q150 : (Jvm.Cond.lays "CarryUp$Walk" "CarryUp$Walk" "parts" "I") ∈ lw_all := lw_g (lw_at lw_m1 74 rfl) rfl
theorem q151 : (Jvm.Cond.soleField "CarryUp$Walk" "parts") ∈ lw_all := lw_g (lw_at lw_m1 75 rfl) rfl
theorem q152 : (Jvm.Cond.lays "CarryUp$Walk" "CarryUp$Walk" "known" "I") ∈ lw_all := lw_g (lw_at lw_m1 76 rfl) rfl
theorem q153 : (Jvm.Cond.soleField "CarryUp$Walk" "known") ∈ lw_all := lw_g (lw_at lw_m1 77 rfl) rfl
theorem q154 : (Jvm.Cond.lays "CarryUp$Walk" "CarryUp$Walk" "sort" "I") ∈ lw_all := lw_g (lw_at lw_m1 78 rfl) rfl
theorem q155 : (Jvm.Cond.soleField "CarryUp$Walk" "sort") ∈ lw_all := lw_g (lw_at lw_m1 79 rfl) rfl
theorem q156 : (Jvm.Cond.lays "CarryUp$Walk" "CarryUp$Walk" "brings" "J") ∈ lw_all := lw_g (lw_at lw_m1 80 rfl) rfl
theorem q157 : (Jvm.Cond.soleField "CarryUp$Walk" "brings") ∈ lw_all := lw_g (lw_at lw_m1 81 rfl) rfl
theorem q158 : (Jvm.Cond.lays "CarryUp$Walk" "CarryUp$Walk" "done" "J") ∈ lw_all := lw_g (lw_at lw_m1 82 rfl) rfl
theorem q159 : (Jvm.Cond.soleField "CarryUp$Walk" "done") ∈ lw_all := lw_g (lw_at lw_m1 83 rfl) rfl
theorem q160 : (Jvm.Cond.lays "CarryUp$Walk" "CarryUp$Walk" "below" "J") ∈ lw_all := lw_g (lw_at lw_m1 84 rfl) rfl
theorem q161 : (Jvm.Cond.soleField "CarryUp$Walk" "below") ∈ lw_all := lw_g (lw_at lw_m1 85 rfl) rfl
theorem q162 : (Jvm.Cond.lays "CarryUp$Walk" "CarryUp$Walk" "end" "I") ∈ lw_all := lw_g (lw_at lw_m1 86 rfl) rfl
theorem q163 : (Jvm.Cond.soleField "CarryUp$Walk" "end") ∈ lw_all := lw_g (lw_at lw_m1 87 rfl) rfl
theorem q164 : (Jvm.Cond.laysFinal "CarryUp$Walk" "CarryUp$Walk" "this$0" "LCarryUp;") ∈ lw_all := lw_g (lw_at lw_m1 88 rfl) rfl
theorem q165 : (Jvm.Cond.soleField "CarryUp$Walk" "this$0") ∈ lw_all := lw_g (lw_at lw_m1 89 rfl) rfl
theorem q166 : (Jvm.Cond.superclass "CarryUp$Walk" "java/lang/Object") ∈ lw_all := lw_g (lw_at lw_m1 90 rfl) rfl
theorem q213 : (Jvm.Cond.fieldLinkNest "CarryUp$Walk" (63 : Nat) "CarryUp" "begin" "I" "CarryUp") ∈ lw_tbl := lw_at lw_m1 137 rfl
theorem q215 : (Jvm.Cond.fieldLinkNest "CarryUp$Walk" (76 : Nat) "CarryUp" "ways" "[[S" "CarryUp") ∈ lw_tbl := lw_at lw_m1 139 rfl
theorem q217 : (Jvm.Cond.fieldLinkNest "CarryUp$Walk" (54 : Nat) "CarryUp" "calls" "[LCarryUp$Call;" "CarryUp") ∈ lw_tbl := lw_at lw_m1 141 rfl
theorem q697 : (Jvm.Cond.fieldLink "CarryUp$Walk" (118 : Nat) "CarryUp$Call" "told" "[I") ∈ lw_all := lw_g (lw_at lw_m3 141 rfl) rfl
theorem q700 : (Jvm.Cond.fieldLink "CarryUp$Walk" (89 : Nat) "CarryUp$Call" "sorts" "Ljava/util/ArrayList;") ∈ lw_all := lw_g (lw_at lw_m3 144 rfl) rfl
theorem q702 : (Jvm.Cond.fieldLink "CarryUp$Walk" (58 : Nat) "CarryUp$Call" "likely" "I") ∈ lw_all := lw_g (lw_at lw_m3 146 rfl) rfl
theorem q727 : (Jvm.Cond.fieldLink "CarryUp$Walk" (104 : Nat) "CarryUp$Sort" "likely" "I") ∈ lw_all := lw_g (lw_at lw_m3 171 rfl) rfl
theorem q731 : (Jvm.Cond.fieldLink "CarryUp$Walk" (109 : Nat) "CarryUp$Sort" "minutes" "I") ∈ lw_all := lw_g (lw_at lw_m3 175 rfl) rfl
theorem q789 : (Jvm.Cond.selects "CarryUp$Walk" ({ cls := "java/lang/Object", name := "getClass", desc := "()Ljava/lang/Class;" } : Jvm.MethodName) ({ cls := "java/lang/Object", name := "getClass", desc := "()Ljava/lang/Class;" } : Jvm.MethodName)) ∈ lw_all := lw_g (lw_at lw_m3 233 rfl) rfl
theorem q932 : (Jvm.Cond.instanceMethod ({ cls := "CarryUp$Walk", name := "lay", desc := "(IIII)LCarryUp$Walk;" } : Jvm.MethodName)) ∈ lw_all := lw_g (lw_at lw_m4 136 rfl) rfl
theorem q933 : (Jvm.Cond.selects "CarryUp$Walk" ({ cls := "CarryUp$Walk", name := "lay", desc := "(IIII)LCarryUp$Walk;" } : Jvm.MethodName) ({ cls := "CarryUp$Walk", name := "lay", desc := "(IIII)LCarryUp$Walk;" } : Jvm.MethodName)) ∈ lw_all := lw_g (lw_at lw_m4 137 rfl) rfl
theorem q934 : (Jvm.Cond.code ({ cls := "CarryUp$Walk", name := "lay", desc := "(IIII)LCarryUp$Walk;" } : Jvm.MethodName) prog_9_method_3_code (5 : Nat) (Option.some (Jvm.ClassFile.FieldType.object "CarryUp$Walk"))) ∈ lw_all := lw_g (lw_at lw_m4 138 rfl) rfl
theorem q935 : (Jvm.Cond.methodLinkNest "CarryUp$Walk" (28 : Nat) ({ cls := "CarryUp", name := "parts", desc := "()I" } : Jvm.MethodName) "CarryUp") ∈ lw_tbl := lw_at lw_m4 139 rfl
theorem q937 : (Jvm.Cond.instanceMethod ({ cls := "CarryUp$Walk", name := "run", desc := "(I)LCarryUp$Walk;" } : Jvm.MethodName)) ∈ lw_all := lw_g (lw_at lw_m4 141 rfl) rfl
theorem q938 : (Jvm.Cond.selects "CarryUp$Walk" ({ cls := "CarryUp$Walk", name := "run", desc := "(I)LCarryUp$Walk;" } : Jvm.MethodName) ({ cls := "CarryUp$Walk", name := "run", desc := "(I)LCarryUp$Walk;" } : Jvm.MethodName)) ∈ lw_all := lw_g (lw_at lw_m4 142 rfl) rfl
theorem q939 : (Jvm.Cond.code ({ cls := "CarryUp$Walk", name := "run", desc := "(I)LCarryUp$Walk;" } : Jvm.MethodName) prog_9_method_4_code (3 : Nat) (Option.some (Jvm.ClassFile.FieldType.object "CarryUp$Walk"))) ∈ lw_all := lw_g (lw_at lw_m4 143 rfl) rfl
theorem q940 : (Jvm.Cond.methodLink "CarryUp$Walk" (50 : Nat) ({ cls := "CarryUp$Walk", name := "at", desc := "(I)I" } : Jvm.MethodName)) ∈ lw_all := lw_g (lw_at lw_m4 144 rfl) rfl
theorem q941 : (Jvm.Cond.privateMethod ({ cls := "CarryUp$Walk", name := "at", desc := "(I)I" } : Jvm.MethodName)) ∈ lw_tbl := lw_at lw_m4 145 rfl
theorem q942 : (Jvm.Cond.instanceMethod ({ cls := "CarryUp$Walk", name := "at", desc := "(I)I" } : Jvm.MethodName)) ∈ lw_all := lw_g (lw_at lw_m4 146 rfl) rfl
theorem q943 : (Jvm.Cond.code ({ cls := "CarryUp$Walk", name := "at", desc := "(I)I" } : Jvm.MethodName) prog_9_method_2_code (2 : Nat) (Option.some Jvm.ClassFile.FieldType.int)) ∈ lw_all := lw_g (lw_at lw_m4 147 rfl) rfl
theorem q944 : (Jvm.Cond.methodLink "CarryUp$Walk" (66 : Nat) ({ cls := "CarryUp$Walk", name := "goOn", desc := "(IIIIIJZ)V" } : Jvm.MethodName)) ∈ lw_all := lw_g (lw_at lw_m4 148 rfl) rfl
theorem q945 : (Jvm.Cond.privateMethod ({ cls := "CarryUp$Walk", name := "goOn", desc := "(IIIIIJZ)V" } : Jvm.MethodName)) ∈ lw_tbl := lw_at lw_m4 149 rfl
theorem q946 : (Jvm.Cond.instanceMethod ({ cls := "CarryUp$Walk", name := "goOn", desc := "(IIIIIJZ)V" } : Jvm.MethodName)) ∈ lw_all := lw_g (lw_at lw_m4 150 rfl) rfl
theorem q947 : (Jvm.Cond.code ({ cls := "CarryUp$Walk", name := "goOn", desc := "(IIIIIJZ)V" } : Jvm.MethodName) prog_9_method_5_code (16 : Nat) (Option.none : Option Jvm.ClassFile.FieldType)) ∈ lw_all := lw_g (lw_at lw_m4 151 rfl) rfl
theorem q948 : (Jvm.Cond.methodLink "CarryUp$Walk" (70 : Nat) ({ cls := "java/lang/Math", name := "max", desc := "(II)I" } : Jvm.MethodName)) ∈ lw_all := lw_g (lw_at lw_m4 152 rfl) rfl
theorem q949 : (Jvm.Cond.methodLink "CarryUp$Walk" (80 : Nat) ({ cls := "CarryUp$Call", name := "place", desc := "()I" } : Jvm.MethodName)) ∈ lw_all := lw_g (lw_at lw_m4 153 rfl) rfl
theorem q953 : (Jvm.Cond.methodLink "CarryUp$Walk" (83 : Nat) ({ cls := "CarryUp$Call", name := "begins", desc := "(I)I" } : Jvm.MethodName)) ∈ lw_all := lw_g (lw_at lw_m4 157 rfl) rfl
theorem q958 : (Jvm.Cond.methodLink "CarryUp$Walk" (86 : Nat) ({ cls := "CarryUp$Call", name := "again", desc := "()I" } : Jvm.MethodName)) ∈ lw_all := lw_g (lw_at lw_m4 162 rfl) rfl
theorem q962 : (Jvm.Cond.methodLink "CarryUp$Walk" (93 : Nat) ({ cls := "java/util/ArrayList", name := "size", desc := "()I" } : Jvm.MethodName)) ∈ lw_all := lw_g (lw_at lw_m4 166 rfl) rfl
theorem q963 : (Jvm.Cond.methodLink "CarryUp$Walk" (98 : Nat) ({ cls := "java/util/ArrayList", name := "get", desc := "(I)Ljava/lang/Object;" } : Jvm.MethodName)) ∈ lw_all := lw_g (lw_at lw_m4 167 rfl) rfl
theorem q964 : (Jvm.Cond.classLink "CarryUp$Walk" (102 : Nat) "CarryUp$Sort") ∈ lw_all := lw_g (lw_at lw_m4 168 rfl) rfl
theorem q965 : (Jvm.Cond.methodLink "CarryUp$Walk" (105 : Nat) ({ cls := "CarryUp$Sort", name := "isMet", desc := "(I)Z" } : Jvm.MethodName)) ∈ lw_all := lw_g (lw_at lw_m4 169 rfl) rfl
theorem q966 : (Jvm.Cond.methodLink "CarryUp$Walk" (112 : Nat) ({ cls := "CarryUp$Sort", name := "left", desc := "(II)I" } : Jvm.MethodName)) ∈ lw_all := lw_g (lw_at lw_m4 170 rfl) rfl
theorem q967 : (Jvm.Cond.methodLink "CarryUp$Walk" (115 : Nat) ({ cls := "CarryUp$Call", name := "worth", desc := "()I" } : Jvm.MethodName)) ∈ lw_all := lw_g (lw_at lw_m4 171 rfl) rfl
theorem q1554 : (Jvm.Cond.castable "CarryUp$Walk" "java/lang/Object") ∈ lw_tbl := lw_at lw_m7 38 rfl
theorem in_X1 : ∀ w ∈ wsX10, w ∈ lw_all := lw_in wsX10 [144, 146, 148, 150, 152, 154, 156, 158, 160, 162, 164] (by decide +kernel) (by decide +kernel)
/-! CarryUp$Visit -/
set_option maxRecDepth 100000
def RX10 : String := "CarryUp$Visit"
def TX10 : u_T := fun k => match k with
  | 0 => ("CarryUp$Want", "all", "I", true)
  | 1 => ("CarryUp$Want", "one", "I", true)
  | _ => ("CarryUp$Visit", "bag", "I", true)
def tyX10 : Nat → FieldType := fun k => match k with
  | 0 => .int
  | 1 => .int
  | _ => .int
abbrev wsX100 : List Cond := u_ws RX10 TX10 3
theorem nmX10 : ∀ a, a < 3 → ∀ b, b < 3 → a ≠ b → (TX10 a).2.1 ≠ (TX10 b).2.1 := by decide +kernel
theorem tyX10_ok : ∀ k, k < 3 → parseFieldDescriptor (TX10 k).2.2.1 = some (tyX10 k) := by decide +kernel
abbrev cX10_init : ByteArray := prog_8_method_1_code
def yX10_init : MethodName := ⟨RX10, "<init>", "(LCarryUp$Want;I)V"⟩
def dkwX10_init_0 : List UInt8 := [42, 43, 180, 0, 1, 43, 180, 0, 7, 183, 0, 10, 42, 28, 181, 0, 14, 177]
abbrev dktX10_init_0 : List UInt8 := dkwX10_init_0 ++ []
theorem dksX10_init_0 : cX10_init.data.toList.drop 0 = dktX10_init_0 := by decide +kernel
theorem dX10_init_0 : decode cX10_init 0 = .ok (.aload_n 0, 1) := dk_42 (dk_at dksX10_init_0 0 rfl rfl)
theorem dX10_init_1 : decode cX10_init 1 = .ok (.aload_n 1, 1) := dk_43 (dk_at dksX10_init_0 1 rfl rfl)
theorem dX10_init_2 : decode cX10_init 2 = .ok (.getfield 1, 3) := dk_180 0 1 (dk_at dksX10_init_0 2 rfl rfl)
theorem dX10_init_5 : decode cX10_init 5 = .ok (.aload_n 1, 1) := dk_43 (dk_at dksX10_init_0 5 rfl rfl)
theorem dX10_init_6 : decode cX10_init 6 = .ok (.getfield 7, 3) := dk_180 0 7 (dk_at dksX10_init_0 6 rfl rfl)
theorem dX10_init_9 : decode cX10_init 9 = .ok (.invokespecial 10, 3) := dk_183 0 10 (dk_at dksX10_init_0 9 rfl rfl)
theorem dX10_init_12 : decode cX10_init 12 = .ok (.aload_n 0, 1) := dk_42 (dk_at dksX10_init_0 12 rfl rfl)
theorem dX10_init_13 : decode cX10_init 13 = .ok (.iload_n 2, 1) := dk_28 (dk_at dksX10_init_0 13 rfl rfl)
theorem dX10_init_14 : decode cX10_init 14 = .ok (.putfield 14, 3) := dk_181 0 14 (dk_at dksX10_init_0 14 rfl rfl)
theorem dX10_init_17 : decode cX10_init 17 = .ok (.return_, 1) := dk_177 (dk_at dksX10_init_0 17 rfl rfl)
abbrev cX10_isSavedBy : ByteArray := prog_8_method_2_code
def yX10_isSavedBy : MethodName := ⟨RX10, "isSavedBy", "(I)Z"⟩
def dkwX10_isSavedBy_1 : List UInt8 := [4, 167, 0, 4, 3, 172]
abbrev dktX10_isSavedBy_1 : List UInt8 := dkwX10_isSavedBy_1 ++ []
def dkwX10_isSavedBy_0 : List UInt8 := [42, 42, 180, 0, 14, 182, 0, 19, 154, 0, 20, 42, 42, 180, 0, 14, 27, 128, 182, 0, 19, 153, 0, 7]
abbrev dktX10_isSavedBy_0 : List UInt8 := dkwX10_isSavedBy_0 ++ dktX10_isSavedBy_1
theorem dksX10_isSavedBy_0 : cX10_isSavedBy.data.toList.drop 0 = dktX10_isSavedBy_0 := by decide +kernel
theorem dksX10_isSavedBy_1 : cX10_isSavedBy.data.toList.drop 24 = dktX10_isSavedBy_1 := dk_seg dksX10_isSavedBy_0 24 rfl rfl
theorem dX10_isSavedBy_0 : decode cX10_isSavedBy 0 = .ok (.aload_n 0, 1) := dk_42 (dk_at dksX10_isSavedBy_0 0 rfl rfl)
theorem dX10_isSavedBy_1 : decode cX10_isSavedBy 1 = .ok (.aload_n 0, 1) := dk_42 (dk_at dksX10_isSavedBy_0 1 rfl rfl)
theorem dX10_isSavedBy_2 : decode cX10_isSavedBy 2 = .ok (.getfield 14, 3) := dk_180 0 14 (dk_at dksX10_isSavedBy_0 2 rfl rfl)
theorem dX10_isSavedBy_5 : decode cX10_isSavedBy 5 = .ok (.invokevirtual 19, 3) := dk_182 0 19 (dk_at dksX10_isSavedBy_0 5 rfl rfl)
theorem dX10_isSavedBy_8 : decode cX10_isSavedBy 8 = .ok (.ifCond .ne 20, 3) := dk_154 0 20 (dk_at dksX10_isSavedBy_0 8 rfl rfl)
theorem dX10_isSavedBy_11 : decode cX10_isSavedBy 11 = .ok (.aload_n 0, 1) := dk_42 (dk_at dksX10_isSavedBy_0 11 rfl rfl)
theorem dX10_isSavedBy_12 : decode cX10_isSavedBy 12 = .ok (.aload_n 0, 1) := dk_42 (dk_at dksX10_isSavedBy_0 12 rfl rfl)
theorem dX10_isSavedBy_13 : decode cX10_isSavedBy 13 = .ok (.getfield 14, 3) := dk_180 0 14 (dk_at dksX10_isSavedBy_0 13 rfl rfl)
theorem dX10_isSavedBy_16 : decode cX10_isSavedBy 16 = .ok (.iload_n 1, 1) := dk_27 (dk_at dksX10_isSavedBy_0 16 rfl rfl)
theorem dX10_isSavedBy_17 : decode cX10_isSavedBy 17 = .ok (.ior, 1) := dk_128 (dk_at dksX10_isSavedBy_0 17 rfl rfl)
theorem dX10_isSavedBy_18 : decode cX10_isSavedBy 18 = .ok (.invokevirtual 19, 3) := dk_182 0 19 (dk_at dksX10_isSavedBy_0 18 rfl rfl)
theorem dX10_isSavedBy_21 : decode cX10_isSavedBy 21 = .ok (.ifCond .eq 7, 3) := dk_153 0 7 (dk_at dksX10_isSavedBy_0 21 rfl rfl)
theorem dX10_isSavedBy_24 : decode cX10_isSavedBy 24 = .ok (.iconst 1, 1) := dk_4 (dk_at dksX10_isSavedBy_1 0 rfl rfl)
theorem dX10_isSavedBy_25 : decode cX10_isSavedBy 25 = .ok (.goto 4, 3) := dk_167 0 4 (dk_at dksX10_isSavedBy_1 1 rfl rfl)
theorem dX10_isSavedBy_28 : decode cX10_isSavedBy 28 = .ok (.iconst 0, 1) := dk_3 (dk_at dksX10_isSavedBy_1 4 rfl rfl)
theorem dX10_isSavedBy_29 : decode cX10_isSavedBy 29 = .ok (.ireturn, 1) := dk_172 (dk_at dksX10_isSavedBy_1 5 rfl rfl)
theorem q108 : (Jvm.Cond.initialized "CarryUp$Visit") ∈ lw_all := lw_g (lw_at lw_m1 32 rfl) rfl
theorem q733 : (Jvm.Cond.fieldLink "CarryUp$Visit" (1 : Nat) "CarryUp$Want" "all" "I") ∈ lw_all := lw_g (lw_at lw_m3 177 rfl) rfl
theorem q737 : (Jvm.Cond.fieldLink "CarryUp$Visit" (7 : Nat) "CarryUp$Want" "one" "I") ∈ lw_all := lw_g (lw_at lw_m3 181 rfl) rfl
theorem q788 : (Jvm.Cond.selects "CarryUp$Visit" ({ cls := "java/lang/Object", name := "getClass", desc := "()Ljava/lang/Class;" } : Jvm.MethodName) ({ cls := "java/lang/Object", name := "getClass", desc := "()Ljava/lang/Class;" } : Jvm.MethodName)) ∈ lw_all := lw_g (lw_at lw_m3 232 rfl) rfl
theorem q1057 : (Jvm.Cond.instantiable "CarryUp$Visit" (3 : Nat)) ∈ lw_all := lw_g (lw_at lw_m5 21 rfl) rfl
theorem q1060 : (Jvm.Cond.instanceMethod ({ cls := "CarryUp$Visit", name := "<init>", desc := "(LCarryUp$Want;I)V" } : Jvm.MethodName)) ∈ lw_all := lw_g (lw_at lw_m5 24 rfl) rfl
theorem q1061 : (Jvm.Cond.code ({ cls := "CarryUp$Visit", name := "<init>", desc := "(LCarryUp$Want;I)V" } : Jvm.MethodName) prog_8_method_1_code (3 : Nat) (Option.none : Option Jvm.ClassFile.FieldType)) ∈ lw_all := lw_g (lw_at lw_m5 25 rfl) rfl
theorem q1062 : (Jvm.Cond.methodLink "CarryUp$Visit" (10 : Nat) ({ cls := "CarryUp$Want", name := "<init>", desc := "(II)V" } : Jvm.MethodName)) ∈ lw_all := lw_g (lw_at lw_m5 26 rfl) rfl
theorem q1063 : (Jvm.Cond.fieldLink "CarryUp$Visit" (14 : Nat) "CarryUp$Visit" "bag" "I") ∈ lw_all := lw_g (lw_at lw_m5 27 rfl) rfl
theorem q1064 : (Jvm.Cond.laysFinal "CarryUp$Visit" "CarryUp$Visit" "bag" "I") ∈ lw_all := lw_g (lw_at lw_m5 28 rfl) rfl
theorem q1065 : (Jvm.Cond.soleField "CarryUp$Visit" "bag") ∈ lw_all := lw_g (lw_at lw_m5 29 rfl) rfl
theorem q1066 : (Jvm.Cond.laysFinal "CarryUp$Visit" "CarryUp$Want" "all" "I") ∈ lw_all := lw_g (lw_at lw_m5 30 rfl) rfl
theorem q1067 : (Jvm.Cond.laysFinal "CarryUp$Visit" "CarryUp$Want" "one" "I") ∈ lw_all := lw_g (lw_at lw_m5 31 rfl) rfl
theorem q1068 : (Jvm.Cond.superclass "CarryUp$Visit" "CarryUp$Want") ∈ lw_all := lw_g (lw_at lw_m5 32 rfl) rfl
theorem q1079 : (Jvm.Cond.instanceMethod ({ cls := "CarryUp$Visit", name := "isSavedBy", desc := "(I)Z" } : Jvm.MethodName)) ∈ lw_all := lw_g (lw_at lw_m5 43 rfl) rfl
theorem q1080 : (Jvm.Cond.selects "CarryUp$Visit" ({ cls := "CarryUp$Visit", name := "isSavedBy", desc := "(I)Z" } : Jvm.MethodName) ({ cls := "CarryUp$Visit", name := "isSavedBy", desc := "(I)Z" } : Jvm.MethodName)) ∈ lw_all := lw_g (lw_at lw_m5 44 rfl) rfl
theorem q1081 : (Jvm.Cond.code ({ cls := "CarryUp$Visit", name := "isSavedBy", desc := "(I)Z" } : Jvm.MethodName) prog_8_method_2_code (2 : Nat) (Option.some Jvm.ClassFile.FieldType.boolean)) ∈ lw_all := lw_g (lw_at lw_m5 45 rfl) rfl
theorem q1082 : (Jvm.Cond.methodLink "CarryUp$Visit" (19 : Nat) ({ cls := "CarryUp$Visit", name := "isMet", desc := "(I)Z" } : Jvm.MethodName)) ∈ lw_all := lw_g (lw_at lw_m5 46 rfl) rfl
theorem q1083 : (Jvm.Cond.sameMethod "CarryUp$Visit" "CarryUp$Want" "isMet" "(I)Z") ∈ lw_all := lw_g (lw_at lw_m5 47 rfl) rfl
theorem q1084 : (Jvm.Cond.selects "CarryUp$Visit" ({ cls := "CarryUp$Visit", name := "isMet", desc := "(I)Z" } : Jvm.MethodName) ({ cls := "CarryUp$Want", name := "isMet", desc := "(I)Z" } : Jvm.MethodName)) ∈ lw_all := lw_g (lw_at lw_m5 48 rfl) rfl
theorem q1550 : (Jvm.Cond.castable "CarryUp$Visit" "CarryUp$Want") ∈ lw_tbl := lw_at lw_m7 34 rfl
theorem q1564 : (Jvm.Cond.castable "CarryUp$Visit" "java/lang/Object") ∈ lw_tbl := lw_at lw_m7 48 rfl
theorem in_X10 : ∀ w ∈ wsX100, w ∈ lw_all := lw_in wsX100 [1066, 1067, 1064] (by decide +kernel) (by decide +kernel)
/-! CarryUp$Thing -/
set_option maxRecDepth 100000
def RX2 : String := "CarryUp$Thing"
def TX2 : u_T := fun k => match k with
  | 0 => ("CarryUp$Thing", "weight", "I", true)
  | _ => ("CarryUp$Thing", "price", "I", true)
def tyX2 : Nat → FieldType := fun k => match k with
  | 0 => .int
  | _ => .int
abbrev wsX20 : List Cond := u_ws RX2 TX2 2
theorem nmX2 : ∀ a, a < 2 → ∀ b, b < 2 → a ≠ b → (TX2 a).2.1 ≠ (TX2 b).2.1 := by decide +kernel
theorem tyX2_ok : ∀ k, k < 2 → parseFieldDescriptor (TX2 k).2.2.1 = some (tyX2 k) := by decide +kernel
abbrev cX2_init : ByteArray := prog_6_method_1_code
def yX2_init : MethodName := ⟨RX2, "<init>", "(II)V"⟩
def dkwX2_init_0 : List UInt8 := [42, 183, 0, 1, 42, 27, 181, 0, 7, 42, 28, 181, 0, 13, 177]
abbrev dktX2_init_0 : List UInt8 := dkwX2_init_0 ++ []
theorem dksX2_init_0 : cX2_init.data.toList.drop 0 = dktX2_init_0 := by decide +kernel
theorem dX2_init_0 : decode cX2_init 0 = .ok (.aload_n 0, 1) := dk_42 (dk_at dksX2_init_0 0 rfl rfl)
theorem dX2_init_1 : decode cX2_init 1 = .ok (.invokespecial 1, 3) := dk_183 0 1 (dk_at dksX2_init_0 1 rfl rfl)
theorem dX2_init_4 : decode cX2_init 4 = .ok (.aload_n 0, 1) := dk_42 (dk_at dksX2_init_0 4 rfl rfl)
theorem dX2_init_5 : decode cX2_init 5 = .ok (.iload_n 1, 1) := dk_27 (dk_at dksX2_init_0 5 rfl rfl)
theorem dX2_init_6 : decode cX2_init 6 = .ok (.putfield 7, 3) := dk_181 0 7 (dk_at dksX2_init_0 6 rfl rfl)
theorem dX2_init_9 : decode cX2_init 9 = .ok (.aload_n 0, 1) := dk_42 (dk_at dksX2_init_0 9 rfl rfl)
theorem dX2_init_10 : decode cX2_init 10 = .ok (.iload_n 2, 1) := dk_28 (dk_at dksX2_init_0 10 rfl rfl)
theorem dX2_init_11 : decode cX2_init 11 = .ok (.putfield 13, 3) := dk_181 0 13 (dk_at dksX2_init_0 11 rfl rfl)
theorem dX2_init_14 : decode cX2_init 14 = .ok (.return_, 1) := dk_177 (dk_at dksX2_init_0 14 rfl rfl)
abbrev cX2_isUsed : ByteArray := prog_6_method_2_code
def yX2_isUsed : MethodName := ⟨RX2, "isUsed", "()Z"⟩
theorem dX2_isUsed_0 : decode cX2_isUsed 0 = .ok (.iconst 1, 1) := by decide +kernel
theorem dX2_isUsed_1 : decode cX2_isUsed 1 = .ok (.ireturn, 1) := by decide +kernel
theorem q82 : (Jvm.Cond.initialized "CarryUp$Thing") ∈ lw_all := lw_g (lw_at lw_m1 6 rfl) rfl
theorem q196 : (Jvm.Cond.instantiable "CarryUp$Thing" (2 : Nat)) ∈ lw_all := lw_g (lw_at lw_m1 120 rfl) rfl
theorem q198 : (Jvm.Cond.instanceMethod ({ cls := "CarryUp$Thing", name := "<init>", desc := "(II)V" } : Jvm.MethodName)) ∈ lw_all := lw_g (lw_at lw_m1 122 rfl) rfl
theorem q199 : (Jvm.Cond.code ({ cls := "CarryUp$Thing", name := "<init>", desc := "(II)V" } : Jvm.MethodName) prog_6_method_1_code (3 : Nat) (Option.none : Option Jvm.ClassFile.FieldType)) ∈ lw_all := lw_g (lw_at lw_m1 123 rfl) rfl
theorem q200 : (Jvm.Cond.methodLink "CarryUp$Thing" (1 : Nat) ({ cls := "java/lang/Object", name := "<init>", desc := "()V" } : Jvm.MethodName)) ∈ lw_all := lw_g (lw_at lw_m1 124 rfl) rfl
theorem q201 : (Jvm.Cond.fieldLink "CarryUp$Thing" (7 : Nat) "CarryUp$Thing" "weight" "I") ∈ lw_all := lw_g (lw_at lw_m1 125 rfl) rfl
theorem q203 : (Jvm.Cond.fieldLink "CarryUp$Thing" (13 : Nat) "CarryUp$Thing" "price" "I") ∈ lw_all := lw_g (lw_at lw_m1 127 rfl) rfl
theorem q205 : (Jvm.Cond.laysFinal "CarryUp$Thing" "CarryUp$Thing" "weight" "I") ∈ lw_all := lw_g (lw_at lw_m1 129 rfl) rfl
theorem q206 : (Jvm.Cond.soleField "CarryUp$Thing" "weight") ∈ lw_all := lw_g (lw_at lw_m1 130 rfl) rfl
theorem q207 : (Jvm.Cond.laysFinal "CarryUp$Thing" "CarryUp$Thing" "price" "I") ∈ lw_all := lw_g (lw_at lw_m1 131 rfl) rfl
theorem q208 : (Jvm.Cond.soleField "CarryUp$Thing" "price") ∈ lw_all := lw_g (lw_at lw_m1 132 rfl) rfl
theorem q209 : (Jvm.Cond.superclass "CarryUp$Thing" "java/lang/Object") ∈ lw_all := lw_g (lw_at lw_m1 133 rfl) rfl
theorem q786 : (Jvm.Cond.selects "CarryUp$Thing" ({ cls := "java/lang/Object", name := "getClass", desc := "()Ljava/lang/Class;" } : Jvm.MethodName) ({ cls := "java/lang/Object", name := "getClass", desc := "()Ljava/lang/Class;" } : Jvm.MethodName)) ∈ lw_all := lw_g (lw_at lw_m3 230 rfl) rfl
theorem q816 : (Jvm.Cond.instanceMethod ({ cls := "CarryUp$Thing", name := "isUsed", desc := "()Z" } : Jvm.MethodName)) ∈ lw_all := lw_g (lw_at lw_m4 20 rfl) rfl
theorem q817 : (Jvm.Cond.selects "CarryUp$Thing" ({ cls := "CarryUp$Thing", name := "isUsed", desc := "()Z" } : Jvm.MethodName) ({ cls := "CarryUp$Thing", name := "isUsed", desc := "()Z" } : Jvm.MethodName)) ∈ lw_all := lw_g (lw_at lw_m4 21 rfl) rfl
theorem q818 : (Jvm.Cond.sameMethod "CarryUp$Thing" "CarryUp$Thing" "isUsed" "()Z") ∈ lw_all := lw_g (lw_at lw_m4 22 rfl) rfl
theorem q823 : (Jvm.Cond.code ({ cls := "CarryUp$Thing", name := "isUsed", desc := "()Z" } : Jvm.MethodName) prog_6_method_2_code (1 : Nat) (Option.some Jvm.ClassFile.FieldType.boolean)) ∈ lw_all := lw_g (lw_at lw_m4 27 rfl) rfl
theorem q1556 : (Jvm.Cond.castable "CarryUp$Thing" "java/lang/Object") ∈ lw_tbl := lw_at lw_m7 40 rfl
theorem in_X2 : ∀ w ∈ wsX20, w ∈ lw_all := lw_in wsX20 [205, 207] (by decide +kernel) (by decide +kernel)
/-! CarryUp$Reader -/
set_option maxRecDepth 100000
def RX4 : String := "CarryUp$Reader"
def TX4 : u_T := fun k => match k with
  | 0 => ("CarryUp$Reader", "at", "I", false)
  | 1 => ("CarryUp$Reader", "first", "I", false)
  | 2 => ("CarryUp$Reader", "word", "Ljava/lang/String;", false)
  | 3 => ("CarryUp$Reader", "told", "[[I", true)
  | 4 => ("CarryUp$Reader", "many", "I", false)
  | _ => ("CarryUp$Reader", "this$0", "LCarryUp;", true)
def tyX4 : Nat → FieldType := fun k => match k with
  | 0 => .int
  | 1 => .int
  | 2 => .object "java/lang/String"
  | 3 => .array (.array .int)
  | 4 => .int
  | _ => .object "CarryUp"
abbrev wsX40 : List Cond := u_ws RX4 TX4 6
theorem nmX4 : ∀ a, a < 6 → ∀ b, b < 6 → a ≠ b → (TX4 a).2.1 ≠ (TX4 b).2.1 := by decide +kernel
theorem tyX4_ok : ∀ k, k < 6 → parseFieldDescriptor (TX4 k).2.2.1 = some (tyX4 k) := by decide +kernel
abbrev cX4_init : ByteArray := prog_4_method_1_code
def yX4_init : MethodName := ⟨RX4, "<init>", "(LCarryUp;)V"⟩
def dkwX4_init_1 : List UInt8 := [177]
abbrev dktX4_init_1 : List UInt8 := dkwX4_init_1 ++ []
def dkwX4_init_0 : List UInt8 := [42, 43, 181, 0, 3, 42, 183, 0, 9, 42, 18, 15, 181, 0, 17, 42, 16, 10, 189, 0, 21, 181, 0, 23]
abbrev dktX4_init_0 : List UInt8 := dkwX4_init_0 ++ dktX4_init_1
theorem dksX4_init_0 : cX4_init.data.toList.drop 0 = dktX4_init_0 := by decide +kernel
theorem dksX4_init_1 : cX4_init.data.toList.drop 24 = dktX4_init_1 := dk_seg dksX4_init_0 24 rfl rfl
theorem dX4_init_0 : decode cX4_init 0 = .ok (.aload_n 0, 1) := dk_42 (dk_at dksX4_init_0 0 rfl rfl)
theorem dX4_init_1 : decode cX4_init 1 = .ok (.aload_n 1, 1) := dk_43 (dk_at dksX4_init_0 1 rfl rfl)
theorem dX4_init_2 : decode cX4_init 2 = .ok (.putfield 3, 3) := dk_181 0 3 (dk_at dksX4_init_0 2 rfl rfl)
theorem dX4_init_5 : decode cX4_init 5 = .ok (.aload_n 0, 1) := dk_42 (dk_at dksX4_init_0 5 rfl rfl)
theorem dX4_init_6 : decode cX4_init 6 = .ok (.invokespecial 9, 3) := dk_183 0 9 (dk_at dksX4_init_0 6 rfl rfl)
theorem dX4_init_9 : decode cX4_init 9 = .ok (.aload_n 0, 1) := dk_42 (dk_at dksX4_init_0 9 rfl rfl)
theorem dX4_init_10 : decode cX4_init 10 = .ok (.ldc 15, 2) := dk_18 15 (dk_at dksX4_init_0 10 rfl rfl)
theorem dX4_init_12 : decode cX4_init 12 = .ok (.putfield 17, 3) := dk_181 0 17 (dk_at dksX4_init_0 12 rfl rfl)
theorem dX4_init_15 : decode cX4_init 15 = .ok (.aload_n 0, 1) := dk_42 (dk_at dksX4_init_0 15 rfl rfl)
theorem dX4_init_16 : decode cX4_init 16 = .ok (.bipush 10, 2) := dk_16 10 (dk_at dksX4_init_0 16 rfl rfl)
theorem dX4_init_18 : decode cX4_init 18 = .ok (.anewarray 21, 3) := dk_189 0 21 (dk_at dksX4_init_0 18 rfl rfl)
theorem dX4_init_21 : decode cX4_init 21 = .ok (.putfield 23, 3) := dk_181 0 23 (dk_at dksX4_init_0 21 rfl rfl)
theorem dX4_init_24 : decode cX4_init 24 = .ok (.return_, 1) := dk_177 (dk_at dksX4_init_1 0 rfl rfl)
abbrev cX4_read : ByteArray := prog_4_method_12_code
def yX4_read : MethodName := ⟨RX4, "read", "()LCarryUp$Reader;"⟩
def dkwX4_read_3 : List UInt8 := [4, 167, 0, 4, 3, 182, 0, 90, 167, 255, 182, 42, 176]
abbrev dktX4_read_3 : List UInt8 := dkwX4_read_3 ++ []
def dkwX4_read_2 : List UInt8 := [162, 0, 7, 4, 167, 0, 4, 3, 60, 42, 27, 154, 0, 13, 42, 180, 0, 17, 182, 0, 76, 153, 0, 7]
abbrev dktX4_read_2 : List UInt8 := dkwX4_read_2 ++ dktX4_read_3
def dkwX4_read_1 : List UInt8 := [182, 0, 144, 83, 42, 180, 0, 17, 18, 147, 182, 0, 111, 153, 0, 16, 42, 180, 0, 141, 16, 10]
abbrev dktX4_read_1 : List UInt8 := dkwX4_read_1 ++ dktX4_read_2
def dkwX4_read_0 : List UInt8 := [4, 60, 27, 153, 0, 76, 42, 180, 0, 23, 42, 89, 180, 0, 141, 90, 4, 96, 181, 0, 141, 42]
abbrev dktX4_read_0 : List UInt8 := dkwX4_read_0 ++ dktX4_read_1
theorem dksX4_read_0 : cX4_read.data.toList.drop 0 = dktX4_read_0 := by decide +kernel
theorem dksX4_read_1 : cX4_read.data.toList.drop 22 = dktX4_read_1 := dk_seg dksX4_read_0 22 rfl rfl
theorem dksX4_read_2 : cX4_read.data.toList.drop 44 = dktX4_read_2 := dk_seg dksX4_read_1 22 rfl rfl
theorem dksX4_read_3 : cX4_read.data.toList.drop 68 = dktX4_read_3 := dk_seg dksX4_read_2 24 rfl rfl
theorem dX4_read_0 : decode cX4_read 0 = .ok (.iconst 1, 1) := dk_4 (dk_at dksX4_read_0 0 rfl rfl)
theorem dX4_read_1 : decode cX4_read 1 = .ok (.istore_n 1, 1) := dk_60 (dk_at dksX4_read_0 1 rfl rfl)
theorem dX4_read_2 : decode cX4_read 2 = .ok (.iload_n 1, 1) := dk_27 (dk_at dksX4_read_0 2 rfl rfl)
theorem dX4_read_3 : decode cX4_read 3 = .ok (.ifCond .eq 76, 3) := dk_153 0 76 (dk_at dksX4_read_0 3 rfl rfl)
theorem dX4_read_6 : decode cX4_read 6 = .ok (.aload_n 0, 1) := dk_42 (dk_at dksX4_read_0 6 rfl rfl)
theorem dX4_read_7 : decode cX4_read 7 = .ok (.getfield 23, 3) := dk_180 0 23 (dk_at dksX4_read_0 7 rfl rfl)
theorem dX4_read_10 : decode cX4_read 10 = .ok (.aload_n 0, 1) := dk_42 (dk_at dksX4_read_0 10 rfl rfl)
theorem dX4_read_11 : decode cX4_read 11 = .ok (.dup, 1) := dk_89 (dk_at dksX4_read_0 11 rfl rfl)
theorem dX4_read_12 : decode cX4_read 12 = .ok (.getfield 141, 3) := dk_180 0 141 (dk_at dksX4_read_0 12 rfl rfl)
theorem dX4_read_15 : decode cX4_read 15 = .ok (.dup_x1, 1) := dk_90 (dk_at dksX4_read_0 15 rfl rfl)
theorem dX4_read_16 : decode cX4_read 16 = .ok (.iconst 1, 1) := dk_4 (dk_at dksX4_read_0 16 rfl rfl)
theorem dX4_read_17 : decode cX4_read 17 = .ok (.iadd, 1) := dk_96 (dk_at dksX4_read_0 17 rfl rfl)
theorem dX4_read_18 : decode cX4_read 18 = .ok (.putfield 141, 3) := dk_181 0 141 (dk_at dksX4_read_0 18 rfl rfl)
theorem dX4_read_21 : decode cX4_read 21 = .ok (.aload_n 0, 1) := dk_42 (dk_at dksX4_read_0 21 rfl rfl)
theorem dX4_read_22 : decode cX4_read 22 = .ok (.invokevirtual 144, 3) := dk_182 0 144 (dk_at dksX4_read_1 0 rfl rfl)
theorem dX4_read_25 : decode cX4_read 25 = .ok (.aastore, 1) := dk_83 (dk_at dksX4_read_1 3 rfl rfl)
theorem dX4_read_26 : decode cX4_read 26 = .ok (.aload_n 0, 1) := dk_42 (dk_at dksX4_read_1 4 rfl rfl)
theorem dX4_read_27 : decode cX4_read 27 = .ok (.getfield 17, 3) := dk_180 0 17 (dk_at dksX4_read_1 5 rfl rfl)
theorem dX4_read_30 : decode cX4_read 30 = .ok (.ldc 147, 2) := dk_18 147 (dk_at dksX4_read_1 8 rfl rfl)
theorem dX4_read_32 : decode cX4_read 32 = .ok (.invokevirtual 111, 3) := dk_182 0 111 (dk_at dksX4_read_1 10 rfl rfl)
theorem dX4_read_35 : decode cX4_read 35 = .ok (.ifCond .eq 16, 3) := dk_153 0 16 (dk_at dksX4_read_1 13 rfl rfl)
theorem dX4_read_38 : decode cX4_read 38 = .ok (.aload_n 0, 1) := dk_42 (dk_at dksX4_read_1 16 rfl rfl)
theorem dX4_read_39 : decode cX4_read 39 = .ok (.getfield 141, 3) := dk_180 0 141 (dk_at dksX4_read_1 17 rfl rfl)
theorem dX4_read_42 : decode cX4_read 42 = .ok (.bipush 10, 2) := dk_16 10 (dk_at dksX4_read_1 20 rfl rfl)
theorem dX4_read_44 : decode cX4_read 44 = .ok (.if_icmp .ge 7, 3) := dk_162 0 7 (dk_at dksX4_read_2 0 rfl rfl)
theorem dX4_read_47 : decode cX4_read 47 = .ok (.iconst 1, 1) := dk_4 (dk_at dksX4_read_2 3 rfl rfl)
theorem dX4_read_48 : decode cX4_read 48 = .ok (.goto 4, 3) := dk_167 0 4 (dk_at dksX4_read_2 4 rfl rfl)
theorem dX4_read_51 : decode cX4_read 51 = .ok (.iconst 0, 1) := dk_3 (dk_at dksX4_read_2 7 rfl rfl)
theorem dX4_read_52 : decode cX4_read 52 = .ok (.istore_n 1, 1) := dk_60 (dk_at dksX4_read_2 8 rfl rfl)
theorem dX4_read_53 : decode cX4_read 53 = .ok (.aload_n 0, 1) := dk_42 (dk_at dksX4_read_2 9 rfl rfl)
theorem dX4_read_54 : decode cX4_read 54 = .ok (.iload_n 1, 1) := dk_27 (dk_at dksX4_read_2 10 rfl rfl)
theorem dX4_read_55 : decode cX4_read 55 = .ok (.ifCond .ne 13, 3) := dk_154 0 13 (dk_at dksX4_read_2 11 rfl rfl)
theorem dX4_read_58 : decode cX4_read 58 = .ok (.aload_n 0, 1) := dk_42 (dk_at dksX4_read_2 14 rfl rfl)
theorem dX4_read_59 : decode cX4_read 59 = .ok (.getfield 17, 3) := dk_180 0 17 (dk_at dksX4_read_2 15 rfl rfl)
theorem dX4_read_62 : decode cX4_read 62 = .ok (.invokevirtual 76, 3) := dk_182 0 76 (dk_at dksX4_read_2 18 rfl rfl)
theorem dX4_read_65 : decode cX4_read 65 = .ok (.ifCond .eq 7, 3) := dk_153 0 7 (dk_at dksX4_read_2 21 rfl rfl)
theorem dX4_read_68 : decode cX4_read 68 = .ok (.iconst 1, 1) := dk_4 (dk_at dksX4_read_3 0 rfl rfl)
theorem dX4_read_69 : decode cX4_read 69 = .ok (.goto 4, 3) := dk_167 0 4 (dk_at dksX4_read_3 1 rfl rfl)
theorem dX4_read_72 : decode cX4_read 72 = .ok (.iconst 0, 1) := dk_3 (dk_at dksX4_read_3 4 rfl rfl)
theorem dX4_read_73 : decode cX4_read 73 = .ok (.invokevirtual 90, 3) := dk_182 0 90 (dk_at dksX4_read_3 5 rfl rfl)
theorem dX4_read_76 : decode cX4_read 76 = .ok (.goto (-74), 3) := dk_167 255 182 (dk_at dksX4_read_3 8 rfl rfl)
theorem dX4_read_79 : decode cX4_read 79 = .ok (.aload_n 0, 1) := dk_42 (dk_at dksX4_read_3 11 rfl rfl)
theorem dX4_read_80 : decode cX4_read 80 = .ok (.areturn, 1) := dk_176 (dk_at dksX4_read_3 12 rfl rfl)
abbrev cX4_line : ByteArray := prog_4_method_11_code
def yX4_line : MethodName := ⟨RX4, "line", "()[I"⟩
def dkwX4_line_6 : List UInt8 := [17, 3, 231, 167, 0, 6, 17, 5, 159, 182, 0, 105, 79, 77, 42, 182, 0, 73, 44, 176]
abbrev dktX4_line_6 : List UInt8 := dkwX4_line_6 ++ []
def dkwX4_line_5 : List UInt8 := [3, 27, 79, 89, 4, 42, 3, 27, 4, 160, 0, 9, 17, 1, 144, 167, 0, 17, 27, 5, 160, 0, 9]
abbrev dktX4_line_5 : List UInt8 := dkwX4_line_5 ++ dktX4_line_6
def dkwX4_line_4 : List UInt8 := [42, 182, 0, 128, 176, 42, 182, 0, 132, 176, 42, 182, 0, 135, 176, 42, 182, 0, 138, 176, 5, 188, 10, 89]
abbrev dktX4_line_4 : List UInt8 := dkwX4_line_4 ++ dktX4_line_5
def dkwX4_line_3 : List UInt8 := [170, 0, 0, 0, 0, 62, 0, 0, 0, 0, 0, 0, 0, 6, 0, 0, 0, 42, 0, 0, 0, 62, 0, 0, 0, 62, 0, 0, 0, 62, 0, 0, 0, 47, 0, 0, 0, 52, 0, 0, 0, 57]
abbrev dktX4_line_3 : List UInt8 := dkwX4_line_3 ++ dktX4_line_4
def dkwX4_line_2 : List UInt8 := [159, 0, 7, 4, 167, 0, 4, 3, 182, 0, 90, 27]
abbrev dktX4_line_2 : List UInt8 := dkwX4_line_2 ++ dktX4_line_3
def dkwX4_line_1 : List UInt8 := [50, 182, 0, 111, 153, 0, 7, 28, 167, 0, 4, 27, 60, 132, 2, 1, 167, 255, 224, 42, 27, 2]
abbrev dktX4_line_1 : List UInt8 := dkwX4_line_1 ++ dktX4_line_2
def dkwX4_line_0 : List UInt8 := [42, 182, 0, 73, 2, 60, 3, 61, 28, 178, 0, 124, 190, 162, 0, 30, 42, 180, 0, 17, 178, 0, 124, 28]
abbrev dktX4_line_0 : List UInt8 := dkwX4_line_0 ++ dktX4_line_1
theorem dksX4_line_0 : cX4_line.data.toList.drop 0 = dktX4_line_0 := by decide +kernel
theorem dksX4_line_1 : cX4_line.data.toList.drop 24 = dktX4_line_1 := dk_seg dksX4_line_0 24 rfl rfl
theorem dksX4_line_2 : cX4_line.data.toList.drop 46 = dktX4_line_2 := dk_seg dksX4_line_1 22 rfl rfl
theorem dksX4_line_3 : cX4_line.data.toList.drop 58 = dktX4_line_3 := dk_seg dksX4_line_2 12 rfl rfl
theorem dksX4_line_4 : cX4_line.data.toList.drop 100 = dktX4_line_4 := dk_seg dksX4_line_3 42 rfl rfl
theorem dksX4_line_5 : cX4_line.data.toList.drop 124 = dktX4_line_5 := dk_seg dksX4_line_4 24 rfl rfl
theorem dksX4_line_6 : cX4_line.data.toList.drop 147 = dktX4_line_6 := dk_seg dksX4_line_5 23 rfl rfl
theorem dX4_line_0 : decode cX4_line 0 = .ok (.aload_n 0, 1) := dk_42 (dk_at dksX4_line_0 0 rfl rfl)
theorem dX4_line_1 : decode cX4_line 1 = .ok (.invokevirtual 73, 3) := dk_182 0 73 (dk_at dksX4_line_0 1 rfl rfl)
theorem dX4_line_4 : decode cX4_line 4 = .ok (.iconst (-1), 1) := dk_2 (dk_at dksX4_line_0 4 rfl rfl)
theorem dX4_line_5 : decode cX4_line 5 = .ok (.istore_n 1, 1) := dk_60 (dk_at dksX4_line_0 5 rfl rfl)
theorem dX4_line_6 : decode cX4_line 6 = .ok (.iconst 0, 1) := dk_3 (dk_at dksX4_line_0 6 rfl rfl)
theorem dX4_line_7 : decode cX4_line 7 = .ok (.istore_n 2, 1) := dk_61 (dk_at dksX4_line_0 7 rfl rfl)
theorem dX4_line_8 : decode cX4_line 8 = .ok (.iload_n 2, 1) := dk_28 (dk_at dksX4_line_0 8 rfl rfl)
theorem dX4_line_9 : decode cX4_line 9 = .ok (.getstatic 124, 3) := dk_178 0 124 (dk_at dksX4_line_0 9 rfl rfl)
theorem dX4_line_12 : decode cX4_line 12 = .ok (.arraylength, 1) := dk_190 (dk_at dksX4_line_0 12 rfl rfl)
theorem dX4_line_13 : decode cX4_line 13 = .ok (.if_icmp .ge 30, 3) := dk_162 0 30 (dk_at dksX4_line_0 13 rfl rfl)
theorem dX4_line_16 : decode cX4_line 16 = .ok (.aload_n 0, 1) := dk_42 (dk_at dksX4_line_0 16 rfl rfl)
theorem dX4_line_17 : decode cX4_line 17 = .ok (.getfield 17, 3) := dk_180 0 17 (dk_at dksX4_line_0 17 rfl rfl)
theorem dX4_line_20 : decode cX4_line 20 = .ok (.getstatic 124, 3) := dk_178 0 124 (dk_at dksX4_line_0 20 rfl rfl)
theorem dX4_line_23 : decode cX4_line 23 = .ok (.iload_n 2, 1) := dk_28 (dk_at dksX4_line_0 23 rfl rfl)
theorem dX4_line_24 : decode cX4_line 24 = .ok (.aaload, 1) := dk_50 (dk_at dksX4_line_1 0 rfl rfl)
theorem dX4_line_25 : decode cX4_line 25 = .ok (.invokevirtual 111, 3) := dk_182 0 111 (dk_at dksX4_line_1 1 rfl rfl)
theorem dX4_line_28 : decode cX4_line 28 = .ok (.ifCond .eq 7, 3) := dk_153 0 7 (dk_at dksX4_line_1 4 rfl rfl)
theorem dX4_line_31 : decode cX4_line 31 = .ok (.iload_n 2, 1) := dk_28 (dk_at dksX4_line_1 7 rfl rfl)
theorem dX4_line_32 : decode cX4_line 32 = .ok (.goto 4, 3) := dk_167 0 4 (dk_at dksX4_line_1 8 rfl rfl)
theorem dX4_line_35 : decode cX4_line 35 = .ok (.iload_n 1, 1) := dk_27 (dk_at dksX4_line_1 11 rfl rfl)
theorem dX4_line_36 : decode cX4_line 36 = .ok (.istore_n 1, 1) := dk_60 (dk_at dksX4_line_1 12 rfl rfl)
theorem dX4_line_37 : decode cX4_line 37 = .ok (.iinc 2 1, 3) := dk_132 2 1 (dk_at dksX4_line_1 13 rfl rfl)
theorem dX4_line_40 : decode cX4_line 40 = .ok (.goto (-32), 3) := dk_167 255 224 (dk_at dksX4_line_1 16 rfl rfl)
theorem dX4_line_43 : decode cX4_line 43 = .ok (.aload_n 0, 1) := dk_42 (dk_at dksX4_line_1 19 rfl rfl)
theorem dX4_line_44 : decode cX4_line 44 = .ok (.iload_n 1, 1) := dk_27 (dk_at dksX4_line_1 20 rfl rfl)
theorem dX4_line_45 : decode cX4_line 45 = .ok (.iconst (-1), 1) := dk_2 (dk_at dksX4_line_1 21 rfl rfl)
theorem dX4_line_46 : decode cX4_line 46 = .ok (.if_icmp .eq 7, 3) := dk_159 0 7 (dk_at dksX4_line_2 0 rfl rfl)
theorem dX4_line_49 : decode cX4_line 49 = .ok (.iconst 1, 1) := dk_4 (dk_at dksX4_line_2 3 rfl rfl)
theorem dX4_line_50 : decode cX4_line 50 = .ok (.goto 4, 3) := dk_167 0 4 (dk_at dksX4_line_2 4 rfl rfl)
theorem dX4_line_53 : decode cX4_line 53 = .ok (.iconst 0, 1) := dk_3 (dk_at dksX4_line_2 7 rfl rfl)
theorem dX4_line_54 : decode cX4_line 54 = .ok (.invokevirtual 90, 3) := dk_182 0 90 (dk_at dksX4_line_2 8 rfl rfl)
theorem dX4_line_57 : decode cX4_line 57 = .ok (.iload_n 1, 1) := dk_27 (dk_at dksX4_line_2 11 rfl rfl)
theorem dX4_line_58 : decode cX4_line 58 = .ok (.tableswitch 62 0 6 #[42, 62, 62, 62, 47, 52, 57], 42) := by decide +kernel
theorem dX4_line_100 : decode cX4_line 100 = .ok (.aload_n 0, 1) := dk_42 (dk_at dksX4_line_4 0 rfl rfl)
theorem dX4_line_101 : decode cX4_line 101 = .ok (.invokevirtual 128, 3) := dk_182 0 128 (dk_at dksX4_line_4 1 rfl rfl)
theorem dX4_line_104 : decode cX4_line 104 = .ok (.areturn, 1) := dk_176 (dk_at dksX4_line_4 4 rfl rfl)
theorem dX4_line_105 : decode cX4_line 105 = .ok (.aload_n 0, 1) := dk_42 (dk_at dksX4_line_4 5 rfl rfl)
theorem dX4_line_106 : decode cX4_line 106 = .ok (.invokevirtual 132, 3) := dk_182 0 132 (dk_at dksX4_line_4 6 rfl rfl)
theorem dX4_line_109 : decode cX4_line 109 = .ok (.areturn, 1) := dk_176 (dk_at dksX4_line_4 9 rfl rfl)
theorem dX4_line_110 : decode cX4_line 110 = .ok (.aload_n 0, 1) := dk_42 (dk_at dksX4_line_4 10 rfl rfl)
theorem dX4_line_111 : decode cX4_line 111 = .ok (.invokevirtual 135, 3) := dk_182 0 135 (dk_at dksX4_line_4 11 rfl rfl)
theorem dX4_line_114 : decode cX4_line 114 = .ok (.areturn, 1) := dk_176 (dk_at dksX4_line_4 14 rfl rfl)
theorem dX4_line_115 : decode cX4_line 115 = .ok (.aload_n 0, 1) := dk_42 (dk_at dksX4_line_4 15 rfl rfl)
theorem dX4_line_116 : decode cX4_line 116 = .ok (.invokevirtual 138, 3) := dk_182 0 138 (dk_at dksX4_line_4 16 rfl rfl)
theorem dX4_line_119 : decode cX4_line 119 = .ok (.areturn, 1) := dk_176 (dk_at dksX4_line_4 19 rfl rfl)
theorem dX4_line_120 : decode cX4_line 120 = .ok (.iconst 2, 1) := dk_5 (dk_at dksX4_line_4 20 rfl rfl)
theorem dX4_line_121 : decode cX4_line 121 = .ok (.newarray .int, 2) := dk_188_10 (dk_at dksX4_line_4 21 rfl rfl)
theorem dX4_line_123 : decode cX4_line 123 = .ok (.dup, 1) := dk_89 (dk_at dksX4_line_4 23 rfl rfl)
theorem dX4_line_124 : decode cX4_line 124 = .ok (.iconst 0, 1) := dk_3 (dk_at dksX4_line_5 0 rfl rfl)
theorem dX4_line_125 : decode cX4_line 125 = .ok (.iload_n 1, 1) := dk_27 (dk_at dksX4_line_5 1 rfl rfl)
theorem dX4_line_126 : decode cX4_line 126 = .ok (.iastore, 1) := dk_79 (dk_at dksX4_line_5 2 rfl rfl)
theorem dX4_line_127 : decode cX4_line 127 = .ok (.dup, 1) := dk_89 (dk_at dksX4_line_5 3 rfl rfl)
theorem dX4_line_128 : decode cX4_line 128 = .ok (.iconst 1, 1) := dk_4 (dk_at dksX4_line_5 4 rfl rfl)
theorem dX4_line_129 : decode cX4_line 129 = .ok (.aload_n 0, 1) := dk_42 (dk_at dksX4_line_5 5 rfl rfl)
theorem dX4_line_130 : decode cX4_line 130 = .ok (.iconst 0, 1) := dk_3 (dk_at dksX4_line_5 6 rfl rfl)
theorem dX4_line_131 : decode cX4_line 131 = .ok (.iload_n 1, 1) := dk_27 (dk_at dksX4_line_5 7 rfl rfl)
theorem dX4_line_132 : decode cX4_line 132 = .ok (.iconst 1, 1) := dk_4 (dk_at dksX4_line_5 8 rfl rfl)
theorem dX4_line_133 : decode cX4_line 133 = .ok (.if_icmp .ne 9, 3) := dk_160 0 9 (dk_at dksX4_line_5 9 rfl rfl)
theorem dX4_line_136 : decode cX4_line 136 = .ok (.sipush 400, 3) := dk_17 1 144 (dk_at dksX4_line_5 12 rfl rfl)
theorem dX4_line_139 : decode cX4_line 139 = .ok (.goto 17, 3) := dk_167 0 17 (dk_at dksX4_line_5 15 rfl rfl)
theorem dX4_line_142 : decode cX4_line 142 = .ok (.iload_n 1, 1) := dk_27 (dk_at dksX4_line_5 18 rfl rfl)
theorem dX4_line_143 : decode cX4_line 143 = .ok (.iconst 2, 1) := dk_5 (dk_at dksX4_line_5 19 rfl rfl)
theorem dX4_line_144 : decode cX4_line 144 = .ok (.if_icmp .ne 9, 3) := dk_160 0 9 (dk_at dksX4_line_5 20 rfl rfl)
theorem dX4_line_147 : decode cX4_line 147 = .ok (.sipush 999, 3) := dk_17 3 231 (dk_at dksX4_line_6 0 rfl rfl)
theorem dX4_line_150 : decode cX4_line 150 = .ok (.goto 6, 3) := dk_167 0 6 (dk_at dksX4_line_6 3 rfl rfl)
theorem dX4_line_153 : decode cX4_line 153 = .ok (.sipush 1439, 3) := dk_17 5 159 (dk_at dksX4_line_6 6 rfl rfl)
theorem dX4_line_156 : decode cX4_line 156 = .ok (.invokevirtual 105, 3) := dk_182 0 105 (dk_at dksX4_line_6 9 rfl rfl)
theorem dX4_line_159 : decode cX4_line 159 = .ok (.iastore, 1) := dk_79 (dk_at dksX4_line_6 12 rfl rfl)
theorem dX4_line_160 : decode cX4_line 160 = .ok (.astore_n 2, 1) := dk_77 (dk_at dksX4_line_6 13 rfl rfl)
theorem dX4_line_161 : decode cX4_line 161 = .ok (.aload_n 0, 1) := dk_42 (dk_at dksX4_line_6 14 rfl rfl)
theorem dX4_line_162 : decode cX4_line 162 = .ok (.invokevirtual 73, 3) := dk_182 0 73 (dk_at dksX4_line_6 15 rfl rfl)
theorem dX4_line_165 : decode cX4_line 165 = .ok (.aload_n 2, 1) := dk_44 (dk_at dksX4_line_6 18 rfl rfl)
theorem dX4_line_166 : decode cX4_line 166 = .ok (.areturn, 1) := dk_176 (dk_at dksX4_line_6 19 rfl rfl)
abbrev cX4_take : ByteArray := prog_4_method_3_code
def yX4_take : MethodName := ⟨RX4, "take", "()V"⟩
def dkwX4_take_8 : List UInt8 := [177]
abbrev dktX4_take_8 : List UInt8 := dkwX4_take_8 ++ []
def dkwX4_take_7 : List UInt8 := [181, 0, 39, 51, 17, 0, 255, 126, 146, 182, 0, 60, 87, 167, 255, 178, 42, 44, 182, 0, 64, 181, 0, 17]
abbrev dktX4_take_7 : List UInt8 := dkwX4_take_7 ++ dktX4_take_8
def dkwX4_take_6 : List UInt8 := [182, 0, 53, 27, 160, 0, 35, 44, 42, 180, 0, 3, 180, 0, 46, 42, 89, 180, 0, 39, 90, 4, 96]
abbrev dktX4_take_6 : List UInt8 := dkwX4_take_6 ++ dktX4_take_7
def dkwX4_take_5 : List UInt8 := [180, 0, 39, 159, 0, 27, 27, 158, 0, 55, 42, 42, 180, 0, 3, 180, 0, 46, 42, 180, 0, 39, 51]
abbrev dktX4_take_5 : List UInt8 := dkwX4_take_5 ++ dktX4_take_6
def dkwX4_take_4 : List UInt8 := [183, 0, 59, 77, 42, 180, 0, 39, 42, 180, 0, 3, 180, 0, 43, 162, 0, 70, 42, 180, 0, 50, 42]
abbrev dktX4_take_4 : List UInt8 := dkwX4_take_4 ++ dktX4_take_5
def dkwX4_take_3 : List UInt8 := [180, 0, 3, 180, 0, 46, 42, 180, 0, 39, 51, 182, 0, 53, 167, 0, 4, 3, 60, 187, 0, 57, 89]
abbrev dktX4_take_3 : List UInt8 := dkwX4_take_3 ++ dktX4_take_4
def dkwX4_take_2 : List UInt8 := [180, 0, 39, 181, 0, 50, 42, 180, 0, 39, 42, 180, 0, 3, 180, 0, 43, 162, 0, 22, 42, 42]
abbrev dktX4_take_2 : List UInt8 := dkwX4_take_2 ++ dktX4_take_3
def dkwX4_take_1 : List UInt8 := [180, 0, 39, 51, 16, 32, 160, 0, 16, 42, 89, 180, 0, 39, 4, 96, 181, 0, 39, 167, 255, 215, 42, 42]
abbrev dktX4_take_1 : List UInt8 := dkwX4_take_1 ++ dktX4_take_2
def dkwX4_take_0 : List UInt8 := [42, 180, 0, 39, 42, 180, 0, 3, 180, 0, 43, 162, 0, 33, 42, 180, 0, 3, 180, 0, 46, 42]
abbrev dktX4_take_0 : List UInt8 := dkwX4_take_0 ++ dktX4_take_1
theorem dksX4_take_0 : cX4_take.data.toList.drop 0 = dktX4_take_0 := by decide +kernel
theorem dksX4_take_1 : cX4_take.data.toList.drop 22 = dktX4_take_1 := dk_seg dksX4_take_0 22 rfl rfl
theorem dksX4_take_2 : cX4_take.data.toList.drop 46 = dktX4_take_2 := dk_seg dksX4_take_1 24 rfl rfl
theorem dksX4_take_3 : cX4_take.data.toList.drop 68 = dktX4_take_3 := dk_seg dksX4_take_2 22 rfl rfl
theorem dksX4_take_4 : cX4_take.data.toList.drop 91 = dktX4_take_4 := dk_seg dksX4_take_3 23 rfl rfl
theorem dksX4_take_5 : cX4_take.data.toList.drop 114 = dktX4_take_5 := dk_seg dksX4_take_4 23 rfl rfl
theorem dksX4_take_6 : cX4_take.data.toList.drop 137 = dktX4_take_6 := dk_seg dksX4_take_5 23 rfl rfl
theorem dksX4_take_7 : cX4_take.data.toList.drop 160 = dktX4_take_7 := dk_seg dksX4_take_6 23 rfl rfl
theorem dksX4_take_8 : cX4_take.data.toList.drop 184 = dktX4_take_8 := dk_seg dksX4_take_7 24 rfl rfl
theorem dX4_take_0 : decode cX4_take 0 = .ok (.aload_n 0, 1) := dk_42 (dk_at dksX4_take_0 0 rfl rfl)
theorem dX4_take_1 : decode cX4_take 1 = .ok (.getfield 39, 3) := dk_180 0 39 (dk_at dksX4_take_0 1 rfl rfl)
theorem dX4_take_4 : decode cX4_take 4 = .ok (.aload_n 0, 1) := dk_42 (dk_at dksX4_take_0 4 rfl rfl)
theorem dX4_take_5 : decode cX4_take 5 = .ok (.getfield 3, 3) := dk_180 0 3 (dk_at dksX4_take_0 5 rfl rfl)
theorem dX4_take_8 : decode cX4_take 8 = .ok (.getfield 43, 3) := dk_180 0 43 (dk_at dksX4_take_0 8 rfl rfl)
theorem dX4_take_11 : decode cX4_take 11 = .ok (.if_icmp .ge 33, 3) := dk_162 0 33 (dk_at dksX4_take_0 11 rfl rfl)
theorem dX4_take_14 : decode cX4_take 14 = .ok (.aload_n 0, 1) := dk_42 (dk_at dksX4_take_0 14 rfl rfl)
theorem dX4_take_15 : decode cX4_take 15 = .ok (.getfield 3, 3) := dk_180 0 3 (dk_at dksX4_take_0 15 rfl rfl)
theorem dX4_take_18 : decode cX4_take 18 = .ok (.getfield 46, 3) := dk_180 0 46 (dk_at dksX4_take_0 18 rfl rfl)
theorem dX4_take_21 : decode cX4_take 21 = .ok (.aload_n 0, 1) := dk_42 (dk_at dksX4_take_0 21 rfl rfl)
theorem dX4_take_22 : decode cX4_take 22 = .ok (.getfield 39, 3) := dk_180 0 39 (dk_at dksX4_take_1 0 rfl rfl)
theorem dX4_take_25 : decode cX4_take 25 = .ok (.baload, 1) := dk_51 (dk_at dksX4_take_1 3 rfl rfl)
theorem dX4_take_26 : decode cX4_take 26 = .ok (.bipush 32, 2) := dk_16 32 (dk_at dksX4_take_1 4 rfl rfl)
theorem dX4_take_28 : decode cX4_take 28 = .ok (.if_icmp .ne 16, 3) := dk_160 0 16 (dk_at dksX4_take_1 6 rfl rfl)
theorem dX4_take_31 : decode cX4_take 31 = .ok (.aload_n 0, 1) := dk_42 (dk_at dksX4_take_1 9 rfl rfl)
theorem dX4_take_32 : decode cX4_take 32 = .ok (.dup, 1) := dk_89 (dk_at dksX4_take_1 10 rfl rfl)
theorem dX4_take_33 : decode cX4_take 33 = .ok (.getfield 39, 3) := dk_180 0 39 (dk_at dksX4_take_1 11 rfl rfl)
theorem dX4_take_36 : decode cX4_take 36 = .ok (.iconst 1, 1) := dk_4 (dk_at dksX4_take_1 14 rfl rfl)
theorem dX4_take_37 : decode cX4_take 37 = .ok (.iadd, 1) := dk_96 (dk_at dksX4_take_1 15 rfl rfl)
theorem dX4_take_38 : decode cX4_take 38 = .ok (.putfield 39, 3) := dk_181 0 39 (dk_at dksX4_take_1 16 rfl rfl)
theorem dX4_take_41 : decode cX4_take 41 = .ok (.goto (-41), 3) := dk_167 255 215 (dk_at dksX4_take_1 19 rfl rfl)
theorem dX4_take_44 : decode cX4_take 44 = .ok (.aload_n 0, 1) := dk_42 (dk_at dksX4_take_1 22 rfl rfl)
theorem dX4_take_45 : decode cX4_take 45 = .ok (.aload_n 0, 1) := dk_42 (dk_at dksX4_take_1 23 rfl rfl)
theorem dX4_take_46 : decode cX4_take 46 = .ok (.getfield 39, 3) := dk_180 0 39 (dk_at dksX4_take_2 0 rfl rfl)
theorem dX4_take_49 : decode cX4_take 49 = .ok (.putfield 50, 3) := dk_181 0 50 (dk_at dksX4_take_2 3 rfl rfl)
theorem dX4_take_52 : decode cX4_take 52 = .ok (.aload_n 0, 1) := dk_42 (dk_at dksX4_take_2 6 rfl rfl)
theorem dX4_take_53 : decode cX4_take 53 = .ok (.getfield 39, 3) := dk_180 0 39 (dk_at dksX4_take_2 7 rfl rfl)
theorem dX4_take_56 : decode cX4_take 56 = .ok (.aload_n 0, 1) := dk_42 (dk_at dksX4_take_2 10 rfl rfl)
theorem dX4_take_57 : decode cX4_take 57 = .ok (.getfield 3, 3) := dk_180 0 3 (dk_at dksX4_take_2 11 rfl rfl)
theorem dX4_take_60 : decode cX4_take 60 = .ok (.getfield 43, 3) := dk_180 0 43 (dk_at dksX4_take_2 14 rfl rfl)
theorem dX4_take_63 : decode cX4_take 63 = .ok (.if_icmp .ge 22, 3) := dk_162 0 22 (dk_at dksX4_take_2 17 rfl rfl)
theorem dX4_take_66 : decode cX4_take 66 = .ok (.aload_n 0, 1) := dk_42 (dk_at dksX4_take_2 20 rfl rfl)
theorem dX4_take_67 : decode cX4_take 67 = .ok (.aload_n 0, 1) := dk_42 (dk_at dksX4_take_2 21 rfl rfl)
theorem dX4_take_68 : decode cX4_take 68 = .ok (.getfield 3, 3) := dk_180 0 3 (dk_at dksX4_take_3 0 rfl rfl)
theorem dX4_take_71 : decode cX4_take 71 = .ok (.getfield 46, 3) := dk_180 0 46 (dk_at dksX4_take_3 3 rfl rfl)
theorem dX4_take_74 : decode cX4_take 74 = .ok (.aload_n 0, 1) := dk_42 (dk_at dksX4_take_3 6 rfl rfl)
theorem dX4_take_75 : decode cX4_take 75 = .ok (.getfield 39, 3) := dk_180 0 39 (dk_at dksX4_take_3 7 rfl rfl)
theorem dX4_take_78 : decode cX4_take 78 = .ok (.baload, 1) := dk_51 (dk_at dksX4_take_3 10 rfl rfl)
theorem dX4_take_79 : decode cX4_take 79 = .ok (.invokevirtual 53, 3) := dk_182 0 53 (dk_at dksX4_take_3 11 rfl rfl)
theorem dX4_take_82 : decode cX4_take 82 = .ok (.goto 4, 3) := dk_167 0 4 (dk_at dksX4_take_3 14 rfl rfl)
theorem dX4_take_85 : decode cX4_take 85 = .ok (.iconst 0, 1) := dk_3 (dk_at dksX4_take_3 17 rfl rfl)
theorem dX4_take_86 : decode cX4_take 86 = .ok (.istore_n 1, 1) := dk_60 (dk_at dksX4_take_3 18 rfl rfl)
theorem dX4_take_87 : decode cX4_take 87 = .ok (.new 57, 3) := dk_187 0 57 (dk_at dksX4_take_3 19 rfl rfl)
theorem dX4_take_90 : decode cX4_take 90 = .ok (.dup, 1) := dk_89 (dk_at dksX4_take_3 22 rfl rfl)
theorem dX4_take_91 : decode cX4_take 91 = .ok (.invokespecial 59, 3) := dk_183 0 59 (dk_at dksX4_take_4 0 rfl rfl)
theorem dX4_take_94 : decode cX4_take 94 = .ok (.astore_n 2, 1) := dk_77 (dk_at dksX4_take_4 3 rfl rfl)
theorem dX4_take_95 : decode cX4_take 95 = .ok (.aload_n 0, 1) := dk_42 (dk_at dksX4_take_4 4 rfl rfl)
theorem dX4_take_96 : decode cX4_take 96 = .ok (.getfield 39, 3) := dk_180 0 39 (dk_at dksX4_take_4 5 rfl rfl)
theorem dX4_take_99 : decode cX4_take 99 = .ok (.aload_n 0, 1) := dk_42 (dk_at dksX4_take_4 8 rfl rfl)
theorem dX4_take_100 : decode cX4_take 100 = .ok (.getfield 3, 3) := dk_180 0 3 (dk_at dksX4_take_4 9 rfl rfl)
theorem dX4_take_103 : decode cX4_take 103 = .ok (.getfield 43, 3) := dk_180 0 43 (dk_at dksX4_take_4 12 rfl rfl)
theorem dX4_take_106 : decode cX4_take 106 = .ok (.if_icmp .ge 70, 3) := dk_162 0 70 (dk_at dksX4_take_4 15 rfl rfl)
theorem dX4_take_109 : decode cX4_take 109 = .ok (.aload_n 0, 1) := dk_42 (dk_at dksX4_take_4 18 rfl rfl)
theorem dX4_take_110 : decode cX4_take 110 = .ok (.getfield 50, 3) := dk_180 0 50 (dk_at dksX4_take_4 19 rfl rfl)
theorem dX4_take_113 : decode cX4_take 113 = .ok (.aload_n 0, 1) := dk_42 (dk_at dksX4_take_4 22 rfl rfl)
theorem dX4_take_114 : decode cX4_take 114 = .ok (.getfield 39, 3) := dk_180 0 39 (dk_at dksX4_take_5 0 rfl rfl)
theorem dX4_take_117 : decode cX4_take 117 = .ok (.if_icmp .eq 27, 3) := dk_159 0 27 (dk_at dksX4_take_5 3 rfl rfl)
theorem dX4_take_120 : decode cX4_take 120 = .ok (.iload_n 1, 1) := dk_27 (dk_at dksX4_take_5 6 rfl rfl)
theorem dX4_take_121 : decode cX4_take 121 = .ok (.ifCond .le 55, 3) := dk_158 0 55 (dk_at dksX4_take_5 7 rfl rfl)
theorem dX4_take_124 : decode cX4_take 124 = .ok (.aload_n 0, 1) := dk_42 (dk_at dksX4_take_5 10 rfl rfl)
theorem dX4_take_125 : decode cX4_take 125 = .ok (.aload_n 0, 1) := dk_42 (dk_at dksX4_take_5 11 rfl rfl)
theorem dX4_take_126 : decode cX4_take 126 = .ok (.getfield 3, 3) := dk_180 0 3 (dk_at dksX4_take_5 12 rfl rfl)
theorem dX4_take_129 : decode cX4_take 129 = .ok (.getfield 46, 3) := dk_180 0 46 (dk_at dksX4_take_5 15 rfl rfl)
theorem dX4_take_132 : decode cX4_take 132 = .ok (.aload_n 0, 1) := dk_42 (dk_at dksX4_take_5 18 rfl rfl)
theorem dX4_take_133 : decode cX4_take 133 = .ok (.getfield 39, 3) := dk_180 0 39 (dk_at dksX4_take_5 19 rfl rfl)
theorem dX4_take_136 : decode cX4_take 136 = .ok (.baload, 1) := dk_51 (dk_at dksX4_take_5 22 rfl rfl)
theorem dX4_take_137 : decode cX4_take 137 = .ok (.invokevirtual 53, 3) := dk_182 0 53 (dk_at dksX4_take_6 0 rfl rfl)
theorem dX4_take_140 : decode cX4_take 140 = .ok (.iload_n 1, 1) := dk_27 (dk_at dksX4_take_6 3 rfl rfl)
theorem dX4_take_141 : decode cX4_take 141 = .ok (.if_icmp .ne 35, 3) := dk_160 0 35 (dk_at dksX4_take_6 4 rfl rfl)
theorem dX4_take_144 : decode cX4_take 144 = .ok (.aload_n 2, 1) := dk_44 (dk_at dksX4_take_6 7 rfl rfl)
theorem dX4_take_145 : decode cX4_take 145 = .ok (.aload_n 0, 1) := dk_42 (dk_at dksX4_take_6 8 rfl rfl)
theorem dX4_take_146 : decode cX4_take 146 = .ok (.getfield 3, 3) := dk_180 0 3 (dk_at dksX4_take_6 9 rfl rfl)
theorem dX4_take_149 : decode cX4_take 149 = .ok (.getfield 46, 3) := dk_180 0 46 (dk_at dksX4_take_6 12 rfl rfl)
theorem dX4_take_152 : decode cX4_take 152 = .ok (.aload_n 0, 1) := dk_42 (dk_at dksX4_take_6 15 rfl rfl)
theorem dX4_take_153 : decode cX4_take 153 = .ok (.dup, 1) := dk_89 (dk_at dksX4_take_6 16 rfl rfl)
theorem dX4_take_154 : decode cX4_take 154 = .ok (.getfield 39, 3) := dk_180 0 39 (dk_at dksX4_take_6 17 rfl rfl)
theorem dX4_take_157 : decode cX4_take 157 = .ok (.dup_x1, 1) := dk_90 (dk_at dksX4_take_6 20 rfl rfl)
theorem dX4_take_158 : decode cX4_take 158 = .ok (.iconst 1, 1) := dk_4 (dk_at dksX4_take_6 21 rfl rfl)
theorem dX4_take_159 : decode cX4_take 159 = .ok (.iadd, 1) := dk_96 (dk_at dksX4_take_6 22 rfl rfl)
theorem dX4_take_160 : decode cX4_take 160 = .ok (.putfield 39, 3) := dk_181 0 39 (dk_at dksX4_take_7 0 rfl rfl)
theorem dX4_take_163 : decode cX4_take 163 = .ok (.baload, 1) := dk_51 (dk_at dksX4_take_7 3 rfl rfl)
theorem dX4_take_164 : decode cX4_take 164 = .ok (.sipush 255, 3) := dk_17 0 255 (dk_at dksX4_take_7 4 rfl rfl)
theorem dX4_take_167 : decode cX4_take 167 = .ok (.iand, 1) := dk_126 (dk_at dksX4_take_7 7 rfl rfl)
theorem dX4_take_168 : decode cX4_take 168 = .ok (.i2c, 1) := dk_146 (dk_at dksX4_take_7 8 rfl rfl)
theorem dX4_take_169 : decode cX4_take 169 = .ok (.invokevirtual 60, 3) := dk_182 0 60 (dk_at dksX4_take_7 9 rfl rfl)
theorem dX4_take_172 : decode cX4_take 172 = .ok (.pop, 1) := dk_87 (dk_at dksX4_take_7 12 rfl rfl)
theorem dX4_take_173 : decode cX4_take 173 = .ok (.goto (-78), 3) := dk_167 255 178 (dk_at dksX4_take_7 13 rfl rfl)
theorem dX4_take_176 : decode cX4_take 176 = .ok (.aload_n 0, 1) := dk_42 (dk_at dksX4_take_7 16 rfl rfl)
theorem dX4_take_177 : decode cX4_take 177 = .ok (.aload_n 2, 1) := dk_44 (dk_at dksX4_take_7 17 rfl rfl)
theorem dX4_take_178 : decode cX4_take 178 = .ok (.invokevirtual 64, 3) := dk_182 0 64 (dk_at dksX4_take_7 18 rfl rfl)
theorem dX4_take_181 : decode cX4_take 181 = .ok (.putfield 17, 3) := dk_181 0 17 (dk_at dksX4_take_7 21 rfl rfl)
theorem dX4_take_184 : decode cX4_take 184 = .ok (.return_, 1) := dk_177 (dk_at dksX4_take_8 0 rfl rfl)
abbrev cX4_kindOf : ByteArray := prog_4_method_2_code
def yX4_kindOf : MethodName := ⟨RX4, "kindOf", "(I)I"⟩
def dkwX4_kindOf_1 : List UInt8 := [20, 0, 37, 184, 0, 31, 153, 0, 7, 5, 167, 0, 4, 3, 172]
abbrev dktX4_kindOf_1 : List UInt8 := dkwX4_kindOf_1 ++ []
def dkwX4_kindOf_0 : List UInt8 := [27, 133, 20, 0, 27, 20, 0, 29, 184, 0, 31, 153, 0, 7, 4, 167, 0, 22, 27, 133, 20, 0, 35]
abbrev dktX4_kindOf_0 : List UInt8 := dkwX4_kindOf_0 ++ dktX4_kindOf_1
theorem dksX4_kindOf_0 : cX4_kindOf.data.toList.drop 0 = dktX4_kindOf_0 := by decide +kernel
theorem dksX4_kindOf_1 : cX4_kindOf.data.toList.drop 23 = dktX4_kindOf_1 := dk_seg dksX4_kindOf_0 23 rfl rfl
theorem dX4_kindOf_0 : decode cX4_kindOf 0 = .ok (.iload_n 1, 1) := dk_27 (dk_at dksX4_kindOf_0 0 rfl rfl)
theorem dX4_kindOf_1 : decode cX4_kindOf 1 = .ok (.i2l, 1) := dk_133 (dk_at dksX4_kindOf_0 1 rfl rfl)
theorem dX4_kindOf_2 : decode cX4_kindOf 2 = .ok (.ldc2_w 27, 3) := dk_20 0 27 (dk_at dksX4_kindOf_0 2 rfl rfl)
theorem dX4_kindOf_5 : decode cX4_kindOf 5 = .ok (.ldc2_w 29, 3) := dk_20 0 29 (dk_at dksX4_kindOf_0 5 rfl rfl)
theorem dX4_kindOf_8 : decode cX4_kindOf 8 = .ok (.invokestatic 31, 3) := dk_184 0 31 (dk_at dksX4_kindOf_0 8 rfl rfl)
theorem dX4_kindOf_11 : decode cX4_kindOf 11 = .ok (.ifCond .eq 7, 3) := dk_153 0 7 (dk_at dksX4_kindOf_0 11 rfl rfl)
theorem dX4_kindOf_14 : decode cX4_kindOf 14 = .ok (.iconst 1, 1) := dk_4 (dk_at dksX4_kindOf_0 14 rfl rfl)
theorem dX4_kindOf_15 : decode cX4_kindOf 15 = .ok (.goto 22, 3) := dk_167 0 22 (dk_at dksX4_kindOf_0 15 rfl rfl)
theorem dX4_kindOf_18 : decode cX4_kindOf 18 = .ok (.iload_n 1, 1) := dk_27 (dk_at dksX4_kindOf_0 18 rfl rfl)
theorem dX4_kindOf_19 : decode cX4_kindOf 19 = .ok (.i2l, 1) := dk_133 (dk_at dksX4_kindOf_0 19 rfl rfl)
theorem dX4_kindOf_20 : decode cX4_kindOf 20 = .ok (.ldc2_w 35, 3) := dk_20 0 35 (dk_at dksX4_kindOf_0 20 rfl rfl)
theorem dX4_kindOf_23 : decode cX4_kindOf 23 = .ok (.ldc2_w 37, 3) := dk_20 0 37 (dk_at dksX4_kindOf_1 0 rfl rfl)
theorem dX4_kindOf_26 : decode cX4_kindOf 26 = .ok (.invokestatic 31, 3) := dk_184 0 31 (dk_at dksX4_kindOf_1 3 rfl rfl)
theorem dX4_kindOf_29 : decode cX4_kindOf 29 = .ok (.ifCond .eq 7, 3) := dk_153 0 7 (dk_at dksX4_kindOf_1 6 rfl rfl)
theorem dX4_kindOf_32 : decode cX4_kindOf 32 = .ok (.iconst 2, 1) := dk_5 (dk_at dksX4_kindOf_1 9 rfl rfl)
theorem dX4_kindOf_33 : decode cX4_kindOf 33 = .ok (.goto 4, 3) := dk_167 0 4 (dk_at dksX4_kindOf_1 10 rfl rfl)
theorem dX4_kindOf_36 : decode cX4_kindOf 36 = .ok (.iconst 0, 1) := dk_3 (dk_at dksX4_kindOf_1 13 rfl rfl)
theorem dX4_kindOf_37 : decode cX4_kindOf 37 = .ok (.ireturn, 1) := dk_172 (dk_at dksX4_kindOf_1 14 rfl rfl)
abbrev cX4_want : ByteArray := prog_4_method_4_code
def yX4_want : MethodName := ⟨RX4, "want", "(Z)V"⟩
def dkwX4_want_0 : List UInt8 := [27, 154, 0, 15, 187, 0, 68, 89, 42, 180, 0, 50, 183, 0, 70, 191, 177]
abbrev dktX4_want_0 : List UInt8 := dkwX4_want_0 ++ []
theorem dksX4_want_0 : cX4_want.data.toList.drop 0 = dktX4_want_0 := by decide +kernel
theorem dX4_want_0 : decode cX4_want 0 = .ok (.iload_n 1, 1) := dk_27 (dk_at dksX4_want_0 0 rfl rfl)
theorem dX4_want_1 : decode cX4_want 1 = .ok (.ifCond .ne 15, 3) := dk_154 0 15 (dk_at dksX4_want_0 1 rfl rfl)
theorem dX4_want_4 : decode cX4_want 4 = .ok (.new 68, 3) := dk_187 0 68 (dk_at dksX4_want_0 4 rfl rfl)
theorem dX4_want_7 : decode cX4_want 7 = .ok (.dup, 1) := dk_89 (dk_at dksX4_want_0 7 rfl rfl)
theorem dX4_want_8 : decode cX4_want 8 = .ok (.aload_n 0, 1) := dk_42 (dk_at dksX4_want_0 8 rfl rfl)
theorem dX4_want_9 : decode cX4_want 9 = .ok (.getfield 50, 3) := dk_180 0 50 (dk_at dksX4_want_0 9 rfl rfl)
theorem dX4_want_12 : decode cX4_want 12 = .ok (.invokespecial 70, 3) := dk_183 0 70 (dk_at dksX4_want_0 12 rfl rfl)
theorem dX4_want_15 : decode cX4_want 15 = .ok (.athrow, 1) := dk_191 (dk_at dksX4_want_0 15 rfl rfl)
theorem dX4_want_16 : decode cX4_want 16 = .ok (.return_, 1) := dk_177 (dk_at dksX4_want_0 16 rfl rfl)
abbrev cX4_thing : ByteArray := prog_4_method_7_code
def yX4_thing : MethodName := ⟨RX4, "thing", "()[I"⟩
def dkwX4_thing_5 : List UInt8 := [153, 0, 7, 4, 167, 0, 4, 3, 79, 58, 4, 42, 182, 0, 73, 25, 4, 176]
abbrev dktX4_thing_5 : List UInt8 := dkwX4_thing_5 ++ []
def dkwX4_thing_4 : List UInt8 := [184, 0, 117, 79, 89, 5, 28, 79, 89, 6, 29, 79, 89, 7, 42, 180, 0, 17, 18, 115, 182, 0, 111]
abbrev dktX4_thing_4 : List UInt8 := dkwX4_thing_4 ++ dktX4_thing_5
def dkwX4_thing_3 : List UInt8 := [182, 0, 111, 153, 0, 7, 4, 167, 0, 4, 3, 182, 0, 90, 8, 188, 10, 89, 3, 3, 79, 89, 4, 27]
abbrev dktX4_thing_3 : List UInt8 := dkwX4_thing_3 ++ dktX4_thing_4
def dkwX4_thing_2 : List UInt8 := [182, 0, 73, 42, 42, 180, 0, 17, 18, 109, 182, 0, 111, 154, 0, 15, 42, 180, 0, 17, 18, 115]
abbrev dktX4_thing_2 : List UInt8 := dkwX4_thing_2 ++ dktX4_thing_3
def dkwX4_thing_1 : List UInt8 := [167, 0, 4, 3, 182, 0, 90, 42, 4, 16, 99, 182, 0, 105, 61, 42, 3, 16, 99, 182, 0, 105, 62, 42]
abbrev dktX4_thing_1 : List UInt8 := dkwX4_thing_1 ++ dktX4_thing_2
def dkwX4_thing_0 : List UInt8 := [42, 182, 0, 73, 42, 182, 0, 102, 60, 42, 42, 180, 0, 17, 182, 0, 86, 4, 160, 0, 7, 4]
abbrev dktX4_thing_0 : List UInt8 := dkwX4_thing_0 ++ dktX4_thing_1
theorem dksX4_thing_0 : cX4_thing.data.toList.drop 0 = dktX4_thing_0 := by decide +kernel
theorem dksX4_thing_1 : cX4_thing.data.toList.drop 22 = dktX4_thing_1 := dk_seg dksX4_thing_0 22 rfl rfl
theorem dksX4_thing_2 : cX4_thing.data.toList.drop 46 = dktX4_thing_2 := dk_seg dksX4_thing_1 24 rfl rfl
theorem dksX4_thing_3 : cX4_thing.data.toList.drop 68 = dktX4_thing_3 := dk_seg dksX4_thing_2 22 rfl rfl
theorem dksX4_thing_4 : cX4_thing.data.toList.drop 92 = dktX4_thing_4 := dk_seg dksX4_thing_3 24 rfl rfl
theorem dksX4_thing_5 : cX4_thing.data.toList.drop 115 = dktX4_thing_5 := dk_seg dksX4_thing_4 23 rfl rfl
theorem dX4_thing_0 : decode cX4_thing 0 = .ok (.aload_n 0, 1) := dk_42 (dk_at dksX4_thing_0 0 rfl rfl)
theorem dX4_thing_1 : decode cX4_thing 1 = .ok (.invokevirtual 73, 3) := dk_182 0 73 (dk_at dksX4_thing_0 1 rfl rfl)
theorem dX4_thing_4 : decode cX4_thing 4 = .ok (.aload_n 0, 1) := dk_42 (dk_at dksX4_thing_0 4 rfl rfl)
theorem dX4_thing_5 : decode cX4_thing 5 = .ok (.invokevirtual 102, 3) := dk_182 0 102 (dk_at dksX4_thing_0 5 rfl rfl)
theorem dX4_thing_8 : decode cX4_thing 8 = .ok (.istore_n 1, 1) := dk_60 (dk_at dksX4_thing_0 8 rfl rfl)
theorem dX4_thing_9 : decode cX4_thing 9 = .ok (.aload_n 0, 1) := dk_42 (dk_at dksX4_thing_0 9 rfl rfl)
theorem dX4_thing_10 : decode cX4_thing 10 = .ok (.aload_n 0, 1) := dk_42 (dk_at dksX4_thing_0 10 rfl rfl)
theorem dX4_thing_11 : decode cX4_thing 11 = .ok (.getfield 17, 3) := dk_180 0 17 (dk_at dksX4_thing_0 11 rfl rfl)
theorem dX4_thing_14 : decode cX4_thing 14 = .ok (.invokevirtual 86, 3) := dk_182 0 86 (dk_at dksX4_thing_0 14 rfl rfl)
theorem dX4_thing_17 : decode cX4_thing 17 = .ok (.iconst 1, 1) := dk_4 (dk_at dksX4_thing_0 17 rfl rfl)
theorem dX4_thing_18 : decode cX4_thing 18 = .ok (.if_icmp .ne 7, 3) := dk_160 0 7 (dk_at dksX4_thing_0 18 rfl rfl)
theorem dX4_thing_21 : decode cX4_thing 21 = .ok (.iconst 1, 1) := dk_4 (dk_at dksX4_thing_0 21 rfl rfl)
theorem dX4_thing_22 : decode cX4_thing 22 = .ok (.goto 4, 3) := dk_167 0 4 (dk_at dksX4_thing_1 0 rfl rfl)
theorem dX4_thing_25 : decode cX4_thing 25 = .ok (.iconst 0, 1) := dk_3 (dk_at dksX4_thing_1 3 rfl rfl)
theorem dX4_thing_26 : decode cX4_thing 26 = .ok (.invokevirtual 90, 3) := dk_182 0 90 (dk_at dksX4_thing_1 4 rfl rfl)
theorem dX4_thing_29 : decode cX4_thing 29 = .ok (.aload_n 0, 1) := dk_42 (dk_at dksX4_thing_1 7 rfl rfl)
theorem dX4_thing_30 : decode cX4_thing 30 = .ok (.iconst 1, 1) := dk_4 (dk_at dksX4_thing_1 8 rfl rfl)
theorem dX4_thing_31 : decode cX4_thing 31 = .ok (.bipush 99, 2) := dk_16 99 (dk_at dksX4_thing_1 9 rfl rfl)
theorem dX4_thing_33 : decode cX4_thing 33 = .ok (.invokevirtual 105, 3) := dk_182 0 105 (dk_at dksX4_thing_1 11 rfl rfl)
theorem dX4_thing_36 : decode cX4_thing 36 = .ok (.istore_n 2, 1) := dk_61 (dk_at dksX4_thing_1 14 rfl rfl)
theorem dX4_thing_37 : decode cX4_thing 37 = .ok (.aload_n 0, 1) := dk_42 (dk_at dksX4_thing_1 15 rfl rfl)
theorem dX4_thing_38 : decode cX4_thing 38 = .ok (.iconst 0, 1) := dk_3 (dk_at dksX4_thing_1 16 rfl rfl)
theorem dX4_thing_39 : decode cX4_thing 39 = .ok (.bipush 99, 2) := dk_16 99 (dk_at dksX4_thing_1 17 rfl rfl)
theorem dX4_thing_41 : decode cX4_thing 41 = .ok (.invokevirtual 105, 3) := dk_182 0 105 (dk_at dksX4_thing_1 19 rfl rfl)
theorem dX4_thing_44 : decode cX4_thing 44 = .ok (.istore_n 3, 1) := dk_62 (dk_at dksX4_thing_1 22 rfl rfl)
theorem dX4_thing_45 : decode cX4_thing 45 = .ok (.aload_n 0, 1) := dk_42 (dk_at dksX4_thing_1 23 rfl rfl)
theorem dX4_thing_46 : decode cX4_thing 46 = .ok (.invokevirtual 73, 3) := dk_182 0 73 (dk_at dksX4_thing_2 0 rfl rfl)
theorem dX4_thing_49 : decode cX4_thing 49 = .ok (.aload_n 0, 1) := dk_42 (dk_at dksX4_thing_2 3 rfl rfl)
theorem dX4_thing_50 : decode cX4_thing 50 = .ok (.aload_n 0, 1) := dk_42 (dk_at dksX4_thing_2 4 rfl rfl)
theorem dX4_thing_51 : decode cX4_thing 51 = .ok (.getfield 17, 3) := dk_180 0 17 (dk_at dksX4_thing_2 5 rfl rfl)
theorem dX4_thing_54 : decode cX4_thing 54 = .ok (.ldc 109, 2) := dk_18 109 (dk_at dksX4_thing_2 8 rfl rfl)
theorem dX4_thing_56 : decode cX4_thing 56 = .ok (.invokevirtual 111, 3) := dk_182 0 111 (dk_at dksX4_thing_2 10 rfl rfl)
theorem dX4_thing_59 : decode cX4_thing 59 = .ok (.ifCond .ne 15, 3) := dk_154 0 15 (dk_at dksX4_thing_2 13 rfl rfl)
theorem dX4_thing_62 : decode cX4_thing 62 = .ok (.aload_n 0, 1) := dk_42 (dk_at dksX4_thing_2 16 rfl rfl)
theorem dX4_thing_63 : decode cX4_thing 63 = .ok (.getfield 17, 3) := dk_180 0 17 (dk_at dksX4_thing_2 17 rfl rfl)
theorem dX4_thing_66 : decode cX4_thing 66 = .ok (.ldc 115, 2) := dk_18 115 (dk_at dksX4_thing_2 20 rfl rfl)
theorem dX4_thing_68 : decode cX4_thing 68 = .ok (.invokevirtual 111, 3) := dk_182 0 111 (dk_at dksX4_thing_3 0 rfl rfl)
theorem dX4_thing_71 : decode cX4_thing 71 = .ok (.ifCond .eq 7, 3) := dk_153 0 7 (dk_at dksX4_thing_3 3 rfl rfl)
theorem dX4_thing_74 : decode cX4_thing 74 = .ok (.iconst 1, 1) := dk_4 (dk_at dksX4_thing_3 6 rfl rfl)
theorem dX4_thing_75 : decode cX4_thing 75 = .ok (.goto 4, 3) := dk_167 0 4 (dk_at dksX4_thing_3 7 rfl rfl)
theorem dX4_thing_78 : decode cX4_thing 78 = .ok (.iconst 0, 1) := dk_3 (dk_at dksX4_thing_3 10 rfl rfl)
theorem dX4_thing_79 : decode cX4_thing 79 = .ok (.invokevirtual 90, 3) := dk_182 0 90 (dk_at dksX4_thing_3 11 rfl rfl)
theorem dX4_thing_82 : decode cX4_thing 82 = .ok (.iconst 5, 1) := dk_8 (dk_at dksX4_thing_3 14 rfl rfl)
theorem dX4_thing_83 : decode cX4_thing 83 = .ok (.newarray .int, 2) := dk_188_10 (dk_at dksX4_thing_3 15 rfl rfl)
theorem dX4_thing_85 : decode cX4_thing 85 = .ok (.dup, 1) := dk_89 (dk_at dksX4_thing_3 17 rfl rfl)
theorem dX4_thing_86 : decode cX4_thing 86 = .ok (.iconst 0, 1) := dk_3 (dk_at dksX4_thing_3 18 rfl rfl)
theorem dX4_thing_87 : decode cX4_thing 87 = .ok (.iconst 0, 1) := dk_3 (dk_at dksX4_thing_3 19 rfl rfl)
theorem dX4_thing_88 : decode cX4_thing 88 = .ok (.iastore, 1) := dk_79 (dk_at dksX4_thing_3 20 rfl rfl)
theorem dX4_thing_89 : decode cX4_thing 89 = .ok (.dup, 1) := dk_89 (dk_at dksX4_thing_3 21 rfl rfl)
theorem dX4_thing_90 : decode cX4_thing 90 = .ok (.iconst 1, 1) := dk_4 (dk_at dksX4_thing_3 22 rfl rfl)
theorem dX4_thing_91 : decode cX4_thing 91 = .ok (.iload_n 1, 1) := dk_27 (dk_at dksX4_thing_3 23 rfl rfl)
theorem dX4_thing_92 : decode cX4_thing 92 = .ok (.invokestatic 117, 3) := dk_184 0 117 (dk_at dksX4_thing_4 0 rfl rfl)
theorem dX4_thing_95 : decode cX4_thing 95 = .ok (.iastore, 1) := dk_79 (dk_at dksX4_thing_4 3 rfl rfl)
theorem dX4_thing_96 : decode cX4_thing 96 = .ok (.dup, 1) := dk_89 (dk_at dksX4_thing_4 4 rfl rfl)
theorem dX4_thing_97 : decode cX4_thing 97 = .ok (.iconst 2, 1) := dk_5 (dk_at dksX4_thing_4 5 rfl rfl)
theorem dX4_thing_98 : decode cX4_thing 98 = .ok (.iload_n 2, 1) := dk_28 (dk_at dksX4_thing_4 6 rfl rfl)
theorem dX4_thing_99 : decode cX4_thing 99 = .ok (.iastore, 1) := dk_79 (dk_at dksX4_thing_4 7 rfl rfl)
theorem dX4_thing_100 : decode cX4_thing 100 = .ok (.dup, 1) := dk_89 (dk_at dksX4_thing_4 8 rfl rfl)
theorem dX4_thing_101 : decode cX4_thing 101 = .ok (.iconst 3, 1) := dk_6 (dk_at dksX4_thing_4 9 rfl rfl)
theorem dX4_thing_102 : decode cX4_thing 102 = .ok (.iload_n 3, 1) := dk_29 (dk_at dksX4_thing_4 10 rfl rfl)
theorem dX4_thing_103 : decode cX4_thing 103 = .ok (.iastore, 1) := dk_79 (dk_at dksX4_thing_4 11 rfl rfl)
theorem dX4_thing_104 : decode cX4_thing 104 = .ok (.dup, 1) := dk_89 (dk_at dksX4_thing_4 12 rfl rfl)
theorem dX4_thing_105 : decode cX4_thing 105 = .ok (.iconst 4, 1) := dk_7 (dk_at dksX4_thing_4 13 rfl rfl)
theorem dX4_thing_106 : decode cX4_thing 106 = .ok (.aload_n 0, 1) := dk_42 (dk_at dksX4_thing_4 14 rfl rfl)
theorem dX4_thing_107 : decode cX4_thing 107 = .ok (.getfield 17, 3) := dk_180 0 17 (dk_at dksX4_thing_4 15 rfl rfl)
theorem dX4_thing_110 : decode cX4_thing 110 = .ok (.ldc 115, 2) := dk_18 115 (dk_at dksX4_thing_4 18 rfl rfl)
theorem dX4_thing_112 : decode cX4_thing 112 = .ok (.invokevirtual 111, 3) := dk_182 0 111 (dk_at dksX4_thing_4 20 rfl rfl)
theorem dX4_thing_115 : decode cX4_thing 115 = .ok (.ifCond .eq 7, 3) := dk_153 0 7 (dk_at dksX4_thing_5 0 rfl rfl)
theorem dX4_thing_118 : decode cX4_thing 118 = .ok (.iconst 1, 1) := dk_4 (dk_at dksX4_thing_5 3 rfl rfl)
theorem dX4_thing_119 : decode cX4_thing 119 = .ok (.goto 4, 3) := dk_167 0 4 (dk_at dksX4_thing_5 4 rfl rfl)
theorem dX4_thing_122 : decode cX4_thing 122 = .ok (.iconst 0, 1) := dk_3 (dk_at dksX4_thing_5 7 rfl rfl)
theorem dX4_thing_123 : decode cX4_thing 123 = .ok (.iastore, 1) := dk_79 (dk_at dksX4_thing_5 8 rfl rfl)
theorem dX4_thing_124 : decode cX4_thing 124 = .ok (.astore 4, 2) := dk_58 4 (dk_at dksX4_thing_5 9 rfl rfl)
theorem dX4_thing_126 : decode cX4_thing 126 = .ok (.aload_n 0, 1) := dk_42 (dk_at dksX4_thing_5 11 rfl rfl)
theorem dX4_thing_127 : decode cX4_thing 127 = .ok (.invokevirtual 73, 3) := dk_182 0 73 (dk_at dksX4_thing_5 12 rfl rfl)
theorem dX4_thing_130 : decode cX4_thing 130 = .ok (.aload 4, 2) := dk_25 4 (dk_at dksX4_thing_5 15 rfl rfl)
theorem dX4_thing_132 : decode cX4_thing 132 = .ok (.areturn, 1) := dk_176 (dk_at dksX4_thing_5 17 rfl rfl)
abbrev cX4_set : ByteArray := prog_4_method_6_code
def yX4_set : MethodName := ⟨RX4, "set", "()I"⟩
def dkwX4_set_3 : List UInt8 := [182, 0, 90, 27, 4, 29, 120, 128, 60, 132, 2, 1, 167, 255, 195, 27, 172]
abbrev dktX4_set_3 : List UInt8 := dkwX4_set_3 ++ []
def dkwX4_set_2 : List UInt8 := [133, 9, 20, 0, 100, 184, 0, 31, 153, 0, 15, 27, 29, 122, 4, 126, 154, 0, 7, 4, 167, 0, 4, 3]
abbrev dktX4_set_2 : List UInt8 := dkwX4_set_2 ++ dktX4_set_3
def dkwX4_set_1 : List UInt8 := [42, 180, 0, 17, 182, 0, 86, 162, 0, 56, 42, 180, 0, 17, 28, 182, 0, 82, 16, 97, 100, 62, 42, 29]
abbrev dktX4_set_1 : List UInt8 := dkwX4_set_1 ++ dktX4_set_2
def dkwX4_set_0 : List UInt8 := [3, 60, 42, 42, 180, 0, 17, 182, 0, 76, 154, 0, 7, 4, 167, 0, 4, 3, 182, 0, 90, 3, 61, 28]
abbrev dktX4_set_0 : List UInt8 := dkwX4_set_0 ++ dktX4_set_1
theorem dksX4_set_0 : cX4_set.data.toList.drop 0 = dktX4_set_0 := by decide +kernel
theorem dksX4_set_1 : cX4_set.data.toList.drop 24 = dktX4_set_1 := dk_seg dksX4_set_0 24 rfl rfl
theorem dksX4_set_2 : cX4_set.data.toList.drop 48 = dktX4_set_2 := dk_seg dksX4_set_1 24 rfl rfl
theorem dksX4_set_3 : cX4_set.data.toList.drop 72 = dktX4_set_3 := dk_seg dksX4_set_2 24 rfl rfl
theorem dX4_set_0 : decode cX4_set 0 = .ok (.iconst 0, 1) := dk_3 (dk_at dksX4_set_0 0 rfl rfl)
theorem dX4_set_1 : decode cX4_set 1 = .ok (.istore_n 1, 1) := dk_60 (dk_at dksX4_set_0 1 rfl rfl)
theorem dX4_set_2 : decode cX4_set 2 = .ok (.aload_n 0, 1) := dk_42 (dk_at dksX4_set_0 2 rfl rfl)
theorem dX4_set_3 : decode cX4_set 3 = .ok (.aload_n 0, 1) := dk_42 (dk_at dksX4_set_0 3 rfl rfl)
theorem dX4_set_4 : decode cX4_set 4 = .ok (.getfield 17, 3) := dk_180 0 17 (dk_at dksX4_set_0 4 rfl rfl)
theorem dX4_set_7 : decode cX4_set 7 = .ok (.invokevirtual 76, 3) := dk_182 0 76 (dk_at dksX4_set_0 7 rfl rfl)
theorem dX4_set_10 : decode cX4_set 10 = .ok (.ifCond .ne 7, 3) := dk_154 0 7 (dk_at dksX4_set_0 10 rfl rfl)
theorem dX4_set_13 : decode cX4_set 13 = .ok (.iconst 1, 1) := dk_4 (dk_at dksX4_set_0 13 rfl rfl)
theorem dX4_set_14 : decode cX4_set 14 = .ok (.goto 4, 3) := dk_167 0 4 (dk_at dksX4_set_0 14 rfl rfl)
theorem dX4_set_17 : decode cX4_set 17 = .ok (.iconst 0, 1) := dk_3 (dk_at dksX4_set_0 17 rfl rfl)
theorem dX4_set_18 : decode cX4_set 18 = .ok (.invokevirtual 90, 3) := dk_182 0 90 (dk_at dksX4_set_0 18 rfl rfl)
theorem dX4_set_21 : decode cX4_set 21 = .ok (.iconst 0, 1) := dk_3 (dk_at dksX4_set_0 21 rfl rfl)
theorem dX4_set_22 : decode cX4_set 22 = .ok (.istore_n 2, 1) := dk_61 (dk_at dksX4_set_0 22 rfl rfl)
theorem dX4_set_23 : decode cX4_set 23 = .ok (.iload_n 2, 1) := dk_28 (dk_at dksX4_set_0 23 rfl rfl)
theorem dX4_set_24 : decode cX4_set 24 = .ok (.aload_n 0, 1) := dk_42 (dk_at dksX4_set_1 0 rfl rfl)
theorem dX4_set_25 : decode cX4_set 25 = .ok (.getfield 17, 3) := dk_180 0 17 (dk_at dksX4_set_1 1 rfl rfl)
theorem dX4_set_28 : decode cX4_set 28 = .ok (.invokevirtual 86, 3) := dk_182 0 86 (dk_at dksX4_set_1 4 rfl rfl)
theorem dX4_set_31 : decode cX4_set 31 = .ok (.if_icmp .ge 56, 3) := dk_162 0 56 (dk_at dksX4_set_1 7 rfl rfl)
theorem dX4_set_34 : decode cX4_set 34 = .ok (.aload_n 0, 1) := dk_42 (dk_at dksX4_set_1 10 rfl rfl)
theorem dX4_set_35 : decode cX4_set 35 = .ok (.getfield 17, 3) := dk_180 0 17 (dk_at dksX4_set_1 11 rfl rfl)
theorem dX4_set_38 : decode cX4_set 38 = .ok (.iload_n 2, 1) := dk_28 (dk_at dksX4_set_1 14 rfl rfl)
theorem dX4_set_39 : decode cX4_set 39 = .ok (.invokevirtual 82, 3) := dk_182 0 82 (dk_at dksX4_set_1 15 rfl rfl)
theorem dX4_set_42 : decode cX4_set 42 = .ok (.bipush 97, 2) := dk_16 97 (dk_at dksX4_set_1 18 rfl rfl)
theorem dX4_set_44 : decode cX4_set 44 = .ok (.isub, 1) := dk_100 (dk_at dksX4_set_1 20 rfl rfl)
theorem dX4_set_45 : decode cX4_set 45 = .ok (.istore_n 3, 1) := dk_62 (dk_at dksX4_set_1 21 rfl rfl)
theorem dX4_set_46 : decode cX4_set 46 = .ok (.aload_n 0, 1) := dk_42 (dk_at dksX4_set_1 22 rfl rfl)
theorem dX4_set_47 : decode cX4_set 47 = .ok (.iload_n 3, 1) := dk_29 (dk_at dksX4_set_1 23 rfl rfl)
theorem dX4_set_48 : decode cX4_set 48 = .ok (.i2l, 1) := dk_133 (dk_at dksX4_set_2 0 rfl rfl)
theorem dX4_set_49 : decode cX4_set 49 = .ok (.lconst 0, 1) := dk_9 (dk_at dksX4_set_2 1 rfl rfl)
theorem dX4_set_50 : decode cX4_set 50 = .ok (.ldc2_w 100, 3) := dk_20 0 100 (dk_at dksX4_set_2 2 rfl rfl)
theorem dX4_set_53 : decode cX4_set 53 = .ok (.invokestatic 31, 3) := dk_184 0 31 (dk_at dksX4_set_2 5 rfl rfl)
theorem dX4_set_56 : decode cX4_set 56 = .ok (.ifCond .eq 15, 3) := dk_153 0 15 (dk_at dksX4_set_2 8 rfl rfl)
theorem dX4_set_59 : decode cX4_set 59 = .ok (.iload_n 1, 1) := dk_27 (dk_at dksX4_set_2 11 rfl rfl)
theorem dX4_set_60 : decode cX4_set 60 = .ok (.iload_n 3, 1) := dk_29 (dk_at dksX4_set_2 12 rfl rfl)
theorem dX4_set_61 : decode cX4_set 61 = .ok (.ishr, 1) := dk_122 (dk_at dksX4_set_2 13 rfl rfl)
theorem dX4_set_62 : decode cX4_set 62 = .ok (.iconst 1, 1) := dk_4 (dk_at dksX4_set_2 14 rfl rfl)
theorem dX4_set_63 : decode cX4_set 63 = .ok (.iand, 1) := dk_126 (dk_at dksX4_set_2 15 rfl rfl)
theorem dX4_set_64 : decode cX4_set 64 = .ok (.ifCond .ne 7, 3) := dk_154 0 7 (dk_at dksX4_set_2 16 rfl rfl)
theorem dX4_set_67 : decode cX4_set 67 = .ok (.iconst 1, 1) := dk_4 (dk_at dksX4_set_2 19 rfl rfl)
theorem dX4_set_68 : decode cX4_set 68 = .ok (.goto 4, 3) := dk_167 0 4 (dk_at dksX4_set_2 20 rfl rfl)
theorem dX4_set_71 : decode cX4_set 71 = .ok (.iconst 0, 1) := dk_3 (dk_at dksX4_set_2 23 rfl rfl)
theorem dX4_set_72 : decode cX4_set 72 = .ok (.invokevirtual 90, 3) := dk_182 0 90 (dk_at dksX4_set_3 0 rfl rfl)
theorem dX4_set_75 : decode cX4_set 75 = .ok (.iload_n 1, 1) := dk_27 (dk_at dksX4_set_3 3 rfl rfl)
theorem dX4_set_76 : decode cX4_set 76 = .ok (.iconst 1, 1) := dk_4 (dk_at dksX4_set_3 4 rfl rfl)
theorem dX4_set_77 : decode cX4_set 77 = .ok (.iload_n 3, 1) := dk_29 (dk_at dksX4_set_3 5 rfl rfl)
theorem dX4_set_78 : decode cX4_set 78 = .ok (.ishl, 1) := dk_120 (dk_at dksX4_set_3 6 rfl rfl)
theorem dX4_set_79 : decode cX4_set 79 = .ok (.ior, 1) := dk_128 (dk_at dksX4_set_3 7 rfl rfl)
theorem dX4_set_80 : decode cX4_set 80 = .ok (.istore_n 1, 1) := dk_60 (dk_at dksX4_set_3 8 rfl rfl)
theorem dX4_set_81 : decode cX4_set 81 = .ok (.iinc 2 1, 3) := dk_132 2 1 (dk_at dksX4_set_3 9 rfl rfl)
theorem dX4_set_84 : decode cX4_set 84 = .ok (.goto (-61), 3) := dk_167 255 195 (dk_at dksX4_set_3 12 rfl rfl)
theorem dX4_set_87 : decode cX4_set 87 = .ok (.iload_n 1, 1) := dk_27 (dk_at dksX4_set_3 15 rfl rfl)
theorem dX4_set_88 : decode cX4_set 88 = .ok (.ireturn, 1) := dk_172 (dk_at dksX4_set_3 16 rfl rfl)
abbrev cX4_number : ByteArray := prog_4_method_5_code
def yX4_number : MethodName := ⟨RX4, "number", "(II)I"⟩
def dkwX4_number_3 : List UInt8 := [29, 172]
abbrev dktX4_number_3 : List UInt8 := dkwX4_number_3 ++ []
def dkwX4_number_2 : List UInt8 := [182, 0, 90, 42, 180, 0, 17, 184, 0, 94, 62, 42, 29, 133, 27, 133, 28, 133, 184, 0, 31, 182, 0, 90]
abbrev dktX4_number_2 : List UInt8 := dkwX4_number_2 ++ dktX4_number_3
def dkwX4_number_1 : List UInt8 := [182, 0, 53, 5, 160, 0, 18, 42, 180, 0, 17, 182, 0, 86, 8, 162, 0, 7, 4, 167, 0, 4, 3]
abbrev dktX4_number_1 : List UInt8 := dkwX4_number_1 ++ dktX4_number_2
def dkwX4_number_0 : List UInt8 := [42, 182, 0, 73, 42, 42, 180, 0, 17, 182, 0, 76, 154, 0, 34, 42, 42, 180, 0, 17, 3, 182, 0, 82]
abbrev dktX4_number_0 : List UInt8 := dkwX4_number_0 ++ dktX4_number_1
theorem dksX4_number_0 : cX4_number.data.toList.drop 0 = dktX4_number_0 := by decide +kernel
theorem dksX4_number_1 : cX4_number.data.toList.drop 24 = dktX4_number_1 := dk_seg dksX4_number_0 24 rfl rfl
theorem dksX4_number_2 : cX4_number.data.toList.drop 47 = dktX4_number_2 := dk_seg dksX4_number_1 23 rfl rfl
theorem dksX4_number_3 : cX4_number.data.toList.drop 71 = dktX4_number_3 := dk_seg dksX4_number_2 24 rfl rfl
theorem dX4_number_0 : decode cX4_number 0 = .ok (.aload_n 0, 1) := dk_42 (dk_at dksX4_number_0 0 rfl rfl)
theorem dX4_number_1 : decode cX4_number 1 = .ok (.invokevirtual 73, 3) := dk_182 0 73 (dk_at dksX4_number_0 1 rfl rfl)
theorem dX4_number_4 : decode cX4_number 4 = .ok (.aload_n 0, 1) := dk_42 (dk_at dksX4_number_0 4 rfl rfl)
theorem dX4_number_5 : decode cX4_number 5 = .ok (.aload_n 0, 1) := dk_42 (dk_at dksX4_number_0 5 rfl rfl)
theorem dX4_number_6 : decode cX4_number 6 = .ok (.getfield 17, 3) := dk_180 0 17 (dk_at dksX4_number_0 6 rfl rfl)
theorem dX4_number_9 : decode cX4_number 9 = .ok (.invokevirtual 76, 3) := dk_182 0 76 (dk_at dksX4_number_0 9 rfl rfl)
theorem dX4_number_12 : decode cX4_number 12 = .ok (.ifCond .ne 34, 3) := dk_154 0 34 (dk_at dksX4_number_0 12 rfl rfl)
theorem dX4_number_15 : decode cX4_number 15 = .ok (.aload_n 0, 1) := dk_42 (dk_at dksX4_number_0 15 rfl rfl)
theorem dX4_number_16 : decode cX4_number 16 = .ok (.aload_n 0, 1) := dk_42 (dk_at dksX4_number_0 16 rfl rfl)
theorem dX4_number_17 : decode cX4_number 17 = .ok (.getfield 17, 3) := dk_180 0 17 (dk_at dksX4_number_0 17 rfl rfl)
theorem dX4_number_20 : decode cX4_number 20 = .ok (.iconst 0, 1) := dk_3 (dk_at dksX4_number_0 20 rfl rfl)
theorem dX4_number_21 : decode cX4_number 21 = .ok (.invokevirtual 82, 3) := dk_182 0 82 (dk_at dksX4_number_0 21 rfl rfl)
theorem dX4_number_24 : decode cX4_number 24 = .ok (.invokevirtual 53, 3) := dk_182 0 53 (dk_at dksX4_number_1 0 rfl rfl)
theorem dX4_number_27 : decode cX4_number 27 = .ok (.iconst 2, 1) := dk_5 (dk_at dksX4_number_1 3 rfl rfl)
theorem dX4_number_28 : decode cX4_number 28 = .ok (.if_icmp .ne 18, 3) := dk_160 0 18 (dk_at dksX4_number_1 4 rfl rfl)
theorem dX4_number_31 : decode cX4_number 31 = .ok (.aload_n 0, 1) := dk_42 (dk_at dksX4_number_1 7 rfl rfl)
theorem dX4_number_32 : decode cX4_number 32 = .ok (.getfield 17, 3) := dk_180 0 17 (dk_at dksX4_number_1 8 rfl rfl)
theorem dX4_number_35 : decode cX4_number 35 = .ok (.invokevirtual 86, 3) := dk_182 0 86 (dk_at dksX4_number_1 11 rfl rfl)
theorem dX4_number_38 : decode cX4_number 38 = .ok (.iconst 5, 1) := dk_8 (dk_at dksX4_number_1 14 rfl rfl)
theorem dX4_number_39 : decode cX4_number 39 = .ok (.if_icmp .ge 7, 3) := dk_162 0 7 (dk_at dksX4_number_1 15 rfl rfl)
theorem dX4_number_42 : decode cX4_number 42 = .ok (.iconst 1, 1) := dk_4 (dk_at dksX4_number_1 18 rfl rfl)
theorem dX4_number_43 : decode cX4_number 43 = .ok (.goto 4, 3) := dk_167 0 4 (dk_at dksX4_number_1 19 rfl rfl)
theorem dX4_number_46 : decode cX4_number 46 = .ok (.iconst 0, 1) := dk_3 (dk_at dksX4_number_1 22 rfl rfl)
theorem dX4_number_47 : decode cX4_number 47 = .ok (.invokevirtual 90, 3) := dk_182 0 90 (dk_at dksX4_number_2 0 rfl rfl)
theorem dX4_number_50 : decode cX4_number 50 = .ok (.aload_n 0, 1) := dk_42 (dk_at dksX4_number_2 3 rfl rfl)
theorem dX4_number_51 : decode cX4_number 51 = .ok (.getfield 17, 3) := dk_180 0 17 (dk_at dksX4_number_2 4 rfl rfl)
theorem dX4_number_54 : decode cX4_number 54 = .ok (.invokestatic 94, 3) := dk_184 0 94 (dk_at dksX4_number_2 7 rfl rfl)
theorem dX4_number_57 : decode cX4_number 57 = .ok (.istore_n 3, 1) := dk_62 (dk_at dksX4_number_2 10 rfl rfl)
theorem dX4_number_58 : decode cX4_number 58 = .ok (.aload_n 0, 1) := dk_42 (dk_at dksX4_number_2 11 rfl rfl)
theorem dX4_number_59 : decode cX4_number 59 = .ok (.iload_n 3, 1) := dk_29 (dk_at dksX4_number_2 12 rfl rfl)
theorem dX4_number_60 : decode cX4_number 60 = .ok (.i2l, 1) := dk_133 (dk_at dksX4_number_2 13 rfl rfl)
theorem dX4_number_61 : decode cX4_number 61 = .ok (.iload_n 1, 1) := dk_27 (dk_at dksX4_number_2 14 rfl rfl)
theorem dX4_number_62 : decode cX4_number 62 = .ok (.i2l, 1) := dk_133 (dk_at dksX4_number_2 15 rfl rfl)
theorem dX4_number_63 : decode cX4_number 63 = .ok (.iload_n 2, 1) := dk_28 (dk_at dksX4_number_2 16 rfl rfl)
theorem dX4_number_64 : decode cX4_number 64 = .ok (.i2l, 1) := dk_133 (dk_at dksX4_number_2 17 rfl rfl)
theorem dX4_number_65 : decode cX4_number 65 = .ok (.invokestatic 31, 3) := dk_184 0 31 (dk_at dksX4_number_2 18 rfl rfl)
theorem dX4_number_68 : decode cX4_number 68 = .ok (.invokevirtual 90, 3) := dk_182 0 90 (dk_at dksX4_number_2 21 rfl rfl)
theorem dX4_number_71 : decode cX4_number 71 = .ok (.iload_n 3, 1) := dk_29 (dk_at dksX4_number_3 0 rfl rfl)
theorem dX4_number_72 : decode cX4_number 72 = .ok (.ireturn, 1) := dk_172 (dk_at dksX4_number_3 1 rfl rfl)
abbrev cX4_way : ByteArray := prog_4_method_8_code
def yX4_way : MethodName := ⟨RX4, "way", "()[I"⟩
def dkwX4_way_2 : List UInt8 := [17, 0, 200, 182, 0, 105, 79, 78, 42, 182, 0, 73, 45, 176]
abbrev dktX4_way_2 : List UInt8 := dkwX4_way_2 ++ []
def dkwX4_way_1 : List UInt8 := [3, 182, 0, 90, 7, 188, 10, 89, 3, 7, 79, 89, 4, 27, 79, 89, 5, 28, 79, 89, 6, 42, 3]
abbrev dktX4_way_1 : List UInt8 := dkwX4_way_1 ++ dktX4_way_2
def dkwX4_way_0 : List UInt8 := [42, 3, 8, 182, 0, 105, 60, 42, 3, 8, 182, 0, 105, 61, 42, 27, 28, 159, 0, 7, 4, 167, 0, 4]
abbrev dktX4_way_0 : List UInt8 := dkwX4_way_0 ++ dktX4_way_1
theorem dksX4_way_0 : cX4_way.data.toList.drop 0 = dktX4_way_0 := by decide +kernel
theorem dksX4_way_1 : cX4_way.data.toList.drop 24 = dktX4_way_1 := dk_seg dksX4_way_0 24 rfl rfl
theorem dksX4_way_2 : cX4_way.data.toList.drop 47 = dktX4_way_2 := dk_seg dksX4_way_1 23 rfl rfl
theorem dX4_way_0 : decode cX4_way 0 = .ok (.aload_n 0, 1) := dk_42 (dk_at dksX4_way_0 0 rfl rfl)
theorem dX4_way_1 : decode cX4_way 1 = .ok (.iconst 0, 1) := dk_3 (dk_at dksX4_way_0 1 rfl rfl)
theorem dX4_way_2 : decode cX4_way 2 = .ok (.iconst 5, 1) := dk_8 (dk_at dksX4_way_0 2 rfl rfl)
theorem dX4_way_3 : decode cX4_way 3 = .ok (.invokevirtual 105, 3) := dk_182 0 105 (dk_at dksX4_way_0 3 rfl rfl)
theorem dX4_way_6 : decode cX4_way 6 = .ok (.istore_n 1, 1) := dk_60 (dk_at dksX4_way_0 6 rfl rfl)
theorem dX4_way_7 : decode cX4_way 7 = .ok (.aload_n 0, 1) := dk_42 (dk_at dksX4_way_0 7 rfl rfl)
theorem dX4_way_8 : decode cX4_way 8 = .ok (.iconst 0, 1) := dk_3 (dk_at dksX4_way_0 8 rfl rfl)
theorem dX4_way_9 : decode cX4_way 9 = .ok (.iconst 5, 1) := dk_8 (dk_at dksX4_way_0 9 rfl rfl)
theorem dX4_way_10 : decode cX4_way 10 = .ok (.invokevirtual 105, 3) := dk_182 0 105 (dk_at dksX4_way_0 10 rfl rfl)
theorem dX4_way_13 : decode cX4_way 13 = .ok (.istore_n 2, 1) := dk_61 (dk_at dksX4_way_0 13 rfl rfl)
theorem dX4_way_14 : decode cX4_way 14 = .ok (.aload_n 0, 1) := dk_42 (dk_at dksX4_way_0 14 rfl rfl)
theorem dX4_way_15 : decode cX4_way 15 = .ok (.iload_n 1, 1) := dk_27 (dk_at dksX4_way_0 15 rfl rfl)
theorem dX4_way_16 : decode cX4_way 16 = .ok (.iload_n 2, 1) := dk_28 (dk_at dksX4_way_0 16 rfl rfl)
theorem dX4_way_17 : decode cX4_way 17 = .ok (.if_icmp .eq 7, 3) := dk_159 0 7 (dk_at dksX4_way_0 17 rfl rfl)
theorem dX4_way_20 : decode cX4_way 20 = .ok (.iconst 1, 1) := dk_4 (dk_at dksX4_way_0 20 rfl rfl)
theorem dX4_way_21 : decode cX4_way 21 = .ok (.goto 4, 3) := dk_167 0 4 (dk_at dksX4_way_0 21 rfl rfl)
theorem dX4_way_24 : decode cX4_way 24 = .ok (.iconst 0, 1) := dk_3 (dk_at dksX4_way_1 0 rfl rfl)
theorem dX4_way_25 : decode cX4_way 25 = .ok (.invokevirtual 90, 3) := dk_182 0 90 (dk_at dksX4_way_1 1 rfl rfl)
theorem dX4_way_28 : decode cX4_way 28 = .ok (.iconst 4, 1) := dk_7 (dk_at dksX4_way_1 4 rfl rfl)
theorem dX4_way_29 : decode cX4_way 29 = .ok (.newarray .int, 2) := dk_188_10 (dk_at dksX4_way_1 5 rfl rfl)
theorem dX4_way_31 : decode cX4_way 31 = .ok (.dup, 1) := dk_89 (dk_at dksX4_way_1 7 rfl rfl)
theorem dX4_way_32 : decode cX4_way 32 = .ok (.iconst 0, 1) := dk_3 (dk_at dksX4_way_1 8 rfl rfl)
theorem dX4_way_33 : decode cX4_way 33 = .ok (.iconst 4, 1) := dk_7 (dk_at dksX4_way_1 9 rfl rfl)
theorem dX4_way_34 : decode cX4_way 34 = .ok (.iastore, 1) := dk_79 (dk_at dksX4_way_1 10 rfl rfl)
theorem dX4_way_35 : decode cX4_way 35 = .ok (.dup, 1) := dk_89 (dk_at dksX4_way_1 11 rfl rfl)
theorem dX4_way_36 : decode cX4_way 36 = .ok (.iconst 1, 1) := dk_4 (dk_at dksX4_way_1 12 rfl rfl)
theorem dX4_way_37 : decode cX4_way 37 = .ok (.iload_n 1, 1) := dk_27 (dk_at dksX4_way_1 13 rfl rfl)
theorem dX4_way_38 : decode cX4_way 38 = .ok (.iastore, 1) := dk_79 (dk_at dksX4_way_1 14 rfl rfl)
theorem dX4_way_39 : decode cX4_way 39 = .ok (.dup, 1) := dk_89 (dk_at dksX4_way_1 15 rfl rfl)
theorem dX4_way_40 : decode cX4_way 40 = .ok (.iconst 2, 1) := dk_5 (dk_at dksX4_way_1 16 rfl rfl)
theorem dX4_way_41 : decode cX4_way 41 = .ok (.iload_n 2, 1) := dk_28 (dk_at dksX4_way_1 17 rfl rfl)
theorem dX4_way_42 : decode cX4_way 42 = .ok (.iastore, 1) := dk_79 (dk_at dksX4_way_1 18 rfl rfl)
theorem dX4_way_43 : decode cX4_way 43 = .ok (.dup, 1) := dk_89 (dk_at dksX4_way_1 19 rfl rfl)
theorem dX4_way_44 : decode cX4_way 44 = .ok (.iconst 3, 1) := dk_6 (dk_at dksX4_way_1 20 rfl rfl)
theorem dX4_way_45 : decode cX4_way 45 = .ok (.aload_n 0, 1) := dk_42 (dk_at dksX4_way_1 21 rfl rfl)
theorem dX4_way_46 : decode cX4_way 46 = .ok (.iconst 0, 1) := dk_3 (dk_at dksX4_way_1 22 rfl rfl)
theorem dX4_way_47 : decode cX4_way 47 = .ok (.sipush 200, 3) := dk_17 0 200 (dk_at dksX4_way_2 0 rfl rfl)
theorem dX4_way_50 : decode cX4_way 50 = .ok (.invokevirtual 105, 3) := dk_182 0 105 (dk_at dksX4_way_2 3 rfl rfl)
theorem dX4_way_53 : decode cX4_way 53 = .ok (.iastore, 1) := dk_79 (dk_at dksX4_way_2 6 rfl rfl)
theorem dX4_way_54 : decode cX4_way 54 = .ok (.astore_n 3, 1) := dk_78 (dk_at dksX4_way_2 7 rfl rfl)
theorem dX4_way_55 : decode cX4_way 55 = .ok (.aload_n 0, 1) := dk_42 (dk_at dksX4_way_2 8 rfl rfl)
theorem dX4_way_56 : decode cX4_way 56 = .ok (.invokevirtual 73, 3) := dk_182 0 73 (dk_at dksX4_way_2 9 rfl rfl)
theorem dX4_way_59 : decode cX4_way 59 = .ok (.aload_n 3, 1) := dk_45 (dk_at dksX4_way_2 12 rfl rfl)
theorem dX4_way_60 : decode cX4_way 60 = .ok (.areturn, 1) := dk_176 (dk_at dksX4_way_2 13 rfl rfl)
abbrev cX4_call : ByteArray := prog_4_method_9_code
def yX4_call : MethodName := ⟨RX4, "call", "()[I"⟩
def dkwX4_call_3 : List UInt8 := [182, 0, 105, 79, 89, 16, 7, 42, 3, 16, 99, 182, 0, 105, 79, 58, 4, 42, 182, 0, 73, 25, 4, 176]
abbrev dktX4_call_3 : List UInt8 := dkwX4_call_3 ++ []
def dkwX4_call_2 : List UInt8 := [17, 5, 159, 182, 0, 105, 79, 89, 8, 42, 3, 16, 99, 182, 0, 105, 79, 89, 16, 6, 42, 3, 16, 99]
abbrev dktX4_call_2 : List UInt8 := dkwX4_call_2 ++ dktX4_call_3
def dkwX4_call_1 : List UInt8 := [16, 8, 188, 10, 89, 3, 8, 79, 89, 4, 27, 79, 89, 5, 28, 79, 89, 6, 29, 79, 89, 7, 42, 29]
abbrev dktX4_call_1 : List UInt8 := dkwX4_call_1 ++ dktX4_call_2
def dkwX4_call_0 : List UInt8 := [42, 3, 8, 182, 0, 105, 60, 42, 4, 8, 182, 0, 105, 61, 42, 3, 17, 5, 159, 182, 0, 105, 62]
abbrev dktX4_call_0 : List UInt8 := dkwX4_call_0 ++ dktX4_call_1
theorem dksX4_call_0 : cX4_call.data.toList.drop 0 = dktX4_call_0 := by decide +kernel
theorem dksX4_call_1 : cX4_call.data.toList.drop 23 = dktX4_call_1 := dk_seg dksX4_call_0 23 rfl rfl
theorem dksX4_call_2 : cX4_call.data.toList.drop 47 = dktX4_call_2 := dk_seg dksX4_call_1 24 rfl rfl
theorem dksX4_call_3 : cX4_call.data.toList.drop 71 = dktX4_call_3 := dk_seg dksX4_call_2 24 rfl rfl
theorem dX4_call_0 : decode cX4_call 0 = .ok (.aload_n 0, 1) := dk_42 (dk_at dksX4_call_0 0 rfl rfl)
theorem dX4_call_1 : decode cX4_call 1 = .ok (.iconst 0, 1) := dk_3 (dk_at dksX4_call_0 1 rfl rfl)
theorem dX4_call_2 : decode cX4_call 2 = .ok (.iconst 5, 1) := dk_8 (dk_at dksX4_call_0 2 rfl rfl)
theorem dX4_call_3 : decode cX4_call 3 = .ok (.invokevirtual 105, 3) := dk_182 0 105 (dk_at dksX4_call_0 3 rfl rfl)
theorem dX4_call_6 : decode cX4_call 6 = .ok (.istore_n 1, 1) := dk_60 (dk_at dksX4_call_0 6 rfl rfl)
theorem dX4_call_7 : decode cX4_call 7 = .ok (.aload_n 0, 1) := dk_42 (dk_at dksX4_call_0 7 rfl rfl)
theorem dX4_call_8 : decode cX4_call 8 = .ok (.iconst 1, 1) := dk_4 (dk_at dksX4_call_0 8 rfl rfl)
theorem dX4_call_9 : decode cX4_call 9 = .ok (.iconst 5, 1) := dk_8 (dk_at dksX4_call_0 9 rfl rfl)
theorem dX4_call_10 : decode cX4_call 10 = .ok (.invokevirtual 105, 3) := dk_182 0 105 (dk_at dksX4_call_0 10 rfl rfl)
theorem dX4_call_13 : decode cX4_call 13 = .ok (.istore_n 2, 1) := dk_61 (dk_at dksX4_call_0 13 rfl rfl)
theorem dX4_call_14 : decode cX4_call 14 = .ok (.aload_n 0, 1) := dk_42 (dk_at dksX4_call_0 14 rfl rfl)
theorem dX4_call_15 : decode cX4_call 15 = .ok (.iconst 0, 1) := dk_3 (dk_at dksX4_call_0 15 rfl rfl)
theorem dX4_call_16 : decode cX4_call 16 = .ok (.sipush 1439, 3) := dk_17 5 159 (dk_at dksX4_call_0 16 rfl rfl)
theorem dX4_call_19 : decode cX4_call 19 = .ok (.invokevirtual 105, 3) := dk_182 0 105 (dk_at dksX4_call_0 19 rfl rfl)
theorem dX4_call_22 : decode cX4_call 22 = .ok (.istore_n 3, 1) := dk_62 (dk_at dksX4_call_0 22 rfl rfl)
theorem dX4_call_23 : decode cX4_call 23 = .ok (.bipush 8, 2) := dk_16 8 (dk_at dksX4_call_1 0 rfl rfl)
theorem dX4_call_25 : decode cX4_call 25 = .ok (.newarray .int, 2) := dk_188_10 (dk_at dksX4_call_1 2 rfl rfl)
theorem dX4_call_27 : decode cX4_call 27 = .ok (.dup, 1) := dk_89 (dk_at dksX4_call_1 4 rfl rfl)
theorem dX4_call_28 : decode cX4_call 28 = .ok (.iconst 0, 1) := dk_3 (dk_at dksX4_call_1 5 rfl rfl)
theorem dX4_call_29 : decode cX4_call 29 = .ok (.iconst 5, 1) := dk_8 (dk_at dksX4_call_1 6 rfl rfl)
theorem dX4_call_30 : decode cX4_call 30 = .ok (.iastore, 1) := dk_79 (dk_at dksX4_call_1 7 rfl rfl)
theorem dX4_call_31 : decode cX4_call 31 = .ok (.dup, 1) := dk_89 (dk_at dksX4_call_1 8 rfl rfl)
theorem dX4_call_32 : decode cX4_call 32 = .ok (.iconst 1, 1) := dk_4 (dk_at dksX4_call_1 9 rfl rfl)
theorem dX4_call_33 : decode cX4_call 33 = .ok (.iload_n 1, 1) := dk_27 (dk_at dksX4_call_1 10 rfl rfl)
theorem dX4_call_34 : decode cX4_call 34 = .ok (.iastore, 1) := dk_79 (dk_at dksX4_call_1 11 rfl rfl)
theorem dX4_call_35 : decode cX4_call 35 = .ok (.dup, 1) := dk_89 (dk_at dksX4_call_1 12 rfl rfl)
theorem dX4_call_36 : decode cX4_call 36 = .ok (.iconst 2, 1) := dk_5 (dk_at dksX4_call_1 13 rfl rfl)
theorem dX4_call_37 : decode cX4_call 37 = .ok (.iload_n 2, 1) := dk_28 (dk_at dksX4_call_1 14 rfl rfl)
theorem dX4_call_38 : decode cX4_call 38 = .ok (.iastore, 1) := dk_79 (dk_at dksX4_call_1 15 rfl rfl)
theorem dX4_call_39 : decode cX4_call 39 = .ok (.dup, 1) := dk_89 (dk_at dksX4_call_1 16 rfl rfl)
theorem dX4_call_40 : decode cX4_call 40 = .ok (.iconst 3, 1) := dk_6 (dk_at dksX4_call_1 17 rfl rfl)
theorem dX4_call_41 : decode cX4_call 41 = .ok (.iload_n 3, 1) := dk_29 (dk_at dksX4_call_1 18 rfl rfl)
theorem dX4_call_42 : decode cX4_call 42 = .ok (.iastore, 1) := dk_79 (dk_at dksX4_call_1 19 rfl rfl)
theorem dX4_call_43 : decode cX4_call 43 = .ok (.dup, 1) := dk_89 (dk_at dksX4_call_1 20 rfl rfl)
theorem dX4_call_44 : decode cX4_call 44 = .ok (.iconst 4, 1) := dk_7 (dk_at dksX4_call_1 21 rfl rfl)
theorem dX4_call_45 : decode cX4_call 45 = .ok (.aload_n 0, 1) := dk_42 (dk_at dksX4_call_1 22 rfl rfl)
theorem dX4_call_46 : decode cX4_call 46 = .ok (.iload_n 3, 1) := dk_29 (dk_at dksX4_call_1 23 rfl rfl)
theorem dX4_call_47 : decode cX4_call 47 = .ok (.sipush 1439, 3) := dk_17 5 159 (dk_at dksX4_call_2 0 rfl rfl)
theorem dX4_call_50 : decode cX4_call 50 = .ok (.invokevirtual 105, 3) := dk_182 0 105 (dk_at dksX4_call_2 3 rfl rfl)
theorem dX4_call_53 : decode cX4_call 53 = .ok (.iastore, 1) := dk_79 (dk_at dksX4_call_2 6 rfl rfl)
theorem dX4_call_54 : decode cX4_call 54 = .ok (.dup, 1) := dk_89 (dk_at dksX4_call_2 7 rfl rfl)
theorem dX4_call_55 : decode cX4_call 55 = .ok (.iconst 5, 1) := dk_8 (dk_at dksX4_call_2 8 rfl rfl)
theorem dX4_call_56 : decode cX4_call 56 = .ok (.aload_n 0, 1) := dk_42 (dk_at dksX4_call_2 9 rfl rfl)
theorem dX4_call_57 : decode cX4_call 57 = .ok (.iconst 0, 1) := dk_3 (dk_at dksX4_call_2 10 rfl rfl)
theorem dX4_call_58 : decode cX4_call 58 = .ok (.bipush 99, 2) := dk_16 99 (dk_at dksX4_call_2 11 rfl rfl)
theorem dX4_call_60 : decode cX4_call 60 = .ok (.invokevirtual 105, 3) := dk_182 0 105 (dk_at dksX4_call_2 13 rfl rfl)
theorem dX4_call_63 : decode cX4_call 63 = .ok (.iastore, 1) := dk_79 (dk_at dksX4_call_2 16 rfl rfl)
theorem dX4_call_64 : decode cX4_call 64 = .ok (.dup, 1) := dk_89 (dk_at dksX4_call_2 17 rfl rfl)
theorem dX4_call_65 : decode cX4_call 65 = .ok (.bipush 6, 2) := dk_16 6 (dk_at dksX4_call_2 18 rfl rfl)
theorem dX4_call_67 : decode cX4_call 67 = .ok (.aload_n 0, 1) := dk_42 (dk_at dksX4_call_2 20 rfl rfl)
theorem dX4_call_68 : decode cX4_call 68 = .ok (.iconst 0, 1) := dk_3 (dk_at dksX4_call_2 21 rfl rfl)
theorem dX4_call_69 : decode cX4_call 69 = .ok (.bipush 99, 2) := dk_16 99 (dk_at dksX4_call_2 22 rfl rfl)
theorem dX4_call_71 : decode cX4_call 71 = .ok (.invokevirtual 105, 3) := dk_182 0 105 (dk_at dksX4_call_3 0 rfl rfl)
theorem dX4_call_74 : decode cX4_call 74 = .ok (.iastore, 1) := dk_79 (dk_at dksX4_call_3 3 rfl rfl)
theorem dX4_call_75 : decode cX4_call 75 = .ok (.dup, 1) := dk_89 (dk_at dksX4_call_3 4 rfl rfl)
theorem dX4_call_76 : decode cX4_call 76 = .ok (.bipush 7, 2) := dk_16 7 (dk_at dksX4_call_3 5 rfl rfl)
theorem dX4_call_78 : decode cX4_call 78 = .ok (.aload_n 0, 1) := dk_42 (dk_at dksX4_call_3 7 rfl rfl)
theorem dX4_call_79 : decode cX4_call 79 = .ok (.iconst 0, 1) := dk_3 (dk_at dksX4_call_3 8 rfl rfl)
theorem dX4_call_80 : decode cX4_call 80 = .ok (.bipush 99, 2) := dk_16 99 (dk_at dksX4_call_3 9 rfl rfl)
theorem dX4_call_82 : decode cX4_call 82 = .ok (.invokevirtual 105, 3) := dk_182 0 105 (dk_at dksX4_call_3 11 rfl rfl)
theorem dX4_call_85 : decode cX4_call 85 = .ok (.iastore, 1) := dk_79 (dk_at dksX4_call_3 14 rfl rfl)
theorem dX4_call_86 : decode cX4_call 86 = .ok (.astore 4, 2) := dk_58 4 (dk_at dksX4_call_3 15 rfl rfl)
theorem dX4_call_88 : decode cX4_call 88 = .ok (.aload_n 0, 1) := dk_42 (dk_at dksX4_call_3 17 rfl rfl)
theorem dX4_call_89 : decode cX4_call 89 = .ok (.invokevirtual 73, 3) := dk_182 0 73 (dk_at dksX4_call_3 18 rfl rfl)
theorem dX4_call_92 : decode cX4_call 92 = .ok (.aload 4, 2) := dk_25 4 (dk_at dksX4_call_3 21 rfl rfl)
theorem dX4_call_94 : decode cX4_call 94 = .ok (.areturn, 1) := dk_176 (dk_at dksX4_call_3 23 rfl rfl)
abbrev cX4_sort : ByteArray := prog_4_method_10_code
def yX4_sort : MethodName := ⟨RX4, "sort", "()[I"⟩
def dkwX4_sort_4 : List UInt8 := [43, 8, 42, 182, 0, 102, 79, 42, 182, 0, 73, 43, 176]
abbrev dktX4_sort_4 : List UInt8 := dkwX4_sort_4 ++ []
def dkwX4_sort_3 : List UInt8 := [182, 0, 102, 79, 42, 182, 0, 73, 42, 180, 0, 17, 18, 122, 182, 0, 111, 153, 0, 18, 42, 182, 0, 73]
abbrev dktX4_sort_3 : List UInt8 := dkwX4_sort_3 ++ dktX4_sort_4
def dkwX4_sort_2 : List UInt8 := [42, 182, 0, 73, 43, 7, 42, 180, 0, 17, 18, 120, 182, 0, 111, 153, 0, 7, 3, 167, 0, 7, 42]
abbrev dktX4_sort_2 : List UInt8 := dkwX4_sort_2 ++ dktX4_sort_3
def dkwX4_sort_1 : List UInt8 := [182, 0, 105, 79, 89, 6, 42, 3, 17, 0, 200, 182, 0, 105, 79, 89, 7, 3, 79, 89, 8, 3, 79, 76]
abbrev dktX4_sort_1 : List UInt8 := dkwX4_sort_1 ++ dktX4_sort_2
def dkwX4_sort_0 : List UInt8 := [16, 6, 188, 10, 89, 3, 16, 6, 79, 89, 4, 42, 3, 8, 182, 0, 105, 79, 89, 5, 42, 4, 16, 20]
abbrev dktX4_sort_0 : List UInt8 := dkwX4_sort_0 ++ dktX4_sort_1
theorem dksX4_sort_0 : cX4_sort.data.toList.drop 0 = dktX4_sort_0 := by decide +kernel
theorem dksX4_sort_1 : cX4_sort.data.toList.drop 24 = dktX4_sort_1 := dk_seg dksX4_sort_0 24 rfl rfl
theorem dksX4_sort_2 : cX4_sort.data.toList.drop 48 = dktX4_sort_2 := dk_seg dksX4_sort_1 24 rfl rfl
theorem dksX4_sort_3 : cX4_sort.data.toList.drop 71 = dktX4_sort_3 := dk_seg dksX4_sort_2 23 rfl rfl
theorem dksX4_sort_4 : cX4_sort.data.toList.drop 95 = dktX4_sort_4 := dk_seg dksX4_sort_3 24 rfl rfl
theorem dX4_sort_0 : decode cX4_sort 0 = .ok (.bipush 6, 2) := dk_16 6 (dk_at dksX4_sort_0 0 rfl rfl)
theorem dX4_sort_2 : decode cX4_sort 2 = .ok (.newarray .int, 2) := dk_188_10 (dk_at dksX4_sort_0 2 rfl rfl)
theorem dX4_sort_4 : decode cX4_sort 4 = .ok (.dup, 1) := dk_89 (dk_at dksX4_sort_0 4 rfl rfl)
theorem dX4_sort_5 : decode cX4_sort 5 = .ok (.iconst 0, 1) := dk_3 (dk_at dksX4_sort_0 5 rfl rfl)
theorem dX4_sort_6 : decode cX4_sort 6 = .ok (.bipush 6, 2) := dk_16 6 (dk_at dksX4_sort_0 6 rfl rfl)
theorem dX4_sort_8 : decode cX4_sort 8 = .ok (.iastore, 1) := dk_79 (dk_at dksX4_sort_0 8 rfl rfl)
theorem dX4_sort_9 : decode cX4_sort 9 = .ok (.dup, 1) := dk_89 (dk_at dksX4_sort_0 9 rfl rfl)
theorem dX4_sort_10 : decode cX4_sort 10 = .ok (.iconst 1, 1) := dk_4 (dk_at dksX4_sort_0 10 rfl rfl)
theorem dX4_sort_11 : decode cX4_sort 11 = .ok (.aload_n 0, 1) := dk_42 (dk_at dksX4_sort_0 11 rfl rfl)
theorem dX4_sort_12 : decode cX4_sort 12 = .ok (.iconst 0, 1) := dk_3 (dk_at dksX4_sort_0 12 rfl rfl)
theorem dX4_sort_13 : decode cX4_sort 13 = .ok (.iconst 5, 1) := dk_8 (dk_at dksX4_sort_0 13 rfl rfl)
theorem dX4_sort_14 : decode cX4_sort 14 = .ok (.invokevirtual 105, 3) := dk_182 0 105 (dk_at dksX4_sort_0 14 rfl rfl)
theorem dX4_sort_17 : decode cX4_sort 17 = .ok (.iastore, 1) := dk_79 (dk_at dksX4_sort_0 17 rfl rfl)
theorem dX4_sort_18 : decode cX4_sort 18 = .ok (.dup, 1) := dk_89 (dk_at dksX4_sort_0 18 rfl rfl)
theorem dX4_sort_19 : decode cX4_sort 19 = .ok (.iconst 2, 1) := dk_5 (dk_at dksX4_sort_0 19 rfl rfl)
theorem dX4_sort_20 : decode cX4_sort 20 = .ok (.aload_n 0, 1) := dk_42 (dk_at dksX4_sort_0 20 rfl rfl)
theorem dX4_sort_21 : decode cX4_sort 21 = .ok (.iconst 1, 1) := dk_4 (dk_at dksX4_sort_0 21 rfl rfl)
theorem dX4_sort_22 : decode cX4_sort 22 = .ok (.bipush 20, 2) := dk_16 20 (dk_at dksX4_sort_0 22 rfl rfl)
theorem dX4_sort_24 : decode cX4_sort 24 = .ok (.invokevirtual 105, 3) := dk_182 0 105 (dk_at dksX4_sort_1 0 rfl rfl)
theorem dX4_sort_27 : decode cX4_sort 27 = .ok (.iastore, 1) := dk_79 (dk_at dksX4_sort_1 3 rfl rfl)
theorem dX4_sort_28 : decode cX4_sort 28 = .ok (.dup, 1) := dk_89 (dk_at dksX4_sort_1 4 rfl rfl)
theorem dX4_sort_29 : decode cX4_sort 29 = .ok (.iconst 3, 1) := dk_6 (dk_at dksX4_sort_1 5 rfl rfl)
theorem dX4_sort_30 : decode cX4_sort 30 = .ok (.aload_n 0, 1) := dk_42 (dk_at dksX4_sort_1 6 rfl rfl)
theorem dX4_sort_31 : decode cX4_sort 31 = .ok (.iconst 0, 1) := dk_3 (dk_at dksX4_sort_1 7 rfl rfl)
theorem dX4_sort_32 : decode cX4_sort 32 = .ok (.sipush 200, 3) := dk_17 0 200 (dk_at dksX4_sort_1 8 rfl rfl)
theorem dX4_sort_35 : decode cX4_sort 35 = .ok (.invokevirtual 105, 3) := dk_182 0 105 (dk_at dksX4_sort_1 11 rfl rfl)
theorem dX4_sort_38 : decode cX4_sort 38 = .ok (.iastore, 1) := dk_79 (dk_at dksX4_sort_1 14 rfl rfl)
theorem dX4_sort_39 : decode cX4_sort 39 = .ok (.dup, 1) := dk_89 (dk_at dksX4_sort_1 15 rfl rfl)
theorem dX4_sort_40 : decode cX4_sort 40 = .ok (.iconst 4, 1) := dk_7 (dk_at dksX4_sort_1 16 rfl rfl)
theorem dX4_sort_41 : decode cX4_sort 41 = .ok (.iconst 0, 1) := dk_3 (dk_at dksX4_sort_1 17 rfl rfl)
theorem dX4_sort_42 : decode cX4_sort 42 = .ok (.iastore, 1) := dk_79 (dk_at dksX4_sort_1 18 rfl rfl)
theorem dX4_sort_43 : decode cX4_sort 43 = .ok (.dup, 1) := dk_89 (dk_at dksX4_sort_1 19 rfl rfl)
theorem dX4_sort_44 : decode cX4_sort 44 = .ok (.iconst 5, 1) := dk_8 (dk_at dksX4_sort_1 20 rfl rfl)
theorem dX4_sort_45 : decode cX4_sort 45 = .ok (.iconst 0, 1) := dk_3 (dk_at dksX4_sort_1 21 rfl rfl)
theorem dX4_sort_46 : decode cX4_sort 46 = .ok (.iastore, 1) := dk_79 (dk_at dksX4_sort_1 22 rfl rfl)
theorem dX4_sort_47 : decode cX4_sort 47 = .ok (.astore_n 1, 1) := dk_76 (dk_at dksX4_sort_1 23 rfl rfl)
theorem dX4_sort_48 : decode cX4_sort 48 = .ok (.aload_n 0, 1) := dk_42 (dk_at dksX4_sort_2 0 rfl rfl)
theorem dX4_sort_49 : decode cX4_sort 49 = .ok (.invokevirtual 73, 3) := dk_182 0 73 (dk_at dksX4_sort_2 1 rfl rfl)
theorem dX4_sort_52 : decode cX4_sort 52 = .ok (.aload_n 1, 1) := dk_43 (dk_at dksX4_sort_2 4 rfl rfl)
theorem dX4_sort_53 : decode cX4_sort 53 = .ok (.iconst 4, 1) := dk_7 (dk_at dksX4_sort_2 5 rfl rfl)
theorem dX4_sort_54 : decode cX4_sort 54 = .ok (.aload_n 0, 1) := dk_42 (dk_at dksX4_sort_2 6 rfl rfl)
theorem dX4_sort_55 : decode cX4_sort 55 = .ok (.getfield 17, 3) := dk_180 0 17 (dk_at dksX4_sort_2 7 rfl rfl)
theorem dX4_sort_58 : decode cX4_sort 58 = .ok (.ldc 120, 2) := dk_18 120 (dk_at dksX4_sort_2 10 rfl rfl)
theorem dX4_sort_60 : decode cX4_sort 60 = .ok (.invokevirtual 111, 3) := dk_182 0 111 (dk_at dksX4_sort_2 12 rfl rfl)
theorem dX4_sort_63 : decode cX4_sort 63 = .ok (.ifCond .eq 7, 3) := dk_153 0 7 (dk_at dksX4_sort_2 15 rfl rfl)
theorem dX4_sort_66 : decode cX4_sort 66 = .ok (.iconst 0, 1) := dk_3 (dk_at dksX4_sort_2 18 rfl rfl)
theorem dX4_sort_67 : decode cX4_sort 67 = .ok (.goto 7, 3) := dk_167 0 7 (dk_at dksX4_sort_2 19 rfl rfl)
theorem dX4_sort_70 : decode cX4_sort 70 = .ok (.aload_n 0, 1) := dk_42 (dk_at dksX4_sort_2 22 rfl rfl)
theorem dX4_sort_71 : decode cX4_sort 71 = .ok (.invokevirtual 102, 3) := dk_182 0 102 (dk_at dksX4_sort_3 0 rfl rfl)
theorem dX4_sort_74 : decode cX4_sort 74 = .ok (.iastore, 1) := dk_79 (dk_at dksX4_sort_3 3 rfl rfl)
theorem dX4_sort_75 : decode cX4_sort 75 = .ok (.aload_n 0, 1) := dk_42 (dk_at dksX4_sort_3 4 rfl rfl)
theorem dX4_sort_76 : decode cX4_sort 76 = .ok (.invokevirtual 73, 3) := dk_182 0 73 (dk_at dksX4_sort_3 5 rfl rfl)
theorem dX4_sort_79 : decode cX4_sort 79 = .ok (.aload_n 0, 1) := dk_42 (dk_at dksX4_sort_3 8 rfl rfl)
theorem dX4_sort_80 : decode cX4_sort 80 = .ok (.getfield 17, 3) := dk_180 0 17 (dk_at dksX4_sort_3 9 rfl rfl)
theorem dX4_sort_83 : decode cX4_sort 83 = .ok (.ldc 122, 2) := dk_18 122 (dk_at dksX4_sort_3 12 rfl rfl)
theorem dX4_sort_85 : decode cX4_sort 85 = .ok (.invokevirtual 111, 3) := dk_182 0 111 (dk_at dksX4_sort_3 14 rfl rfl)
theorem dX4_sort_88 : decode cX4_sort 88 = .ok (.ifCond .eq 18, 3) := dk_153 0 18 (dk_at dksX4_sort_3 17 rfl rfl)
theorem dX4_sort_91 : decode cX4_sort 91 = .ok (.aload_n 0, 1) := dk_42 (dk_at dksX4_sort_3 20 rfl rfl)
theorem dX4_sort_92 : decode cX4_sort 92 = .ok (.invokevirtual 73, 3) := dk_182 0 73 (dk_at dksX4_sort_3 21 rfl rfl)
theorem dX4_sort_95 : decode cX4_sort 95 = .ok (.aload_n 1, 1) := dk_43 (dk_at dksX4_sort_4 0 rfl rfl)
theorem dX4_sort_96 : decode cX4_sort 96 = .ok (.iconst 5, 1) := dk_8 (dk_at dksX4_sort_4 1 rfl rfl)
theorem dX4_sort_97 : decode cX4_sort 97 = .ok (.aload_n 0, 1) := dk_42 (dk_at dksX4_sort_4 2 rfl rfl)
theorem dX4_sort_98 : decode cX4_sort 98 = .ok (.invokevirtual 102, 3) := dk_182 0 102 (dk_at dksX4_sort_4 3 rfl rfl)
theorem dX4_sort_101 : decode cX4_sort 101 = .ok (.iastore, 1) := dk_79 (dk_at dksX4_sort_4 6 rfl rfl)
theorem dX4_sort_102 : decode cX4_sort 102 = .ok (.aload_n 0, 1) := dk_42 (dk_at dksX4_sort_4 7 rfl rfl)
theorem dX4_sort_103 : decode cX4_sort 103 = .ok (.invokevirtual 73, 3) := dk_182 0 73 (dk_at dksX4_sort_4 8 rfl rfl)
theorem dX4_sort_106 : decode cX4_sort 106 = .ok (.aload_n 1, 1) := dk_43 (dk_at dksX4_sort_4 11 rfl rfl)
theorem dX4_sort_107 : decode cX4_sort 107 = .ok (.areturn, 1) := dk_176 (dk_at dksX4_sort_4 12 rfl rfl)
theorem q84 : (Jvm.Cond.initialized "CarryUp$Reader") ∈ lw_all := lw_g (lw_at lw_m1 8 rfl) rfl
theorem q219 : (Jvm.Cond.fieldLinkNest "CarryUp$Reader" (46 : Nat) "CarryUp" "text" "[B" "CarryUp") ∈ lw_tbl := lw_at lw_m1 143 rfl
theorem q221 : (Jvm.Cond.fieldLinkNest "CarryUp$Reader" (43 : Nat) "CarryUp" "bytes" "I" "CarryUp") ∈ lw_tbl := lw_at lw_m1 145 rfl
theorem q267 : (Jvm.Cond.instantiable "CarryUp$Reader" (6 : Nat)) ∈ lw_all := lw_g (lw_at lw_m1 191 rfl) rfl
theorem q269 : (Jvm.Cond.instanceMethod ({ cls := "CarryUp$Reader", name := "<init>", desc := "(LCarryUp;)V" } : Jvm.MethodName)) ∈ lw_all := lw_g (lw_at lw_m1 193 rfl) rfl
theorem q270 : (Jvm.Cond.code ({ cls := "CarryUp$Reader", name := "<init>", desc := "(LCarryUp;)V" } : Jvm.MethodName) prog_4_method_1_code (2 : Nat) (Option.none : Option Jvm.ClassFile.FieldType)) ∈ lw_all := lw_g (lw_at lw_m1 194 rfl) rfl
theorem q271 : (Jvm.Cond.methodLink "CarryUp$Reader" (9 : Nat) ({ cls := "java/lang/Object", name := "<init>", desc := "()V" } : Jvm.MethodName)) ∈ lw_all := lw_g (lw_at lw_m1 195 rfl) rfl
theorem q272 : (Jvm.Cond.stringRef "CarryUp$Reader" (15 : Nat) "") ∈ lw_tbl := lw_at lw_m1 196 rfl
theorem q273 : (Jvm.Cond.classLink "CarryUp$Reader" (21 : Nat) "[I") ∈ lw_all := lw_g (lw_at lw_m1 197 rfl) rfl
theorem q275 : (Jvm.Cond.fieldLink "CarryUp$Reader" (39 : Nat) "CarryUp$Reader" "at" "I") ∈ lw_all := lw_g (lw_at lw_m1 199 rfl) rfl
theorem q276 : (Jvm.Cond.fieldLink "CarryUp$Reader" (50 : Nat) "CarryUp$Reader" "first" "I") ∈ lw_all := lw_g (lw_at lw_m1 200 rfl) rfl
theorem q277 : (Jvm.Cond.fieldLink "CarryUp$Reader" (17 : Nat) "CarryUp$Reader" "word" "Ljava/lang/String;") ∈ lw_all := lw_g (lw_at lw_m1 201 rfl) rfl
theorem q278 : (Jvm.Cond.fieldLink "CarryUp$Reader" (23 : Nat) "CarryUp$Reader" "told" "[[I") ∈ lw_all := lw_g (lw_at lw_m1 202 rfl) rfl
theorem q280 : (Jvm.Cond.fieldLink "CarryUp$Reader" (141 : Nat) "CarryUp$Reader" "many" "I") ∈ lw_all := lw_g (lw_at lw_m1 204 rfl) rfl
theorem q282 : (Jvm.Cond.fieldLink "CarryUp$Reader" (3 : Nat) "CarryUp$Reader" "this$0" "LCarryUp;") ∈ lw_all := lw_g (lw_at lw_m1 206 rfl) rfl
theorem q283 : (Jvm.Cond.lays "CarryUp$Reader" "CarryUp$Reader" "at" "I") ∈ lw_all := lw_g (lw_at lw_m1 207 rfl) rfl
theorem q284 : (Jvm.Cond.soleField "CarryUp$Reader" "at") ∈ lw_all := lw_g (lw_at lw_m1 208 rfl) rfl
theorem q285 : (Jvm.Cond.lays "CarryUp$Reader" "CarryUp$Reader" "first" "I") ∈ lw_all := lw_g (lw_at lw_m1 209 rfl) rfl
theorem q286 : (Jvm.Cond.soleField "CarryUp$Reader" "first") ∈ lw_all := lw_g (lw_at lw_m1 210 rfl) rfl
theorem q287 : (Jvm.Cond.lays "CarryUp$Reader" "CarryUp$Reader" "word" "Ljava/lang/String;") ∈ lw_all := lw_g (lw_at lw_m1 211 rfl) rfl
theorem q288 : (Jvm.Cond.soleField "CarryUp$Reader" "word") ∈ lw_all := lw_g (lw_at lw_m1 212 rfl) rfl
theorem q289 : (Jvm.Cond.laysFinal "CarryUp$Reader" "CarryUp$Reader" "told" "[[I") ∈ lw_all := lw_g (lw_at lw_m1 213 rfl) rfl
theorem q290 : (Jvm.Cond.soleField "CarryUp$Reader" "told") ∈ lw_all := lw_g (lw_at lw_m1 214 rfl) rfl
theorem q291 : (Jvm.Cond.lays "CarryUp$Reader" "CarryUp$Reader" "many" "I") ∈ lw_all := lw_g (lw_at lw_m1 215 rfl) rfl
theorem q292 : (Jvm.Cond.soleField "CarryUp$Reader" "many") ∈ lw_all := lw_g (lw_at lw_m1 216 rfl) rfl
theorem q293 : (Jvm.Cond.laysFinal "CarryUp$Reader" "CarryUp$Reader" "this$0" "LCarryUp;") ∈ lw_all := lw_g (lw_at lw_m1 217 rfl) rfl
theorem q294 : (Jvm.Cond.soleField "CarryUp$Reader" "this$0") ∈ lw_all := lw_g (lw_at lw_m1 218 rfl) rfl
theorem q295 : (Jvm.Cond.superclass "CarryUp$Reader" "java/lang/Object") ∈ lw_all := lw_g (lw_at lw_m1 219 rfl) rfl
theorem q297 : (Jvm.Cond.instanceMethod ({ cls := "CarryUp$Reader", name := "read", desc := "()LCarryUp$Reader;" } : Jvm.MethodName)) ∈ lw_all := lw_g (lw_at lw_m1 221 rfl) rfl
theorem q298 : (Jvm.Cond.selects "CarryUp$Reader" ({ cls := "CarryUp$Reader", name := "read", desc := "()LCarryUp$Reader;" } : Jvm.MethodName) ({ cls := "CarryUp$Reader", name := "read", desc := "()LCarryUp$Reader;" } : Jvm.MethodName)) ∈ lw_all := lw_g (lw_at lw_m1 222 rfl) rfl
theorem q299 : (Jvm.Cond.code ({ cls := "CarryUp$Reader", name := "read", desc := "()LCarryUp$Reader;" } : Jvm.MethodName) prog_4_method_12_code (2 : Nat) (Option.some (Jvm.ClassFile.FieldType.object "CarryUp$Reader"))) ∈ lw_all := lw_g (lw_at lw_m1 223 rfl) rfl
theorem q300 : (Jvm.Cond.methodLink "CarryUp$Reader" (144 : Nat) ({ cls := "CarryUp$Reader", name := "line", desc := "()[I" } : Jvm.MethodName)) ∈ lw_all := lw_g (lw_at lw_m1 224 rfl) rfl
theorem q301 : (Jvm.Cond.privateMethod ({ cls := "CarryUp$Reader", name := "line", desc := "()[I" } : Jvm.MethodName)) ∈ lw_tbl := lw_at lw_m1 225 rfl
theorem q302 : (Jvm.Cond.instanceMethod ({ cls := "CarryUp$Reader", name := "line", desc := "()[I" } : Jvm.MethodName)) ∈ lw_all := lw_g (lw_at lw_m1 226 rfl) rfl
theorem q303 : (Jvm.Cond.code ({ cls := "CarryUp$Reader", name := "line", desc := "()[I" } : Jvm.MethodName) prog_4_method_11_code (3 : Nat) (Option.some (Jvm.ClassFile.FieldType.array Jvm.ClassFile.FieldType.int))) ∈ lw_all := lw_g (lw_at lw_m1 227 rfl) rfl
theorem q304 : (Jvm.Cond.methodLink "CarryUp$Reader" (73 : Nat) ({ cls := "CarryUp$Reader", name := "take", desc := "()V" } : Jvm.MethodName)) ∈ lw_all := lw_g (lw_at lw_m1 228 rfl) rfl
theorem q305 : (Jvm.Cond.privateMethod ({ cls := "CarryUp$Reader", name := "take", desc := "()V" } : Jvm.MethodName)) ∈ lw_tbl := lw_at lw_m1 229 rfl
theorem q306 : (Jvm.Cond.instanceMethod ({ cls := "CarryUp$Reader", name := "take", desc := "()V" } : Jvm.MethodName)) ∈ lw_all := lw_g (lw_at lw_m1 230 rfl) rfl
theorem q307 : (Jvm.Cond.code ({ cls := "CarryUp$Reader", name := "take", desc := "()V" } : Jvm.MethodName) prog_4_method_3_code (3 : Nat) (Option.none : Option Jvm.ClassFile.FieldType)) ∈ lw_all := lw_g (lw_at lw_m1 231 rfl) rfl
theorem q308 : (Jvm.Cond.methodLink "CarryUp$Reader" (53 : Nat) ({ cls := "CarryUp$Reader", name := "kindOf", desc := "(I)I" } : Jvm.MethodName)) ∈ lw_all := lw_g (lw_at lw_m1 232 rfl) rfl
theorem q309 : (Jvm.Cond.privateMethod ({ cls := "CarryUp$Reader", name := "kindOf", desc := "(I)I" } : Jvm.MethodName)) ∈ lw_tbl := lw_at lw_m1 233 rfl
theorem q310 : (Jvm.Cond.instanceMethod ({ cls := "CarryUp$Reader", name := "kindOf", desc := "(I)I" } : Jvm.MethodName)) ∈ lw_all := lw_g (lw_at lw_m1 234 rfl) rfl
theorem q311 : (Jvm.Cond.code ({ cls := "CarryUp$Reader", name := "kindOf", desc := "(I)I" } : Jvm.MethodName) prog_4_method_2_code (2 : Nat) (Option.some Jvm.ClassFile.FieldType.int)) ∈ lw_all := lw_g (lw_at lw_m1 235 rfl) rfl
theorem q312 : (Jvm.Cond.constantLong "CarryUp$Reader" (27 : Nat) (97 : Int64)) ∈ lw_all := lw_g (lw_at lw_m1 236 rfl) rfl
theorem q313 : (Jvm.Cond.constantLong "CarryUp$Reader" (29 : Nat) (122 : Int64)) ∈ lw_all := lw_g (lw_at lw_m1 237 rfl) rfl
theorem q314 : (Jvm.Cond.methodLinkNest "CarryUp$Reader" (31 : Nat) ({ cls := "CarryUp", name := "in", desc := "(JJJ)Z" } : Jvm.MethodName) "CarryUp") ∈ lw_tbl := lw_at lw_m1 238 rfl
theorem q315 : (Jvm.Cond.constantLong "CarryUp$Reader" (35 : Nat) (48 : Int64)) ∈ lw_all := lw_g (lw_at lw_m1 239 rfl) rfl
theorem q316 : (Jvm.Cond.constantLong "CarryUp$Reader" (37 : Nat) (57 : Int64)) ∈ lw_all := lw_g (lw_at lw_m2 0 rfl) rfl
theorem q317 : (Jvm.Cond.classLink "CarryUp$Reader" (57 : Nat) "java/lang/StringBuilder") ∈ lw_all := lw_g (lw_at lw_m2 1 rfl) rfl
theorem q319 : (Jvm.Cond.methodLink "CarryUp$Reader" (59 : Nat) ({ cls := "java/lang/StringBuilder", name := "<init>", desc := "()V" } : Jvm.MethodName)) ∈ lw_all := lw_g (lw_at lw_m2 3 rfl) rfl
theorem q348 : (Jvm.Cond.methodLink "CarryUp$Reader" (60 : Nat) ({ cls := "java/lang/StringBuilder", name := "append", desc := "(C)Ljava/lang/StringBuilder;" } : Jvm.MethodName)) ∈ lw_all := lw_g (lw_at lw_m2 32 rfl) rfl
theorem q443 : (Jvm.Cond.methodLink "CarryUp$Reader" (64 : Nat) ({ cls := "java/lang/StringBuilder", name := "toString", desc := "()Ljava/lang/String;" } : Jvm.MethodName)) ∈ lw_all := lw_g (lw_at lw_m2 127 rfl) rfl
theorem q504 : (Jvm.Cond.fieldLinkNest "CarryUp$Reader" (124 : Nat) "CarryUp" "WORDS" "[Ljava/lang/String;" "CarryUp") ∈ lw_tbl := lw_at lw_m2 188 rfl
theorem q506 : (Jvm.Cond.methodLink "CarryUp$Reader" (111 : Nat) ({ cls := "java/lang/String", name := "equals", desc := "(Ljava/lang/Object;)Z" } : Jvm.MethodName)) ∈ lw_all := lw_g (lw_at lw_m2 190 rfl) rfl
theorem q514 : (Jvm.Cond.methodLink "CarryUp$Reader" (90 : Nat) ({ cls := "CarryUp$Reader", name := "want", desc := "(Z)V" } : Jvm.MethodName)) ∈ lw_all := lw_g (lw_at lw_m2 198 rfl) rfl
theorem q515 : (Jvm.Cond.privateMethod ({ cls := "CarryUp$Reader", name := "want", desc := "(Z)V" } : Jvm.MethodName)) ∈ lw_tbl := lw_at lw_m2 199 rfl
theorem q516 : (Jvm.Cond.instanceMethod ({ cls := "CarryUp$Reader", name := "want", desc := "(Z)V" } : Jvm.MethodName)) ∈ lw_all := lw_g (lw_at lw_m2 200 rfl) rfl
theorem q517 : (Jvm.Cond.code ({ cls := "CarryUp$Reader", name := "want", desc := "(Z)V" } : Jvm.MethodName) prog_4_method_4_code (2 : Nat) (Option.none : Option Jvm.ClassFile.FieldType)) ∈ lw_all := lw_g (lw_at lw_m2 201 rfl) rfl
theorem q518 : (Jvm.Cond.classLink "CarryUp$Reader" (68 : Nat) "CarryUp$Fault") ∈ lw_all := lw_g (lw_at lw_m2 202 rfl) rfl
theorem q555 : (Jvm.Cond.methodLink "CarryUp$Reader" (70 : Nat) ({ cls := "CarryUp$Fault", name := "<init>", desc := "(I)V" } : Jvm.MethodName)) ∈ lw_all := lw_g (lw_at lw_m2 239 rfl) rfl
theorem q581 : (Jvm.Cond.methodLink "CarryUp$Reader" (128 : Nat) ({ cls := "CarryUp$Reader", name := "thing", desc := "()[I" } : Jvm.MethodName)) ∈ lw_all := lw_g (lw_at lw_m3 25 rfl) rfl
theorem q582 : (Jvm.Cond.privateMethod ({ cls := "CarryUp$Reader", name := "thing", desc := "()[I" } : Jvm.MethodName)) ∈ lw_tbl := lw_at lw_m3 26 rfl
theorem q583 : (Jvm.Cond.instanceMethod ({ cls := "CarryUp$Reader", name := "thing", desc := "()[I" } : Jvm.MethodName)) ∈ lw_all := lw_g (lw_at lw_m3 27 rfl) rfl
theorem q584 : (Jvm.Cond.code ({ cls := "CarryUp$Reader", name := "thing", desc := "()[I" } : Jvm.MethodName) prog_4_method_7_code (5 : Nat) (Option.some (Jvm.ClassFile.FieldType.array Jvm.ClassFile.FieldType.int))) ∈ lw_all := lw_g (lw_at lw_m3 28 rfl) rfl
theorem q585 : (Jvm.Cond.methodLink "CarryUp$Reader" (102 : Nat) ({ cls := "CarryUp$Reader", name := "set", desc := "()I" } : Jvm.MethodName)) ∈ lw_all := lw_g (lw_at lw_m3 29 rfl) rfl
theorem q586 : (Jvm.Cond.privateMethod ({ cls := "CarryUp$Reader", name := "set", desc := "()I" } : Jvm.MethodName)) ∈ lw_tbl := lw_at lw_m3 30 rfl
theorem q587 : (Jvm.Cond.instanceMethod ({ cls := "CarryUp$Reader", name := "set", desc := "()I" } : Jvm.MethodName)) ∈ lw_all := lw_g (lw_at lw_m3 31 rfl) rfl
theorem q588 : (Jvm.Cond.code ({ cls := "CarryUp$Reader", name := "set", desc := "()I" } : Jvm.MethodName) prog_4_method_6_code (4 : Nat) (Option.some Jvm.ClassFile.FieldType.int)) ∈ lw_all := lw_g (lw_at lw_m3 32 rfl) rfl
theorem q589 : (Jvm.Cond.methodLink "CarryUp$Reader" (76 : Nat) ({ cls := "java/lang/String", name := "isEmpty", desc := "()Z" } : Jvm.MethodName)) ∈ lw_all := lw_g (lw_at lw_m3 33 rfl) rfl
theorem q593 : (Jvm.Cond.methodLink "CarryUp$Reader" (86 : Nat) ({ cls := "java/lang/String", name := "length", desc := "()I" } : Jvm.MethodName)) ∈ lw_all := lw_g (lw_at lw_m3 37 rfl) rfl
theorem q601 : (Jvm.Cond.methodLink "CarryUp$Reader" (82 : Nat) ({ cls := "java/lang/String", name := "charAt", desc := "(I)C" } : Jvm.MethodName)) ∈ lw_all := lw_g (lw_at lw_m3 45 rfl) rfl
theorem q616 : (Jvm.Cond.constantLong "CarryUp$Reader" (100 : Nat) (7 : Int64)) ∈ lw_all := lw_g (lw_at lw_m3 60 rfl) rfl
theorem q617 : (Jvm.Cond.methodLink "CarryUp$Reader" (105 : Nat) ({ cls := "CarryUp$Reader", name := "number", desc := "(II)I" } : Jvm.MethodName)) ∈ lw_all := lw_g (lw_at lw_m3 61 rfl) rfl
theorem q618 : (Jvm.Cond.privateMethod ({ cls := "CarryUp$Reader", name := "number", desc := "(II)I" } : Jvm.MethodName)) ∈ lw_tbl := lw_at lw_m3 62 rfl
theorem q619 : (Jvm.Cond.instanceMethod ({ cls := "CarryUp$Reader", name := "number", desc := "(II)I" } : Jvm.MethodName)) ∈ lw_all := lw_g (lw_at lw_m3 63 rfl) rfl
theorem q620 : (Jvm.Cond.code ({ cls := "CarryUp$Reader", name := "number", desc := "(II)I" } : Jvm.MethodName) prog_4_method_5_code (4 : Nat) (Option.some Jvm.ClassFile.FieldType.int)) ∈ lw_all := lw_g (lw_at lw_m3 64 rfl) rfl
theorem q621 : (Jvm.Cond.methodLink "CarryUp$Reader" (94 : Nat) ({ cls := "java/lang/Integer", name := "parseInt", desc := "(Ljava/lang/String;)I" } : Jvm.MethodName)) ∈ lw_all := lw_g (lw_at lw_m3 65 rfl) rfl
theorem q650 : (Jvm.Cond.stringRef "CarryUp$Reader" (109 : Nat) "part") ∈ lw_tbl := lw_at lw_m3 94 rfl
theorem q651 : (Jvm.Cond.stringRef "CarryUp$Reader" (115 : Nat) "tool") ∈ lw_tbl := lw_at lw_m3 95 rfl
theorem q652 : (Jvm.Cond.methodLink "CarryUp$Reader" (117 : Nat) ({ cls := "java/lang/Integer", name := "numberOfTrailingZeros", desc := "(I)I" } : Jvm.MethodName)) ∈ lw_all := lw_g (lw_at lw_m3 96 rfl) rfl
theorem q656 : (Jvm.Cond.methodLink "CarryUp$Reader" (132 : Nat) ({ cls := "CarryUp$Reader", name := "way", desc := "()[I" } : Jvm.MethodName)) ∈ lw_all := lw_g (lw_at lw_m3 100 rfl) rfl
theorem q657 : (Jvm.Cond.privateMethod ({ cls := "CarryUp$Reader", name := "way", desc := "()[I" } : Jvm.MethodName)) ∈ lw_tbl := lw_at lw_m3 101 rfl
theorem q658 : (Jvm.Cond.instanceMethod ({ cls := "CarryUp$Reader", name := "way", desc := "()[I" } : Jvm.MethodName)) ∈ lw_all := lw_g (lw_at lw_m3 102 rfl) rfl
theorem q659 : (Jvm.Cond.code ({ cls := "CarryUp$Reader", name := "way", desc := "()[I" } : Jvm.MethodName) prog_4_method_8_code (4 : Nat) (Option.some (Jvm.ClassFile.FieldType.array Jvm.ClassFile.FieldType.int))) ∈ lw_all := lw_g (lw_at lw_m3 103 rfl) rfl
theorem q660 : (Jvm.Cond.methodLink "CarryUp$Reader" (135 : Nat) ({ cls := "CarryUp$Reader", name := "call", desc := "()[I" } : Jvm.MethodName)) ∈ lw_all := lw_g (lw_at lw_m3 104 rfl) rfl
theorem q661 : (Jvm.Cond.privateMethod ({ cls := "CarryUp$Reader", name := "call", desc := "()[I" } : Jvm.MethodName)) ∈ lw_tbl := lw_at lw_m3 105 rfl
theorem q662 : (Jvm.Cond.instanceMethod ({ cls := "CarryUp$Reader", name := "call", desc := "()[I" } : Jvm.MethodName)) ∈ lw_all := lw_g (lw_at lw_m3 106 rfl) rfl
theorem q663 : (Jvm.Cond.code ({ cls := "CarryUp$Reader", name := "call", desc := "()[I" } : Jvm.MethodName) prog_4_method_9_code (5 : Nat) (Option.some (Jvm.ClassFile.FieldType.array Jvm.ClassFile.FieldType.int))) ∈ lw_all := lw_g (lw_at lw_m3 107 rfl) rfl
theorem q664 : (Jvm.Cond.methodLink "CarryUp$Reader" (138 : Nat) ({ cls := "CarryUp$Reader", name := "sort", desc := "()[I" } : Jvm.MethodName)) ∈ lw_all := lw_g (lw_at lw_m3 108 rfl) rfl
theorem q665 : (Jvm.Cond.privateMethod ({ cls := "CarryUp$Reader", name := "sort", desc := "()[I" } : Jvm.MethodName)) ∈ lw_tbl := lw_at lw_m3 109 rfl
theorem q666 : (Jvm.Cond.instanceMethod ({ cls := "CarryUp$Reader", name := "sort", desc := "()[I" } : Jvm.MethodName)) ∈ lw_all := lw_g (lw_at lw_m3 110 rfl) rfl
theorem q667 : (Jvm.Cond.code ({ cls := "CarryUp$Reader", name := "sort", desc := "()[I" } : Jvm.MethodName) prog_4_method_10_code (2 : Nat) (Option.some (Jvm.ClassFile.FieldType.array Jvm.ClassFile.FieldType.int))) ∈ lw_all := lw_g (lw_at lw_m3 111 rfl) rfl
theorem q668 : (Jvm.Cond.stringRef "CarryUp$Reader" (120 : Nat) "none") ∈ lw_tbl := lw_at lw_m3 112 rfl
theorem q669 : (Jvm.Cond.stringRef "CarryUp$Reader" (122 : Nat) "or") ∈ lw_tbl := lw_at lw_m3 113 rfl
theorem q670 : (Jvm.Cond.stringRef "CarryUp$Reader" (147 : Nat) ";") ∈ lw_tbl := lw_at lw_m3 114 rfl
theorem q784 : (Jvm.Cond.selects "CarryUp$Reader" ({ cls := "java/lang/Object", name := "getClass", desc := "()Ljava/lang/Class;" } : Jvm.MethodName) ({ cls := "java/lang/Object", name := "getClass", desc := "()Ljava/lang/Class;" } : Jvm.MethodName)) ∈ lw_all := lw_g (lw_at lw_m3 228 rfl) rfl
theorem q1558 : (Jvm.Cond.castable "CarryUp$Reader" "java/lang/Object") ∈ lw_tbl := lw_at lw_m7 42 rfl
theorem in_X4 : ∀ w ∈ wsX40, w ∈ lw_all := lw_in wsX40 [283, 285, 287, 289, 291, 293] (by decide +kernel) (by decide +kernel)
/-! CarryUp$Fault -/
set_option maxRecDepth 100000
def RX5 : String := "CarryUp$Fault"
def TX5 : u_T := fun k => match k with
  | 0 => ("java/lang/Throwable", "cause", "Ljava/lang/Throwable;", false)
  | 1 => ("java/lang/Throwable", "stackTrace", "[Ljava/lang/StackTraceElement;", false)
  | 2 => ("java/lang/Throwable", "suppressedExceptions", "Ljava/util/List;", false)
  | 3 => ("java/lang/Throwable", "detailMessage", "Ljava/lang/String;", false)
  | 4 => ("java/lang/Throwable", "backtrace", "Ljava/lang/Object;", false)
  | 5 => ("java/lang/Throwable", "depth", "I", false)
  | _ => ("CarryUp$Fault", "at", "I", true)
def tyX5 : Nat → FieldType := fun k => match k with
  | 0 => .object "java/lang/Throwable"
  | 1 => .array (.object "java/lang/StackTraceElement")
  | 2 => .object "java/util/List"
  | 3 => .object "java/lang/String"
  | 4 => .object "java/lang/Object"
  | 5 => .int
  | _ => .int
abbrev wsX50 : List Cond := u_ws RX5 TX5 7
theorem nmX5 : ∀ a, a < 7 → ∀ b, b < 7 → a ≠ b → (TX5 a).2.1 ≠ (TX5 b).2.1 := by decide +kernel
theorem tyX5_ok : ∀ k, k < 7 → parseFieldDescriptor (TX5 k).2.2.1 = some (tyX5 k) := by decide +kernel
abbrev cX5_init : ByteArray := prog_3_method_1_code
def yX5_init : MethodName := ⟨RX5, "<init>", "(I)V"⟩
def dkwX5_init_0 : List UInt8 := [42, 1, 1, 3, 3, 183, 0, 1, 42, 27, 181, 0, 7, 177]
abbrev dktX5_init_0 : List UInt8 := dkwX5_init_0 ++ []
theorem dksX5_init_0 : cX5_init.data.toList.drop 0 = dktX5_init_0 := by decide +kernel
theorem dX5_init_0 : decode cX5_init 0 = .ok (.aload_n 0, 1) := dk_42 (dk_at dksX5_init_0 0 rfl rfl)
theorem dX5_init_1 : decode cX5_init 1 = .ok (.aconst_null, 1) := dk_1 (dk_at dksX5_init_0 1 rfl rfl)
theorem dX5_init_2 : decode cX5_init 2 = .ok (.aconst_null, 1) := dk_1 (dk_at dksX5_init_0 2 rfl rfl)
theorem dX5_init_3 : decode cX5_init 3 = .ok (.iconst 0, 1) := dk_3 (dk_at dksX5_init_0 3 rfl rfl)
theorem dX5_init_4 : decode cX5_init 4 = .ok (.iconst 0, 1) := dk_3 (dk_at dksX5_init_0 4 rfl rfl)
theorem dX5_init_5 : decode cX5_init 5 = .ok (.invokespecial 1, 3) := dk_183 0 1 (dk_at dksX5_init_0 5 rfl rfl)
theorem dX5_init_8 : decode cX5_init 8 = .ok (.aload_n 0, 1) := dk_42 (dk_at dksX5_init_0 8 rfl rfl)
theorem dX5_init_9 : decode cX5_init 9 = .ok (.iload_n 1, 1) := dk_27 (dk_at dksX5_init_0 9 rfl rfl)
theorem dX5_init_10 : decode cX5_init 10 = .ok (.putfield 7, 3) := dk_181 0 7 (dk_at dksX5_init_0 10 rfl rfl)
theorem dX5_init_13 : decode cX5_init 13 = .ok (.return_, 1) := dk_177 (dk_at dksX5_init_0 13 rfl rfl)
theorem q97 : (Jvm.Cond.initialized "CarryUp$Fault") ∈ lw_all := lw_g (lw_at lw_m1 21 rfl) rfl
theorem q519 : (Jvm.Cond.instantiable "CarryUp$Fault" (7 : Nat)) ∈ lw_all := lw_g (lw_at lw_m2 203 rfl) rfl
theorem q520 : (Jvm.Cond.castable "CarryUp$Fault" "CarryUp$Fault") ∈ lw_tbl := lw_at lw_m2 204 rfl
theorem q525 : (Jvm.Cond.selects "CarryUp$Fault" ({ cls := "java/lang/Throwable", name := "fillInStackTrace", desc := "(I)Ljava/lang/Throwable;" } : Jvm.MethodName) ({ cls := "java/lang/Throwable", name := "fillInStackTrace", desc := "(I)Ljava/lang/Throwable;" } : Jvm.MethodName)) ∈ lw_all := lw_g (lw_at lw_m2 209 rfl) rfl
theorem q526 : (Jvm.Cond.selects "CarryUp$Fault" ({ cls := "java/lang/Throwable", name := "fillInStackTrace", desc := "()Ljava/lang/Throwable;" } : Jvm.MethodName) ({ cls := "java/lang/Throwable", name := "fillInStackTrace", desc := "()Ljava/lang/Throwable;" } : Jvm.MethodName)) ∈ lw_all := lw_g (lw_at lw_m2 210 rfl) rfl
theorem q527 : (Jvm.Cond.lays "CarryUp$Fault" "java/lang/Throwable" "cause" "Ljava/lang/Throwable;") ∈ lw_all := lw_g (lw_at lw_m2 211 rfl) rfl
theorem q529 : (Jvm.Cond.lays "CarryUp$Fault" "java/lang/Throwable" "stackTrace" "[Ljava/lang/StackTraceElement;") ∈ lw_all := lw_g (lw_at lw_m2 213 rfl) rfl
theorem q531 : (Jvm.Cond.lays "CarryUp$Fault" "java/lang/Throwable" "suppressedExceptions" "Ljava/util/List;") ∈ lw_all := lw_g (lw_at lw_m2 215 rfl) rfl
theorem q533 : (Jvm.Cond.lays "CarryUp$Fault" "java/lang/Throwable" "detailMessage" "Ljava/lang/String;") ∈ lw_all := lw_g (lw_at lw_m2 217 rfl) rfl
theorem q535 : (Jvm.Cond.lays "CarryUp$Fault" "java/lang/Throwable" "backtrace" "Ljava/lang/Object;") ∈ lw_all := lw_g (lw_at lw_m2 219 rfl) rfl
theorem q556 : (Jvm.Cond.instanceMethod ({ cls := "CarryUp$Fault", name := "<init>", desc := "(I)V" } : Jvm.MethodName)) ∈ lw_all := lw_g (lw_at lw_m3 0 rfl) rfl
theorem q557 : (Jvm.Cond.code ({ cls := "CarryUp$Fault", name := "<init>", desc := "(I)V" } : Jvm.MethodName) prog_3_method_1_code (2 : Nat) (Option.none : Option Jvm.ClassFile.FieldType)) ∈ lw_all := lw_g (lw_at lw_m3 1 rfl) rfl
theorem q558 : (Jvm.Cond.methodLink "CarryUp$Fault" (1 : Nat) ({ cls := "java/lang/Exception", name := "<init>", desc := "(Ljava/lang/String;Ljava/lang/Throwable;ZZ)V" } : Jvm.MethodName)) ∈ lw_all := lw_g (lw_at lw_m3 2 rfl) rfl
theorem q564 : (Jvm.Cond.fieldLink "CarryUp$Fault" (7 : Nat) "CarryUp$Fault" "at" "I") ∈ lw_all := lw_g (lw_at lw_m3 8 rfl) rfl
theorem q571 : (Jvm.Cond.laysFinal "CarryUp$Fault" "CarryUp$Fault" "at" "I") ∈ lw_all := lw_g (lw_at lw_m3 15 rfl) rfl
theorem q572 : (Jvm.Cond.soleField "CarryUp$Fault" "at") ∈ lw_all := lw_g (lw_at lw_m3 16 rfl) rfl
theorem q577 : (Jvm.Cond.lays "CarryUp$Fault" "java/lang/Throwable" "depth" "I") ∈ lw_all := lw_g (lw_at lw_m3 21 rfl) rfl
theorem q580 : (Jvm.Cond.superclass "CarryUp$Fault" "java/lang/Exception") ∈ lw_all := lw_g (lw_at lw_m3 24 rfl) rfl
theorem q783 : (Jvm.Cond.selects "CarryUp$Fault" ({ cls := "java/lang/Object", name := "getClass", desc := "()Ljava/lang/Class;" } : Jvm.MethodName) ({ cls := "java/lang/Object", name := "getClass", desc := "()Ljava/lang/Class;" } : Jvm.MethodName)) ∈ lw_all := lw_g (lw_at lw_m3 227 rfl) rfl
theorem q1560 : (Jvm.Cond.castable "CarryUp$Fault" "java/lang/Object") ∈ lw_tbl := lw_at lw_m7 44 rfl
theorem in_X5 : ∀ w ∈ wsX50, w ∈ lw_all := lw_in wsX50 [527, 529, 531, 533, 535, 577, 571] (by decide +kernel) (by decide +kernel)
/-! CarryUp$Tool -/
set_option maxRecDepth 100000
def RX6 : String := "CarryUp$Tool"
def TX6 : u_T := fun k => match k with
  | 0 => ("CarryUp$Thing", "weight", "I", true)
  | _ => ("CarryUp$Thing", "price", "I", true)
def tyX6 : Nat → FieldType := fun k => match k with
  | 0 => .int
  | _ => .int
abbrev wsX60 : List Cond := u_ws RX6 TX6 2
theorem nmX6 : ∀ a, a < 2 → ∀ b, b < 2 → a ≠ b → (TX6 a).2.1 ≠ (TX6 b).2.1 := by decide +kernel
theorem tyX6_ok : ∀ k, k < 2 → parseFieldDescriptor (TX6 k).2.2.1 = some (tyX6 k) := by decide +kernel
abbrev cX6_init : ByteArray := prog_7_method_1_code
def yX6_init : MethodName := ⟨RX6, "<init>", "(II)V"⟩
def dkwX6_init_0 : List UInt8 := [42, 27, 28, 183, 0, 1, 177]
abbrev dktX6_init_0 : List UInt8 := dkwX6_init_0 ++ []
theorem dksX6_init_0 : cX6_init.data.toList.drop 0 = dktX6_init_0 := by decide +kernel
theorem dX6_init_0 : decode cX6_init 0 = .ok (.aload_n 0, 1) := dk_42 (dk_at dksX6_init_0 0 rfl rfl)
theorem dX6_init_1 : decode cX6_init 1 = .ok (.iload_n 1, 1) := dk_27 (dk_at dksX6_init_0 1 rfl rfl)
theorem dX6_init_2 : decode cX6_init 2 = .ok (.iload_n 2, 1) := dk_28 (dk_at dksX6_init_0 2 rfl rfl)
theorem dX6_init_3 : decode cX6_init 3 = .ok (.invokespecial 1, 3) := dk_183 0 1 (dk_at dksX6_init_0 3 rfl rfl)
theorem dX6_init_6 : decode cX6_init 6 = .ok (.return_, 1) := dk_177 (dk_at dksX6_init_0 6 rfl rfl)
abbrev cX6_isUsed : ByteArray := prog_7_method_2_code
def yX6_isUsed : MethodName := ⟨RX6, "isUsed", "()Z"⟩
def dkwX6_isUsed_0 : List UInt8 := [42, 183, 0, 7, 154, 0, 7, 4, 167, 0, 4, 3, 172]
abbrev dktX6_isUsed_0 : List UInt8 := dkwX6_isUsed_0 ++ []
theorem dksX6_isUsed_0 : cX6_isUsed.data.toList.drop 0 = dktX6_isUsed_0 := by decide +kernel
theorem dX6_isUsed_0 : decode cX6_isUsed 0 = .ok (.aload_n 0, 1) := dk_42 (dk_at dksX6_isUsed_0 0 rfl rfl)
theorem dX6_isUsed_1 : decode cX6_isUsed 1 = .ok (.invokespecial 7, 3) := dk_183 0 7 (dk_at dksX6_isUsed_0 1 rfl rfl)
theorem dX6_isUsed_4 : decode cX6_isUsed 4 = .ok (.ifCond .ne 7, 3) := dk_154 0 7 (dk_at dksX6_isUsed_0 4 rfl rfl)
theorem dX6_isUsed_7 : decode cX6_isUsed 7 = .ok (.iconst 1, 1) := dk_4 (dk_at dksX6_isUsed_0 7 rfl rfl)
theorem dX6_isUsed_8 : decode cX6_isUsed 8 = .ok (.goto 4, 3) := dk_167 0 4 (dk_at dksX6_isUsed_0 8 rfl rfl)
theorem dX6_isUsed_11 : decode cX6_isUsed 11 = .ok (.iconst 0, 1) := dk_3 (dk_at dksX6_isUsed_0 11 rfl rfl)
theorem dX6_isUsed_12 : decode cX6_isUsed 12 = .ok (.ireturn, 1) := dk_172 (dk_at dksX6_isUsed_0 12 rfl rfl)
theorem q103 : (Jvm.Cond.initialized "CarryUp$Tool") ∈ lw_all := lw_g (lw_at lw_m1 27 rfl) rfl
theorem q681 : (Jvm.Cond.instantiable "CarryUp$Tool" (2 : Nat)) ∈ lw_all := lw_g (lw_at lw_m3 125 rfl) rfl
theorem q683 : (Jvm.Cond.instanceMethod ({ cls := "CarryUp$Tool", name := "<init>", desc := "(II)V" } : Jvm.MethodName)) ∈ lw_all := lw_g (lw_at lw_m3 127 rfl) rfl
theorem q684 : (Jvm.Cond.code ({ cls := "CarryUp$Tool", name := "<init>", desc := "(II)V" } : Jvm.MethodName) prog_7_method_1_code (3 : Nat) (Option.none : Option Jvm.ClassFile.FieldType)) ∈ lw_all := lw_g (lw_at lw_m3 128 rfl) rfl
theorem q685 : (Jvm.Cond.methodLink "CarryUp$Tool" (1 : Nat) ({ cls := "CarryUp$Thing", name := "<init>", desc := "(II)V" } : Jvm.MethodName)) ∈ lw_all := lw_g (lw_at lw_m3 129 rfl) rfl
theorem q686 : (Jvm.Cond.laysFinal "CarryUp$Tool" "CarryUp$Thing" "weight" "I") ∈ lw_all := lw_g (lw_at lw_m3 130 rfl) rfl
theorem q687 : (Jvm.Cond.laysFinal "CarryUp$Tool" "CarryUp$Thing" "price" "I") ∈ lw_all := lw_g (lw_at lw_m3 131 rfl) rfl
theorem q688 : (Jvm.Cond.superclass "CarryUp$Tool" "CarryUp$Thing") ∈ lw_all := lw_g (lw_at lw_m3 132 rfl) rfl
theorem q787 : (Jvm.Cond.selects "CarryUp$Tool" ({ cls := "java/lang/Object", name := "getClass", desc := "()Ljava/lang/Class;" } : Jvm.MethodName) ({ cls := "java/lang/Object", name := "getClass", desc := "()Ljava/lang/Class;" } : Jvm.MethodName)) ∈ lw_all := lw_g (lw_at lw_m3 231 rfl) rfl
theorem q819 : (Jvm.Cond.selects "CarryUp$Tool" ({ cls := "CarryUp$Thing", name := "isUsed", desc := "()Z" } : Jvm.MethodName) ({ cls := "CarryUp$Tool", name := "isUsed", desc := "()Z" } : Jvm.MethodName)) ∈ lw_all := lw_g (lw_at lw_m4 23 rfl) rfl
theorem q820 : (Jvm.Cond.instanceMethod ({ cls := "CarryUp$Tool", name := "isUsed", desc := "()Z" } : Jvm.MethodName)) ∈ lw_all := lw_g (lw_at lw_m4 24 rfl) rfl
theorem q821 : (Jvm.Cond.code ({ cls := "CarryUp$Tool", name := "isUsed", desc := "()Z" } : Jvm.MethodName) prog_7_method_2_code (1 : Nat) (Option.some Jvm.ClassFile.FieldType.boolean)) ∈ lw_all := lw_g (lw_at lw_m4 25 rfl) rfl
theorem q822 : (Jvm.Cond.methodLink "CarryUp$Tool" (7 : Nat) ({ cls := "CarryUp$Thing", name := "isUsed", desc := "()Z" } : Jvm.MethodName)) ∈ lw_all := lw_g (lw_at lw_m4 26 rfl) rfl
theorem q1548 : (Jvm.Cond.castable "CarryUp$Tool" "CarryUp$Thing") ∈ lw_tbl := lw_at lw_m7 32 rfl
theorem q1562 : (Jvm.Cond.castable "CarryUp$Tool" "java/lang/Object") ∈ lw_tbl := lw_at lw_m7 46 rfl
theorem in_X6 : ∀ w ∈ wsX60, w ∈ lw_all := lw_in wsX60 [686, 687] (by decide +kernel) (by decide +kernel)
/-! CarryUp$Call -/
set_option maxRecDepth 100000
def RX7 : String := "CarryUp$Call"
def TX7 : u_T := fun k => match k with
  | 0 => ("CarryUp$Call", "told", "[I", true)
  | 1 => ("CarryUp$Call", "sorts", "Ljava/util/ArrayList;", true)
  | _ => ("CarryUp$Call", "likely", "I", false)
def tyX7 : Nat → FieldType := fun k => match k with
  | 0 => .array .int
  | 1 => .object "java/util/ArrayList"
  | _ => .int
abbrev wsX70 : List Cond := u_ws RX7 TX7 3
theorem nmX7 : ∀ a, a < 3 → ∀ b, b < 3 → a ≠ b → (TX7 a).2.1 ≠ (TX7 b).2.1 := by decide +kernel
theorem tyX7_ok : ∀ k, k < 3 → parseFieldDescriptor (TX7 k).2.2.1 = some (tyX7 k) := by decide +kernel
abbrev cX7_init : ByteArray := prog_2_method_1_code
def yX7_init : MethodName := ⟨RX7, "<init>", "([I)V"⟩
def dkwX7_init_0 : List UInt8 := [42, 183, 0, 3, 42, 187, 0, 9, 89, 183, 0, 11, 181, 0, 12, 42, 43, 181, 0, 18, 177]
abbrev dktX7_init_0 : List UInt8 := dkwX7_init_0 ++ []
theorem dksX7_init_0 : cX7_init.data.toList.drop 0 = dktX7_init_0 := by decide +kernel
theorem dX7_init_0 : decode cX7_init 0 = .ok (.aload_n 0, 1) := dk_42 (dk_at dksX7_init_0 0 rfl rfl)
theorem dX7_init_1 : decode cX7_init 1 = .ok (.invokespecial 3, 3) := dk_183 0 3 (dk_at dksX7_init_0 1 rfl rfl)
theorem dX7_init_4 : decode cX7_init 4 = .ok (.aload_n 0, 1) := dk_42 (dk_at dksX7_init_0 4 rfl rfl)
theorem dX7_init_5 : decode cX7_init 5 = .ok (.new 9, 3) := dk_187 0 9 (dk_at dksX7_init_0 5 rfl rfl)
theorem dX7_init_8 : decode cX7_init 8 = .ok (.dup, 1) := dk_89 (dk_at dksX7_init_0 8 rfl rfl)
theorem dX7_init_9 : decode cX7_init 9 = .ok (.invokespecial 11, 3) := dk_183 0 11 (dk_at dksX7_init_0 9 rfl rfl)
theorem dX7_init_12 : decode cX7_init 12 = .ok (.putfield 12, 3) := dk_181 0 12 (dk_at dksX7_init_0 12 rfl rfl)
theorem dX7_init_15 : decode cX7_init 15 = .ok (.aload_n 0, 1) := dk_42 (dk_at dksX7_init_0 15 rfl rfl)
theorem dX7_init_16 : decode cX7_init 16 = .ok (.aload_n 1, 1) := dk_43 (dk_at dksX7_init_0 16 rfl rfl)
theorem dX7_init_17 : decode cX7_init 17 = .ok (.putfield 18, 3) := dk_181 0 18 (dk_at dksX7_init_0 17 rfl rfl)
theorem dX7_init_20 : decode cX7_init 20 = .ok (.return_, 1) := dk_177 (dk_at dksX7_init_0 20 rfl rfl)
abbrev cX7_add : ByteArray := prog_2_method_6_code
def yX7_add : MethodName := ⟨RX7, "add", "(LCarryUp$Sort;)V"⟩
def dkwX7_add_1 : List UInt8 := [180, 0, 36, 43, 180, 0, 40, 96, 181, 0, 36, 177]
abbrev dktX7_add_1 : List UInt8 := dkwX7_add_1 ++ []
def dkwX7_add_0 : List UInt8 := [42, 180, 0, 12, 182, 0, 28, 7, 162, 0, 25, 42, 180, 0, 12, 43, 182, 0, 32, 87, 42, 89]
abbrev dktX7_add_0 : List UInt8 := dkwX7_add_0 ++ dktX7_add_1
theorem dksX7_add_0 : cX7_add.data.toList.drop 0 = dktX7_add_0 := by decide +kernel
theorem dksX7_add_1 : cX7_add.data.toList.drop 22 = dktX7_add_1 := dk_seg dksX7_add_0 22 rfl rfl
theorem dX7_add_0 : decode cX7_add 0 = .ok (.aload_n 0, 1) := dk_42 (dk_at dksX7_add_0 0 rfl rfl)
theorem dX7_add_1 : decode cX7_add 1 = .ok (.getfield 12, 3) := dk_180 0 12 (dk_at dksX7_add_0 1 rfl rfl)
theorem dX7_add_4 : decode cX7_add 4 = .ok (.invokevirtual 28, 3) := dk_182 0 28 (dk_at dksX7_add_0 4 rfl rfl)
theorem dX7_add_7 : decode cX7_add 7 = .ok (.iconst 4, 1) := dk_7 (dk_at dksX7_add_0 7 rfl rfl)
theorem dX7_add_8 : decode cX7_add 8 = .ok (.if_icmp .ge 25, 3) := dk_162 0 25 (dk_at dksX7_add_0 8 rfl rfl)
theorem dX7_add_11 : decode cX7_add 11 = .ok (.aload_n 0, 1) := dk_42 (dk_at dksX7_add_0 11 rfl rfl)
theorem dX7_add_12 : decode cX7_add 12 = .ok (.getfield 12, 3) := dk_180 0 12 (dk_at dksX7_add_0 12 rfl rfl)
theorem dX7_add_15 : decode cX7_add 15 = .ok (.aload_n 1, 1) := dk_43 (dk_at dksX7_add_0 15 rfl rfl)
theorem dX7_add_16 : decode cX7_add 16 = .ok (.invokevirtual 32, 3) := dk_182 0 32 (dk_at dksX7_add_0 16 rfl rfl)
theorem dX7_add_19 : decode cX7_add 19 = .ok (.pop, 1) := dk_87 (dk_at dksX7_add_0 19 rfl rfl)
theorem dX7_add_20 : decode cX7_add 20 = .ok (.aload_n 0, 1) := dk_42 (dk_at dksX7_add_0 20 rfl rfl)
theorem dX7_add_21 : decode cX7_add 21 = .ok (.dup, 1) := dk_89 (dk_at dksX7_add_0 21 rfl rfl)
theorem dX7_add_22 : decode cX7_add 22 = .ok (.getfield 36, 3) := dk_180 0 36 (dk_at dksX7_add_1 0 rfl rfl)
theorem dX7_add_25 : decode cX7_add 25 = .ok (.aload_n 1, 1) := dk_43 (dk_at dksX7_add_1 3 rfl rfl)
theorem dX7_add_26 : decode cX7_add 26 = .ok (.getfield 40, 3) := dk_180 0 40 (dk_at dksX7_add_1 4 rfl rfl)
theorem dX7_add_29 : decode cX7_add 29 = .ok (.iadd, 1) := dk_96 (dk_at dksX7_add_1 7 rfl rfl)
theorem dX7_add_30 : decode cX7_add 30 = .ok (.putfield 36, 3) := dk_181 0 36 (dk_at dksX7_add_1 8 rfl rfl)
theorem dX7_add_33 : decode cX7_add 33 = .ok (.return_, 1) := dk_177 (dk_at dksX7_add_1 11 rfl rfl)
abbrev cX7_place : ByteArray := prog_2_method_2_code
def yX7_place : MethodName := ⟨RX7, "place", "()I"⟩
def dkwX7_place_0 : List UInt8 := [42, 180, 0, 18, 3, 46, 172]
abbrev dktX7_place_0 : List UInt8 := dkwX7_place_0 ++ []
theorem dksX7_place_0 : cX7_place.data.toList.drop 0 = dktX7_place_0 := by decide +kernel
theorem dX7_place_0 : decode cX7_place 0 = .ok (.aload_n 0, 1) := dk_42 (dk_at dksX7_place_0 0 rfl rfl)
theorem dX7_place_1 : decode cX7_place 1 = .ok (.getfield 18, 3) := dk_180 0 18 (dk_at dksX7_place_0 1 rfl rfl)
theorem dX7_place_4 : decode cX7_place 4 = .ok (.iconst 0, 1) := dk_3 (dk_at dksX7_place_0 4 rfl rfl)
theorem dX7_place_5 : decode cX7_place 5 = .ok (.iaload, 1) := dk_46 (dk_at dksX7_place_0 5 rfl rfl)
theorem dX7_place_6 : decode cX7_place 6 = .ok (.ireturn, 1) := dk_172 (dk_at dksX7_place_0 6 rfl rfl)
abbrev cX7_begins : ByteArray := prog_2_method_5_code
def yX7_begins : MethodName := ⟨RX7, "begins", "(I)I"⟩
def dkwX7_begins_1 : List UInt8 := [172]
abbrev dktX7_begins_1 : List UInt8 := dkwX7_begins_1 ++ []
def dkwX7_begins_0 : List UInt8 := [27, 42, 180, 0, 18, 5, 46, 164, 0, 7, 2, 167, 0, 13, 27, 42, 180, 0, 18, 4, 46, 184, 0, 22]
abbrev dktX7_begins_0 : List UInt8 := dkwX7_begins_0 ++ dktX7_begins_1
theorem dksX7_begins_0 : cX7_begins.data.toList.drop 0 = dktX7_begins_0 := by decide +kernel
theorem dksX7_begins_1 : cX7_begins.data.toList.drop 24 = dktX7_begins_1 := dk_seg dksX7_begins_0 24 rfl rfl
theorem dX7_begins_0 : decode cX7_begins 0 = .ok (.iload_n 1, 1) := dk_27 (dk_at dksX7_begins_0 0 rfl rfl)
theorem dX7_begins_1 : decode cX7_begins 1 = .ok (.aload_n 0, 1) := dk_42 (dk_at dksX7_begins_0 1 rfl rfl)
theorem dX7_begins_2 : decode cX7_begins 2 = .ok (.getfield 18, 3) := dk_180 0 18 (dk_at dksX7_begins_0 2 rfl rfl)
theorem dX7_begins_5 : decode cX7_begins 5 = .ok (.iconst 2, 1) := dk_5 (dk_at dksX7_begins_0 5 rfl rfl)
theorem dX7_begins_6 : decode cX7_begins 6 = .ok (.iaload, 1) := dk_46 (dk_at dksX7_begins_0 6 rfl rfl)
theorem dX7_begins_7 : decode cX7_begins 7 = .ok (.if_icmp .le 7, 3) := dk_164 0 7 (dk_at dksX7_begins_0 7 rfl rfl)
theorem dX7_begins_10 : decode cX7_begins 10 = .ok (.iconst (-1), 1) := dk_2 (dk_at dksX7_begins_0 10 rfl rfl)
theorem dX7_begins_11 : decode cX7_begins 11 = .ok (.goto 13, 3) := dk_167 0 13 (dk_at dksX7_begins_0 11 rfl rfl)
theorem dX7_begins_14 : decode cX7_begins 14 = .ok (.iload_n 1, 1) := dk_27 (dk_at dksX7_begins_0 14 rfl rfl)
theorem dX7_begins_15 : decode cX7_begins 15 = .ok (.aload_n 0, 1) := dk_42 (dk_at dksX7_begins_0 15 rfl rfl)
theorem dX7_begins_16 : decode cX7_begins 16 = .ok (.getfield 18, 3) := dk_180 0 18 (dk_at dksX7_begins_0 16 rfl rfl)
theorem dX7_begins_19 : decode cX7_begins 19 = .ok (.iconst 1, 1) := dk_4 (dk_at dksX7_begins_0 19 rfl rfl)
theorem dX7_begins_20 : decode cX7_begins 20 = .ok (.iaload, 1) := dk_46 (dk_at dksX7_begins_0 20 rfl rfl)
theorem dX7_begins_21 : decode cX7_begins 21 = .ok (.invokestatic 22, 3) := dk_184 0 22 (dk_at dksX7_begins_0 21 rfl rfl)
theorem dX7_begins_24 : decode cX7_begins 24 = .ok (.ireturn, 1) := dk_172 (dk_at dksX7_begins_1 0 rfl rfl)
abbrev cX7_again : ByteArray := prog_2_method_4_code
def yX7_again : MethodName := ⟨RX7, "again", "()I"⟩
def dkwX7_again_0 : List UInt8 := [42, 180, 0, 18, 7, 46, 172]
abbrev dktX7_again_0 : List UInt8 := dkwX7_again_0 ++ []
theorem dksX7_again_0 : cX7_again.data.toList.drop 0 = dktX7_again_0 := by decide +kernel
theorem dX7_again_0 : decode cX7_again 0 = .ok (.aload_n 0, 1) := dk_42 (dk_at dksX7_again_0 0 rfl rfl)
theorem dX7_again_1 : decode cX7_again 1 = .ok (.getfield 18, 3) := dk_180 0 18 (dk_at dksX7_again_0 1 rfl rfl)
theorem dX7_again_4 : decode cX7_again 4 = .ok (.iconst 4, 1) := dk_7 (dk_at dksX7_again_0 4 rfl rfl)
theorem dX7_again_5 : decode cX7_again 5 = .ok (.iaload, 1) := dk_46 (dk_at dksX7_again_0 5 rfl rfl)
theorem dX7_again_6 : decode cX7_again 6 = .ok (.ireturn, 1) := dk_172 (dk_at dksX7_again_0 6 rfl rfl)
abbrev cX7_worth : ByteArray := prog_2_method_3_code
def yX7_worth : MethodName := ⟨RX7, "worth", "()I"⟩
def dkwX7_worth_0 : List UInt8 := [42, 180, 0, 18, 6, 46, 172]
abbrev dktX7_worth_0 : List UInt8 := dkwX7_worth_0 ++ []
theorem dksX7_worth_0 : cX7_worth.data.toList.drop 0 = dktX7_worth_0 := by decide +kernel
theorem dX7_worth_0 : decode cX7_worth 0 = .ok (.aload_n 0, 1) := dk_42 (dk_at dksX7_worth_0 0 rfl rfl)
theorem dX7_worth_1 : decode cX7_worth 1 = .ok (.getfield 18, 3) := dk_180 0 18 (dk_at dksX7_worth_0 1 rfl rfl)
theorem dX7_worth_4 : decode cX7_worth 4 = .ok (.iconst 3, 1) := dk_6 (dk_at dksX7_worth_0 4 rfl rfl)
theorem dX7_worth_5 : decode cX7_worth 5 = .ok (.iaload, 1) := dk_46 (dk_at dksX7_worth_0 5 rfl rfl)
theorem dX7_worth_6 : decode cX7_worth 6 = .ok (.ireturn, 1) := dk_172 (dk_at dksX7_worth_0 6 rfl rfl)
theorem q104 : (Jvm.Cond.initialized "CarryUp$Call") ∈ lw_all := lw_g (lw_at lw_m1 28 rfl) rfl
theorem q689 : (Jvm.Cond.instantiable "CarryUp$Call" (3 : Nat)) ∈ lw_all := lw_g (lw_at lw_m3 133 rfl) rfl
theorem q691 : (Jvm.Cond.instanceMethod ({ cls := "CarryUp$Call", name := "<init>", desc := "([I)V" } : Jvm.MethodName)) ∈ lw_all := lw_g (lw_at lw_m3 135 rfl) rfl
theorem q692 : (Jvm.Cond.code ({ cls := "CarryUp$Call", name := "<init>", desc := "([I)V" } : Jvm.MethodName) prog_2_method_1_code (2 : Nat) (Option.none : Option Jvm.ClassFile.FieldType)) ∈ lw_all := lw_g (lw_at lw_m3 136 rfl) rfl
theorem q693 : (Jvm.Cond.methodLink "CarryUp$Call" (3 : Nat) ({ cls := "java/lang/Object", name := "<init>", desc := "()V" } : Jvm.MethodName)) ∈ lw_all := lw_g (lw_at lw_m3 137 rfl) rfl
theorem q694 : (Jvm.Cond.classLink "CarryUp$Call" (9 : Nat) "java/util/ArrayList") ∈ lw_all := lw_g (lw_at lw_m3 138 rfl) rfl
theorem q695 : (Jvm.Cond.methodLink "CarryUp$Call" (11 : Nat) ({ cls := "java/util/ArrayList", name := "<init>", desc := "()V" } : Jvm.MethodName)) ∈ lw_all := lw_g (lw_at lw_m3 139 rfl) rfl
theorem q696 : (Jvm.Cond.fieldLink "CarryUp$Call" (18 : Nat) "CarryUp$Call" "told" "[I") ∈ lw_all := lw_g (lw_at lw_m3 140 rfl) rfl
theorem q699 : (Jvm.Cond.fieldLink "CarryUp$Call" (12 : Nat) "CarryUp$Call" "sorts" "Ljava/util/ArrayList;") ∈ lw_all := lw_g (lw_at lw_m3 143 rfl) rfl
theorem q703 : (Jvm.Cond.fieldLink "CarryUp$Call" (36 : Nat) "CarryUp$Call" "likely" "I") ∈ lw_all := lw_g (lw_at lw_m3 147 rfl) rfl
theorem q705 : (Jvm.Cond.laysFinal "CarryUp$Call" "CarryUp$Call" "told" "[I") ∈ lw_all := lw_g (lw_at lw_m3 149 rfl) rfl
theorem q706 : (Jvm.Cond.soleField "CarryUp$Call" "told") ∈ lw_all := lw_g (lw_at lw_m3 150 rfl) rfl
theorem q707 : (Jvm.Cond.laysFinal "CarryUp$Call" "CarryUp$Call" "sorts" "Ljava/util/ArrayList;") ∈ lw_all := lw_g (lw_at lw_m3 151 rfl) rfl
theorem q708 : (Jvm.Cond.soleField "CarryUp$Call" "sorts") ∈ lw_all := lw_g (lw_at lw_m3 152 rfl) rfl
theorem q709 : (Jvm.Cond.lays "CarryUp$Call" "CarryUp$Call" "likely" "I") ∈ lw_all := lw_g (lw_at lw_m3 153 rfl) rfl
theorem q710 : (Jvm.Cond.soleField "CarryUp$Call" "likely") ∈ lw_all := lw_g (lw_at lw_m3 154 rfl) rfl
theorem q711 : (Jvm.Cond.superclass "CarryUp$Call" "java/lang/Object") ∈ lw_all := lw_g (lw_at lw_m3 155 rfl) rfl
theorem q728 : (Jvm.Cond.fieldLink "CarryUp$Call" (40 : Nat) "CarryUp$Sort" "likely" "I") ∈ lw_all := lw_g (lw_at lw_m3 172 rfl) rfl
theorem q751 : (Jvm.Cond.instanceMethod ({ cls := "CarryUp$Call", name := "add", desc := "(LCarryUp$Sort;)V" } : Jvm.MethodName)) ∈ lw_all := lw_g (lw_at lw_m3 195 rfl) rfl
theorem q752 : (Jvm.Cond.selects "CarryUp$Call" ({ cls := "CarryUp$Call", name := "add", desc := "(LCarryUp$Sort;)V" } : Jvm.MethodName) ({ cls := "CarryUp$Call", name := "add", desc := "(LCarryUp$Sort;)V" } : Jvm.MethodName)) ∈ lw_all := lw_g (lw_at lw_m3 196 rfl) rfl
theorem q753 : (Jvm.Cond.code ({ cls := "CarryUp$Call", name := "add", desc := "(LCarryUp$Sort;)V" } : Jvm.MethodName) prog_2_method_6_code (2 : Nat) (Option.none : Option Jvm.ClassFile.FieldType)) ∈ lw_all := lw_g (lw_at lw_m3 197 rfl) rfl
theorem q754 : (Jvm.Cond.methodLink "CarryUp$Call" (28 : Nat) ({ cls := "java/util/ArrayList", name := "size", desc := "()I" } : Jvm.MethodName)) ∈ lw_all := lw_g (lw_at lw_m3 198 rfl) rfl
theorem q758 : (Jvm.Cond.methodLink "CarryUp$Call" (32 : Nat) ({ cls := "java/util/ArrayList", name := "add", desc := "(Ljava/lang/Object;)Z" } : Jvm.MethodName)) ∈ lw_all := lw_g (lw_at lw_m3 202 rfl) rfl
theorem q782 : (Jvm.Cond.selects "CarryUp$Call" ({ cls := "java/lang/Object", name := "getClass", desc := "()Ljava/lang/Class;" } : Jvm.MethodName) ({ cls := "java/lang/Object", name := "getClass", desc := "()Ljava/lang/Class;" } : Jvm.MethodName)) ∈ lw_all := lw_g (lw_at lw_m3 226 rfl) rfl
theorem q950 : (Jvm.Cond.instanceMethod ({ cls := "CarryUp$Call", name := "place", desc := "()I" } : Jvm.MethodName)) ∈ lw_all := lw_g (lw_at lw_m4 154 rfl) rfl
theorem q951 : (Jvm.Cond.selects "CarryUp$Call" ({ cls := "CarryUp$Call", name := "place", desc := "()I" } : Jvm.MethodName) ({ cls := "CarryUp$Call", name := "place", desc := "()I" } : Jvm.MethodName)) ∈ lw_all := lw_g (lw_at lw_m4 155 rfl) rfl
theorem q952 : (Jvm.Cond.code ({ cls := "CarryUp$Call", name := "place", desc := "()I" } : Jvm.MethodName) prog_2_method_2_code (1 : Nat) (Option.some Jvm.ClassFile.FieldType.int)) ∈ lw_all := lw_g (lw_at lw_m4 156 rfl) rfl
theorem q954 : (Jvm.Cond.instanceMethod ({ cls := "CarryUp$Call", name := "begins", desc := "(I)I" } : Jvm.MethodName)) ∈ lw_all := lw_g (lw_at lw_m4 158 rfl) rfl
theorem q955 : (Jvm.Cond.selects "CarryUp$Call" ({ cls := "CarryUp$Call", name := "begins", desc := "(I)I" } : Jvm.MethodName) ({ cls := "CarryUp$Call", name := "begins", desc := "(I)I" } : Jvm.MethodName)) ∈ lw_all := lw_g (lw_at lw_m4 159 rfl) rfl
theorem q956 : (Jvm.Cond.code ({ cls := "CarryUp$Call", name := "begins", desc := "(I)I" } : Jvm.MethodName) prog_2_method_5_code (2 : Nat) (Option.some Jvm.ClassFile.FieldType.int)) ∈ lw_all := lw_g (lw_at lw_m4 160 rfl) rfl
theorem q957 : (Jvm.Cond.methodLink "CarryUp$Call" (22 : Nat) ({ cls := "java/lang/Math", name := "max", desc := "(II)I" } : Jvm.MethodName)) ∈ lw_all := lw_g (lw_at lw_m4 161 rfl) rfl
theorem q959 : (Jvm.Cond.instanceMethod ({ cls := "CarryUp$Call", name := "again", desc := "()I" } : Jvm.MethodName)) ∈ lw_all := lw_g (lw_at lw_m4 163 rfl) rfl
theorem q960 : (Jvm.Cond.selects "CarryUp$Call" ({ cls := "CarryUp$Call", name := "again", desc := "()I" } : Jvm.MethodName) ({ cls := "CarryUp$Call", name := "again", desc := "()I" } : Jvm.MethodName)) ∈ lw_all := lw_g (lw_at lw_m4 164 rfl) rfl
theorem q961 : (Jvm.Cond.code ({ cls := "CarryUp$Call", name := "again", desc := "()I" } : Jvm.MethodName) prog_2_method_4_code (1 : Nat) (Option.some Jvm.ClassFile.FieldType.int)) ∈ lw_all := lw_g (lw_at lw_m4 165 rfl) rfl
theorem q968 : (Jvm.Cond.instanceMethod ({ cls := "CarryUp$Call", name := "worth", desc := "()I" } : Jvm.MethodName)) ∈ lw_all := lw_g (lw_at lw_m4 172 rfl) rfl
theorem q969 : (Jvm.Cond.selects "CarryUp$Call" ({ cls := "CarryUp$Call", name := "worth", desc := "()I" } : Jvm.MethodName) ({ cls := "CarryUp$Call", name := "worth", desc := "()I" } : Jvm.MethodName)) ∈ lw_all := lw_g (lw_at lw_m4 173 rfl) rfl
theorem q970 : (Jvm.Cond.code ({ cls := "CarryUp$Call", name := "worth", desc := "()I" } : Jvm.MethodName) prog_2_method_3_code (1 : Nat) (Option.some Jvm.ClassFile.FieldType.int)) ∈ lw_all := lw_g (lw_at lw_m4 174 rfl) rfl
theorem q1551 : (Jvm.Cond.castable "CarryUp$Call" "java/lang/Object") ∈ lw_tbl := lw_at lw_m7 35 rfl
theorem in_X7 : ∀ w ∈ wsX70, w ∈ lw_all := lw_in wsX70 [705, 707, 709] (by decide +kernel) (by decide +kernel)
/-! CarryUp$Want -/
set_option maxRecDepth 100000
def RX8 : String := "CarryUp$Want"
abbrev cX8_init : ByteArray := prog_10_method_1_code
def yX8_init : MethodName := ⟨RX8, "<init>", "(II)V"⟩
def dkwX8_init_0 : List UInt8 := [42, 183, 0, 1, 42, 27, 181, 0, 7, 42, 28, 181, 0, 13, 177]
abbrev dktX8_init_0 : List UInt8 := dkwX8_init_0 ++ []
theorem dksX8_init_0 : cX8_init.data.toList.drop 0 = dktX8_init_0 := by decide +kernel
theorem dX8_init_0 : decode cX8_init 0 = .ok (.aload_n 0, 1) := dk_42 (dk_at dksX8_init_0 0 rfl rfl)
theorem dX8_init_1 : decode cX8_init 1 = .ok (.invokespecial 1, 3) := dk_183 0 1 (dk_at dksX8_init_0 1 rfl rfl)
theorem dX8_init_4 : decode cX8_init 4 = .ok (.aload_n 0, 1) := dk_42 (dk_at dksX8_init_0 4 rfl rfl)
theorem dX8_init_5 : decode cX8_init 5 = .ok (.iload_n 1, 1) := dk_27 (dk_at dksX8_init_0 5 rfl rfl)
theorem dX8_init_6 : decode cX8_init 6 = .ok (.putfield 7, 3) := dk_181 0 7 (dk_at dksX8_init_0 6 rfl rfl)
theorem dX8_init_9 : decode cX8_init 9 = .ok (.aload_n 0, 1) := dk_42 (dk_at dksX8_init_0 9 rfl rfl)
theorem dX8_init_10 : decode cX8_init 10 = .ok (.iload_n 2, 1) := dk_28 (dk_at dksX8_init_0 10 rfl rfl)
theorem dX8_init_11 : decode cX8_init 11 = .ok (.putfield 13, 3) := dk_181 0 13 (dk_at dksX8_init_0 11 rfl rfl)
theorem dX8_init_14 : decode cX8_init 14 = .ok (.return_, 1) := dk_177 (dk_at dksX8_init_0 14 rfl rfl)
abbrev cX8_isMet : ByteArray := prog_10_method_2_code
def yX8_isMet : MethodName := ⟨RX8, "isMet", "(I)Z"⟩
def dkwX8_isMet_1 : List UInt8 := [180, 0, 13, 126, 153, 0, 7, 4, 167, 0, 4, 3, 172]
abbrev dktX8_isMet_1 : List UInt8 := dkwX8_isMet_1 ++ []
def dkwX8_isMet_0 : List UInt8 := [27, 42, 180, 0, 7, 126, 42, 180, 0, 7, 160, 0, 23, 42, 180, 0, 13, 153, 0, 12, 27, 42]
abbrev dktX8_isMet_0 : List UInt8 := dkwX8_isMet_0 ++ dktX8_isMet_1
theorem dksX8_isMet_0 : cX8_isMet.data.toList.drop 0 = dktX8_isMet_0 := by decide +kernel
theorem dksX8_isMet_1 : cX8_isMet.data.toList.drop 22 = dktX8_isMet_1 := dk_seg dksX8_isMet_0 22 rfl rfl
theorem dX8_isMet_0 : decode cX8_isMet 0 = .ok (.iload_n 1, 1) := dk_27 (dk_at dksX8_isMet_0 0 rfl rfl)
theorem dX8_isMet_1 : decode cX8_isMet 1 = .ok (.aload_n 0, 1) := dk_42 (dk_at dksX8_isMet_0 1 rfl rfl)
theorem dX8_isMet_2 : decode cX8_isMet 2 = .ok (.getfield 7, 3) := dk_180 0 7 (dk_at dksX8_isMet_0 2 rfl rfl)
theorem dX8_isMet_5 : decode cX8_isMet 5 = .ok (.iand, 1) := dk_126 (dk_at dksX8_isMet_0 5 rfl rfl)
theorem dX8_isMet_6 : decode cX8_isMet 6 = .ok (.aload_n 0, 1) := dk_42 (dk_at dksX8_isMet_0 6 rfl rfl)
theorem dX8_isMet_7 : decode cX8_isMet 7 = .ok (.getfield 7, 3) := dk_180 0 7 (dk_at dksX8_isMet_0 7 rfl rfl)
theorem dX8_isMet_10 : decode cX8_isMet 10 = .ok (.if_icmp .ne 23, 3) := dk_160 0 23 (dk_at dksX8_isMet_0 10 rfl rfl)
theorem dX8_isMet_13 : decode cX8_isMet 13 = .ok (.aload_n 0, 1) := dk_42 (dk_at dksX8_isMet_0 13 rfl rfl)
theorem dX8_isMet_14 : decode cX8_isMet 14 = .ok (.getfield 13, 3) := dk_180 0 13 (dk_at dksX8_isMet_0 14 rfl rfl)
theorem dX8_isMet_17 : decode cX8_isMet 17 = .ok (.ifCond .eq 12, 3) := dk_153 0 12 (dk_at dksX8_isMet_0 17 rfl rfl)
theorem dX8_isMet_20 : decode cX8_isMet 20 = .ok (.iload_n 1, 1) := dk_27 (dk_at dksX8_isMet_0 20 rfl rfl)
theorem dX8_isMet_21 : decode cX8_isMet 21 = .ok (.aload_n 0, 1) := dk_42 (dk_at dksX8_isMet_0 21 rfl rfl)
theorem dX8_isMet_22 : decode cX8_isMet 22 = .ok (.getfield 13, 3) := dk_180 0 13 (dk_at dksX8_isMet_1 0 rfl rfl)
theorem dX8_isMet_25 : decode cX8_isMet 25 = .ok (.iand, 1) := dk_126 (dk_at dksX8_isMet_1 3 rfl rfl)
theorem dX8_isMet_26 : decode cX8_isMet 26 = .ok (.ifCond .eq 7, 3) := dk_153 0 7 (dk_at dksX8_isMet_1 4 rfl rfl)
theorem dX8_isMet_29 : decode cX8_isMet 29 = .ok (.iconst 1, 1) := dk_4 (dk_at dksX8_isMet_1 7 rfl rfl)
theorem dX8_isMet_30 : decode cX8_isMet 30 = .ok (.goto 4, 3) := dk_167 0 4 (dk_at dksX8_isMet_1 8 rfl rfl)
theorem dX8_isMet_33 : decode cX8_isMet 33 = .ok (.iconst 0, 1) := dk_3 (dk_at dksX8_isMet_1 11 rfl rfl)
theorem dX8_isMet_34 : decode cX8_isMet 34 = .ok (.ireturn, 1) := dk_172 (dk_at dksX8_isMet_1 12 rfl rfl)
abbrev cX8_left : ByteArray := prog_10_method_3_code
def yX8_left : MethodName := ⟨RX8, "left", "(II)I"⟩
def dkwX8_left_0 : List UInt8 := [42, 180, 0, 7, 27, 42, 180, 0, 13, 126, 184, 0, 16, 128, 62, 27, 29, 28, 126, 2, 130, 126, 172]
abbrev dktX8_left_0 : List UInt8 := dkwX8_left_0 ++ []
theorem dksX8_left_0 : cX8_left.data.toList.drop 0 = dktX8_left_0 := by decide +kernel
theorem dX8_left_0 : decode cX8_left 0 = .ok (.aload_n 0, 1) := dk_42 (dk_at dksX8_left_0 0 rfl rfl)
theorem dX8_left_1 : decode cX8_left 1 = .ok (.getfield 7, 3) := dk_180 0 7 (dk_at dksX8_left_0 1 rfl rfl)
theorem dX8_left_4 : decode cX8_left 4 = .ok (.iload_n 1, 1) := dk_27 (dk_at dksX8_left_0 4 rfl rfl)
theorem dX8_left_5 : decode cX8_left 5 = .ok (.aload_n 0, 1) := dk_42 (dk_at dksX8_left_0 5 rfl rfl)
theorem dX8_left_6 : decode cX8_left 6 = .ok (.getfield 13, 3) := dk_180 0 13 (dk_at dksX8_left_0 6 rfl rfl)
theorem dX8_left_9 : decode cX8_left 9 = .ok (.iand, 1) := dk_126 (dk_at dksX8_left_0 9 rfl rfl)
theorem dX8_left_10 : decode cX8_left 10 = .ok (.invokestatic 16, 3) := dk_184 0 16 (dk_at dksX8_left_0 10 rfl rfl)
theorem dX8_left_13 : decode cX8_left 13 = .ok (.ior, 1) := dk_128 (dk_at dksX8_left_0 13 rfl rfl)
theorem dX8_left_14 : decode cX8_left 14 = .ok (.istore_n 3, 1) := dk_62 (dk_at dksX8_left_0 14 rfl rfl)
theorem dX8_left_15 : decode cX8_left 15 = .ok (.iload_n 1, 1) := dk_27 (dk_at dksX8_left_0 15 rfl rfl)
theorem dX8_left_16 : decode cX8_left 16 = .ok (.iload_n 3, 1) := dk_29 (dk_at dksX8_left_0 16 rfl rfl)
theorem dX8_left_17 : decode cX8_left 17 = .ok (.iload_n 2, 1) := dk_28 (dk_at dksX8_left_0 17 rfl rfl)
theorem dX8_left_18 : decode cX8_left 18 = .ok (.iand, 1) := dk_126 (dk_at dksX8_left_0 18 rfl rfl)
theorem dX8_left_19 : decode cX8_left 19 = .ok (.iconst (-1), 1) := dk_2 (dk_at dksX8_left_0 19 rfl rfl)
theorem dX8_left_20 : decode cX8_left 20 = .ok (.ixor, 1) := dk_130 (dk_at dksX8_left_0 20 rfl rfl)
theorem dX8_left_21 : decode cX8_left 21 = .ok (.iand, 1) := dk_126 (dk_at dksX8_left_0 21 rfl rfl)
theorem dX8_left_22 : decode cX8_left 22 = .ok (.ireturn, 1) := dk_172 (dk_at dksX8_left_0 22 rfl rfl)
theorem q105 : (Jvm.Cond.initialized "CarryUp$Want") ∈ lw_all := lw_g (lw_at lw_m1 29 rfl) rfl
theorem q723 : (Jvm.Cond.instanceMethod ({ cls := "CarryUp$Want", name := "<init>", desc := "(II)V" } : Jvm.MethodName)) ∈ lw_all := lw_g (lw_at lw_m3 167 rfl) rfl
theorem q724 : (Jvm.Cond.code ({ cls := "CarryUp$Want", name := "<init>", desc := "(II)V" } : Jvm.MethodName) prog_10_method_1_code (3 : Nat) (Option.none : Option Jvm.ClassFile.FieldType)) ∈ lw_all := lw_g (lw_at lw_m3 168 rfl) rfl
theorem q725 : (Jvm.Cond.methodLink "CarryUp$Want" (1 : Nat) ({ cls := "java/lang/Object", name := "<init>", desc := "()V" } : Jvm.MethodName)) ∈ lw_all := lw_g (lw_at lw_m3 169 rfl) rfl
theorem q734 : (Jvm.Cond.fieldLink "CarryUp$Want" (7 : Nat) "CarryUp$Want" "all" "I") ∈ lw_all := lw_g (lw_at lw_m3 178 rfl) rfl
theorem q738 : (Jvm.Cond.fieldLink "CarryUp$Want" (13 : Nat) "CarryUp$Want" "one" "I") ∈ lw_all := lw_g (lw_at lw_m3 182 rfl) rfl
theorem q746 : (Jvm.Cond.soleField "CarryUp$Want" "all") ∈ lw_all := lw_g (lw_at lw_m3 190 rfl) rfl
theorem q748 : (Jvm.Cond.soleField "CarryUp$Want" "one") ∈ lw_all := lw_g (lw_at lw_m3 192 rfl) rfl
theorem q884 : (Jvm.Cond.declares ({ cls := "CarryUp$Want", name := "isMet", desc := "(I)Z" } : Jvm.MethodName)) ∈ lw_tbl := lw_at lw_m4 88 rfl
theorem q886 : (Jvm.Cond.instanceMethod ({ cls := "CarryUp$Want", name := "isMet", desc := "(I)Z" } : Jvm.MethodName)) ∈ lw_all := lw_g (lw_at lw_m4 90 rfl) rfl
theorem q887 : (Jvm.Cond.code ({ cls := "CarryUp$Want", name := "isMet", desc := "(I)Z" } : Jvm.MethodName) prog_10_method_2_code (2 : Nat) (Option.some Jvm.ClassFile.FieldType.boolean)) ∈ lw_all := lw_g (lw_at lw_m4 91 rfl) rfl
theorem q894 : (Jvm.Cond.declares ({ cls := "CarryUp$Want", name := "left", desc := "(II)I" } : Jvm.MethodName)) ∈ lw_tbl := lw_at lw_m4 98 rfl
theorem q896 : (Jvm.Cond.instanceMethod ({ cls := "CarryUp$Want", name := "left", desc := "(II)I" } : Jvm.MethodName)) ∈ lw_all := lw_g (lw_at lw_m4 100 rfl) rfl
theorem q897 : (Jvm.Cond.code ({ cls := "CarryUp$Want", name := "left", desc := "(II)I" } : Jvm.MethodName) prog_10_method_3_code (4 : Nat) (Option.some Jvm.ClassFile.FieldType.int)) ∈ lw_all := lw_g (lw_at lw_m4 101 rfl) rfl
theorem q898 : (Jvm.Cond.methodLink "CarryUp$Want" (16 : Nat) ({ cls := "java/lang/Integer", name := "lowestOneBit", desc := "(I)I" } : Jvm.MethodName)) ∈ lw_all := lw_g (lw_at lw_m4 102 rfl) rfl
/-! CarryUp$Sort -/
set_option maxRecDepth 100000
def RX9 : String := "CarryUp$Sort"
def TX9 : u_T := fun k => match k with
  | 0 => ("CarryUp$Want", "all", "I", true)
  | 1 => ("CarryUp$Want", "one", "I", true)
  | 2 => ("CarryUp$Sort", "likely", "I", true)
  | _ => ("CarryUp$Sort", "minutes", "I", true)
def tyX9 : Nat → FieldType := fun k => match k with
  | 0 => .int
  | 1 => .int
  | 2 => .int
  | _ => .int
abbrev wsX90 : List Cond := u_ws RX9 TX9 4
theorem nmX9 : ∀ a, a < 4 → ∀ b, b < 4 → a ≠ b → (TX9 a).2.1 ≠ (TX9 b).2.1 := by decide +kernel
theorem tyX9_ok : ∀ k, k < 4 → parseFieldDescriptor (TX9 k).2.2.1 = some (tyX9 k) := by decide +kernel
abbrev cX9_init : ByteArray := prog_5_method_1_code
def yX9_init : MethodName := ⟨RX9, "<init>", "(IIII)V"⟩
def dkwX9_init_0 : List UInt8 := [42, 29, 21, 4, 183, 0, 1, 42, 27, 181, 0, 7, 42, 28, 181, 0, 13, 177]
abbrev dktX9_init_0 : List UInt8 := dkwX9_init_0 ++ []
theorem dksX9_init_0 : cX9_init.data.toList.drop 0 = dktX9_init_0 := by decide +kernel
theorem dX9_init_0 : decode cX9_init 0 = .ok (.aload_n 0, 1) := dk_42 (dk_at dksX9_init_0 0 rfl rfl)
theorem dX9_init_1 : decode cX9_init 1 = .ok (.iload_n 3, 1) := dk_29 (dk_at dksX9_init_0 1 rfl rfl)
theorem dX9_init_2 : decode cX9_init 2 = .ok (.iload 4, 2) := dk_21 4 (dk_at dksX9_init_0 2 rfl rfl)
theorem dX9_init_4 : decode cX9_init 4 = .ok (.invokespecial 1, 3) := dk_183 0 1 (dk_at dksX9_init_0 4 rfl rfl)
theorem dX9_init_7 : decode cX9_init 7 = .ok (.aload_n 0, 1) := dk_42 (dk_at dksX9_init_0 7 rfl rfl)
theorem dX9_init_8 : decode cX9_init 8 = .ok (.iload_n 1, 1) := dk_27 (dk_at dksX9_init_0 8 rfl rfl)
theorem dX9_init_9 : decode cX9_init 9 = .ok (.putfield 7, 3) := dk_181 0 7 (dk_at dksX9_init_0 9 rfl rfl)
theorem dX9_init_12 : decode cX9_init 12 = .ok (.aload_n 0, 1) := dk_42 (dk_at dksX9_init_0 12 rfl rfl)
theorem dX9_init_13 : decode cX9_init 13 = .ok (.iload_n 2, 1) := dk_28 (dk_at dksX9_init_0 13 rfl rfl)
theorem dX9_init_14 : decode cX9_init 14 = .ok (.putfield 13, 3) := dk_181 0 13 (dk_at dksX9_init_0 14 rfl rfl)
theorem dX9_init_17 : decode cX9_init 17 = .ok (.return_, 1) := dk_177 (dk_at dksX9_init_0 17 rfl rfl)
theorem q106 : (Jvm.Cond.initialized "CarryUp$Sort") ∈ lw_all := lw_g (lw_at lw_m1 30 rfl) rfl
theorem q718 : (Jvm.Cond.instantiable "CarryUp$Sort" (4 : Nat)) ∈ lw_all := lw_g (lw_at lw_m3 162 rfl) rfl
theorem q720 : (Jvm.Cond.instanceMethod ({ cls := "CarryUp$Sort", name := "<init>", desc := "(IIII)V" } : Jvm.MethodName)) ∈ lw_all := lw_g (lw_at lw_m3 164 rfl) rfl
theorem q721 : (Jvm.Cond.code ({ cls := "CarryUp$Sort", name := "<init>", desc := "(IIII)V" } : Jvm.MethodName) prog_5_method_1_code (5 : Nat) (Option.none : Option Jvm.ClassFile.FieldType)) ∈ lw_all := lw_g (lw_at lw_m3 165 rfl) rfl
theorem q722 : (Jvm.Cond.methodLink "CarryUp$Sort" (1 : Nat) ({ cls := "CarryUp$Want", name := "<init>", desc := "(II)V" } : Jvm.MethodName)) ∈ lw_all := lw_g (lw_at lw_m3 166 rfl) rfl
theorem q726 : (Jvm.Cond.fieldLink "CarryUp$Sort" (7 : Nat) "CarryUp$Sort" "likely" "I") ∈ lw_all := lw_g (lw_at lw_m3 170 rfl) rfl
theorem q730 : (Jvm.Cond.fieldLink "CarryUp$Sort" (13 : Nat) "CarryUp$Sort" "minutes" "I") ∈ lw_all := lw_g (lw_at lw_m3 174 rfl) rfl
theorem q736 : (Jvm.Cond.sameField "CarryUp$Sort" "CarryUp$Want" "all" "I") ∈ lw_all := lw_g (lw_at lw_m3 180 rfl) rfl
theorem q740 : (Jvm.Cond.sameField "CarryUp$Sort" "CarryUp$Want" "one" "I") ∈ lw_all := lw_g (lw_at lw_m3 184 rfl) rfl
theorem q741 : (Jvm.Cond.laysFinal "CarryUp$Sort" "CarryUp$Sort" "likely" "I") ∈ lw_all := lw_g (lw_at lw_m3 185 rfl) rfl
theorem q742 : (Jvm.Cond.soleField "CarryUp$Sort" "likely") ∈ lw_all := lw_g (lw_at lw_m3 186 rfl) rfl
theorem q743 : (Jvm.Cond.laysFinal "CarryUp$Sort" "CarryUp$Sort" "minutes" "I") ∈ lw_all := lw_g (lw_at lw_m3 187 rfl) rfl
theorem q744 : (Jvm.Cond.soleField "CarryUp$Sort" "minutes") ∈ lw_all := lw_g (lw_at lw_m3 188 rfl) rfl
theorem q745 : (Jvm.Cond.laysFinal "CarryUp$Sort" "CarryUp$Want" "all" "I") ∈ lw_all := lw_g (lw_at lw_m3 189 rfl) rfl
theorem q747 : (Jvm.Cond.laysFinal "CarryUp$Sort" "CarryUp$Want" "one" "I") ∈ lw_all := lw_g (lw_at lw_m3 191 rfl) rfl
theorem q749 : (Jvm.Cond.superclass "CarryUp$Sort" "CarryUp$Want") ∈ lw_all := lw_g (lw_at lw_m3 193 rfl) rfl
theorem q785 : (Jvm.Cond.selects "CarryUp$Sort" ({ cls := "java/lang/Object", name := "getClass", desc := "()Ljava/lang/Class;" } : Jvm.MethodName) ({ cls := "java/lang/Object", name := "getClass", desc := "()Ljava/lang/Class;" } : Jvm.MethodName)) ∈ lw_all := lw_g (lw_at lw_m3 229 rfl) rfl
theorem q883 : (Jvm.Cond.sameMethod "CarryUp$Sort" "CarryUp$Want" "isMet" "(I)Z") ∈ lw_all := lw_g (lw_at lw_m4 87 rfl) rfl
theorem q885 : (Jvm.Cond.selects "CarryUp$Sort" ({ cls := "CarryUp$Sort", name := "isMet", desc := "(I)Z" } : Jvm.MethodName) ({ cls := "CarryUp$Want", name := "isMet", desc := "(I)Z" } : Jvm.MethodName)) ∈ lw_all := lw_g (lw_at lw_m4 89 rfl) rfl
theorem q893 : (Jvm.Cond.sameMethod "CarryUp$Sort" "CarryUp$Want" "left" "(II)I") ∈ lw_all := lw_g (lw_at lw_m4 97 rfl) rfl
theorem q895 : (Jvm.Cond.selects "CarryUp$Sort" ({ cls := "CarryUp$Sort", name := "left", desc := "(II)I" } : Jvm.MethodName) ({ cls := "CarryUp$Want", name := "left", desc := "(II)I" } : Jvm.MethodName)) ∈ lw_all := lw_g (lw_at lw_m4 99 rfl) rfl
theorem q1549 : (Jvm.Cond.castable "CarryUp$Sort" "CarryUp$Want") ∈ lw_tbl := lw_at lw_m7 33 rfl
theorem q1563 : (Jvm.Cond.castable "CarryUp$Sort" "java/lang/Object") ∈ lw_tbl := lw_at lw_m7 47 rfl
theorem in_X9 : ∀ w ∈ wsX90, w ∈ lw_all := lw_in wsX90 [745, 747, 741, 743] (by decide +kernel) (by decide +kernel)
theorem q76 : (Jvm.Cond.initialized "CarryUpLaw") ∈ lw_all := lw_g (lw_at lw_m1 0 rfl) rfl
set_option maxRecDepth 100000
theorem q109 : (Jvm.Cond.classLink "CarryUpLaw" (7 : Nat) "CarryUp") ∈ lw_all := lw_g (lw_at lw_m1 33 rfl) rfl
theorem q111 : (Jvm.Cond.methodLink "CarryUpLaw" (9 : Nat) ({ cls := "CarryUp", name := "<init>", desc := "()V" } : Jvm.MethodName)) ∈ lw_all := lw_g (lw_at lw_m1 35 rfl) rfl
theorem q249 : (Jvm.Cond.methodLink "CarryUpLaw" (15 : Nat) ({ cls := "CarryUp", name := "write", desc := "(JI)I" } : Jvm.MethodName)) ∈ lw_all := lw_g (lw_at lw_m1 173 rfl) rfl
theorem q257 : (Jvm.Cond.methodLink "CarryUpLaw" (20 : Nat) ({ cls := "CarryUp", name := "erase", desc := "()I" } : Jvm.MethodName)) ∈ lw_all := lw_g (lw_at lw_m1 181 rfl) rfl
theorem q261 : (Jvm.Cond.methodLink "CarryUpLaw" (25 : Nat) ({ cls := "CarryUp", name := "fault", desc := "()I" } : Jvm.MethodName)) ∈ lw_all := lw_g (lw_at lw_m1 185 rfl) rfl
theorem q672 : (Jvm.Cond.methodLink "CarryUpLaw" (29 : Nat) ({ cls := "CarryUp", name := "day", desc := "()I" } : Jvm.MethodName)) ∈ lw_all := lw_g (lw_at lw_m3 116 rfl) rfl
theorem q803 : (Jvm.Cond.methodLink "CarryUpLaw" (33 : Nat) ({ cls := "CarryUp", name := "thing", desc := "(II)I" } : Jvm.MethodName)) ∈ lw_all := lw_g (lw_at lw_m4 7 rfl) rfl
theorem q824 : (Jvm.Cond.methodLink "CarryUpLaw" (38 : Nat) ({ cls := "CarryUp", name := "call", desc := "(II)I" } : Jvm.MethodName)) ∈ lw_all := lw_g (lw_at lw_m4 28 rfl) rfl
theorem q830 : (Jvm.Cond.methodLink "CarryUpLaw" (42 : Nat) ({ cls := "CarryUp", name := "sort", desc := "(III)I" } : Jvm.MethodName)) ∈ lw_all := lw_g (lw_at lw_m4 34 rfl) rfl
theorem q858 : (Jvm.Cond.methodLink "CarryUpLaw" (47 : Nat) ({ cls := "CarryUp", name := "way", desc := "(II)I" } : Jvm.MethodName)) ∈ lw_all := lw_g (lw_at lw_m4 62 rfl) rfl
theorem q862 : (Jvm.Cond.methodLink "CarryUpLaw" (51 : Nat) ({ cls := "CarryUp", name := "may", desc := "(I)I" } : Jvm.MethodName)) ∈ lw_all := lw_g (lw_at lw_m4 66 rfl) rfl
theorem q878 : (Jvm.Cond.methodLink "CarryUpLaw" (56 : Nat) ({ cls := "CarryUp", name := "does", desc := "(III)I" } : Jvm.MethodName)) ∈ lw_all := lw_g (lw_at lw_m4 82 rfl) rfl
theorem q901 : (Jvm.Cond.methodLink "CarryUpLaw" (60 : Nat) ({ cls := "CarryUp", name := "chance", desc := "(III)I" } : Jvm.MethodName)) ∈ lw_all := lw_g (lw_at lw_m4 105 rfl) rfl
theorem q911 : (Jvm.Cond.methodLink "CarryUpLaw" (64 : Nat) ({ cls := "CarryUp", name := "mean", desc := "(IIII)J" } : Jvm.MethodName)) ∈ lw_all := lw_g (lw_at lw_m4 115 rfl) rfl
theorem q971 : (Jvm.Cond.methodLink "CarryUpLaw" (69 : Nat) ({ cls := "CarryUp", name := "all", desc := "(IIII)J" } : Jvm.MethodName)) ∈ lw_all := lw_g (lw_at lw_m4 175 rfl) rfl
theorem q975 : (Jvm.Cond.methodLink "CarryUpLaw" (73 : Nat) ({ cls := "CarryUp", name := "end", desc := "(III)I" } : Jvm.MethodName)) ∈ lw_all := lw_g (lw_at lw_m4 179 rfl) rfl
theorem q979 : (Jvm.Cond.methodLink "CarryUpLaw" (77 : Nat) ({ cls := "CarryUp", name := "best", desc := "(II)I" } : Jvm.MethodName)) ∈ lw_all := lw_g (lw_at lw_m4 183 rfl) rfl
theorem q987 : (Jvm.Cond.methodLink "CarryUpLaw" (81 : Nat) ({ cls := "CarryUp", name := "sure", desc := "(IIII)I" } : Jvm.MethodName)) ∈ lw_all := lw_g (lw_at lw_m4 191 rfl) rfl
theorem q992 : (Jvm.Cond.methodLink "CarryUpLaw" (86 : Nat) ({ cls := "CarryUp", name := "know", desc := "(IIII)J" } : Jvm.MethodName)) ∈ lw_all := lw_g (lw_at lw_m4 196 rfl) rfl
theorem q996 : (Jvm.Cond.methodLink "CarryUpLaw" (90 : Nat) ({ cls := "CarryUp", name := "both", desc := "(II)I" } : Jvm.MethodName)) ∈ lw_all := lw_g (lw_at lw_m4 200 rfl) rfl
theorem q1005 : (Jvm.Cond.methodLink "CarryUpLaw" (94 : Nat) ({ cls := "CarryUp", name := "value", desc := "(IIIII)J" } : Jvm.MethodName)) ∈ lw_all := lw_g (lw_at lw_m4 209 rfl) rfl
theorem q1040 : (Jvm.Cond.methodLink "CarryUpLaw" (99 : Nat) ({ cls := "CarryUp", name := "next", desc := "(IIII)I" } : Jvm.MethodName)) ∈ lw_all := lw_g (lw_at lw_m5 4 rfl) rfl
theorem q1044 : (Jvm.Cond.methodLink "CarryUpLaw" (103 : Nat) ({ cls := "CarryUp", name := "stands", desc := "(II)I" } : Jvm.MethodName)) ∈ lw_all := lw_g (lw_at lw_m5 8 rfl) rfl
theorem q1048 : (Jvm.Cond.methodLink "CarryUpLaw" (107 : Nat) ({ cls := "CarryUp", name := "idle", desc := "()I" } : Jvm.MethodName)) ∈ lw_all := lw_g (lw_at lw_m5 12 rfl) rfl
theorem q1052 : (Jvm.Cond.methodLink "CarryUpLaw" (111 : Nat) ({ cls := "CarryUp", name := "visit", desc := "(III)I" } : Jvm.MethodName)) ∈ lw_all := lw_g (lw_at lw_m5 16 rfl) rfl
theorem q1070 : (Jvm.Cond.methodLink "CarryUpLaw" (115 : Nat) ({ cls := "CarryUp", name := "saved", desc := "(I)I" } : Jvm.MethodName)) ∈ lw_all := lw_g (lw_at lw_m5 34 rfl) rfl
theorem q1085 : (Jvm.Cond.methodLink "CarryUpLaw" (119 : Nat) ({ cls := "CarryUp", name := "most", desc := "(I)I" } : Jvm.MethodName)) ∈ lw_all := lw_g (lw_at lw_m5 49 rfl) rfl
theorem q1089 : (Jvm.Cond.methodLink "CarryUpLaw" (123 : Nat) ({ cls := "CarryUp", name := "box", desc := "(I)I" } : Jvm.MethodName)) ∈ lw_all := lw_g (lw_at lw_m5 53 rfl) rfl
theorem q1098 : (Jvm.Cond.methodLink "CarryUpLaw" (127 : Nat) ({ cls := "CarryUp", name := "run", desc := "(IIIII)I" } : Jvm.MethodName)) ∈ lw_all := lw_g (lw_at lw_m5 62 rfl) rfl
theorem q1104 : (Jvm.Cond.methodLink "CarryUpLaw" (132 : Nat) ({ cls := "CarryUp", name := "count", desc := "(I)I" } : Jvm.MethodName)) ∈ lw_all := lw_g (lw_at lw_m5 68 rfl) rfl
theorem q1108 : (Jvm.Cond.classLink "CarryUpLaw" (10 : Nat) "CarryUpModel") ∈ lw_all := lw_g (lw_at lw_m5 72 rfl) rfl
theorem q1110 : (Jvm.Cond.methodLink "CarryUpLaw" (12 : Nat) ({ cls := "CarryUpModel", name := "<init>", desc := "()V" } : Jvm.MethodName)) ∈ lw_all := lw_g (lw_at lw_m5 74 rfl) rfl
theorem q1208 : (Jvm.Cond.methodLink "CarryUpLaw" (19 : Nat) ({ cls := "CarryUpModel", name := "write", desc := "(JI)I" } : Jvm.MethodName)) ∈ lw_all := lw_g (lw_at lw_m5 172 rfl) rfl
theorem q1217 : (Jvm.Cond.methodLink "CarryUpLaw" (24 : Nat) ({ cls := "CarryUpModel", name := "erase", desc := "()I" } : Jvm.MethodName)) ∈ lw_all := lw_g (lw_at lw_m5 181 rfl) rfl
theorem q1221 : (Jvm.Cond.methodLink "CarryUpLaw" (28 : Nat) ({ cls := "CarryUpModel", name := "fault", desc := "()I" } : Jvm.MethodName)) ∈ lw_all := lw_g (lw_at lw_m5 185 rfl) rfl
theorem q1279 : (Jvm.Cond.methodLink "CarryUpLaw" (32 : Nat) ({ cls := "CarryUpModel", name := "day", desc := "()I" } : Jvm.MethodName)) ∈ lw_all := lw_g (lw_at lw_m6 3 rfl) rfl
theorem q1288 : (Jvm.Cond.methodLink "CarryUpLaw" (37 : Nat) ({ cls := "CarryUpModel", name := "thing", desc := "(II)I" } : Jvm.MethodName)) ∈ lw_all := lw_g (lw_at lw_m6 12 rfl) rfl
theorem q1295 : (Jvm.Cond.methodLink "CarryUpLaw" (41 : Nat) ({ cls := "CarryUpModel", name := "call", desc := "(II)I" } : Jvm.MethodName)) ∈ lw_all := lw_g (lw_at lw_m6 19 rfl) rfl
theorem q1304 : (Jvm.Cond.methodLink "CarryUpLaw" (46 : Nat) ({ cls := "CarryUpModel", name := "sort", desc := "(III)I" } : Jvm.MethodName)) ∈ lw_all := lw_g (lw_at lw_m6 28 rfl) rfl
theorem q1313 : (Jvm.Cond.methodLink "CarryUpLaw" (50 : Nat) ({ cls := "CarryUpModel", name := "way", desc := "(II)I" } : Jvm.MethodName)) ∈ lw_all := lw_g (lw_at lw_m6 37 rfl) rfl
theorem q1317 : (Jvm.Cond.methodLink "CarryUpLaw" (55 : Nat) ({ cls := "CarryUpModel", name := "may", desc := "(I)I" } : Jvm.MethodName)) ∈ lw_all := lw_g (lw_at lw_m6 41 rfl) rfl
theorem q1332 : (Jvm.Cond.methodLink "CarryUpLaw" (59 : Nat) ({ cls := "CarryUpModel", name := "does", desc := "(III)I" } : Jvm.MethodName)) ∈ lw_all := lw_g (lw_at lw_m6 56 rfl) rfl
theorem q1343 : (Jvm.Cond.methodLink "CarryUpLaw" (63 : Nat) ({ cls := "CarryUpModel", name := "chance", desc := "(III)I" } : Jvm.MethodName)) ∈ lw_all := lw_g (lw_at lw_m6 67 rfl) rfl
theorem q1364 : (Jvm.Cond.methodLink "CarryUpLaw" (68 : Nat) ({ cls := "CarryUpModel", name := "mean", desc := "(IIII)J" } : Jvm.MethodName)) ∈ lw_all := lw_g (lw_at lw_m6 88 rfl) rfl
theorem q1400 : (Jvm.Cond.methodLink "CarryUpLaw" (72 : Nat) ({ cls := "CarryUpModel", name := "all", desc := "(IIII)J" } : Jvm.MethodName)) ∈ lw_all := lw_g (lw_at lw_m6 124 rfl) rfl
theorem q1410 : (Jvm.Cond.methodLink "CarryUpLaw" (76 : Nat) ({ cls := "CarryUpModel", name := "end", desc := "(III)I" } : Jvm.MethodName)) ∈ lw_all := lw_g (lw_at lw_m6 134 rfl) rfl
theorem q1414 : (Jvm.Cond.methodLink "CarryUpLaw" (80 : Nat) ({ cls := "CarryUpModel", name := "best", desc := "(II)I" } : Jvm.MethodName)) ∈ lw_all := lw_g (lw_at lw_m6 138 rfl) rfl
theorem q1422 : (Jvm.Cond.methodLink "CarryUpLaw" (85 : Nat) ({ cls := "CarryUpModel", name := "sure", desc := "(IIII)I" } : Jvm.MethodName)) ∈ lw_all := lw_g (lw_at lw_m6 146 rfl) rfl
theorem q1427 : (Jvm.Cond.methodLink "CarryUpLaw" (89 : Nat) ({ cls := "CarryUpModel", name := "know", desc := "(IIII)J" } : Jvm.MethodName)) ∈ lw_all := lw_g (lw_at lw_m6 151 rfl) rfl
theorem q1432 : (Jvm.Cond.methodLink "CarryUpLaw" (93 : Nat) ({ cls := "CarryUpModel", name := "both", desc := "(II)I" } : Jvm.MethodName)) ∈ lw_all := lw_g (lw_at lw_m6 156 rfl) rfl
theorem q1436 : (Jvm.Cond.methodLink "CarryUpLaw" (98 : Nat) ({ cls := "CarryUpModel", name := "value", desc := "(IIIII)J" } : Jvm.MethodName)) ∈ lw_all := lw_g (lw_at lw_m6 160 rfl) rfl
theorem q1494 : (Jvm.Cond.methodLink "CarryUpLaw" (102 : Nat) ({ cls := "CarryUpModel", name := "next", desc := "(IIII)I" } : Jvm.MethodName)) ∈ lw_all := lw_g (lw_at lw_m6 218 rfl) rfl
theorem q1498 : (Jvm.Cond.methodLink "CarryUpLaw" (106 : Nat) ({ cls := "CarryUpModel", name := "stands", desc := "(II)I" } : Jvm.MethodName)) ∈ lw_all := lw_g (lw_at lw_m6 222 rfl) rfl
theorem q1502 : (Jvm.Cond.methodLink "CarryUpLaw" (110 : Nat) ({ cls := "CarryUpModel", name := "idle", desc := "()I" } : Jvm.MethodName)) ∈ lw_all := lw_g (lw_at lw_m6 226 rfl) rfl
theorem q1506 : (Jvm.Cond.methodLink "CarryUpLaw" (114 : Nat) ({ cls := "CarryUpModel", name := "visit", desc := "(III)I" } : Jvm.MethodName)) ∈ lw_all := lw_g (lw_at lw_m6 230 rfl) rfl
theorem q1510 : (Jvm.Cond.methodLink "CarryUpLaw" (118 : Nat) ({ cls := "CarryUpModel", name := "saved", desc := "(I)I" } : Jvm.MethodName)) ∈ lw_all := lw_g (lw_at lw_m6 234 rfl) rfl
theorem q1518 : (Jvm.Cond.methodLink "CarryUpLaw" (122 : Nat) ({ cls := "CarryUpModel", name := "most", desc := "(I)I" } : Jvm.MethodName)) ∈ lw_all := lw_g (lw_at lw_m7 2 rfl) rfl
theorem q1525 : (Jvm.Cond.methodLink "CarryUpLaw" (126 : Nat) ({ cls := "CarryUpModel", name := "box", desc := "(I)I" } : Jvm.MethodName)) ∈ lw_all := lw_g (lw_at lw_m7 9 rfl) rfl
theorem q1533 : (Jvm.Cond.methodLink "CarryUpLaw" (131 : Nat) ({ cls := "CarryUpModel", name := "run", desc := "(IIIII)I" } : Jvm.MethodName)) ∈ lw_all := lw_g (lw_at lw_m7 17 rfl) rfl
theorem q1538 : (Jvm.Cond.methodLink "CarryUpLaw" (135 : Nat) ({ cls := "CarryUpModel", name := "count", desc := "(I)I" } : Jvm.MethodName)) ∈ lw_all := lw_g (lw_at lw_m7 22 rfl) rfl
theorem q1542 : (Jvm.Cond.constantLong "CarryUpLaw" (13 : Nat) (4294967295 : Int64)) ∈ lw_all := lw_g (lw_at lw_m7 26 rfl) rfl
theorem q378 : (Jvm.Cond.sameMethod "[B" "java/lang/Object" "clone" "()Ljava/lang/Object;") ∈ lw_all := lw_g (lw_at lw_m2 62 rfl) rfl
set_option maxRecDepth 100000
theorem q381 : (Jvm.Cond.selects "[B" ({ cls := "[B", name := "clone", desc := "()Ljava/lang/Object;" } : Jvm.MethodName) ({ cls := "java/lang/Object", name := "clone", desc := "()Ljava/lang/Object;" } : Jvm.MethodName)) ∈ lw_all := lw_g (lw_at lw_m2 65 rfl) rfl
theorem q382 : (Jvm.Cond.castable "[B" "java/lang/Cloneable") ∈ lw_tbl := lw_at lw_m2 66 rfl
theorem q1573 : (Jvm.Cond.castable "[B" "java/lang/Object") ∈ lw_tbl := lw_at lw_m7 57 rfl
theorem q1575 : (Jvm.Cond.castable "[I" "java/lang/Object") ∈ lw_tbl := lw_at lw_m7 59 rfl
set_option maxRecDepth 100000
theorem q1571 : (Jvm.Cond.castable "[LCarryUp$Call;" "java/lang/Object") ∈ lw_tbl := lw_at lw_m7 55 rfl
set_option maxRecDepth 100000
theorem q1566 : (Jvm.Cond.sameMethod "[Ljava/lang/Object;" "java/lang/Object" "getClass" "()Ljava/lang/Class;") ∈ lw_all := lw_g (lw_at lw_m7 50 rfl) rfl
set_option maxRecDepth 100000
theorem q1567 : (Jvm.Cond.selects "[Ljava/lang/Object;" ({ cls := "java/lang/Object", name := "getClass", desc := "()Ljava/lang/Class;" } : Jvm.MethodName) ({ cls := "java/lang/Object", name := "getClass", desc := "()Ljava/lang/Class;" } : Jvm.MethodName)) ∈ lw_all := lw_g (lw_at lw_m7 51 rfl) rfl
theorem q1569 : (Jvm.Cond.castable "[Ljava/lang/Object;" "java/lang/Object") ∈ lw_tbl := lw_at lw_m7 53 rfl
theorem q1576 : (Jvm.Cond.castable "[Ljava/lang/String;" "java/lang/Object") ∈ lw_tbl := lw_at lw_m7 60 rfl
set_option maxRecDepth 100000
theorem q1572 : (Jvm.Cond.castable "[S" "java/lang/Object") ∈ lw_tbl := lw_at lw_m7 56 rfl
set_option maxRecDepth 100000
theorem q1574 : (Jvm.Cond.castable "[[I" "java/lang/Object") ∈ lw_tbl := lw_at lw_m7 58 rfl
set_option maxRecDepth 100000
theorem q1570 : (Jvm.Cond.castable "[[S" "java/lang/Object") ∈ lw_tbl := lw_at lw_m7 54 rfl
set_option maxRecDepth 100000
theorem q98 : (Jvm.Cond.initialized "java/lang/Number") ∈ lw_all := lw_g (lw_at lw_m1 22 rfl) rfl
set_option maxRecDepth 100000
theorem q92 : (Jvm.Cond.initialized "java/lang/System") ∈ lw_all := lw_g (lw_at lw_m1 16 rfl) rfl
set_option maxRecDepth 100000
theorem q388 : (Jvm.Cond.static ({ cls := "java/lang/System", name := "arraycopy", desc := "(Ljava/lang/Object;ILjava/lang/Object;II)V" } : Jvm.MethodName)) ∈ lw_all := lw_g (lw_at lw_m2 72 rfl) rfl
theorem q389 : (Jvm.Cond.native ({ cls := "java/lang/System", name := "arraycopy", desc := "(Ljava/lang/Object;ILjava/lang/Object;II)V" } : Jvm.MethodName)) ∈ lw_all := lw_g (lw_at lw_m2 73 rfl) rfl
theorem q118 : (Jvm.Cond.arrayOver (Jvm.ClassFile.FieldType.object "java/lang/Object")) ∈ lw_tbl := lw_at lw_m1 42 rfl
set_option maxRecDepth 100000
theorem q120 : (Jvm.Cond.arrayOver (Jvm.ClassFile.FieldType.array Jvm.ClassFile.FieldType.short)) ∈ lw_tbl := lw_at lw_m1 44 rfl
theorem q122 : (Jvm.Cond.arrayOver (Jvm.ClassFile.FieldType.object "CarryUp$Call")) ∈ lw_tbl := lw_at lw_m1 46 rfl
theorem q167 : (Jvm.Cond.arrayClass Jvm.ClassFile.FieldType.short) ∈ lw_all := lw_g (lw_at lw_m1 91 rfl) rfl
theorem q168 : (Jvm.Cond.arrayClass Jvm.ClassFile.FieldType.byte) ∈ lw_all := lw_g (lw_at lw_m1 92 rfl) rfl
theorem q274 : (Jvm.Cond.arrayOver (Jvm.ClassFile.FieldType.array Jvm.ClassFile.FieldType.int)) ∈ lw_tbl := lw_at lw_m1 198 rfl
theorem q671 : (Jvm.Cond.arrayClass Jvm.ClassFile.FieldType.int) ∈ lw_all := lw_g (lw_at lw_m3 115 rfl) rfl
theorem q1584 : (Jvm.Cond.arrayOver (Jvm.ClassFile.FieldType.object "java/lang/String")) ∈ lw_tbl := lw_at lw_m7 68 rfl
