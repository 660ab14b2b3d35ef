/-! CarryUp -/
set_option maxRecDepth 100000
def RX0 : String := "CarryUp"
def TX0 : u_T := fun k => match k with
  | 0 => ("CarryUp", "things", "[Ljava/lang/Object;", true)
  | 1 => ("CarryUp", "load", "I", false)
  | 2 => ("CarryUp", "purse", "I", false)
  | 3 => ("CarryUp", "begin", "I", false)
  | 4 => ("CarryUp", "ways", "[[S", true)
  | 5 => ("CarryUp", "calls", "[LCarryUp$Call;", true)
  | 6 => ("CarryUp", "text", "[B", true)
  | 7 => ("CarryUp", "bytes", "I", false)
  | 8 => ("CarryUp", "walk", "LCarryUp$Walk;", true)
  | 9 => ("CarryUp", "book", "Ljava/util/ArrayList;", true)
  | _ => ("CarryUp", "mostBrings", "J", false)
def tyX0 : Nat → FieldType := fun k => match k with
  | 0 => .array (.object "java/lang/Object")
  | 1 => .int
  | 2 => .int
  | 3 => .int
  | 4 => .array (.array .short)
  | 5 => .array (.object "CarryUp$Call")
  | 6 => .array .byte
  | 7 => .int
  | 8 => .object "CarryUp$Walk"
  | 9 => .object "java/util/ArrayList"
  | _ => .long
abbrev wsX00 : List Cond := u_ws RX0 TX0 11
theorem nmX0 : ∀ a, a < 11 → ∀ b, b < 11 → a ≠ b → (TX0 a).2.1 ≠ (TX0 b).2.1 := by decide +kernel
theorem tyX0_ok : ∀ k, k < 11 → parseFieldDescriptor (TX0 k).2.2.1 = some (tyX0 k) := by decide +kernel
abbrev cX0_init : ByteArray := prog_1_method_14_code
def yX0_init : MethodName := ⟨RX0, "<init>", "()V"⟩
def dkwX0_init_7 : List UInt8 := [177]
abbrev dktX0_init_7 : List UInt8 := dkwX0_init_7 ++ []
def dkwX0_init_6 : List UInt8 := [28, 160, 0, 7, 3, 167, 0, 5, 16, 10, 147, 86, 132, 2, 1, 167, 255, 227, 132, 1, 1, 167, 255, 213]
abbrev dktX0_init_6 : List UInt8 := dkwX0_init_6 ++ dktX0_init_7
def dkwX0_init_5 : List UInt8 := [3, 60, 27, 16, 6, 162, 0, 43, 3, 61, 28, 16, 6, 162, 0, 29, 42, 180, 0, 69, 27, 50, 28, 27]
abbrev dktX0_init_5 : List UInt8 := dkwX0_init_5 ++ dktX0_init_6
def dkwX0_init_4 : List UInt8 := [162, 0, 24, 42, 180, 0, 1, 27, 187, 0, 7, 89, 4, 3, 183, 0, 65, 83, 132, 1, 1, 167, 255, 232]
abbrev dktX0_init_4 : List UInt8 := dkwX0_init_4 ++ dktX0_init_5
def dkwX0_init_3 : List UInt8 := [183, 0, 124, 181, 0, 85, 42, 187, 0, 55, 89, 183, 0, 127, 181, 0, 128, 3, 60, 27, 16, 8]
abbrev dktX0_init_3 : List UInt8 := dkwX0_init_3 ++ dktX0_init_4
def dkwX0_init_2 : List UInt8 := [16, 6, 189, 0, 49, 181, 0, 40, 42, 17, 0, 200, 188, 8, 181, 0, 120, 42, 187, 0, 90, 89, 42]
abbrev dktX0_init_2 : List UInt8 := dkwX0_init_2 ++ dktX0_init_3
def dkwX0_init_1 : List UInt8 := [181, 0, 24, 42, 17, 1, 224, 181, 0, 66, 42, 16, 6, 16, 6, 197, 0, 119, 2, 181, 0, 69, 42]
abbrev dktX0_init_1 : List UInt8 := dkwX0_init_1 ++ dktX0_init_2
def dkwX0_init_0 : List UInt8 := [42, 183, 0, 114, 42, 16, 8, 189, 0, 115, 181, 0, 1, 42, 16, 40, 181, 0, 31, 42, 17, 3, 231]
abbrev dktX0_init_0 : List UInt8 := dkwX0_init_0 ++ dktX0_init_1
theorem dksX0_init_0 : cX0_init.data.toList.drop 0 = dktX0_init_0 := by decide +kernel
theorem dksX0_init_1 : cX0_init.data.toList.drop 23 = dktX0_init_1 := dk_seg dksX0_init_0 23 rfl rfl
theorem dksX0_init_2 : cX0_init.data.toList.drop 46 = dktX0_init_2 := dk_seg dksX0_init_1 23 rfl rfl
theorem dksX0_init_3 : cX0_init.data.toList.drop 69 = dktX0_init_3 := dk_seg dksX0_init_2 23 rfl rfl
theorem dksX0_init_4 : cX0_init.data.toList.drop 91 = dktX0_init_4 := dk_seg dksX0_init_3 22 rfl rfl
theorem dksX0_init_5 : cX0_init.data.toList.drop 115 = dktX0_init_5 := dk_seg dksX0_init_4 24 rfl rfl
theorem dksX0_init_6 : cX0_init.data.toList.drop 139 = dktX0_init_6 := dk_seg dksX0_init_5 24 rfl rfl
theorem dksX0_init_7 : cX0_init.data.toList.drop 163 = dktX0_init_7 := dk_seg dksX0_init_6 24 rfl rfl
theorem dX0_init_0 : decode cX0_init 0 = .ok (.aload_n 0, 1) := dk_42 (dk_at dksX0_init_0 0 rfl rfl)
theorem dX0_init_1 : decode cX0_init 1 = .ok (.invokespecial 114, 3) := dk_183 0 114 (dk_at dksX0_init_0 1 rfl rfl)
theorem dX0_init_4 : decode cX0_init 4 = .ok (.aload_n 0, 1) := dk_42 (dk_at dksX0_init_0 4 rfl rfl)
theorem dX0_init_5 : decode cX0_init 5 = .ok (.bipush 8, 2) := dk_16 8 (dk_at dksX0_init_0 5 rfl rfl)
theorem dX0_init_7 : decode cX0_init 7 = .ok (.anewarray 115, 3) := dk_189 0 115 (dk_at dksX0_init_0 7 rfl rfl)
theorem dX0_init_10 : decode cX0_init 10 = .ok (.putfield 1, 3) := dk_181 0 1 (dk_at dksX0_init_0 10 rfl rfl)
theorem dX0_init_13 : decode cX0_init 13 = .ok (.aload_n 0, 1) := dk_42 (dk_at dksX0_init_0 13 rfl rfl)
theorem dX0_init_14 : decode cX0_init 14 = .ok (.bipush 40, 2) := dk_16 40 (dk_at dksX0_init_0 14 rfl rfl)
theorem dX0_init_16 : decode cX0_init 16 = .ok (.putfield 31, 3) := dk_181 0 31 (dk_at dksX0_init_0 16 rfl rfl)
theorem dX0_init_19 : decode cX0_init 19 = .ok (.aload_n 0, 1) := dk_42 (dk_at dksX0_init_0 19 rfl rfl)
theorem dX0_init_20 : decode cX0_init 20 = .ok (.sipush 999, 3) := dk_17 3 231 (dk_at dksX0_init_0 20 rfl rfl)
theorem dX0_init_23 : decode cX0_init 23 = .ok (.putfield 24, 3) := dk_181 0 24 (dk_at dksX0_init_1 0 rfl rfl)
theorem dX0_init_26 : decode cX0_init 26 = .ok (.aload_n 0, 1) := dk_42 (dk_at dksX0_init_1 3 rfl rfl)
theorem dX0_init_27 : decode cX0_init 27 = .ok (.sipush 480, 3) := dk_17 1 224 (dk_at dksX0_init_1 4 rfl rfl)
theorem dX0_init_30 : decode cX0_init 30 = .ok (.putfield 66, 3) := dk_181 0 66 (dk_at dksX0_init_1 7 rfl rfl)
theorem dX0_init_33 : decode cX0_init 33 = .ok (.aload_n 0, 1) := dk_42 (dk_at dksX0_init_1 10 rfl rfl)
theorem dX0_init_34 : decode cX0_init 34 = .ok (.bipush 6, 2) := dk_16 6 (dk_at dksX0_init_1 11 rfl rfl)
theorem dX0_init_36 : decode cX0_init 36 = .ok (.bipush 6, 2) := dk_16 6 (dk_at dksX0_init_1 13 rfl rfl)
theorem dX0_init_38 : decode cX0_init 38 = .ok (.multianewarray 119 2, 4) := by decide +kernel
theorem dX0_init_42 : decode cX0_init 42 = .ok (.putfield 69, 3) := dk_181 0 69 (dk_at dksX0_init_1 19 rfl rfl)
theorem dX0_init_45 : decode cX0_init 45 = .ok (.aload_n 0, 1) := dk_42 (dk_at dksX0_init_1 22 rfl rfl)
theorem dX0_init_46 : decode cX0_init 46 = .ok (.bipush 6, 2) := dk_16 6 (dk_at dksX0_init_2 0 rfl rfl)
theorem dX0_init_48 : decode cX0_init 48 = .ok (.anewarray 49, 3) := dk_189 0 49 (dk_at dksX0_init_2 2 rfl rfl)
theorem dX0_init_51 : decode cX0_init 51 = .ok (.putfield 40, 3) := dk_181 0 40 (dk_at dksX0_init_2 5 rfl rfl)
theorem dX0_init_54 : decode cX0_init 54 = .ok (.aload_n 0, 1) := dk_42 (dk_at dksX0_init_2 8 rfl rfl)
theorem dX0_init_55 : decode cX0_init 55 = .ok (.sipush 200, 3) := dk_17 0 200 (dk_at dksX0_init_2 9 rfl rfl)
theorem dX0_init_58 : decode cX0_init 58 = .ok (.newarray .byte, 2) := dk_188_8 (dk_at dksX0_init_2 12 rfl rfl)
theorem dX0_init_60 : decode cX0_init 60 = .ok (.putfield 120, 3) := dk_181 0 120 (dk_at dksX0_init_2 14 rfl rfl)
theorem dX0_init_63 : decode cX0_init 63 = .ok (.aload_n 0, 1) := dk_42 (dk_at dksX0_init_2 17 rfl rfl)
theorem dX0_init_64 : decode cX0_init 64 = .ok (.new 90, 3) := dk_187 0 90 (dk_at dksX0_init_2 18 rfl rfl)
theorem dX0_init_67 : decode cX0_init 67 = .ok (.dup, 1) := dk_89 (dk_at dksX0_init_2 21 rfl rfl)
theorem dX0_init_68 : decode cX0_init 68 = .ok (.aload_n 0, 1) := dk_42 (dk_at dksX0_init_2 22 rfl rfl)
theorem dX0_init_69 : decode cX0_init 69 = .ok (.invokespecial 124, 3) := dk_183 0 124 (dk_at dksX0_init_3 0 rfl rfl)
theorem dX0_init_72 : decode cX0_init 72 = .ok (.putfield 85, 3) := dk_181 0 85 (dk_at dksX0_init_3 3 rfl rfl)
theorem dX0_init_75 : decode cX0_init 75 = .ok (.aload_n 0, 1) := dk_42 (dk_at dksX0_init_3 6 rfl rfl)
theorem dX0_init_76 : decode cX0_init 76 = .ok (.new 55, 3) := dk_187 0 55 (dk_at dksX0_init_3 7 rfl rfl)
theorem dX0_init_79 : decode cX0_init 79 = .ok (.dup, 1) := dk_89 (dk_at dksX0_init_3 10 rfl rfl)
theorem dX0_init_80 : decode cX0_init 80 = .ok (.invokespecial 127, 3) := dk_183 0 127 (dk_at dksX0_init_3 11 rfl rfl)
theorem dX0_init_83 : decode cX0_init 83 = .ok (.putfield 128, 3) := dk_181 0 128 (dk_at dksX0_init_3 14 rfl rfl)
theorem dX0_init_86 : decode cX0_init 86 = .ok (.iconst 0, 1) := dk_3 (dk_at dksX0_init_3 17 rfl rfl)
theorem dX0_init_87 : decode cX0_init 87 = .ok (.istore_n 1, 1) := dk_60 (dk_at dksX0_init_3 18 rfl rfl)
theorem dX0_init_88 : decode cX0_init 88 = .ok (.iload_n 1, 1) := dk_27 (dk_at dksX0_init_3 19 rfl rfl)
theorem dX0_init_89 : decode cX0_init 89 = .ok (.bipush 8, 2) := dk_16 8 (dk_at dksX0_init_3 20 rfl rfl)
theorem dX0_init_91 : decode cX0_init 91 = .ok (.if_icmp .ge 24, 3) := dk_162 0 24 (dk_at dksX0_init_4 0 rfl rfl)
theorem dX0_init_94 : decode cX0_init 94 = .ok (.aload_n 0, 1) := dk_42 (dk_at dksX0_init_4 3 rfl rfl)
theorem dX0_init_95 : decode cX0_init 95 = .ok (.getfield 1, 3) := dk_180 0 1 (dk_at dksX0_init_4 4 rfl rfl)
theorem dX0_init_98 : decode cX0_init 98 = .ok (.iload_n 1, 1) := dk_27 (dk_at dksX0_init_4 7 rfl rfl)
theorem dX0_init_99 : decode cX0_init 99 = .ok (.new 7, 3) := dk_187 0 7 (dk_at dksX0_init_4 8 rfl rfl)
theorem dX0_init_102 : decode cX0_init 102 = .ok (.dup, 1) := dk_89 (dk_at dksX0_init_4 11 rfl rfl)
theorem dX0_init_103 : decode cX0_init 103 = .ok (.iconst 1, 1) := dk_4 (dk_at dksX0_init_4 12 rfl rfl)
theorem dX0_init_104 : decode cX0_init 104 = .ok (.iconst 0, 1) := dk_3 (dk_at dksX0_init_4 13 rfl rfl)
theorem dX0_init_105 : decode cX0_init 105 = .ok (.invokespecial 65, 3) := dk_183 0 65 (dk_at dksX0_init_4 14 rfl rfl)
theorem dX0_init_108 : decode cX0_init 108 = .ok (.aastore, 1) := dk_83 (dk_at dksX0_init_4 17 rfl rfl)
theorem dX0_init_109 : decode cX0_init 109 = .ok (.iinc 1 1, 3) := dk_132 1 1 (dk_at dksX0_init_4 18 rfl rfl)
theorem dX0_init_112 : decode cX0_init 112 = .ok (.goto (-24), 3) := dk_167 255 232 (dk_at dksX0_init_4 21 rfl rfl)
theorem dX0_init_115 : decode cX0_init 115 = .ok (.iconst 0, 1) := dk_3 (dk_at dksX0_init_5 0 rfl rfl)
theorem dX0_init_116 : decode cX0_init 116 = .ok (.istore_n 1, 1) := dk_60 (dk_at dksX0_init_5 1 rfl rfl)
theorem dX0_init_117 : decode cX0_init 117 = .ok (.iload_n 1, 1) := dk_27 (dk_at dksX0_init_5 2 rfl rfl)
theorem dX0_init_118 : decode cX0_init 118 = .ok (.bipush 6, 2) := dk_16 6 (dk_at dksX0_init_5 3 rfl rfl)
theorem dX0_init_120 : decode cX0_init 120 = .ok (.if_icmp .ge 43, 3) := dk_162 0 43 (dk_at dksX0_init_5 5 rfl rfl)
theorem dX0_init_123 : decode cX0_init 123 = .ok (.iconst 0, 1) := dk_3 (dk_at dksX0_init_5 8 rfl rfl)
theorem dX0_init_124 : decode cX0_init 124 = .ok (.istore_n 2, 1) := dk_61 (dk_at dksX0_init_5 9 rfl rfl)
theorem dX0_init_125 : decode cX0_init 125 = .ok (.iload_n 2, 1) := dk_28 (dk_at dksX0_init_5 10 rfl rfl)
theorem dX0_init_126 : decode cX0_init 126 = .ok (.bipush 6, 2) := dk_16 6 (dk_at dksX0_init_5 11 rfl rfl)
theorem dX0_init_128 : decode cX0_init 128 = .ok (.if_icmp .ge 29, 3) := dk_162 0 29 (dk_at dksX0_init_5 13 rfl rfl)
theorem dX0_init_131 : decode cX0_init 131 = .ok (.aload_n 0, 1) := dk_42 (dk_at dksX0_init_5 16 rfl rfl)
theorem dX0_init_132 : decode cX0_init 132 = .ok (.getfield 69, 3) := dk_180 0 69 (dk_at dksX0_init_5 17 rfl rfl)
theorem dX0_init_135 : decode cX0_init 135 = .ok (.iload_n 1, 1) := dk_27 (dk_at dksX0_init_5 20 rfl rfl)
theorem dX0_init_136 : decode cX0_init 136 = .ok (.aaload, 1) := dk_50 (dk_at dksX0_init_5 21 rfl rfl)
theorem dX0_init_137 : decode cX0_init 137 = .ok (.iload_n 2, 1) := dk_28 (dk_at dksX0_init_5 22 rfl rfl)
theorem dX0_init_138 : decode cX0_init 138 = .ok (.iload_n 1, 1) := dk_27 (dk_at dksX0_init_5 23 rfl rfl)
theorem dX0_init_139 : decode cX0_init 139 = .ok (.iload_n 2, 1) := dk_28 (dk_at dksX0_init_6 0 rfl rfl)
theorem dX0_init_140 : decode cX0_init 140 = .ok (.if_icmp .ne 7, 3) := dk_160 0 7 (dk_at dksX0_init_6 1 rfl rfl)
theorem dX0_init_143 : decode cX0_init 143 = .ok (.iconst 0, 1) := dk_3 (dk_at dksX0_init_6 4 rfl rfl)
theorem dX0_init_144 : decode cX0_init 144 = .ok (.goto 5, 3) := dk_167 0 5 (dk_at dksX0_init_6 5 rfl rfl)
theorem dX0_init_147 : decode cX0_init 147 = .ok (.bipush 10, 2) := dk_16 10 (dk_at dksX0_init_6 8 rfl rfl)
theorem dX0_init_149 : decode cX0_init 149 = .ok (.i2s, 1) := dk_147 (dk_at dksX0_init_6 10 rfl rfl)
theorem dX0_init_150 : decode cX0_init 150 = .ok (.sastore, 1) := dk_86 (dk_at dksX0_init_6 11 rfl rfl)
theorem dX0_init_151 : decode cX0_init 151 = .ok (.iinc 2 1, 3) := dk_132 2 1 (dk_at dksX0_init_6 12 rfl rfl)
theorem dX0_init_154 : decode cX0_init 154 = .ok (.goto (-29), 3) := dk_167 255 227 (dk_at dksX0_init_6 15 rfl rfl)
theorem dX0_init_157 : decode cX0_init 157 = .ok (.iinc 1 1, 3) := dk_132 1 1 (dk_at dksX0_init_6 18 rfl rfl)
theorem dX0_init_160 : decode cX0_init 160 = .ok (.goto (-43), 3) := dk_167 255 213 (dk_at dksX0_init_6 21 rfl rfl)
theorem dX0_init_163 : decode cX0_init 163 = .ok (.return_, 1) := dk_177 (dk_at dksX0_init_7 0 rfl rfl)
abbrev cX0_write : ByteArray := prog_1_method_15_code
def yX0_write : MethodName := ⟨RX0, "write", "(JI)I"⟩
def dkwX0_write_3 : List UInt8 := [167, 255, 222, 42, 180, 0, 133, 172]
abbrev dktX0_write_3 : List UInt8 := dkwX0_write_3 ++ []
def dkwX0_write_2 : List UInt8 := [89, 180, 0, 133, 90, 4, 96, 181, 0, 133, 31, 16, 8, 21, 4, 104, 123, 136, 145, 84, 132, 4, 1]
abbrev dktX0_write_2 : List UInt8 := dkwX0_write_2 ++ dktX0_write_3
def dkwX0_write_1 : List UInt8 := [180, 0, 120, 190, 164, 0, 6, 16, 251, 172, 3, 54, 4, 21, 4, 29, 162, 0, 34, 42, 180, 0, 120, 42]
abbrev dktX0_write_1 : List UInt8 := dkwX0_write_1 ++ dktX0_write_2
def dkwX0_write_0 : List UInt8 := [29, 133, 10, 20, 0, 131, 184, 0, 36, 154, 0, 6, 16, 253, 172, 42, 180, 0, 133, 29, 96, 42]
abbrev dktX0_write_0 : List UInt8 := dkwX0_write_0 ++ dktX0_write_1
theorem dksX0_write_0 : cX0_write.data.toList.drop 0 = dktX0_write_0 := by decide +kernel
theorem dksX0_write_1 : cX0_write.data.toList.drop 22 = dktX0_write_1 := dk_seg dksX0_write_0 22 rfl rfl
theorem dksX0_write_2 : cX0_write.data.toList.drop 46 = dktX0_write_2 := dk_seg dksX0_write_1 24 rfl rfl
theorem dksX0_write_3 : cX0_write.data.toList.drop 69 = dktX0_write_3 := dk_seg dksX0_write_2 23 rfl rfl
theorem dX0_write_0 : decode cX0_write 0 = .ok (.iload_n 3, 1) := dk_29 (dk_at dksX0_write_0 0 rfl rfl)
theorem dX0_write_1 : decode cX0_write 1 = .ok (.i2l, 1) := dk_133 (dk_at dksX0_write_0 1 rfl rfl)
theorem dX0_write_2 : decode cX0_write 2 = .ok (.lconst 1, 1) := dk_10 (dk_at dksX0_write_0 2 rfl rfl)
theorem dX0_write_3 : decode cX0_write 3 = .ok (.ldc2_w 131, 3) := dk_20 0 131 (dk_at dksX0_write_0 3 rfl rfl)
theorem dX0_write_6 : decode cX0_write 6 = .ok (.invokestatic 36, 3) := dk_184 0 36 (dk_at dksX0_write_0 6 rfl rfl)
theorem dX0_write_9 : decode cX0_write 9 = .ok (.ifCond .ne 6, 3) := dk_154 0 6 (dk_at dksX0_write_0 9 rfl rfl)
theorem dX0_write_12 : decode cX0_write 12 = .ok (.bipush (-3), 2) := dk_16 253 (dk_at dksX0_write_0 12 rfl rfl)
theorem dX0_write_14 : decode cX0_write 14 = .ok (.ireturn, 1) := dk_172 (dk_at dksX0_write_0 14 rfl rfl)
theorem dX0_write_15 : decode cX0_write 15 = .ok (.aload_n 0, 1) := dk_42 (dk_at dksX0_write_0 15 rfl rfl)
theorem dX0_write_16 : decode cX0_write 16 = .ok (.getfield 133, 3) := dk_180 0 133 (dk_at dksX0_write_0 16 rfl rfl)
theorem dX0_write_19 : decode cX0_write 19 = .ok (.iload_n 3, 1) := dk_29 (dk_at dksX0_write_0 19 rfl rfl)
theorem dX0_write_20 : decode cX0_write 20 = .ok (.iadd, 1) := dk_96 (dk_at dksX0_write_0 20 rfl rfl)
theorem dX0_write_21 : decode cX0_write 21 = .ok (.aload_n 0, 1) := dk_42 (dk_at dksX0_write_0 21 rfl rfl)
theorem dX0_write_22 : decode cX0_write 22 = .ok (.getfield 120, 3) := dk_180 0 120 (dk_at dksX0_write_1 0 rfl rfl)
theorem dX0_write_25 : decode cX0_write 25 = .ok (.arraylength, 1) := dk_190 (dk_at dksX0_write_1 3 rfl rfl)
theorem dX0_write_26 : decode cX0_write 26 = .ok (.if_icmp .le 6, 3) := dk_164 0 6 (dk_at dksX0_write_1 4 rfl rfl)
theorem dX0_write_29 : decode cX0_write 29 = .ok (.bipush (-5), 2) := dk_16 251 (dk_at dksX0_write_1 7 rfl rfl)
theorem dX0_write_31 : decode cX0_write 31 = .ok (.ireturn, 1) := dk_172 (dk_at dksX0_write_1 9 rfl rfl)
theorem dX0_write_32 : decode cX0_write 32 = .ok (.iconst 0, 1) := dk_3 (dk_at dksX0_write_1 10 rfl rfl)
theorem dX0_write_33 : decode cX0_write 33 = .ok (.istore 4, 2) := dk_54 4 (dk_at dksX0_write_1 11 rfl rfl)
theorem dX0_write_35 : decode cX0_write 35 = .ok (.iload 4, 2) := dk_21 4 (dk_at dksX0_write_1 13 rfl rfl)
theorem dX0_write_37 : decode cX0_write 37 = .ok (.iload_n 3, 1) := dk_29 (dk_at dksX0_write_1 15 rfl rfl)
theorem dX0_write_38 : decode cX0_write 38 = .ok (.if_icmp .ge 34, 3) := dk_162 0 34 (dk_at dksX0_write_1 16 rfl rfl)
theorem dX0_write_41 : decode cX0_write 41 = .ok (.aload_n 0, 1) := dk_42 (dk_at dksX0_write_1 19 rfl rfl)
theorem dX0_write_42 : decode cX0_write 42 = .ok (.getfield 120, 3) := dk_180 0 120 (dk_at dksX0_write_1 20 rfl rfl)
theorem dX0_write_45 : decode cX0_write 45 = .ok (.aload_n 0, 1) := dk_42 (dk_at dksX0_write_1 23 rfl rfl)
theorem dX0_write_46 : decode cX0_write 46 = .ok (.dup, 1) := dk_89 (dk_at dksX0_write_2 0 rfl rfl)
theorem dX0_write_47 : decode cX0_write 47 = .ok (.getfield 133, 3) := dk_180 0 133 (dk_at dksX0_write_2 1 rfl rfl)
theorem dX0_write_50 : decode cX0_write 50 = .ok (.dup_x1, 1) := dk_90 (dk_at dksX0_write_2 4 rfl rfl)
theorem dX0_write_51 : decode cX0_write 51 = .ok (.iconst 1, 1) := dk_4 (dk_at dksX0_write_2 5 rfl rfl)
theorem dX0_write_52 : decode cX0_write 52 = .ok (.iadd, 1) := dk_96 (dk_at dksX0_write_2 6 rfl rfl)
theorem dX0_write_53 : decode cX0_write 53 = .ok (.putfield 133, 3) := dk_181 0 133 (dk_at dksX0_write_2 7 rfl rfl)
theorem dX0_write_56 : decode cX0_write 56 = .ok (.lload_n 1, 1) := dk_31 (dk_at dksX0_write_2 10 rfl rfl)
theorem dX0_write_57 : decode cX0_write 57 = .ok (.bipush 8, 2) := dk_16 8 (dk_at dksX0_write_2 11 rfl rfl)
theorem dX0_write_59 : decode cX0_write 59 = .ok (.iload 4, 2) := dk_21 4 (dk_at dksX0_write_2 13 rfl rfl)
theorem dX0_write_61 : decode cX0_write 61 = .ok (.imul, 1) := dk_104 (dk_at dksX0_write_2 15 rfl rfl)
theorem dX0_write_62 : decode cX0_write 62 = .ok (.lshr, 1) := dk_123 (dk_at dksX0_write_2 16 rfl rfl)
theorem dX0_write_63 : decode cX0_write 63 = .ok (.l2i, 1) := dk_136 (dk_at dksX0_write_2 17 rfl rfl)
theorem dX0_write_64 : decode cX0_write 64 = .ok (.i2b, 1) := dk_145 (dk_at dksX0_write_2 18 rfl rfl)
theorem dX0_write_65 : decode cX0_write 65 = .ok (.bastore, 1) := dk_84 (dk_at dksX0_write_2 19 rfl rfl)
theorem dX0_write_66 : decode cX0_write 66 = .ok (.iinc 4 1, 3) := dk_132 4 1 (dk_at dksX0_write_2 20 rfl rfl)
theorem dX0_write_69 : decode cX0_write 69 = .ok (.goto (-34), 3) := dk_167 255 222 (dk_at dksX0_write_3 0 rfl rfl)
theorem dX0_write_72 : decode cX0_write 72 = .ok (.aload_n 0, 1) := dk_42 (dk_at dksX0_write_3 3 rfl rfl)
theorem dX0_write_73 : decode cX0_write 73 = .ok (.getfield 133, 3) := dk_180 0 133 (dk_at dksX0_write_3 4 rfl rfl)
theorem dX0_write_76 : decode cX0_write 76 = .ok (.ireturn, 1) := dk_172 (dk_at dksX0_write_3 7 rfl rfl)
abbrev cX0_in : ByteArray := prog_1_method_1_code
def yX0_in : MethodName := ⟨RX0, "in", "(JJJ)Z"⟩
def dkwX0_in_0 : List UInt8 := [30, 32, 148, 155, 0, 14, 30, 22, 4, 148, 157, 0, 7, 4, 167, 0, 4, 3, 172]
abbrev dktX0_in_0 : List UInt8 := dkwX0_in_0 ++ []
theorem dksX0_in_0 : cX0_in.data.toList.drop 0 = dktX0_in_0 := by decide +kernel
theorem dX0_in_0 : decode cX0_in 0 = .ok (.lload_n 0, 1) := dk_30 (dk_at dksX0_in_0 0 rfl rfl)
theorem dX0_in_1 : decode cX0_in 1 = .ok (.lload_n 2, 1) := dk_32 (dk_at dksX0_in_0 1 rfl rfl)
theorem dX0_in_2 : decode cX0_in 2 = .ok (.lcmp, 1) := dk_148 (dk_at dksX0_in_0 2 rfl rfl)
theorem dX0_in_3 : decode cX0_in 3 = .ok (.ifCond .lt 14, 3) := dk_155 0 14 (dk_at dksX0_in_0 3 rfl rfl)
theorem dX0_in_6 : decode cX0_in 6 = .ok (.lload_n 0, 1) := dk_30 (dk_at dksX0_in_0 6 rfl rfl)
theorem dX0_in_7 : decode cX0_in 7 = .ok (.lload 4, 2) := dk_22 4 (dk_at dksX0_in_0 7 rfl rfl)
theorem dX0_in_9 : decode cX0_in 9 = .ok (.lcmp, 1) := dk_148 (dk_at dksX0_in_0 9 rfl rfl)
theorem dX0_in_10 : decode cX0_in 10 = .ok (.ifCond .gt 7, 3) := dk_157 0 7 (dk_at dksX0_in_0 10 rfl rfl)
theorem dX0_in_13 : decode cX0_in 13 = .ok (.iconst 1, 1) := dk_4 (dk_at dksX0_in_0 13 rfl rfl)
theorem dX0_in_14 : decode cX0_in 14 = .ok (.goto 4, 3) := dk_167 0 4 (dk_at dksX0_in_0 14 rfl rfl)
theorem dX0_in_17 : decode cX0_in 17 = .ok (.iconst 0, 1) := dk_3 (dk_at dksX0_in_0 17 rfl rfl)
theorem dX0_in_18 : decode cX0_in 18 = .ok (.ireturn, 1) := dk_172 (dk_at dksX0_in_0 18 rfl rfl)
abbrev cX0_erase : ByteArray := prog_1_method_16_code
def yX0_erase : MethodName := ⟨RX0, "erase", "()I"⟩
def dkwX0_erase_0 : List UInt8 := [42, 180, 0, 133, 60, 42, 3, 181, 0, 133, 27, 172]
abbrev dktX0_erase_0 : List UInt8 := dkwX0_erase_0 ++ []
theorem dksX0_erase_0 : cX0_erase.data.toList.drop 0 = dktX0_erase_0 := by decide +kernel
theorem dX0_erase_0 : decode cX0_erase 0 = .ok (.aload_n 0, 1) := dk_42 (dk_at dksX0_erase_0 0 rfl rfl)
theorem dX0_erase_1 : decode cX0_erase 1 = .ok (.getfield 133, 3) := dk_180 0 133 (dk_at dksX0_erase_0 1 rfl rfl)
theorem dX0_erase_4 : decode cX0_erase 4 = .ok (.istore_n 1, 1) := dk_60 (dk_at dksX0_erase_0 4 rfl rfl)
theorem dX0_erase_5 : decode cX0_erase 5 = .ok (.aload_n 0, 1) := dk_42 (dk_at dksX0_erase_0 5 rfl rfl)
theorem dX0_erase_6 : decode cX0_erase 6 = .ok (.iconst 0, 1) := dk_3 (dk_at dksX0_erase_0 6 rfl rfl)
theorem dX0_erase_7 : decode cX0_erase 7 = .ok (.putfield 133, 3) := dk_181 0 133 (dk_at dksX0_erase_0 7 rfl rfl)
theorem dX0_erase_10 : decode cX0_erase 10 = .ok (.iload_n 1, 1) := dk_27 (dk_at dksX0_erase_0 10 rfl rfl)
theorem dX0_erase_11 : decode cX0_erase 11 = .ok (.ireturn, 1) := dk_172 (dk_at dksX0_erase_0 11 rfl rfl)
abbrev cX0_fault : ByteArray := prog_1_method_17_code
def yX0_fault : MethodName := ⟨RX0, "fault", "()I"⟩
def dkwX0_fault_0 : List UInt8 := [187, 0, 136, 89, 42, 183, 0, 138, 182, 0, 139, 87, 2, 172, 76, 43, 180, 0, 145, 172]
abbrev dktX0_fault_0 : List UInt8 := dkwX0_fault_0 ++ []
theorem dksX0_fault_0 : cX0_fault.data.toList.drop 0 = dktX0_fault_0 := by decide +kernel
theorem dX0_fault_0 : decode cX0_fault 0 = .ok (.new 136, 3) := dk_187 0 136 (dk_at dksX0_fault_0 0 rfl rfl)
theorem dX0_fault_3 : decode cX0_fault 3 = .ok (.dup, 1) := dk_89 (dk_at dksX0_fault_0 3 rfl rfl)
theorem dX0_fault_4 : decode cX0_fault 4 = .ok (.aload_n 0, 1) := dk_42 (dk_at dksX0_fault_0 4 rfl rfl)
theorem dX0_fault_5 : decode cX0_fault 5 = .ok (.invokespecial 138, 3) := dk_183 0 138 (dk_at dksX0_fault_0 5 rfl rfl)
theorem dX0_fault_8 : decode cX0_fault 8 = .ok (.invokevirtual 139, 3) := dk_182 0 139 (dk_at dksX0_fault_0 8 rfl rfl)
theorem dX0_fault_11 : decode cX0_fault 11 = .ok (.pop, 1) := dk_87 (dk_at dksX0_fault_0 11 rfl rfl)
theorem dX0_fault_12 : decode cX0_fault 12 = .ok (.iconst (-1), 1) := dk_2 (dk_at dksX0_fault_0 12 rfl rfl)
theorem dX0_fault_13 : decode cX0_fault 13 = .ok (.ireturn, 1) := dk_172 (dk_at dksX0_fault_0 13 rfl rfl)
theorem dX0_fault_14 : decode cX0_fault 14 = .ok (.astore_n 1, 1) := dk_76 (dk_at dksX0_fault_0 14 rfl rfl)
theorem dX0_fault_15 : decode cX0_fault 15 = .ok (.aload_n 1, 1) := dk_43 (dk_at dksX0_fault_0 15 rfl rfl)
theorem dX0_fault_16 : decode cX0_fault 16 = .ok (.getfield 145, 3) := dk_180 0 145 (dk_at dksX0_fault_0 16 rfl rfl)
theorem dX0_fault_19 : decode cX0_fault 19 = .ok (.ireturn, 1) := dk_172 (dk_at dksX0_fault_0 19 rfl rfl)
abbrev cX0_day : ByteArray := prog_1_method_18_code
def yX0_day : MethodName := ⟨RX0, "day", "()I"⟩
def dkwX0_day_2 : List UInt8 := [3, 181, 0, 133, 43, 180, 0, 148, 172]
abbrev dktX0_day_2 : List UInt8 := dkwX0_day_2 ++ []
def dkwX0_day_1 : List UInt8 := [43, 180, 0, 148, 162, 0, 19, 42, 43, 180, 0, 151, 28, 50, 182, 0, 155, 132, 2, 1, 167, 255, 235, 42]
abbrev dktX0_day_1 : List UInt8 := dkwX0_day_1 ++ dktX0_day_2
def dkwX0_day_0 : List UInt8 := [187, 0, 136, 89, 42, 183, 0, 138, 76, 43, 182, 0, 139, 87, 167, 0, 7, 77, 16, 252, 172, 3, 61, 28]
abbrev dktX0_day_0 : List UInt8 := dkwX0_day_0 ++ dktX0_day_1
theorem dksX0_day_0 : cX0_day.data.toList.drop 0 = dktX0_day_0 := by decide +kernel
theorem dksX0_day_1 : cX0_day.data.toList.drop 24 = dktX0_day_1 := dk_seg dksX0_day_0 24 rfl rfl
theorem dksX0_day_2 : cX0_day.data.toList.drop 48 = dktX0_day_2 := dk_seg dksX0_day_1 24 rfl rfl
theorem dX0_day_0 : decode cX0_day 0 = .ok (.new 136, 3) := dk_187 0 136 (dk_at dksX0_day_0 0 rfl rfl)
theorem dX0_day_3 : decode cX0_day 3 = .ok (.dup, 1) := dk_89 (dk_at dksX0_day_0 3 rfl rfl)
theorem dX0_day_4 : decode cX0_day 4 = .ok (.aload_n 0, 1) := dk_42 (dk_at dksX0_day_0 4 rfl rfl)
theorem dX0_day_5 : decode cX0_day 5 = .ok (.invokespecial 138, 3) := dk_183 0 138 (dk_at dksX0_day_0 5 rfl rfl)
theorem dX0_day_8 : decode cX0_day 8 = .ok (.astore_n 1, 1) := dk_76 (dk_at dksX0_day_0 8 rfl rfl)
theorem dX0_day_9 : decode cX0_day 9 = .ok (.aload_n 1, 1) := dk_43 (dk_at dksX0_day_0 9 rfl rfl)
theorem dX0_day_10 : decode cX0_day 10 = .ok (.invokevirtual 139, 3) := dk_182 0 139 (dk_at dksX0_day_0 10 rfl rfl)
theorem dX0_day_13 : decode cX0_day 13 = .ok (.pop, 1) := dk_87 (dk_at dksX0_day_0 13 rfl rfl)
theorem dX0_day_14 : decode cX0_day 14 = .ok (.goto 7, 3) := dk_167 0 7 (dk_at dksX0_day_0 14 rfl rfl)
theorem dX0_day_17 : decode cX0_day 17 = .ok (.astore_n 2, 1) := dk_77 (dk_at dksX0_day_0 17 rfl rfl)
theorem dX0_day_18 : decode cX0_day 18 = .ok (.bipush (-4), 2) := dk_16 252 (dk_at dksX0_day_0 18 rfl rfl)
theorem dX0_day_20 : decode cX0_day 20 = .ok (.ireturn, 1) := dk_172 (dk_at dksX0_day_0 20 rfl rfl)
theorem dX0_day_21 : decode cX0_day 21 = .ok (.iconst 0, 1) := dk_3 (dk_at dksX0_day_0 21 rfl rfl)
theorem dX0_day_22 : decode cX0_day 22 = .ok (.istore_n 2, 1) := dk_61 (dk_at dksX0_day_0 22 rfl rfl)
theorem dX0_day_23 : decode cX0_day 23 = .ok (.iload_n 2, 1) := dk_28 (dk_at dksX0_day_0 23 rfl rfl)
theorem dX0_day_24 : decode cX0_day 24 = .ok (.aload_n 1, 1) := dk_43 (dk_at dksX0_day_1 0 rfl rfl)
theorem dX0_day_25 : decode cX0_day 25 = .ok (.getfield 148, 3) := dk_180 0 148 (dk_at dksX0_day_1 1 rfl rfl)
theorem dX0_day_28 : decode cX0_day 28 = .ok (.if_icmp .ge 19, 3) := dk_162 0 19 (dk_at dksX0_day_1 4 rfl rfl)
theorem dX0_day_31 : decode cX0_day 31 = .ok (.aload_n 0, 1) := dk_42 (dk_at dksX0_day_1 7 rfl rfl)
theorem dX0_day_32 : decode cX0_day 32 = .ok (.aload_n 1, 1) := dk_43 (dk_at dksX0_day_1 8 rfl rfl)
theorem dX0_day_33 : decode cX0_day 33 = .ok (.getfield 151, 3) := dk_180 0 151 (dk_at dksX0_day_1 9 rfl rfl)
theorem dX0_day_36 : decode cX0_day 36 = .ok (.iload_n 2, 1) := dk_28 (dk_at dksX0_day_1 12 rfl rfl)
theorem dX0_day_37 : decode cX0_day 37 = .ok (.aaload, 1) := dk_50 (dk_at dksX0_day_1 13 rfl rfl)
theorem dX0_day_38 : decode cX0_day 38 = .ok (.invokevirtual 155, 3) := dk_182 0 155 (dk_at dksX0_day_1 14 rfl rfl)
theorem dX0_day_41 : decode cX0_day 41 = .ok (.iinc 2 1, 3) := dk_132 2 1 (dk_at dksX0_day_1 17 rfl rfl)
theorem dX0_day_44 : decode cX0_day 44 = .ok (.goto (-21), 3) := dk_167 255 235 (dk_at dksX0_day_1 20 rfl rfl)
theorem dX0_day_47 : decode cX0_day 47 = .ok (.aload_n 0, 1) := dk_42 (dk_at dksX0_day_1 23 rfl rfl)
theorem dX0_day_48 : decode cX0_day 48 = .ok (.iconst 0, 1) := dk_3 (dk_at dksX0_day_2 0 rfl rfl)
theorem dX0_day_49 : decode cX0_day 49 = .ok (.putfield 133, 3) := dk_181 0 133 (dk_at dksX0_day_2 1 rfl rfl)
theorem dX0_day_52 : decode cX0_day 52 = .ok (.aload_n 1, 1) := dk_43 (dk_at dksX0_day_2 4 rfl rfl)
theorem dX0_day_53 : decode cX0_day 53 = .ok (.getfield 148, 3) := dk_180 0 148 (dk_at dksX0_day_2 5 rfl rfl)
theorem dX0_day_56 : decode cX0_day 56 = .ok (.ireturn, 1) := dk_172 (dk_at dksX0_day_2 8 rfl rfl)
abbrev cX0_tell : ByteArray := prog_1_method_8_code
def yX0_tell : MethodName := ⟨RX0, "tell", "([I)V"⟩
def dkwX0_tell_10 : List UInt8 := [50, 187, 0, 76, 89, 43, 5, 46, 43, 6, 46, 43, 7, 46, 43, 8, 46, 183, 0, 78, 182, 0, 81, 177]
abbrev dktX0_tell_10 : List UInt8 := dkwX0_tell_10 ++ []
def dkwX0_tell_9 : List UInt8 := [183, 0, 73, 83, 167, 0, 43, 42, 43, 4, 46, 182, 0, 44, 153, 0, 33, 42, 180, 0, 40, 43, 4, 46]
abbrev dktX0_tell_9 : List UInt8 := dkwX0_tell_9 ++ dktX0_tell_10
def dkwX0_tell_8 : List UInt8 := [7, 46, 79, 89, 6, 43, 8, 46, 79, 89, 7, 43, 16, 6, 46, 79, 89, 8, 43, 16, 7, 46, 79]
abbrev dktX0_tell_8 : List UInt8 := dkwX0_tell_8 ++ dktX0_tell_9
def dkwX0_tell_7 : List UInt8 := [46, 187, 0, 49, 89, 16, 6, 188, 10, 89, 3, 43, 5, 46, 79, 89, 4, 43, 6, 46, 79, 89, 5, 43]
abbrev dktX0_tell_7 : List UInt8 := dkwX0_tell_7 ++ dktX0_tell_8
def dkwX0_tell_6 : List UInt8 := [180, 0, 69, 43, 5, 46, 50, 43, 4, 46, 43, 6, 46, 147, 86, 167, 0, 103, 42, 180, 0, 40, 43, 4]
abbrev dktX0_tell_6 : List UInt8 := dkwX0_tell_6 ++ dktX0_tell_7
def dkwX0_tell_5 : List UInt8 := [181, 0, 66, 167, 0, 138, 42, 180, 0, 69, 43, 4, 46, 50, 43, 5, 46, 43, 6, 46, 147, 86, 42]
abbrev dktX0_tell_5 : List UInt8 := dkwX0_tell_5 ++ dktX0_tell_6
def dkwX0_tell_4 : List UInt8 := [43, 4, 46, 181, 0, 31, 167, 0, 158, 42, 43, 4, 46, 181, 0, 24, 167, 0, 148, 42, 43, 4, 46]
abbrev dktX0_tell_4 : List UInt8 := dkwX0_tell_4 ++ dktX0_tell_5
def dkwX0_tell_3 : List UInt8 := [183, 0, 61, 167, 0, 16, 187, 0, 7, 89, 43, 5, 46, 43, 6, 46, 183, 0, 65, 83, 167, 0, 168, 42]
abbrev dktX0_tell_3 : List UInt8 := dkwX0_tell_3 ++ dktX0_tell_4
def dkwX0_tell_2 : List UInt8 := [42, 180, 0, 1, 43, 4, 46, 43, 7, 46, 4, 160, 0, 19, 187, 0, 59, 89, 43, 5, 46, 43, 6, 46]
abbrev dktX0_tell_2 : List UInt8 := dkwX0_tell_2 ++ dktX0_tell_3
def dkwX0_tell_1 : List UInt8 := [170, 0, 0, 0, 209, 0, 0, 0, 0, 0, 0, 0, 5, 0, 0, 0, 37, 0, 0, 0, 84, 0, 0, 0, 94, 0, 0, 0, 104, 0, 0, 0, 114, 0, 0, 0, 149]
abbrev dktX0_tell_1 : List UInt8 := dkwX0_tell_1 ++ dktX0_tell_2
def dkwX0_tell_0 : List UInt8 := [43, 3, 46]
abbrev dktX0_tell_0 : List UInt8 := dkwX0_tell_0 ++ dktX0_tell_1
theorem dksX0_tell_0 : cX0_tell.data.toList.drop 0 = dktX0_tell_0 := by decide +kernel
theorem dksX0_tell_1 : cX0_tell.data.toList.drop 3 = dktX0_tell_1 := dk_seg dksX0_tell_0 3 rfl rfl
theorem dksX0_tell_2 : cX0_tell.data.toList.drop 40 = dktX0_tell_2 := dk_seg dksX0_tell_1 37 rfl rfl
theorem dksX0_tell_3 : cX0_tell.data.toList.drop 64 = dktX0_tell_3 := dk_seg dksX0_tell_2 24 rfl rfl
theorem dksX0_tell_4 : cX0_tell.data.toList.drop 88 = dktX0_tell_4 := dk_seg dksX0_tell_3 24 rfl rfl
theorem dksX0_tell_5 : cX0_tell.data.toList.drop 111 = dktX0_tell_5 := dk_seg dksX0_tell_4 23 rfl rfl
theorem dksX0_tell_6 : cX0_tell.data.toList.drop 134 = dktX0_tell_6 := dk_seg dksX0_tell_5 23 rfl rfl
theorem dksX0_tell_7 : cX0_tell.data.toList.drop 158 = dktX0_tell_7 := dk_seg dksX0_tell_6 24 rfl rfl
theorem dksX0_tell_8 : cX0_tell.data.toList.drop 182 = dktX0_tell_8 := dk_seg dksX0_tell_7 24 rfl rfl
theorem dksX0_tell_9 : cX0_tell.data.toList.drop 205 = dktX0_tell_9 := dk_seg dksX0_tell_8 23 rfl rfl
theorem dksX0_tell_10 : cX0_tell.data.toList.drop 229 = dktX0_tell_10 := dk_seg dksX0_tell_9 24 rfl rfl
theorem dX0_tell_0 : decode cX0_tell 0 = .ok (.aload_n 1, 1) := dk_43 (dk_at dksX0_tell_0 0 rfl rfl)
theorem dX0_tell_1 : decode cX0_tell 1 = .ok (.iconst 0, 1) := dk_3 (dk_at dksX0_tell_0 1 rfl rfl)
theorem dX0_tell_2 : decode cX0_tell 2 = .ok (.iaload, 1) := dk_46 (dk_at dksX0_tell_0 2 rfl rfl)
theorem dX0_tell_3 : decode cX0_tell 3 = .ok (.tableswitch 209 0 5 #[37, 84, 94, 104, 114, 149], 37) := by decide +kernel
theorem dX0_tell_40 : decode cX0_tell 40 = .ok (.aload_n 0, 1) := dk_42 (dk_at dksX0_tell_2 0 rfl rfl)
theorem dX0_tell_41 : decode cX0_tell 41 = .ok (.getfield 1, 3) := dk_180 0 1 (dk_at dksX0_tell_2 1 rfl rfl)
theorem dX0_tell_44 : decode cX0_tell 44 = .ok (.aload_n 1, 1) := dk_43 (dk_at dksX0_tell_2 4 rfl rfl)
theorem dX0_tell_45 : decode cX0_tell 45 = .ok (.iconst 1, 1) := dk_4 (dk_at dksX0_tell_2 5 rfl rfl)
theorem dX0_tell_46 : decode cX0_tell 46 = .ok (.iaload, 1) := dk_46 (dk_at dksX0_tell_2 6 rfl rfl)
theorem dX0_tell_47 : decode cX0_tell 47 = .ok (.aload_n 1, 1) := dk_43 (dk_at dksX0_tell_2 7 rfl rfl)
theorem dX0_tell_48 : decode cX0_tell 48 = .ok (.iconst 4, 1) := dk_7 (dk_at dksX0_tell_2 8 rfl rfl)
theorem dX0_tell_49 : decode cX0_tell 49 = .ok (.iaload, 1) := dk_46 (dk_at dksX0_tell_2 9 rfl rfl)
theorem dX0_tell_50 : decode cX0_tell 50 = .ok (.iconst 1, 1) := dk_4 (dk_at dksX0_tell_2 10 rfl rfl)
theorem dX0_tell_51 : decode cX0_tell 51 = .ok (.if_icmp .ne 19, 3) := dk_160 0 19 (dk_at dksX0_tell_2 11 rfl rfl)
theorem dX0_tell_54 : decode cX0_tell 54 = .ok (.new 59, 3) := dk_187 0 59 (dk_at dksX0_tell_2 14 rfl rfl)
theorem dX0_tell_57 : decode cX0_tell 57 = .ok (.dup, 1) := dk_89 (dk_at dksX0_tell_2 17 rfl rfl)
theorem dX0_tell_58 : decode cX0_tell 58 = .ok (.aload_n 1, 1) := dk_43 (dk_at dksX0_tell_2 18 rfl rfl)
theorem dX0_tell_59 : decode cX0_tell 59 = .ok (.iconst 2, 1) := dk_5 (dk_at dksX0_tell_2 19 rfl rfl)
theorem dX0_tell_60 : decode cX0_tell 60 = .ok (.iaload, 1) := dk_46 (dk_at dksX0_tell_2 20 rfl rfl)
theorem dX0_tell_61 : decode cX0_tell 61 = .ok (.aload_n 1, 1) := dk_43 (dk_at dksX0_tell_2 21 rfl rfl)
theorem dX0_tell_62 : decode cX0_tell 62 = .ok (.iconst 3, 1) := dk_6 (dk_at dksX0_tell_2 22 rfl rfl)
theorem dX0_tell_63 : decode cX0_tell 63 = .ok (.iaload, 1) := dk_46 (dk_at dksX0_tell_2 23 rfl rfl)
theorem dX0_tell_64 : decode cX0_tell 64 = .ok (.invokespecial 61, 3) := dk_183 0 61 (dk_at dksX0_tell_3 0 rfl rfl)
theorem dX0_tell_67 : decode cX0_tell 67 = .ok (.goto 16, 3) := dk_167 0 16 (dk_at dksX0_tell_3 3 rfl rfl)
theorem dX0_tell_70 : decode cX0_tell 70 = .ok (.new 7, 3) := dk_187 0 7 (dk_at dksX0_tell_3 6 rfl rfl)
theorem dX0_tell_73 : decode cX0_tell 73 = .ok (.dup, 1) := dk_89 (dk_at dksX0_tell_3 9 rfl rfl)
theorem dX0_tell_74 : decode cX0_tell 74 = .ok (.aload_n 1, 1) := dk_43 (dk_at dksX0_tell_3 10 rfl rfl)
theorem dX0_tell_75 : decode cX0_tell 75 = .ok (.iconst 2, 1) := dk_5 (dk_at dksX0_tell_3 11 rfl rfl)
theorem dX0_tell_76 : decode cX0_tell 76 = .ok (.iaload, 1) := dk_46 (dk_at dksX0_tell_3 12 rfl rfl)
theorem dX0_tell_77 : decode cX0_tell 77 = .ok (.aload_n 1, 1) := dk_43 (dk_at dksX0_tell_3 13 rfl rfl)
theorem dX0_tell_78 : decode cX0_tell 78 = .ok (.iconst 3, 1) := dk_6 (dk_at dksX0_tell_3 14 rfl rfl)
theorem dX0_tell_79 : decode cX0_tell 79 = .ok (.iaload, 1) := dk_46 (dk_at dksX0_tell_3 15 rfl rfl)
theorem dX0_tell_80 : decode cX0_tell 80 = .ok (.invokespecial 65, 3) := dk_183 0 65 (dk_at dksX0_tell_3 16 rfl rfl)
theorem dX0_tell_83 : decode cX0_tell 83 = .ok (.aastore, 1) := dk_83 (dk_at dksX0_tell_3 19 rfl rfl)
theorem dX0_tell_84 : decode cX0_tell 84 = .ok (.goto 168, 3) := dk_167 0 168 (dk_at dksX0_tell_3 20 rfl rfl)
theorem dX0_tell_87 : decode cX0_tell 87 = .ok (.aload_n 0, 1) := dk_42 (dk_at dksX0_tell_3 23 rfl rfl)
theorem dX0_tell_88 : decode cX0_tell 88 = .ok (.aload_n 1, 1) := dk_43 (dk_at dksX0_tell_4 0 rfl rfl)
theorem dX0_tell_89 : decode cX0_tell 89 = .ok (.iconst 1, 1) := dk_4 (dk_at dksX0_tell_4 1 rfl rfl)
theorem dX0_tell_90 : decode cX0_tell 90 = .ok (.iaload, 1) := dk_46 (dk_at dksX0_tell_4 2 rfl rfl)
theorem dX0_tell_91 : decode cX0_tell 91 = .ok (.putfield 31, 3) := dk_181 0 31 (dk_at dksX0_tell_4 3 rfl rfl)
theorem dX0_tell_94 : decode cX0_tell 94 = .ok (.goto 158, 3) := dk_167 0 158 (dk_at dksX0_tell_4 6 rfl rfl)
theorem dX0_tell_97 : decode cX0_tell 97 = .ok (.aload_n 0, 1) := dk_42 (dk_at dksX0_tell_4 9 rfl rfl)
theorem dX0_tell_98 : decode cX0_tell 98 = .ok (.aload_n 1, 1) := dk_43 (dk_at dksX0_tell_4 10 rfl rfl)
theorem dX0_tell_99 : decode cX0_tell 99 = .ok (.iconst 1, 1) := dk_4 (dk_at dksX0_tell_4 11 rfl rfl)
theorem dX0_tell_100 : decode cX0_tell 100 = .ok (.iaload, 1) := dk_46 (dk_at dksX0_tell_4 12 rfl rfl)
theorem dX0_tell_101 : decode cX0_tell 101 = .ok (.putfield 24, 3) := dk_181 0 24 (dk_at dksX0_tell_4 13 rfl rfl)
theorem dX0_tell_104 : decode cX0_tell 104 = .ok (.goto 148, 3) := dk_167 0 148 (dk_at dksX0_tell_4 16 rfl rfl)
theorem dX0_tell_107 : decode cX0_tell 107 = .ok (.aload_n 0, 1) := dk_42 (dk_at dksX0_tell_4 19 rfl rfl)
theorem dX0_tell_108 : decode cX0_tell 108 = .ok (.aload_n 1, 1) := dk_43 (dk_at dksX0_tell_4 20 rfl rfl)
theorem dX0_tell_109 : decode cX0_tell 109 = .ok (.iconst 1, 1) := dk_4 (dk_at dksX0_tell_4 21 rfl rfl)
theorem dX0_tell_110 : decode cX0_tell 110 = .ok (.iaload, 1) := dk_46 (dk_at dksX0_tell_4 22 rfl rfl)
theorem dX0_tell_111 : decode cX0_tell 111 = .ok (.putfield 66, 3) := dk_181 0 66 (dk_at dksX0_tell_5 0 rfl rfl)
theorem dX0_tell_114 : decode cX0_tell 114 = .ok (.goto 138, 3) := dk_167 0 138 (dk_at dksX0_tell_5 3 rfl rfl)
theorem dX0_tell_117 : decode cX0_tell 117 = .ok (.aload_n 0, 1) := dk_42 (dk_at dksX0_tell_5 6 rfl rfl)
theorem dX0_tell_118 : decode cX0_tell 118 = .ok (.getfield 69, 3) := dk_180 0 69 (dk_at dksX0_tell_5 7 rfl rfl)
theorem dX0_tell_121 : decode cX0_tell 121 = .ok (.aload_n 1, 1) := dk_43 (dk_at dksX0_tell_5 10 rfl rfl)
theorem dX0_tell_122 : decode cX0_tell 122 = .ok (.iconst 1, 1) := dk_4 (dk_at dksX0_tell_5 11 rfl rfl)
theorem dX0_tell_123 : decode cX0_tell 123 = .ok (.iaload, 1) := dk_46 (dk_at dksX0_tell_5 12 rfl rfl)
theorem dX0_tell_124 : decode cX0_tell 124 = .ok (.aaload, 1) := dk_50 (dk_at dksX0_tell_5 13 rfl rfl)
theorem dX0_tell_125 : decode cX0_tell 125 = .ok (.aload_n 1, 1) := dk_43 (dk_at dksX0_tell_5 14 rfl rfl)
theorem dX0_tell_126 : decode cX0_tell 126 = .ok (.iconst 2, 1) := dk_5 (dk_at dksX0_tell_5 15 rfl rfl)
theorem dX0_tell_127 : decode cX0_tell 127 = .ok (.iaload, 1) := dk_46 (dk_at dksX0_tell_5 16 rfl rfl)
theorem dX0_tell_128 : decode cX0_tell 128 = .ok (.aload_n 1, 1) := dk_43 (dk_at dksX0_tell_5 17 rfl rfl)
theorem dX0_tell_129 : decode cX0_tell 129 = .ok (.iconst 3, 1) := dk_6 (dk_at dksX0_tell_5 18 rfl rfl)
theorem dX0_tell_130 : decode cX0_tell 130 = .ok (.iaload, 1) := dk_46 (dk_at dksX0_tell_5 19 rfl rfl)
theorem dX0_tell_131 : decode cX0_tell 131 = .ok (.i2s, 1) := dk_147 (dk_at dksX0_tell_5 20 rfl rfl)
theorem dX0_tell_132 : decode cX0_tell 132 = .ok (.sastore, 1) := dk_86 (dk_at dksX0_tell_5 21 rfl rfl)
theorem dX0_tell_133 : decode cX0_tell 133 = .ok (.aload_n 0, 1) := dk_42 (dk_at dksX0_tell_5 22 rfl rfl)
theorem dX0_tell_134 : decode cX0_tell 134 = .ok (.getfield 69, 3) := dk_180 0 69 (dk_at dksX0_tell_6 0 rfl rfl)
theorem dX0_tell_137 : decode cX0_tell 137 = .ok (.aload_n 1, 1) := dk_43 (dk_at dksX0_tell_6 3 rfl rfl)
theorem dX0_tell_138 : decode cX0_tell 138 = .ok (.iconst 2, 1) := dk_5 (dk_at dksX0_tell_6 4 rfl rfl)
theorem dX0_tell_139 : decode cX0_tell 139 = .ok (.iaload, 1) := dk_46 (dk_at dksX0_tell_6 5 rfl rfl)
theorem dX0_tell_140 : decode cX0_tell 140 = .ok (.aaload, 1) := dk_50 (dk_at dksX0_tell_6 6 rfl rfl)
theorem dX0_tell_141 : decode cX0_tell 141 = .ok (.aload_n 1, 1) := dk_43 (dk_at dksX0_tell_6 7 rfl rfl)
theorem dX0_tell_142 : decode cX0_tell 142 = .ok (.iconst 1, 1) := dk_4 (dk_at dksX0_tell_6 8 rfl rfl)
theorem dX0_tell_143 : decode cX0_tell 143 = .ok (.iaload, 1) := dk_46 (dk_at dksX0_tell_6 9 rfl rfl)
theorem dX0_tell_144 : decode cX0_tell 144 = .ok (.aload_n 1, 1) := dk_43 (dk_at dksX0_tell_6 10 rfl rfl)
theorem dX0_tell_145 : decode cX0_tell 145 = .ok (.iconst 3, 1) := dk_6 (dk_at dksX0_tell_6 11 rfl rfl)
theorem dX0_tell_146 : decode cX0_tell 146 = .ok (.iaload, 1) := dk_46 (dk_at dksX0_tell_6 12 rfl rfl)
theorem dX0_tell_147 : decode cX0_tell 147 = .ok (.i2s, 1) := dk_147 (dk_at dksX0_tell_6 13 rfl rfl)
theorem dX0_tell_148 : decode cX0_tell 148 = .ok (.sastore, 1) := dk_86 (dk_at dksX0_tell_6 14 rfl rfl)
theorem dX0_tell_149 : decode cX0_tell 149 = .ok (.goto 103, 3) := dk_167 0 103 (dk_at dksX0_tell_6 15 rfl rfl)
theorem dX0_tell_152 : decode cX0_tell 152 = .ok (.aload_n 0, 1) := dk_42 (dk_at dksX0_tell_6 18 rfl rfl)
theorem dX0_tell_153 : decode cX0_tell 153 = .ok (.getfield 40, 3) := dk_180 0 40 (dk_at dksX0_tell_6 19 rfl rfl)
theorem dX0_tell_156 : decode cX0_tell 156 = .ok (.aload_n 1, 1) := dk_43 (dk_at dksX0_tell_6 22 rfl rfl)
theorem dX0_tell_157 : decode cX0_tell 157 = .ok (.iconst 1, 1) := dk_4 (dk_at dksX0_tell_6 23 rfl rfl)
theorem dX0_tell_158 : decode cX0_tell 158 = .ok (.iaload, 1) := dk_46 (dk_at dksX0_tell_7 0 rfl rfl)
theorem dX0_tell_159 : decode cX0_tell 159 = .ok (.new 49, 3) := dk_187 0 49 (dk_at dksX0_tell_7 1 rfl rfl)
theorem dX0_tell_162 : decode cX0_tell 162 = .ok (.dup, 1) := dk_89 (dk_at dksX0_tell_7 4 rfl rfl)
theorem dX0_tell_163 : decode cX0_tell 163 = .ok (.bipush 6, 2) := dk_16 6 (dk_at dksX0_tell_7 5 rfl rfl)
theorem dX0_tell_165 : decode cX0_tell 165 = .ok (.newarray .int, 2) := dk_188_10 (dk_at dksX0_tell_7 7 rfl rfl)
theorem dX0_tell_167 : decode cX0_tell 167 = .ok (.dup, 1) := dk_89 (dk_at dksX0_tell_7 9 rfl rfl)
theorem dX0_tell_168 : decode cX0_tell 168 = .ok (.iconst 0, 1) := dk_3 (dk_at dksX0_tell_7 10 rfl rfl)
theorem dX0_tell_169 : decode cX0_tell 169 = .ok (.aload_n 1, 1) := dk_43 (dk_at dksX0_tell_7 11 rfl rfl)
theorem dX0_tell_170 : decode cX0_tell 170 = .ok (.iconst 2, 1) := dk_5 (dk_at dksX0_tell_7 12 rfl rfl)
theorem dX0_tell_171 : decode cX0_tell 171 = .ok (.iaload, 1) := dk_46 (dk_at dksX0_tell_7 13 rfl rfl)
theorem dX0_tell_172 : decode cX0_tell 172 = .ok (.iastore, 1) := dk_79 (dk_at dksX0_tell_7 14 rfl rfl)
theorem dX0_tell_173 : decode cX0_tell 173 = .ok (.dup, 1) := dk_89 (dk_at dksX0_tell_7 15 rfl rfl)
theorem dX0_tell_174 : decode cX0_tell 174 = .ok (.iconst 1, 1) := dk_4 (dk_at dksX0_tell_7 16 rfl rfl)
theorem dX0_tell_175 : decode cX0_tell 175 = .ok (.aload_n 1, 1) := dk_43 (dk_at dksX0_tell_7 17 rfl rfl)
theorem dX0_tell_176 : decode cX0_tell 176 = .ok (.iconst 3, 1) := dk_6 (dk_at dksX0_tell_7 18 rfl rfl)
theorem dX0_tell_177 : decode cX0_tell 177 = .ok (.iaload, 1) := dk_46 (dk_at dksX0_tell_7 19 rfl rfl)
theorem dX0_tell_178 : decode cX0_tell 178 = .ok (.iastore, 1) := dk_79 (dk_at dksX0_tell_7 20 rfl rfl)
theorem dX0_tell_179 : decode cX0_tell 179 = .ok (.dup, 1) := dk_89 (dk_at dksX0_tell_7 21 rfl rfl)
theorem dX0_tell_180 : decode cX0_tell 180 = .ok (.iconst 2, 1) := dk_5 (dk_at dksX0_tell_7 22 rfl rfl)
theorem dX0_tell_181 : decode cX0_tell 181 = .ok (.aload_n 1, 1) := dk_43 (dk_at dksX0_tell_7 23 rfl rfl)
theorem dX0_tell_182 : decode cX0_tell 182 = .ok (.iconst 4, 1) := dk_7 (dk_at dksX0_tell_8 0 rfl rfl)
theorem dX0_tell_183 : decode cX0_tell 183 = .ok (.iaload, 1) := dk_46 (dk_at dksX0_tell_8 1 rfl rfl)
theorem dX0_tell_184 : decode cX0_tell 184 = .ok (.iastore, 1) := dk_79 (dk_at dksX0_tell_8 2 rfl rfl)
theorem dX0_tell_185 : decode cX0_tell 185 = .ok (.dup, 1) := dk_89 (dk_at dksX0_tell_8 3 rfl rfl)
theorem dX0_tell_186 : decode cX0_tell 186 = .ok (.iconst 3, 1) := dk_6 (dk_at dksX0_tell_8 4 rfl rfl)
theorem dX0_tell_187 : decode cX0_tell 187 = .ok (.aload_n 1, 1) := dk_43 (dk_at dksX0_tell_8 5 rfl rfl)
theorem dX0_tell_188 : decode cX0_tell 188 = .ok (.iconst 5, 1) := dk_8 (dk_at dksX0_tell_8 6 rfl rfl)
theorem dX0_tell_189 : decode cX0_tell 189 = .ok (.iaload, 1) := dk_46 (dk_at dksX0_tell_8 7 rfl rfl)
theorem dX0_tell_190 : decode cX0_tell 190 = .ok (.iastore, 1) := dk_79 (dk_at dksX0_tell_8 8 rfl rfl)
theorem dX0_tell_191 : decode cX0_tell 191 = .ok (.dup, 1) := dk_89 (dk_at dksX0_tell_8 9 rfl rfl)
theorem dX0_tell_192 : decode cX0_tell 192 = .ok (.iconst 4, 1) := dk_7 (dk_at dksX0_tell_8 10 rfl rfl)
theorem dX0_tell_193 : decode cX0_tell 193 = .ok (.aload_n 1, 1) := dk_43 (dk_at dksX0_tell_8 11 rfl rfl)
theorem dX0_tell_194 : decode cX0_tell 194 = .ok (.bipush 6, 2) := dk_16 6 (dk_at dksX0_tell_8 12 rfl rfl)
theorem dX0_tell_196 : decode cX0_tell 196 = .ok (.iaload, 1) := dk_46 (dk_at dksX0_tell_8 14 rfl rfl)
theorem dX0_tell_197 : decode cX0_tell 197 = .ok (.iastore, 1) := dk_79 (dk_at dksX0_tell_8 15 rfl rfl)
theorem dX0_tell_198 : decode cX0_tell 198 = .ok (.dup, 1) := dk_89 (dk_at dksX0_tell_8 16 rfl rfl)
theorem dX0_tell_199 : decode cX0_tell 199 = .ok (.iconst 5, 1) := dk_8 (dk_at dksX0_tell_8 17 rfl rfl)
theorem dX0_tell_200 : decode cX0_tell 200 = .ok (.aload_n 1, 1) := dk_43 (dk_at dksX0_tell_8 18 rfl rfl)
theorem dX0_tell_201 : decode cX0_tell 201 = .ok (.bipush 7, 2) := dk_16 7 (dk_at dksX0_tell_8 19 rfl rfl)
theorem dX0_tell_203 : decode cX0_tell 203 = .ok (.iaload, 1) := dk_46 (dk_at dksX0_tell_8 21 rfl rfl)
theorem dX0_tell_204 : decode cX0_tell 204 = .ok (.iastore, 1) := dk_79 (dk_at dksX0_tell_8 22 rfl rfl)
theorem dX0_tell_205 : decode cX0_tell 205 = .ok (.invokespecial 73, 3) := dk_183 0 73 (dk_at dksX0_tell_9 0 rfl rfl)
theorem dX0_tell_208 : decode cX0_tell 208 = .ok (.aastore, 1) := dk_83 (dk_at dksX0_tell_9 3 rfl rfl)
theorem dX0_tell_209 : decode cX0_tell 209 = .ok (.goto 43, 3) := dk_167 0 43 (dk_at dksX0_tell_9 4 rfl rfl)
theorem dX0_tell_212 : decode cX0_tell 212 = .ok (.aload_n 0, 1) := dk_42 (dk_at dksX0_tell_9 7 rfl rfl)
theorem dX0_tell_213 : decode cX0_tell 213 = .ok (.aload_n 1, 1) := dk_43 (dk_at dksX0_tell_9 8 rfl rfl)
theorem dX0_tell_214 : decode cX0_tell 214 = .ok (.iconst 1, 1) := dk_4 (dk_at dksX0_tell_9 9 rfl rfl)
theorem dX0_tell_215 : decode cX0_tell 215 = .ok (.iaload, 1) := dk_46 (dk_at dksX0_tell_9 10 rfl rfl)
theorem dX0_tell_216 : decode cX0_tell 216 = .ok (.invokevirtual 44, 3) := dk_182 0 44 (dk_at dksX0_tell_9 11 rfl rfl)
theorem dX0_tell_219 : decode cX0_tell 219 = .ok (.ifCond .eq 33, 3) := dk_153 0 33 (dk_at dksX0_tell_9 14 rfl rfl)
theorem dX0_tell_222 : decode cX0_tell 222 = .ok (.aload_n 0, 1) := dk_42 (dk_at dksX0_tell_9 17 rfl rfl)
theorem dX0_tell_223 : decode cX0_tell 223 = .ok (.getfield 40, 3) := dk_180 0 40 (dk_at dksX0_tell_9 18 rfl rfl)
theorem dX0_tell_226 : decode cX0_tell 226 = .ok (.aload_n 1, 1) := dk_43 (dk_at dksX0_tell_9 21 rfl rfl)
theorem dX0_tell_227 : decode cX0_tell 227 = .ok (.iconst 1, 1) := dk_4 (dk_at dksX0_tell_9 22 rfl rfl)
theorem dX0_tell_228 : decode cX0_tell 228 = .ok (.iaload, 1) := dk_46 (dk_at dksX0_tell_9 23 rfl rfl)
theorem dX0_tell_229 : decode cX0_tell 229 = .ok (.aaload, 1) := dk_50 (dk_at dksX0_tell_10 0 rfl rfl)
theorem dX0_tell_230 : decode cX0_tell 230 = .ok (.new 76, 3) := dk_187 0 76 (dk_at dksX0_tell_10 1 rfl rfl)
theorem dX0_tell_233 : decode cX0_tell 233 = .ok (.dup, 1) := dk_89 (dk_at dksX0_tell_10 4 rfl rfl)
theorem dX0_tell_234 : decode cX0_tell 234 = .ok (.aload_n 1, 1) := dk_43 (dk_at dksX0_tell_10 5 rfl rfl)
theorem dX0_tell_235 : decode cX0_tell 235 = .ok (.iconst 2, 1) := dk_5 (dk_at dksX0_tell_10 6 rfl rfl)
theorem dX0_tell_236 : decode cX0_tell 236 = .ok (.iaload, 1) := dk_46 (dk_at dksX0_tell_10 7 rfl rfl)
theorem dX0_tell_237 : decode cX0_tell 237 = .ok (.aload_n 1, 1) := dk_43 (dk_at dksX0_tell_10 8 rfl rfl)
theorem dX0_tell_238 : decode cX0_tell 238 = .ok (.iconst 3, 1) := dk_6 (dk_at dksX0_tell_10 9 rfl rfl)
theorem dX0_tell_239 : decode cX0_tell 239 = .ok (.iaload, 1) := dk_46 (dk_at dksX0_tell_10 10 rfl rfl)
theorem dX0_tell_240 : decode cX0_tell 240 = .ok (.aload_n 1, 1) := dk_43 (dk_at dksX0_tell_10 11 rfl rfl)
theorem dX0_tell_241 : decode cX0_tell 241 = .ok (.iconst 4, 1) := dk_7 (dk_at dksX0_tell_10 12 rfl rfl)
theorem dX0_tell_242 : decode cX0_tell 242 = .ok (.iaload, 1) := dk_46 (dk_at dksX0_tell_10 13 rfl rfl)
theorem dX0_tell_243 : decode cX0_tell 243 = .ok (.aload_n 1, 1) := dk_43 (dk_at dksX0_tell_10 14 rfl rfl)
theorem dX0_tell_244 : decode cX0_tell 244 = .ok (.iconst 5, 1) := dk_8 (dk_at dksX0_tell_10 15 rfl rfl)
theorem dX0_tell_245 : decode cX0_tell 245 = .ok (.iaload, 1) := dk_46 (dk_at dksX0_tell_10 16 rfl rfl)
theorem dX0_tell_246 : decode cX0_tell 246 = .ok (.invokespecial 78, 3) := dk_183 0 78 (dk_at dksX0_tell_10 17 rfl rfl)
theorem dX0_tell_249 : decode cX0_tell 249 = .ok (.invokevirtual 81, 3) := dk_182 0 81 (dk_at dksX0_tell_10 20 rfl rfl)
theorem dX0_tell_252 : decode cX0_tell 252 = .ok (.return_, 1) := dk_177 (dk_at dksX0_tell_10 23 rfl rfl)
abbrev cX0_isTold : ByteArray := prog_1_method_6_code
def yX0_isTold : MethodName := ⟨RX0, "isTold", "(I)Z"⟩
def dkwX0_isTold_1 : List UInt8 := [167, 0, 4, 3, 172]
abbrev dktX0_isTold_1 : List UInt8 := dkwX0_isTold_1 ++ []
def dkwX0_isTold_0 : List UInt8 := [27, 133, 9, 20, 0, 34, 184, 0, 36, 153, 0, 16, 42, 180, 0, 40, 27, 50, 198, 0, 7, 4]
abbrev dktX0_isTold_0 : List UInt8 := dkwX0_isTold_0 ++ dktX0_isTold_1
theorem dksX0_isTold_0 : cX0_isTold.data.toList.drop 0 = dktX0_isTold_0 := by decide +kernel
theorem dksX0_isTold_1 : cX0_isTold.data.toList.drop 22 = dktX0_isTold_1 := dk_seg dksX0_isTold_0 22 rfl rfl
theorem dX0_isTold_0 : decode cX0_isTold 0 = .ok (.iload_n 1, 1) := dk_27 (dk_at dksX0_isTold_0 0 rfl rfl)
theorem dX0_isTold_1 : decode cX0_isTold 1 = .ok (.i2l, 1) := dk_133 (dk_at dksX0_isTold_0 1 rfl rfl)
theorem dX0_isTold_2 : decode cX0_isTold 2 = .ok (.lconst 0, 1) := dk_9 (dk_at dksX0_isTold_0 2 rfl rfl)
theorem dX0_isTold_3 : decode cX0_isTold 3 = .ok (.ldc2_w 34, 3) := dk_20 0 34 (dk_at dksX0_isTold_0 3 rfl rfl)
theorem dX0_isTold_6 : decode cX0_isTold 6 = .ok (.invokestatic 36, 3) := dk_184 0 36 (dk_at dksX0_isTold_0 6 rfl rfl)
theorem dX0_isTold_9 : decode cX0_isTold 9 = .ok (.ifCond .eq 16, 3) := dk_153 0 16 (dk_at dksX0_isTold_0 9 rfl rfl)
theorem dX0_isTold_12 : decode cX0_isTold 12 = .ok (.aload_n 0, 1) := dk_42 (dk_at dksX0_isTold_0 12 rfl rfl)
theorem dX0_isTold_13 : decode cX0_isTold 13 = .ok (.getfield 40, 3) := dk_180 0 40 (dk_at dksX0_isTold_0 13 rfl rfl)
theorem dX0_isTold_16 : decode cX0_isTold 16 = .ok (.iload_n 1, 1) := dk_27 (dk_at dksX0_isTold_0 16 rfl rfl)
theorem dX0_isTold_17 : decode cX0_isTold 17 = .ok (.aaload, 1) := dk_50 (dk_at dksX0_isTold_0 17 rfl rfl)
theorem dX0_isTold_18 : decode cX0_isTold 18 = .ok (.ifnull 7, 3) := dk_198 0 7 (dk_at dksX0_isTold_0 18 rfl rfl)
theorem dX0_isTold_21 : decode cX0_isTold 21 = .ok (.iconst 1, 1) := dk_4 (dk_at dksX0_isTold_0 21 rfl rfl)
theorem dX0_isTold_22 : decode cX0_isTold 22 = .ok (.goto 4, 3) := dk_167 0 4 (dk_at dksX0_isTold_1 0 rfl rfl)
theorem dX0_isTold_25 : decode cX0_isTold 25 = .ok (.iconst 0, 1) := dk_3 (dk_at dksX0_isTold_1 3 rfl rfl)
theorem dX0_isTold_26 : decode cX0_isTold 26 = .ok (.ireturn, 1) := dk_172 (dk_at dksX0_isTold_1 4 rfl rfl)
abbrev cX0_thing : ByteArray := prog_1_method_20_code
def yX0_thing : MethodName := ⟨RX0, "thing", "(II)I"⟩
def dkwX0_thing_2 : List UInt8 := [42, 27, 182, 0, 9, 182, 0, 13, 153, 0, 7, 3, 167, 0, 9, 4, 167, 0, 5, 16, 253, 172]
abbrev dktX0_thing_2 : List UInt8 := dkwX0_thing_2 ++ []
def dkwX0_thing_1 : List UInt8 := [167, 0, 45, 28, 4, 160, 0, 14, 42, 27, 182, 0, 9, 180, 0, 21, 167, 0, 29, 28, 5, 160, 0, 22]
abbrev dktX0_thing_1 : List UInt8 := dkwX0_thing_1 ++ dktX0_thing_2
def dkwX0_thing_0 : List UInt8 := [27, 184, 0, 160, 154, 0, 6, 16, 254, 172, 28, 154, 0, 14, 42, 27, 182, 0, 9, 180, 0, 17]
abbrev dktX0_thing_0 : List UInt8 := dkwX0_thing_0 ++ dktX0_thing_1
theorem dksX0_thing_0 : cX0_thing.data.toList.drop 0 = dktX0_thing_0 := by decide +kernel
theorem dksX0_thing_1 : cX0_thing.data.toList.drop 22 = dktX0_thing_1 := dk_seg dksX0_thing_0 22 rfl rfl
theorem dksX0_thing_2 : cX0_thing.data.toList.drop 46 = dktX0_thing_2 := dk_seg dksX0_thing_1 24 rfl rfl
theorem dX0_thing_0 : decode cX0_thing 0 = .ok (.iload_n 1, 1) := dk_27 (dk_at dksX0_thing_0 0 rfl rfl)
theorem dX0_thing_1 : decode cX0_thing 1 = .ok (.invokestatic 160, 3) := dk_184 0 160 (dk_at dksX0_thing_0 1 rfl rfl)
theorem dX0_thing_4 : decode cX0_thing 4 = .ok (.ifCond .ne 6, 3) := dk_154 0 6 (dk_at dksX0_thing_0 4 rfl rfl)
theorem dX0_thing_7 : decode cX0_thing 7 = .ok (.bipush (-2), 2) := dk_16 254 (dk_at dksX0_thing_0 7 rfl rfl)
theorem dX0_thing_9 : decode cX0_thing 9 = .ok (.ireturn, 1) := dk_172 (dk_at dksX0_thing_0 9 rfl rfl)
theorem dX0_thing_10 : decode cX0_thing 10 = .ok (.iload_n 2, 1) := dk_28 (dk_at dksX0_thing_0 10 rfl rfl)
theorem dX0_thing_11 : decode cX0_thing 11 = .ok (.ifCond .ne 14, 3) := dk_154 0 14 (dk_at dksX0_thing_0 11 rfl rfl)
theorem dX0_thing_14 : decode cX0_thing 14 = .ok (.aload_n 0, 1) := dk_42 (dk_at dksX0_thing_0 14 rfl rfl)
theorem dX0_thing_15 : decode cX0_thing 15 = .ok (.iload_n 1, 1) := dk_27 (dk_at dksX0_thing_0 15 rfl rfl)
theorem dX0_thing_16 : decode cX0_thing 16 = .ok (.invokevirtual 9, 3) := dk_182 0 9 (dk_at dksX0_thing_0 16 rfl rfl)
theorem dX0_thing_19 : decode cX0_thing 19 = .ok (.getfield 17, 3) := dk_180 0 17 (dk_at dksX0_thing_0 19 rfl rfl)
theorem dX0_thing_22 : decode cX0_thing 22 = .ok (.goto 45, 3) := dk_167 0 45 (dk_at dksX0_thing_1 0 rfl rfl)
theorem dX0_thing_25 : decode cX0_thing 25 = .ok (.iload_n 2, 1) := dk_28 (dk_at dksX0_thing_1 3 rfl rfl)
theorem dX0_thing_26 : decode cX0_thing 26 = .ok (.iconst 1, 1) := dk_4 (dk_at dksX0_thing_1 4 rfl rfl)
theorem dX0_thing_27 : decode cX0_thing 27 = .ok (.if_icmp .ne 14, 3) := dk_160 0 14 (dk_at dksX0_thing_1 5 rfl rfl)
theorem dX0_thing_30 : decode cX0_thing 30 = .ok (.aload_n 0, 1) := dk_42 (dk_at dksX0_thing_1 8 rfl rfl)
theorem dX0_thing_31 : decode cX0_thing 31 = .ok (.iload_n 1, 1) := dk_27 (dk_at dksX0_thing_1 9 rfl rfl)
theorem dX0_thing_32 : decode cX0_thing 32 = .ok (.invokevirtual 9, 3) := dk_182 0 9 (dk_at dksX0_thing_1 10 rfl rfl)
theorem dX0_thing_35 : decode cX0_thing 35 = .ok (.getfield 21, 3) := dk_180 0 21 (dk_at dksX0_thing_1 13 rfl rfl)
theorem dX0_thing_38 : decode cX0_thing 38 = .ok (.goto 29, 3) := dk_167 0 29 (dk_at dksX0_thing_1 16 rfl rfl)
theorem dX0_thing_41 : decode cX0_thing 41 = .ok (.iload_n 2, 1) := dk_28 (dk_at dksX0_thing_1 19 rfl rfl)
theorem dX0_thing_42 : decode cX0_thing 42 = .ok (.iconst 2, 1) := dk_5 (dk_at dksX0_thing_1 20 rfl rfl)
theorem dX0_thing_43 : decode cX0_thing 43 = .ok (.if_icmp .ne 22, 3) := dk_160 0 22 (dk_at dksX0_thing_1 21 rfl rfl)
theorem dX0_thing_46 : decode cX0_thing 46 = .ok (.aload_n 0, 1) := dk_42 (dk_at dksX0_thing_2 0 rfl rfl)
theorem dX0_thing_47 : decode cX0_thing 47 = .ok (.iload_n 1, 1) := dk_27 (dk_at dksX0_thing_2 1 rfl rfl)
theorem dX0_thing_48 : decode cX0_thing 48 = .ok (.invokevirtual 9, 3) := dk_182 0 9 (dk_at dksX0_thing_2 2 rfl rfl)
theorem dX0_thing_51 : decode cX0_thing 51 = .ok (.invokevirtual 13, 3) := dk_182 0 13 (dk_at dksX0_thing_2 5 rfl rfl)
theorem dX0_thing_54 : decode cX0_thing 54 = .ok (.ifCond .eq 7, 3) := dk_153 0 7 (dk_at dksX0_thing_2 8 rfl rfl)
theorem dX0_thing_57 : decode cX0_thing 57 = .ok (.iconst 0, 1) := dk_3 (dk_at dksX0_thing_2 11 rfl rfl)
theorem dX0_thing_58 : decode cX0_thing 58 = .ok (.goto 9, 3) := dk_167 0 9 (dk_at dksX0_thing_2 12 rfl rfl)
theorem dX0_thing_61 : decode cX0_thing 61 = .ok (.iconst 1, 1) := dk_4 (dk_at dksX0_thing_2 15 rfl rfl)
theorem dX0_thing_62 : decode cX0_thing 62 = .ok (.goto 5, 3) := dk_167 0 5 (dk_at dksX0_thing_2 16 rfl rfl)
theorem dX0_thing_65 : decode cX0_thing 65 = .ok (.bipush (-3), 2) := dk_16 253 (dk_at dksX0_thing_2 19 rfl rfl)
theorem dX0_thing_67 : decode cX0_thing 67 = .ok (.ireturn, 1) := dk_172 (dk_at dksX0_thing_2 21 rfl rfl)
abbrev cX0_isThing : ByteArray := prog_1_method_19_code
def yX0_isThing : MethodName := ⟨RX0, "isThing", "(I)Z"⟩
def dkwX0_isThing_0 : List UInt8 := [26, 133, 9, 20, 0, 158, 184, 0, 36, 172]
abbrev dktX0_isThing_0 : List UInt8 := dkwX0_isThing_0 ++ []
theorem dksX0_isThing_0 : cX0_isThing.data.toList.drop 0 = dktX0_isThing_0 := by decide +kernel
theorem dX0_isThing_0 : decode cX0_isThing 0 = .ok (.iload_n 0, 1) := dk_26 (dk_at dksX0_isThing_0 0 rfl rfl)
theorem dX0_isThing_1 : decode cX0_isThing 1 = .ok (.i2l, 1) := dk_133 (dk_at dksX0_isThing_0 1 rfl rfl)
theorem dX0_isThing_2 : decode cX0_isThing 2 = .ok (.lconst 0, 1) := dk_9 (dk_at dksX0_isThing_0 2 rfl rfl)
theorem dX0_isThing_3 : decode cX0_isThing 3 = .ok (.ldc2_w 158, 3) := dk_20 0 158 (dk_at dksX0_isThing_0 3 rfl rfl)
theorem dX0_isThing_6 : decode cX0_isThing 6 = .ok (.invokestatic 36, 3) := dk_184 0 36 (dk_at dksX0_isThing_0 6 rfl rfl)
theorem dX0_isThing_9 : decode cX0_isThing 9 = .ok (.ireturn, 1) := dk_172 (dk_at dksX0_isThing_0 9 rfl rfl)
abbrev cX0_thingAt : ByteArray := prog_1_method_2_code
def yX0_thingAt : MethodName := ⟨RX0, "thingAt", "(I)LCarryUp$Thing;"⟩
def dkwX0_thingAt_0 : List UInt8 := [42, 180, 0, 1, 27, 50, 192, 0, 7, 176]
abbrev dktX0_thingAt_0 : List UInt8 := dkwX0_thingAt_0 ++ []
theorem dksX0_thingAt_0 : cX0_thingAt.data.toList.drop 0 = dktX0_thingAt_0 := by decide +kernel
theorem dX0_thingAt_0 : decode cX0_thingAt 0 = .ok (.aload_n 0, 1) := dk_42 (dk_at dksX0_thingAt_0 0 rfl rfl)
theorem dX0_thingAt_1 : decode cX0_thingAt 1 = .ok (.getfield 1, 3) := dk_180 0 1 (dk_at dksX0_thingAt_0 1 rfl rfl)
theorem dX0_thingAt_4 : decode cX0_thingAt 4 = .ok (.iload_n 1, 1) := dk_27 (dk_at dksX0_thingAt_0 4 rfl rfl)
theorem dX0_thingAt_5 : decode cX0_thingAt 5 = .ok (.aaload, 1) := dk_50 (dk_at dksX0_thingAt_0 5 rfl rfl)
theorem dX0_thingAt_6 : decode cX0_thingAt 6 = .ok (.checkcast 7, 3) := dk_192 0 7 (dk_at dksX0_thingAt_0 6 rfl rfl)
theorem dX0_thingAt_9 : decode cX0_thingAt 9 = .ok (.areturn, 1) := dk_176 (dk_at dksX0_thingAt_0 9 rfl rfl)
abbrev cX0_call : ByteArray := prog_1_method_21_code
def yX0_call : MethodName := ⟨RX0, "call", "(II)I"⟩
def dkwX0_call_2 : List UInt8 := [167, 0, 14, 42, 180, 0, 40, 27, 50, 180, 0, 167, 28, 46, 172]
abbrev dktX0_call_2 : List UInt8 := dkwX0_call_2 ++ []
def dkwX0_call_1 : List UInt8 := [16, 253, 167, 0, 35, 28, 16, 6, 160, 0, 18, 42, 180, 0, 40, 27, 50, 180, 0, 48, 182, 0, 163]
abbrev dktX0_call_1 : List UInt8 := dkwX0_call_1 ++ dktX0_call_2
def dkwX0_call_0 : List UInt8 := [42, 27, 182, 0, 44, 154, 0, 6, 16, 254, 172, 28, 133, 9, 20, 0, 99, 184, 0, 36, 154, 0, 8]
abbrev dktX0_call_0 : List UInt8 := dkwX0_call_0 ++ dktX0_call_1
theorem dksX0_call_0 : cX0_call.data.toList.drop 0 = dktX0_call_0 := by decide +kernel
theorem dksX0_call_1 : cX0_call.data.toList.drop 23 = dktX0_call_1 := dk_seg dksX0_call_0 23 rfl rfl
theorem dksX0_call_2 : cX0_call.data.toList.drop 46 = dktX0_call_2 := dk_seg dksX0_call_1 23 rfl rfl
theorem dX0_call_0 : decode cX0_call 0 = .ok (.aload_n 0, 1) := dk_42 (dk_at dksX0_call_0 0 rfl rfl)
theorem dX0_call_1 : decode cX0_call 1 = .ok (.iload_n 1, 1) := dk_27 (dk_at dksX0_call_0 1 rfl rfl)
theorem dX0_call_2 : decode cX0_call 2 = .ok (.invokevirtual 44, 3) := dk_182 0 44 (dk_at dksX0_call_0 2 rfl rfl)
theorem dX0_call_5 : decode cX0_call 5 = .ok (.ifCond .ne 6, 3) := dk_154 0 6 (dk_at dksX0_call_0 5 rfl rfl)
theorem dX0_call_8 : decode cX0_call 8 = .ok (.bipush (-2), 2) := dk_16 254 (dk_at dksX0_call_0 8 rfl rfl)
theorem dX0_call_10 : decode cX0_call 10 = .ok (.ireturn, 1) := dk_172 (dk_at dksX0_call_0 10 rfl rfl)
theorem dX0_call_11 : decode cX0_call 11 = .ok (.iload_n 2, 1) := dk_28 (dk_at dksX0_call_0 11 rfl rfl)
theorem dX0_call_12 : decode cX0_call 12 = .ok (.i2l, 1) := dk_133 (dk_at dksX0_call_0 12 rfl rfl)
theorem dX0_call_13 : decode cX0_call 13 = .ok (.lconst 0, 1) := dk_9 (dk_at dksX0_call_0 13 rfl rfl)
theorem dX0_call_14 : decode cX0_call 14 = .ok (.ldc2_w 99, 3) := dk_20 0 99 (dk_at dksX0_call_0 14 rfl rfl)
theorem dX0_call_17 : decode cX0_call 17 = .ok (.invokestatic 36, 3) := dk_184 0 36 (dk_at dksX0_call_0 17 rfl rfl)
theorem dX0_call_20 : decode cX0_call 20 = .ok (.ifCond .ne 8, 3) := dk_154 0 8 (dk_at dksX0_call_0 20 rfl rfl)
theorem dX0_call_23 : decode cX0_call 23 = .ok (.bipush (-3), 2) := dk_16 253 (dk_at dksX0_call_1 0 rfl rfl)
theorem dX0_call_25 : decode cX0_call 25 = .ok (.goto 35, 3) := dk_167 0 35 (dk_at dksX0_call_1 2 rfl rfl)
theorem dX0_call_28 : decode cX0_call 28 = .ok (.iload_n 2, 1) := dk_28 (dk_at dksX0_call_1 5 rfl rfl)
theorem dX0_call_29 : decode cX0_call 29 = .ok (.bipush 6, 2) := dk_16 6 (dk_at dksX0_call_1 6 rfl rfl)
theorem dX0_call_31 : decode cX0_call 31 = .ok (.if_icmp .ne 18, 3) := dk_160 0 18 (dk_at dksX0_call_1 8 rfl rfl)
theorem dX0_call_34 : decode cX0_call 34 = .ok (.aload_n 0, 1) := dk_42 (dk_at dksX0_call_1 11 rfl rfl)
theorem dX0_call_35 : decode cX0_call 35 = .ok (.getfield 40, 3) := dk_180 0 40 (dk_at dksX0_call_1 12 rfl rfl)
theorem dX0_call_38 : decode cX0_call 38 = .ok (.iload_n 1, 1) := dk_27 (dk_at dksX0_call_1 15 rfl rfl)
theorem dX0_call_39 : decode cX0_call 39 = .ok (.aaload, 1) := dk_50 (dk_at dksX0_call_1 16 rfl rfl)
theorem dX0_call_40 : decode cX0_call 40 = .ok (.getfield 48, 3) := dk_180 0 48 (dk_at dksX0_call_1 17 rfl rfl)
theorem dX0_call_43 : decode cX0_call 43 = .ok (.invokevirtual 163, 3) := dk_182 0 163 (dk_at dksX0_call_1 20 rfl rfl)
theorem dX0_call_46 : decode cX0_call 46 = .ok (.goto 14, 3) := dk_167 0 14 (dk_at dksX0_call_2 0 rfl rfl)
theorem dX0_call_49 : decode cX0_call 49 = .ok (.aload_n 0, 1) := dk_42 (dk_at dksX0_call_2 3 rfl rfl)
theorem dX0_call_50 : decode cX0_call 50 = .ok (.getfield 40, 3) := dk_180 0 40 (dk_at dksX0_call_2 4 rfl rfl)
theorem dX0_call_53 : decode cX0_call 53 = .ok (.iload_n 1, 1) := dk_27 (dk_at dksX0_call_2 7 rfl rfl)
theorem dX0_call_54 : decode cX0_call 54 = .ok (.aaload, 1) := dk_50 (dk_at dksX0_call_2 8 rfl rfl)
theorem dX0_call_55 : decode cX0_call 55 = .ok (.getfield 167, 3) := dk_180 0 167 (dk_at dksX0_call_2 9 rfl rfl)
theorem dX0_call_58 : decode cX0_call 58 = .ok (.iload_n 2, 1) := dk_28 (dk_at dksX0_call_2 12 rfl rfl)
theorem dX0_call_59 : decode cX0_call 59 = .ok (.iaload, 1) := dk_46 (dk_at dksX0_call_2 13 rfl rfl)
theorem dX0_call_60 : decode cX0_call 60 = .ok (.ireturn, 1) := dk_172 (dk_at dksX0_call_2 14 rfl rfl)
abbrev cX0_sort : ByteArray := prog_1_method_23_code
def yX0_sort : MethodName := ⟨RX0, "sort", "(III)I"⟩
def dkwX0_sort_3 : List UInt8 := [29, 6, 160, 0, 11, 25, 4, 180, 0, 187, 167, 0, 5, 16, 253, 172]
abbrev dktX0_sort_3 : List UInt8 := dkwX0_sort_3 ++ []
def dkwX0_sort_2 : List UInt8 := [160, 0, 11, 25, 4, 180, 0, 181, 167, 0, 31, 29, 5, 160, 0, 11, 25, 4, 180, 0, 184, 167, 0, 18]
abbrev dktX0_sort_2 : List UInt8 := dkwX0_sort_2 ++ dktX0_sort_3
def dkwX0_sort_1 : List UInt8 := [182, 0, 174, 192, 0, 76, 58, 4, 29, 154, 0, 11, 25, 4, 180, 0, 178, 167, 0, 44, 29, 4]
abbrev dktX0_sort_1 : List UInt8 := dkwX0_sort_1 ++ dktX0_sort_2
def dkwX0_sort_0 : List UInt8 := [42, 27, 28, 182, 0, 170, 154, 0, 6, 16, 254, 172, 42, 180, 0, 40, 27, 50, 180, 0, 48, 28]
abbrev dktX0_sort_0 : List UInt8 := dkwX0_sort_0 ++ dktX0_sort_1
theorem dksX0_sort_0 : cX0_sort.data.toList.drop 0 = dktX0_sort_0 := by decide +kernel
theorem dksX0_sort_1 : cX0_sort.data.toList.drop 22 = dktX0_sort_1 := dk_seg dksX0_sort_0 22 rfl rfl
theorem dksX0_sort_2 : cX0_sort.data.toList.drop 44 = dktX0_sort_2 := dk_seg dksX0_sort_1 22 rfl rfl
theorem dksX0_sort_3 : cX0_sort.data.toList.drop 68 = dktX0_sort_3 := dk_seg dksX0_sort_2 24 rfl rfl
theorem dX0_sort_0 : decode cX0_sort 0 = .ok (.aload_n 0, 1) := dk_42 (dk_at dksX0_sort_0 0 rfl rfl)
theorem dX0_sort_1 : decode cX0_sort 1 = .ok (.iload_n 1, 1) := dk_27 (dk_at dksX0_sort_0 1 rfl rfl)
theorem dX0_sort_2 : decode cX0_sort 2 = .ok (.iload_n 2, 1) := dk_28 (dk_at dksX0_sort_0 2 rfl rfl)
theorem dX0_sort_3 : decode cX0_sort 3 = .ok (.invokevirtual 170, 3) := dk_182 0 170 (dk_at dksX0_sort_0 3 rfl rfl)
theorem dX0_sort_6 : decode cX0_sort 6 = .ok (.ifCond .ne 6, 3) := dk_154 0 6 (dk_at dksX0_sort_0 6 rfl rfl)
theorem dX0_sort_9 : decode cX0_sort 9 = .ok (.bipush (-2), 2) := dk_16 254 (dk_at dksX0_sort_0 9 rfl rfl)
theorem dX0_sort_11 : decode cX0_sort 11 = .ok (.ireturn, 1) := dk_172 (dk_at dksX0_sort_0 11 rfl rfl)
theorem dX0_sort_12 : decode cX0_sort 12 = .ok (.aload_n 0, 1) := dk_42 (dk_at dksX0_sort_0 12 rfl rfl)
theorem dX0_sort_13 : decode cX0_sort 13 = .ok (.getfield 40, 3) := dk_180 0 40 (dk_at dksX0_sort_0 13 rfl rfl)
theorem dX0_sort_16 : decode cX0_sort 16 = .ok (.iload_n 1, 1) := dk_27 (dk_at dksX0_sort_0 16 rfl rfl)
theorem dX0_sort_17 : decode cX0_sort 17 = .ok (.aaload, 1) := dk_50 (dk_at dksX0_sort_0 17 rfl rfl)
theorem dX0_sort_18 : decode cX0_sort 18 = .ok (.getfield 48, 3) := dk_180 0 48 (dk_at dksX0_sort_0 18 rfl rfl)
theorem dX0_sort_21 : decode cX0_sort 21 = .ok (.iload_n 2, 1) := dk_28 (dk_at dksX0_sort_0 21 rfl rfl)
theorem dX0_sort_22 : decode cX0_sort 22 = .ok (.invokevirtual 174, 3) := dk_182 0 174 (dk_at dksX0_sort_1 0 rfl rfl)
theorem dX0_sort_25 : decode cX0_sort 25 = .ok (.checkcast 76, 3) := dk_192 0 76 (dk_at dksX0_sort_1 3 rfl rfl)
theorem dX0_sort_28 : decode cX0_sort 28 = .ok (.astore 4, 2) := dk_58 4 (dk_at dksX0_sort_1 6 rfl rfl)
theorem dX0_sort_30 : decode cX0_sort 30 = .ok (.iload_n 3, 1) := dk_29 (dk_at dksX0_sort_1 8 rfl rfl)
theorem dX0_sort_31 : decode cX0_sort 31 = .ok (.ifCond .ne 11, 3) := dk_154 0 11 (dk_at dksX0_sort_1 9 rfl rfl)
theorem dX0_sort_34 : decode cX0_sort 34 = .ok (.aload 4, 2) := dk_25 4 (dk_at dksX0_sort_1 12 rfl rfl)
theorem dX0_sort_36 : decode cX0_sort 36 = .ok (.getfield 178, 3) := dk_180 0 178 (dk_at dksX0_sort_1 14 rfl rfl)
theorem dX0_sort_39 : decode cX0_sort 39 = .ok (.goto 44, 3) := dk_167 0 44 (dk_at dksX0_sort_1 17 rfl rfl)
theorem dX0_sort_42 : decode cX0_sort 42 = .ok (.iload_n 3, 1) := dk_29 (dk_at dksX0_sort_1 20 rfl rfl)
theorem dX0_sort_43 : decode cX0_sort 43 = .ok (.iconst 1, 1) := dk_4 (dk_at dksX0_sort_1 21 rfl rfl)
theorem dX0_sort_44 : decode cX0_sort 44 = .ok (.if_icmp .ne 11, 3) := dk_160 0 11 (dk_at dksX0_sort_2 0 rfl rfl)
theorem dX0_sort_47 : decode cX0_sort 47 = .ok (.aload 4, 2) := dk_25 4 (dk_at dksX0_sort_2 3 rfl rfl)
theorem dX0_sort_49 : decode cX0_sort 49 = .ok (.getfield 181, 3) := dk_180 0 181 (dk_at dksX0_sort_2 5 rfl rfl)
theorem dX0_sort_52 : decode cX0_sort 52 = .ok (.goto 31, 3) := dk_167 0 31 (dk_at dksX0_sort_2 8 rfl rfl)
theorem dX0_sort_55 : decode cX0_sort 55 = .ok (.iload_n 3, 1) := dk_29 (dk_at dksX0_sort_2 11 rfl rfl)
theorem dX0_sort_56 : decode cX0_sort 56 = .ok (.iconst 2, 1) := dk_5 (dk_at dksX0_sort_2 12 rfl rfl)
theorem dX0_sort_57 : decode cX0_sort 57 = .ok (.if_icmp .ne 11, 3) := dk_160 0 11 (dk_at dksX0_sort_2 13 rfl rfl)
theorem dX0_sort_60 : decode cX0_sort 60 = .ok (.aload 4, 2) := dk_25 4 (dk_at dksX0_sort_2 16 rfl rfl)
theorem dX0_sort_62 : decode cX0_sort 62 = .ok (.getfield 184, 3) := dk_180 0 184 (dk_at dksX0_sort_2 18 rfl rfl)
theorem dX0_sort_65 : decode cX0_sort 65 = .ok (.goto 18, 3) := dk_167 0 18 (dk_at dksX0_sort_2 21 rfl rfl)
theorem dX0_sort_68 : decode cX0_sort 68 = .ok (.iload_n 3, 1) := dk_29 (dk_at dksX0_sort_3 0 rfl rfl)
theorem dX0_sort_69 : decode cX0_sort 69 = .ok (.iconst 3, 1) := dk_6 (dk_at dksX0_sort_3 1 rfl rfl)
theorem dX0_sort_70 : decode cX0_sort 70 = .ok (.if_icmp .ne 11, 3) := dk_160 0 11 (dk_at dksX0_sort_3 2 rfl rfl)
theorem dX0_sort_73 : decode cX0_sort 73 = .ok (.aload 4, 2) := dk_25 4 (dk_at dksX0_sort_3 5 rfl rfl)
theorem dX0_sort_75 : decode cX0_sort 75 = .ok (.getfield 187, 3) := dk_180 0 187 (dk_at dksX0_sort_3 7 rfl rfl)
theorem dX0_sort_78 : decode cX0_sort 78 = .ok (.goto 5, 3) := dk_167 0 5 (dk_at dksX0_sort_3 10 rfl rfl)
theorem dX0_sort_81 : decode cX0_sort 81 = .ok (.bipush (-3), 2) := dk_16 253 (dk_at dksX0_sort_3 13 rfl rfl)
theorem dX0_sort_83 : decode cX0_sort 83 = .ok (.ireturn, 1) := dk_172 (dk_at dksX0_sort_3 15 rfl rfl)
abbrev cX0_isSort : ByteArray := prog_1_method_22_code
def yX0_isSort : MethodName := ⟨RX0, "isSort", "(II)Z"⟩
def dkwX0_isSort_1 : List UInt8 := [100, 133, 184, 0, 36, 153, 0, 7, 4, 167, 0, 4, 3, 172]
abbrev dktX0_isSort_1 : List UInt8 := dkwX0_isSort_1 ++ []
def dkwX0_isSort_0 : List UInt8 := [42, 27, 182, 0, 101, 153, 0, 31, 28, 133, 9, 42, 180, 0, 40, 27, 50, 180, 0, 48, 182, 0, 163, 4]
abbrev dktX0_isSort_0 : List UInt8 := dkwX0_isSort_0 ++ dktX0_isSort_1
theorem dksX0_isSort_0 : cX0_isSort.data.toList.drop 0 = dktX0_isSort_0 := by decide +kernel
theorem dksX0_isSort_1 : cX0_isSort.data.toList.drop 24 = dktX0_isSort_1 := dk_seg dksX0_isSort_0 24 rfl rfl
theorem dX0_isSort_0 : decode cX0_isSort 0 = .ok (.aload_n 0, 1) := dk_42 (dk_at dksX0_isSort_0 0 rfl rfl)
theorem dX0_isSort_1 : decode cX0_isSort 1 = .ok (.iload_n 1, 1) := dk_27 (dk_at dksX0_isSort_0 1 rfl rfl)
theorem dX0_isSort_2 : decode cX0_isSort 2 = .ok (.invokevirtual 101, 3) := dk_182 0 101 (dk_at dksX0_isSort_0 2 rfl rfl)
theorem dX0_isSort_5 : decode cX0_isSort 5 = .ok (.ifCond .eq 31, 3) := dk_153 0 31 (dk_at dksX0_isSort_0 5 rfl rfl)
theorem dX0_isSort_8 : decode cX0_isSort 8 = .ok (.iload_n 2, 1) := dk_28 (dk_at dksX0_isSort_0 8 rfl rfl)
theorem dX0_isSort_9 : decode cX0_isSort 9 = .ok (.i2l, 1) := dk_133 (dk_at dksX0_isSort_0 9 rfl rfl)
theorem dX0_isSort_10 : decode cX0_isSort 10 = .ok (.lconst 0, 1) := dk_9 (dk_at dksX0_isSort_0 10 rfl rfl)
theorem dX0_isSort_11 : decode cX0_isSort 11 = .ok (.aload_n 0, 1) := dk_42 (dk_at dksX0_isSort_0 11 rfl rfl)
theorem dX0_isSort_12 : decode cX0_isSort 12 = .ok (.getfield 40, 3) := dk_180 0 40 (dk_at dksX0_isSort_0 12 rfl rfl)
theorem dX0_isSort_15 : decode cX0_isSort 15 = .ok (.iload_n 1, 1) := dk_27 (dk_at dksX0_isSort_0 15 rfl rfl)
theorem dX0_isSort_16 : decode cX0_isSort 16 = .ok (.aaload, 1) := dk_50 (dk_at dksX0_isSort_0 16 rfl rfl)
theorem dX0_isSort_17 : decode cX0_isSort 17 = .ok (.getfield 48, 3) := dk_180 0 48 (dk_at dksX0_isSort_0 17 rfl rfl)
theorem dX0_isSort_20 : decode cX0_isSort 20 = .ok (.invokevirtual 163, 3) := dk_182 0 163 (dk_at dksX0_isSort_0 20 rfl rfl)
theorem dX0_isSort_23 : decode cX0_isSort 23 = .ok (.iconst 1, 1) := dk_4 (dk_at dksX0_isSort_0 23 rfl rfl)
theorem dX0_isSort_24 : decode cX0_isSort 24 = .ok (.isub, 1) := dk_100 (dk_at dksX0_isSort_1 0 rfl rfl)
theorem dX0_isSort_25 : decode cX0_isSort 25 = .ok (.i2l, 1) := dk_133 (dk_at dksX0_isSort_1 1 rfl rfl)
theorem dX0_isSort_26 : decode cX0_isSort 26 = .ok (.invokestatic 36, 3) := dk_184 0 36 (dk_at dksX0_isSort_1 2 rfl rfl)
theorem dX0_isSort_29 : decode cX0_isSort 29 = .ok (.ifCond .eq 7, 3) := dk_153 0 7 (dk_at dksX0_isSort_1 5 rfl rfl)
theorem dX0_isSort_32 : decode cX0_isSort 32 = .ok (.iconst 1, 1) := dk_4 (dk_at dksX0_isSort_1 8 rfl rfl)
theorem dX0_isSort_33 : decode cX0_isSort 33 = .ok (.goto 4, 3) := dk_167 0 4 (dk_at dksX0_isSort_1 9 rfl rfl)
theorem dX0_isSort_36 : decode cX0_isSort 36 = .ok (.iconst 0, 1) := dk_3 (dk_at dksX0_isSort_1 12 rfl rfl)
theorem dX0_isSort_37 : decode cX0_isSort 37 = .ok (.ireturn, 1) := dk_172 (dk_at dksX0_isSort_1 13 rfl rfl)
abbrev cX0_isCall : ByteArray := prog_1_method_7_code
def yX0_isCall : MethodName := ⟨RX0, "isCall", "(I)Z"⟩
def dkwX0_isCall_1 : List UInt8 := [167, 0, 4, 3, 172]
abbrev dktX0_isCall_1 : List UInt8 := dkwX0_isCall_1 ++ []
def dkwX0_isCall_0 : List UInt8 := [42, 27, 182, 0, 44, 153, 0, 22, 42, 180, 0, 40, 27, 50, 180, 0, 48, 182, 0, 54, 154, 0, 7, 4]
abbrev dktX0_isCall_0 : List UInt8 := dkwX0_isCall_0 ++ dktX0_isCall_1
theorem dksX0_isCall_0 : cX0_isCall.data.toList.drop 0 = dktX0_isCall_0 := by decide +kernel
theorem dksX0_isCall_1 : cX0_isCall.data.toList.drop 24 = dktX0_isCall_1 := dk_seg dksX0_isCall_0 24 rfl rfl
theorem dX0_isCall_0 : decode cX0_isCall 0 = .ok (.aload_n 0, 1) := dk_42 (dk_at dksX0_isCall_0 0 rfl rfl)
theorem dX0_isCall_1 : decode cX0_isCall 1 = .ok (.iload_n 1, 1) := dk_27 (dk_at dksX0_isCall_0 1 rfl rfl)
theorem dX0_isCall_2 : decode cX0_isCall 2 = .ok (.invokevirtual 44, 3) := dk_182 0 44 (dk_at dksX0_isCall_0 2 rfl rfl)
theorem dX0_isCall_5 : decode cX0_isCall 5 = .ok (.ifCond .eq 22, 3) := dk_153 0 22 (dk_at dksX0_isCall_0 5 rfl rfl)
theorem dX0_isCall_8 : decode cX0_isCall 8 = .ok (.aload_n 0, 1) := dk_42 (dk_at dksX0_isCall_0 8 rfl rfl)
theorem dX0_isCall_9 : decode cX0_isCall 9 = .ok (.getfield 40, 3) := dk_180 0 40 (dk_at dksX0_isCall_0 9 rfl rfl)
theorem dX0_isCall_12 : decode cX0_isCall 12 = .ok (.iload_n 1, 1) := dk_27 (dk_at dksX0_isCall_0 12 rfl rfl)
theorem dX0_isCall_13 : decode cX0_isCall 13 = .ok (.aaload, 1) := dk_50 (dk_at dksX0_isCall_0 13 rfl rfl)
theorem dX0_isCall_14 : decode cX0_isCall 14 = .ok (.getfield 48, 3) := dk_180 0 48 (dk_at dksX0_isCall_0 14 rfl rfl)
theorem dX0_isCall_17 : decode cX0_isCall 17 = .ok (.invokevirtual 54, 3) := dk_182 0 54 (dk_at dksX0_isCall_0 17 rfl rfl)
theorem dX0_isCall_20 : decode cX0_isCall 20 = .ok (.ifCond .ne 7, 3) := dk_154 0 7 (dk_at dksX0_isCall_0 20 rfl rfl)
theorem dX0_isCall_23 : decode cX0_isCall 23 = .ok (.iconst 1, 1) := dk_4 (dk_at dksX0_isCall_0 23 rfl rfl)
theorem dX0_isCall_24 : decode cX0_isCall 24 = .ok (.goto 4, 3) := dk_167 0 4 (dk_at dksX0_isCall_1 0 rfl rfl)
theorem dX0_isCall_27 : decode cX0_isCall 27 = .ok (.iconst 0, 1) := dk_3 (dk_at dksX0_isCall_1 3 rfl rfl)
theorem dX0_isCall_28 : decode cX0_isCall 28 = .ok (.ireturn, 1) := dk_172 (dk_at dksX0_isCall_1 4 rfl rfl)
abbrev cX0_way : ByteArray := prog_1_method_24_code
def yX0_way : MethodName := ⟨RX0, "way", "(II)I"⟩
def dkwX0_way_1 : List UInt8 := [42, 180, 0, 69, 27, 50, 28, 53, 167, 0, 5, 16, 254, 172]
abbrev dktX0_way_1 : List UInt8 := dkwX0_way_1 ++ []
def dkwX0_way_0 : List UInt8 := [27, 133, 9, 20, 0, 34, 184, 0, 36, 153, 0, 26, 28, 133, 9, 20, 0, 34, 184, 0, 36, 153, 0, 14]
abbrev dktX0_way_0 : List UInt8 := dkwX0_way_0 ++ dktX0_way_1
theorem dksX0_way_0 : cX0_way.data.toList.drop 0 = dktX0_way_0 := by decide +kernel
theorem dksX0_way_1 : cX0_way.data.toList.drop 24 = dktX0_way_1 := dk_seg dksX0_way_0 24 rfl rfl
theorem dX0_way_0 : decode cX0_way 0 = .ok (.iload_n 1, 1) := dk_27 (dk_at dksX0_way_0 0 rfl rfl)
theorem dX0_way_1 : decode cX0_way 1 = .ok (.i2l, 1) := dk_133 (dk_at dksX0_way_0 1 rfl rfl)
theorem dX0_way_2 : decode cX0_way 2 = .ok (.lconst 0, 1) := dk_9 (dk_at dksX0_way_0 2 rfl rfl)
theorem dX0_way_3 : decode cX0_way 3 = .ok (.ldc2_w 34, 3) := dk_20 0 34 (dk_at dksX0_way_0 3 rfl rfl)
theorem dX0_way_6 : decode cX0_way 6 = .ok (.invokestatic 36, 3) := dk_184 0 36 (dk_at dksX0_way_0 6 rfl rfl)
theorem dX0_way_9 : decode cX0_way 9 = .ok (.ifCond .eq 26, 3) := dk_153 0 26 (dk_at dksX0_way_0 9 rfl rfl)
theorem dX0_way_12 : decode cX0_way 12 = .ok (.iload_n 2, 1) := dk_28 (dk_at dksX0_way_0 12 rfl rfl)
theorem dX0_way_13 : decode cX0_way 13 = .ok (.i2l, 1) := dk_133 (dk_at dksX0_way_0 13 rfl rfl)
theorem dX0_way_14 : decode cX0_way 14 = .ok (.lconst 0, 1) := dk_9 (dk_at dksX0_way_0 14 rfl rfl)
theorem dX0_way_15 : decode cX0_way 15 = .ok (.ldc2_w 34, 3) := dk_20 0 34 (dk_at dksX0_way_0 15 rfl rfl)
theorem dX0_way_18 : decode cX0_way 18 = .ok (.invokestatic 36, 3) := dk_184 0 36 (dk_at dksX0_way_0 18 rfl rfl)
theorem dX0_way_21 : decode cX0_way 21 = .ok (.ifCond .eq 14, 3) := dk_153 0 14 (dk_at dksX0_way_0 21 rfl rfl)
theorem dX0_way_24 : decode cX0_way 24 = .ok (.aload_n 0, 1) := dk_42 (dk_at dksX0_way_1 0 rfl rfl)
theorem dX0_way_25 : decode cX0_way 25 = .ok (.getfield 69, 3) := dk_180 0 69 (dk_at dksX0_way_1 1 rfl rfl)
theorem dX0_way_28 : decode cX0_way 28 = .ok (.iload_n 1, 1) := dk_27 (dk_at dksX0_way_1 4 rfl rfl)
theorem dX0_way_29 : decode cX0_way 29 = .ok (.aaload, 1) := dk_50 (dk_at dksX0_way_1 5 rfl rfl)
theorem dX0_way_30 : decode cX0_way 30 = .ok (.iload_n 2, 1) := dk_28 (dk_at dksX0_way_1 6 rfl rfl)
theorem dX0_way_31 : decode cX0_way 31 = .ok (.saload, 1) := dk_53 (dk_at dksX0_way_1 7 rfl rfl)
theorem dX0_way_32 : decode cX0_way 32 = .ok (.goto 5, 3) := dk_167 0 5 (dk_at dksX0_way_1 8 rfl rfl)
theorem dX0_way_35 : decode cX0_way 35 = .ok (.bipush (-2), 2) := dk_16 254 (dk_at dksX0_way_1 11 rfl rfl)
theorem dX0_way_37 : decode cX0_way 37 = .ok (.ireturn, 1) := dk_172 (dk_at dksX0_way_1 13 rfl rfl)
abbrev cX0_may : ByteArray := prog_1_method_25_code
def yX0_may : MethodName := ⟨RX0, "may", "(I)I"⟩
def dkwX0_may_1 : List UInt8 := [3, 172]
abbrev dktX0_may_1 : List UInt8 := dkwX0_may_1 ++ []
def dkwX0_may_0 : List UInt8 := [27, 184, 0, 190, 154, 0, 8, 16, 253, 167, 0, 16, 42, 27, 182, 0, 193, 153, 0, 7, 4, 167, 0, 4]
abbrev dktX0_may_0 : List UInt8 := dkwX0_may_0 ++ dktX0_may_1
theorem dksX0_may_0 : cX0_may.data.toList.drop 0 = dktX0_may_0 := by decide +kernel
theorem dksX0_may_1 : cX0_may.data.toList.drop 24 = dktX0_may_1 := dk_seg dksX0_may_0 24 rfl rfl
theorem dX0_may_0 : decode cX0_may 0 = .ok (.iload_n 1, 1) := dk_27 (dk_at dksX0_may_0 0 rfl rfl)
theorem dX0_may_1 : decode cX0_may 1 = .ok (.invokestatic 190, 3) := dk_184 0 190 (dk_at dksX0_may_0 1 rfl rfl)
theorem dX0_may_4 : decode cX0_may 4 = .ok (.ifCond .ne 8, 3) := dk_154 0 8 (dk_at dksX0_may_0 4 rfl rfl)
theorem dX0_may_7 : decode cX0_may 7 = .ok (.bipush (-3), 2) := dk_16 253 (dk_at dksX0_may_0 7 rfl rfl)
theorem dX0_may_9 : decode cX0_may 9 = .ok (.goto 16, 3) := dk_167 0 16 (dk_at dksX0_may_0 9 rfl rfl)
theorem dX0_may_12 : decode cX0_may 12 = .ok (.aload_n 0, 1) := dk_42 (dk_at dksX0_may_0 12 rfl rfl)
theorem dX0_may_13 : decode cX0_may 13 = .ok (.iload_n 1, 1) := dk_27 (dk_at dksX0_may_0 13 rfl rfl)
theorem dX0_may_14 : decode cX0_may 14 = .ok (.invokevirtual 193, 3) := dk_182 0 193 (dk_at dksX0_may_0 14 rfl rfl)
theorem dX0_may_17 : decode cX0_may 17 = .ok (.ifCond .eq 7, 3) := dk_153 0 7 (dk_at dksX0_may_0 17 rfl rfl)
theorem dX0_may_20 : decode cX0_may 20 = .ok (.iconst 1, 1) := dk_4 (dk_at dksX0_may_0 20 rfl rfl)
theorem dX0_may_21 : decode cX0_may 21 = .ok (.goto 4, 3) := dk_167 0 4 (dk_at dksX0_may_0 21 rfl rfl)
theorem dX0_may_24 : decode cX0_may 24 = .ok (.iconst 0, 1) := dk_3 (dk_at dksX0_may_1 0 rfl rfl)
theorem dX0_may_25 : decode cX0_may 25 = .ok (.ireturn, 1) := dk_172 (dk_at dksX0_may_1 1 rfl rfl)
abbrev cX0_isBag : ByteArray := prog_1_method_11_code
def yX0_isBag : MethodName := ⟨RX0, "isBag", "(I)Z"⟩
def dkwX0_isBag_0 : List UInt8 := [26, 133, 9, 20, 0, 104, 184, 0, 36, 172]
abbrev dktX0_isBag_0 : List UInt8 := dkwX0_isBag_0 ++ []
theorem dksX0_isBag_0 : cX0_isBag.data.toList.drop 0 = dktX0_isBag_0 := by decide +kernel
theorem dX0_isBag_0 : decode cX0_isBag 0 = .ok (.iload_n 0, 1) := dk_26 (dk_at dksX0_isBag_0 0 rfl rfl)
theorem dX0_isBag_1 : decode cX0_isBag 1 = .ok (.i2l, 1) := dk_133 (dk_at dksX0_isBag_0 1 rfl rfl)
theorem dX0_isBag_2 : decode cX0_isBag 2 = .ok (.lconst 0, 1) := dk_9 (dk_at dksX0_isBag_0 2 rfl rfl)
theorem dX0_isBag_3 : decode cX0_isBag 3 = .ok (.ldc2_w 104, 3) := dk_20 0 104 (dk_at dksX0_isBag_0 3 rfl rfl)
theorem dX0_isBag_6 : decode cX0_isBag 6 = .ok (.invokestatic 36, 3) := dk_184 0 36 (dk_at dksX0_isBag_0 6 rfl rfl)
theorem dX0_isBag_9 : decode cX0_isBag 9 = .ok (.ireturn, 1) := dk_172 (dk_at dksX0_isBag_0 9 rfl rfl)
abbrev cX0_mayBe : ByteArray := prog_1_method_5_code
def yX0_mayBe : MethodName := ⟨RX0, "mayBe", "(I)Z"⟩
def dkwX0_mayBe_2 : List UInt8 := [163, 0, 19, 42, 27, 182, 0, 27, 42, 180, 0, 31, 163, 0, 7, 4, 167, 0, 4, 3, 172]
abbrev dktX0_mayBe_2 : List UInt8 := dkwX0_mayBe_2 ++ []
def dkwX0_mayBe_1 : List UInt8 := [182, 0, 9, 180, 0, 21, 167, 0, 4, 3, 96, 61, 132, 3, 1, 167, 255, 223, 28, 42, 180, 0, 24]
abbrev dktX0_mayBe_1 : List UInt8 := dkwX0_mayBe_1 ++ dktX0_mayBe_2
def dkwX0_mayBe_0 : List UInt8 := [3, 61, 3, 62, 29, 16, 8, 162, 0, 33, 28, 27, 29, 122, 4, 126, 4, 160, 0, 14, 42, 29]
abbrev dktX0_mayBe_0 : List UInt8 := dkwX0_mayBe_0 ++ dktX0_mayBe_1
theorem dksX0_mayBe_0 : cX0_mayBe.data.toList.drop 0 = dktX0_mayBe_0 := by decide +kernel
theorem dksX0_mayBe_1 : cX0_mayBe.data.toList.drop 22 = dktX0_mayBe_1 := dk_seg dksX0_mayBe_0 22 rfl rfl
theorem dksX0_mayBe_2 : cX0_mayBe.data.toList.drop 45 = dktX0_mayBe_2 := dk_seg dksX0_mayBe_1 23 rfl rfl
theorem dX0_mayBe_0 : decode cX0_mayBe 0 = .ok (.iconst 0, 1) := dk_3 (dk_at dksX0_mayBe_0 0 rfl rfl)
theorem dX0_mayBe_1 : decode cX0_mayBe 1 = .ok (.istore_n 2, 1) := dk_61 (dk_at dksX0_mayBe_0 1 rfl rfl)
theorem dX0_mayBe_2 : decode cX0_mayBe 2 = .ok (.iconst 0, 1) := dk_3 (dk_at dksX0_mayBe_0 2 rfl rfl)
theorem dX0_mayBe_3 : decode cX0_mayBe 3 = .ok (.istore_n 3, 1) := dk_62 (dk_at dksX0_mayBe_0 3 rfl rfl)
theorem dX0_mayBe_4 : decode cX0_mayBe 4 = .ok (.iload_n 3, 1) := dk_29 (dk_at dksX0_mayBe_0 4 rfl rfl)
theorem dX0_mayBe_5 : decode cX0_mayBe 5 = .ok (.bipush 8, 2) := dk_16 8 (dk_at dksX0_mayBe_0 5 rfl rfl)
theorem dX0_mayBe_7 : decode cX0_mayBe 7 = .ok (.if_icmp .ge 33, 3) := dk_162 0 33 (dk_at dksX0_mayBe_0 7 rfl rfl)
theorem dX0_mayBe_10 : decode cX0_mayBe 10 = .ok (.iload_n 2, 1) := dk_28 (dk_at dksX0_mayBe_0 10 rfl rfl)
theorem dX0_mayBe_11 : decode cX0_mayBe 11 = .ok (.iload_n 1, 1) := dk_27 (dk_at dksX0_mayBe_0 11 rfl rfl)
theorem dX0_mayBe_12 : decode cX0_mayBe 12 = .ok (.iload_n 3, 1) := dk_29 (dk_at dksX0_mayBe_0 12 rfl rfl)
theorem dX0_mayBe_13 : decode cX0_mayBe 13 = .ok (.ishr, 1) := dk_122 (dk_at dksX0_mayBe_0 13 rfl rfl)
theorem dX0_mayBe_14 : decode cX0_mayBe 14 = .ok (.iconst 1, 1) := dk_4 (dk_at dksX0_mayBe_0 14 rfl rfl)
theorem dX0_mayBe_15 : decode cX0_mayBe 15 = .ok (.iand, 1) := dk_126 (dk_at dksX0_mayBe_0 15 rfl rfl)
theorem dX0_mayBe_16 : decode cX0_mayBe 16 = .ok (.iconst 1, 1) := dk_4 (dk_at dksX0_mayBe_0 16 rfl rfl)
theorem dX0_mayBe_17 : decode cX0_mayBe 17 = .ok (.if_icmp .ne 14, 3) := dk_160 0 14 (dk_at dksX0_mayBe_0 17 rfl rfl)
theorem dX0_mayBe_20 : decode cX0_mayBe 20 = .ok (.aload_n 0, 1) := dk_42 (dk_at dksX0_mayBe_0 20 rfl rfl)
theorem dX0_mayBe_21 : decode cX0_mayBe 21 = .ok (.iload_n 3, 1) := dk_29 (dk_at dksX0_mayBe_0 21 rfl rfl)
theorem dX0_mayBe_22 : decode cX0_mayBe 22 = .ok (.invokevirtual 9, 3) := dk_182 0 9 (dk_at dksX0_mayBe_1 0 rfl rfl)
theorem dX0_mayBe_25 : decode cX0_mayBe 25 = .ok (.getfield 21, 3) := dk_180 0 21 (dk_at dksX0_mayBe_1 3 rfl rfl)
theorem dX0_mayBe_28 : decode cX0_mayBe 28 = .ok (.goto 4, 3) := dk_167 0 4 (dk_at dksX0_mayBe_1 6 rfl rfl)
theorem dX0_mayBe_31 : decode cX0_mayBe 31 = .ok (.iconst 0, 1) := dk_3 (dk_at dksX0_mayBe_1 9 rfl rfl)
theorem dX0_mayBe_32 : decode cX0_mayBe 32 = .ok (.iadd, 1) := dk_96 (dk_at dksX0_mayBe_1 10 rfl rfl)
theorem dX0_mayBe_33 : decode cX0_mayBe 33 = .ok (.istore_n 2, 1) := dk_61 (dk_at dksX0_mayBe_1 11 rfl rfl)
theorem dX0_mayBe_34 : decode cX0_mayBe 34 = .ok (.iinc 3 1, 3) := dk_132 3 1 (dk_at dksX0_mayBe_1 12 rfl rfl)
theorem dX0_mayBe_37 : decode cX0_mayBe 37 = .ok (.goto (-33), 3) := dk_167 255 223 (dk_at dksX0_mayBe_1 15 rfl rfl)
theorem dX0_mayBe_40 : decode cX0_mayBe 40 = .ok (.iload_n 2, 1) := dk_28 (dk_at dksX0_mayBe_1 18 rfl rfl)
theorem dX0_mayBe_41 : decode cX0_mayBe 41 = .ok (.aload_n 0, 1) := dk_42 (dk_at dksX0_mayBe_1 19 rfl rfl)
theorem dX0_mayBe_42 : decode cX0_mayBe 42 = .ok (.getfield 24, 3) := dk_180 0 24 (dk_at dksX0_mayBe_1 20 rfl rfl)
theorem dX0_mayBe_45 : decode cX0_mayBe 45 = .ok (.if_icmp .gt 19, 3) := dk_163 0 19 (dk_at dksX0_mayBe_2 0 rfl rfl)
theorem dX0_mayBe_48 : decode cX0_mayBe 48 = .ok (.aload_n 0, 1) := dk_42 (dk_at dksX0_mayBe_2 3 rfl rfl)
theorem dX0_mayBe_49 : decode cX0_mayBe 49 = .ok (.iload_n 1, 1) := dk_27 (dk_at dksX0_mayBe_2 4 rfl rfl)
theorem dX0_mayBe_50 : decode cX0_mayBe 50 = .ok (.invokevirtual 27, 3) := dk_182 0 27 (dk_at dksX0_mayBe_2 5 rfl rfl)
theorem dX0_mayBe_53 : decode cX0_mayBe 53 = .ok (.aload_n 0, 1) := dk_42 (dk_at dksX0_mayBe_2 8 rfl rfl)
theorem dX0_mayBe_54 : decode cX0_mayBe 54 = .ok (.getfield 31, 3) := dk_180 0 31 (dk_at dksX0_mayBe_2 9 rfl rfl)
theorem dX0_mayBe_57 : decode cX0_mayBe 57 = .ok (.if_icmp .gt 7, 3) := dk_163 0 7 (dk_at dksX0_mayBe_2 12 rfl rfl)
theorem dX0_mayBe_60 : decode cX0_mayBe 60 = .ok (.iconst 1, 1) := dk_4 (dk_at dksX0_mayBe_2 15 rfl rfl)
theorem dX0_mayBe_61 : decode cX0_mayBe 61 = .ok (.goto 4, 3) := dk_167 0 4 (dk_at dksX0_mayBe_2 16 rfl rfl)
theorem dX0_mayBe_64 : decode cX0_mayBe 64 = .ok (.iconst 0, 1) := dk_3 (dk_at dksX0_mayBe_2 19 rfl rfl)
theorem dX0_mayBe_65 : decode cX0_mayBe 65 = .ok (.ireturn, 1) := dk_172 (dk_at dksX0_mayBe_2 20 rfl rfl)
abbrev cX0_weightOf : ByteArray := prog_1_method_4_code
def yX0_weightOf : MethodName := ⟨RX0, "weightOf", "(I)I"⟩
def dkwX0_weightOf_1 : List UInt8 := [182, 0, 9, 180, 0, 17, 167, 0, 4, 3, 96, 61, 132, 3, 1, 167, 255, 223, 28, 172]
abbrev dktX0_weightOf_1 : List UInt8 := dkwX0_weightOf_1 ++ []
def dkwX0_weightOf_0 : List UInt8 := [3, 61, 3, 62, 29, 16, 8, 162, 0, 33, 28, 27, 29, 122, 4, 126, 4, 160, 0, 14, 42, 29]
abbrev dktX0_weightOf_0 : List UInt8 := dkwX0_weightOf_0 ++ dktX0_weightOf_1
theorem dksX0_weightOf_0 : cX0_weightOf.data.toList.drop 0 = dktX0_weightOf_0 := by decide +kernel
theorem dksX0_weightOf_1 : cX0_weightOf.data.toList.drop 22 = dktX0_weightOf_1 := dk_seg dksX0_weightOf_0 22 rfl rfl
theorem dX0_weightOf_0 : decode cX0_weightOf 0 = .ok (.iconst 0, 1) := dk_3 (dk_at dksX0_weightOf_0 0 rfl rfl)
theorem dX0_weightOf_1 : decode cX0_weightOf 1 = .ok (.istore_n 2, 1) := dk_61 (dk_at dksX0_weightOf_0 1 rfl rfl)
theorem dX0_weightOf_2 : decode cX0_weightOf 2 = .ok (.iconst 0, 1) := dk_3 (dk_at dksX0_weightOf_0 2 rfl rfl)
theorem dX0_weightOf_3 : decode cX0_weightOf 3 = .ok (.istore_n 3, 1) := dk_62 (dk_at dksX0_weightOf_0 3 rfl rfl)
theorem dX0_weightOf_4 : decode cX0_weightOf 4 = .ok (.iload_n 3, 1) := dk_29 (dk_at dksX0_weightOf_0 4 rfl rfl)
theorem dX0_weightOf_5 : decode cX0_weightOf 5 = .ok (.bipush 8, 2) := dk_16 8 (dk_at dksX0_weightOf_0 5 rfl rfl)
theorem dX0_weightOf_7 : decode cX0_weightOf 7 = .ok (.if_icmp .ge 33, 3) := dk_162 0 33 (dk_at dksX0_weightOf_0 7 rfl rfl)
theorem dX0_weightOf_10 : decode cX0_weightOf 10 = .ok (.iload_n 2, 1) := dk_28 (dk_at dksX0_weightOf_0 10 rfl rfl)
theorem dX0_weightOf_11 : decode cX0_weightOf 11 = .ok (.iload_n 1, 1) := dk_27 (dk_at dksX0_weightOf_0 11 rfl rfl)
theorem dX0_weightOf_12 : decode cX0_weightOf 12 = .ok (.iload_n 3, 1) := dk_29 (dk_at dksX0_weightOf_0 12 rfl rfl)
theorem dX0_weightOf_13 : decode cX0_weightOf 13 = .ok (.ishr, 1) := dk_122 (dk_at dksX0_weightOf_0 13 rfl rfl)
theorem dX0_weightOf_14 : decode cX0_weightOf 14 = .ok (.iconst 1, 1) := dk_4 (dk_at dksX0_weightOf_0 14 rfl rfl)
theorem dX0_weightOf_15 : decode cX0_weightOf 15 = .ok (.iand, 1) := dk_126 (dk_at dksX0_weightOf_0 15 rfl rfl)
theorem dX0_weightOf_16 : decode cX0_weightOf 16 = .ok (.iconst 1, 1) := dk_4 (dk_at dksX0_weightOf_0 16 rfl rfl)
theorem dX0_weightOf_17 : decode cX0_weightOf 17 = .ok (.if_icmp .ne 14, 3) := dk_160 0 14 (dk_at dksX0_weightOf_0 17 rfl rfl)
theorem dX0_weightOf_20 : decode cX0_weightOf 20 = .ok (.aload_n 0, 1) := dk_42 (dk_at dksX0_weightOf_0 20 rfl rfl)
theorem dX0_weightOf_21 : decode cX0_weightOf 21 = .ok (.iload_n 3, 1) := dk_29 (dk_at dksX0_weightOf_0 21 rfl rfl)
theorem dX0_weightOf_22 : decode cX0_weightOf 22 = .ok (.invokevirtual 9, 3) := dk_182 0 9 (dk_at dksX0_weightOf_1 0 rfl rfl)
theorem dX0_weightOf_25 : decode cX0_weightOf 25 = .ok (.getfield 17, 3) := dk_180 0 17 (dk_at dksX0_weightOf_1 3 rfl rfl)
theorem dX0_weightOf_28 : decode cX0_weightOf 28 = .ok (.goto 4, 3) := dk_167 0 4 (dk_at dksX0_weightOf_1 6 rfl rfl)
theorem dX0_weightOf_31 : decode cX0_weightOf 31 = .ok (.iconst 0, 1) := dk_3 (dk_at dksX0_weightOf_1 9 rfl rfl)
theorem dX0_weightOf_32 : decode cX0_weightOf 32 = .ok (.iadd, 1) := dk_96 (dk_at dksX0_weightOf_1 10 rfl rfl)
theorem dX0_weightOf_33 : decode cX0_weightOf 33 = .ok (.istore_n 2, 1) := dk_61 (dk_at dksX0_weightOf_1 11 rfl rfl)
theorem dX0_weightOf_34 : decode cX0_weightOf 34 = .ok (.iinc 3 1, 3) := dk_132 3 1 (dk_at dksX0_weightOf_1 12 rfl rfl)
theorem dX0_weightOf_37 : decode cX0_weightOf 37 = .ok (.goto (-33), 3) := dk_167 255 223 (dk_at dksX0_weightOf_1 15 rfl rfl)
theorem dX0_weightOf_40 : decode cX0_weightOf 40 = .ok (.iload_n 2, 1) := dk_28 (dk_at dksX0_weightOf_1 18 rfl rfl)
theorem dX0_weightOf_41 : decode cX0_weightOf 41 = .ok (.ireturn, 1) := dk_172 (dk_at dksX0_weightOf_1 19 rfl rfl)
abbrev cX0_does : ByteArray := prog_1_method_26_code
def yX0_does : MethodName := ⟨RX0, "does", "(III)I"⟩
def dkwX0_does_2 : List UInt8 := [153, 0, 16, 25, 4, 27, 42, 182, 0, 199, 182, 0, 202, 167, 0, 4, 2, 172]
abbrev dktX0_does_2 : List UInt8 := dkwX0_does_2 ++ []
def dkwX0_does_1 : List UInt8 := [180, 0, 40, 28, 50, 180, 0, 48, 29, 182, 0, 174, 192, 0, 76, 58, 4, 25, 4, 27, 182, 0, 196]
abbrev dktX0_does_1 : List UInt8 := dkwX0_does_1 ++ dktX0_does_2
def dkwX0_does_0 : List UInt8 := [42, 28, 29, 182, 0, 170, 154, 0, 6, 16, 254, 172, 27, 184, 0, 190, 154, 0, 6, 16, 253, 172, 42]
abbrev dktX0_does_0 : List UInt8 := dkwX0_does_0 ++ dktX0_does_1
theorem dksX0_does_0 : cX0_does.data.toList.drop 0 = dktX0_does_0 := by decide +kernel
theorem dksX0_does_1 : cX0_does.data.toList.drop 23 = dktX0_does_1 := dk_seg dksX0_does_0 23 rfl rfl
theorem dksX0_does_2 : cX0_does.data.toList.drop 46 = dktX0_does_2 := dk_seg dksX0_does_1 23 rfl rfl
theorem dX0_does_0 : decode cX0_does 0 = .ok (.aload_n 0, 1) := dk_42 (dk_at dksX0_does_0 0 rfl rfl)
theorem dX0_does_1 : decode cX0_does 1 = .ok (.iload_n 2, 1) := dk_28 (dk_at dksX0_does_0 1 rfl rfl)
theorem dX0_does_2 : decode cX0_does 2 = .ok (.iload_n 3, 1) := dk_29 (dk_at dksX0_does_0 2 rfl rfl)
theorem dX0_does_3 : decode cX0_does 3 = .ok (.invokevirtual 170, 3) := dk_182 0 170 (dk_at dksX0_does_0 3 rfl rfl)
theorem dX0_does_6 : decode cX0_does 6 = .ok (.ifCond .ne 6, 3) := dk_154 0 6 (dk_at dksX0_does_0 6 rfl rfl)
theorem dX0_does_9 : decode cX0_does 9 = .ok (.bipush (-2), 2) := dk_16 254 (dk_at dksX0_does_0 9 rfl rfl)
theorem dX0_does_11 : decode cX0_does 11 = .ok (.ireturn, 1) := dk_172 (dk_at dksX0_does_0 11 rfl rfl)
theorem dX0_does_12 : decode cX0_does 12 = .ok (.iload_n 1, 1) := dk_27 (dk_at dksX0_does_0 12 rfl rfl)
theorem dX0_does_13 : decode cX0_does 13 = .ok (.invokestatic 190, 3) := dk_184 0 190 (dk_at dksX0_does_0 13 rfl rfl)
theorem dX0_does_16 : decode cX0_does 16 = .ok (.ifCond .ne 6, 3) := dk_154 0 6 (dk_at dksX0_does_0 16 rfl rfl)
theorem dX0_does_19 : decode cX0_does 19 = .ok (.bipush (-3), 2) := dk_16 253 (dk_at dksX0_does_0 19 rfl rfl)
theorem dX0_does_21 : decode cX0_does 21 = .ok (.ireturn, 1) := dk_172 (dk_at dksX0_does_0 21 rfl rfl)
theorem dX0_does_22 : decode cX0_does 22 = .ok (.aload_n 0, 1) := dk_42 (dk_at dksX0_does_0 22 rfl rfl)
theorem dX0_does_23 : decode cX0_does 23 = .ok (.getfield 40, 3) := dk_180 0 40 (dk_at dksX0_does_1 0 rfl rfl)
theorem dX0_does_26 : decode cX0_does 26 = .ok (.iload_n 2, 1) := dk_28 (dk_at dksX0_does_1 3 rfl rfl)
theorem dX0_does_27 : decode cX0_does 27 = .ok (.aaload, 1) := dk_50 (dk_at dksX0_does_1 4 rfl rfl)
theorem dX0_does_28 : decode cX0_does 28 = .ok (.getfield 48, 3) := dk_180 0 48 (dk_at dksX0_does_1 5 rfl rfl)
theorem dX0_does_31 : decode cX0_does 31 = .ok (.iload_n 3, 1) := dk_29 (dk_at dksX0_does_1 8 rfl rfl)
theorem dX0_does_32 : decode cX0_does 32 = .ok (.invokevirtual 174, 3) := dk_182 0 174 (dk_at dksX0_does_1 9 rfl rfl)
theorem dX0_does_35 : decode cX0_does 35 = .ok (.checkcast 76, 3) := dk_192 0 76 (dk_at dksX0_does_1 12 rfl rfl)
theorem dX0_does_38 : decode cX0_does 38 = .ok (.astore 4, 2) := dk_58 4 (dk_at dksX0_does_1 15 rfl rfl)
theorem dX0_does_40 : decode cX0_does 40 = .ok (.aload 4, 2) := dk_25 4 (dk_at dksX0_does_1 17 rfl rfl)
theorem dX0_does_42 : decode cX0_does 42 = .ok (.iload_n 1, 1) := dk_27 (dk_at dksX0_does_1 19 rfl rfl)
theorem dX0_does_43 : decode cX0_does 43 = .ok (.invokevirtual 196, 3) := dk_182 0 196 (dk_at dksX0_does_1 20 rfl rfl)
theorem dX0_does_46 : decode cX0_does 46 = .ok (.ifCond .eq 16, 3) := dk_153 0 16 (dk_at dksX0_does_2 0 rfl rfl)
theorem dX0_does_49 : decode cX0_does 49 = .ok (.aload 4, 2) := dk_25 4 (dk_at dksX0_does_2 3 rfl rfl)
theorem dX0_does_51 : decode cX0_does 51 = .ok (.iload_n 1, 1) := dk_27 (dk_at dksX0_does_2 5 rfl rfl)
theorem dX0_does_52 : decode cX0_does 52 = .ok (.aload_n 0, 1) := dk_42 (dk_at dksX0_does_2 6 rfl rfl)
theorem dX0_does_53 : decode cX0_does 53 = .ok (.invokevirtual 199, 3) := dk_182 0 199 (dk_at dksX0_does_2 7 rfl rfl)
theorem dX0_does_56 : decode cX0_does 56 = .ok (.invokevirtual 202, 3) := dk_182 0 202 (dk_at dksX0_does_2 10 rfl rfl)
theorem dX0_does_59 : decode cX0_does 59 = .ok (.goto 4, 3) := dk_167 0 4 (dk_at dksX0_does_2 13 rfl rfl)
theorem dX0_does_62 : decode cX0_does 62 = .ok (.iconst (-1), 1) := dk_2 (dk_at dksX0_does_2 16 rfl rfl)
theorem dX0_does_63 : decode cX0_does 63 = .ok (.ireturn, 1) := dk_172 (dk_at dksX0_does_2 17 rfl rfl)
abbrev cX0_parts : ByteArray := prog_1_method_3_code
def yX0_parts : MethodName := ⟨RX0, "parts", "()I"⟩
def dkwX0_parts_1 : List UInt8 := [120, 167, 0, 4, 3, 128, 60, 132, 2, 1, 167, 255, 226, 27, 172]
abbrev dktX0_parts_1 : List UInt8 := dkwX0_parts_1 ++ []
def dkwX0_parts_0 : List UInt8 := [3, 60, 3, 61, 28, 16, 8, 162, 0, 30, 27, 42, 28, 182, 0, 9, 182, 0, 13, 153, 0, 9, 4, 28]
abbrev dktX0_parts_0 : List UInt8 := dkwX0_parts_0 ++ dktX0_parts_1
theorem dksX0_parts_0 : cX0_parts.data.toList.drop 0 = dktX0_parts_0 := by decide +kernel
theorem dksX0_parts_1 : cX0_parts.data.toList.drop 24 = dktX0_parts_1 := dk_seg dksX0_parts_0 24 rfl rfl
theorem dX0_parts_0 : decode cX0_parts 0 = .ok (.iconst 0, 1) := dk_3 (dk_at dksX0_parts_0 0 rfl rfl)
theorem dX0_parts_1 : decode cX0_parts 1 = .ok (.istore_n 1, 1) := dk_60 (dk_at dksX0_parts_0 1 rfl rfl)
theorem dX0_parts_2 : decode cX0_parts 2 = .ok (.iconst 0, 1) := dk_3 (dk_at dksX0_parts_0 2 rfl rfl)
theorem dX0_parts_3 : decode cX0_parts 3 = .ok (.istore_n 2, 1) := dk_61 (dk_at dksX0_parts_0 3 rfl rfl)
theorem dX0_parts_4 : decode cX0_parts 4 = .ok (.iload_n 2, 1) := dk_28 (dk_at dksX0_parts_0 4 rfl rfl)
theorem dX0_parts_5 : decode cX0_parts 5 = .ok (.bipush 8, 2) := dk_16 8 (dk_at dksX0_parts_0 5 rfl rfl)
theorem dX0_parts_7 : decode cX0_parts 7 = .ok (.if_icmp .ge 30, 3) := dk_162 0 30 (dk_at dksX0_parts_0 7 rfl rfl)
theorem dX0_parts_10 : decode cX0_parts 10 = .ok (.iload_n 1, 1) := dk_27 (dk_at dksX0_parts_0 10 rfl rfl)
theorem dX0_parts_11 : decode cX0_parts 11 = .ok (.aload_n 0, 1) := dk_42 (dk_at dksX0_parts_0 11 rfl rfl)
theorem dX0_parts_12 : decode cX0_parts 12 = .ok (.iload_n 2, 1) := dk_28 (dk_at dksX0_parts_0 12 rfl rfl)
theorem dX0_parts_13 : decode cX0_parts 13 = .ok (.invokevirtual 9, 3) := dk_182 0 9 (dk_at dksX0_parts_0 13 rfl rfl)
theorem dX0_parts_16 : decode cX0_parts 16 = .ok (.invokevirtual 13, 3) := dk_182 0 13 (dk_at dksX0_parts_0 16 rfl rfl)
theorem dX0_parts_19 : decode cX0_parts 19 = .ok (.ifCond .eq 9, 3) := dk_153 0 9 (dk_at dksX0_parts_0 19 rfl rfl)
theorem dX0_parts_22 : decode cX0_parts 22 = .ok (.iconst 1, 1) := dk_4 (dk_at dksX0_parts_0 22 rfl rfl)
theorem dX0_parts_23 : decode cX0_parts 23 = .ok (.iload_n 2, 1) := dk_28 (dk_at dksX0_parts_0 23 rfl rfl)
theorem dX0_parts_24 : decode cX0_parts 24 = .ok (.ishl, 1) := dk_120 (dk_at dksX0_parts_1 0 rfl rfl)
theorem dX0_parts_25 : decode cX0_parts 25 = .ok (.goto 4, 3) := dk_167 0 4 (dk_at dksX0_parts_1 1 rfl rfl)
theorem dX0_parts_28 : decode cX0_parts 28 = .ok (.iconst 0, 1) := dk_3 (dk_at dksX0_parts_1 4 rfl rfl)
theorem dX0_parts_29 : decode cX0_parts 29 = .ok (.ior, 1) := dk_128 (dk_at dksX0_parts_1 5 rfl rfl)
theorem dX0_parts_30 : decode cX0_parts 30 = .ok (.istore_n 1, 1) := dk_60 (dk_at dksX0_parts_1 6 rfl rfl)
theorem dX0_parts_31 : decode cX0_parts 31 = .ok (.iinc 2 1, 3) := dk_132 2 1 (dk_at dksX0_parts_1 7 rfl rfl)
theorem dX0_parts_34 : decode cX0_parts 34 = .ok (.goto (-30), 3) := dk_167 255 226 (dk_at dksX0_parts_1 10 rfl rfl)
theorem dX0_parts_37 : decode cX0_parts 37 = .ok (.iload_n 1, 1) := dk_27 (dk_at dksX0_parts_1 13 rfl rfl)
theorem dX0_parts_38 : decode cX0_parts 38 = .ok (.ireturn, 1) := dk_172 (dk_at dksX0_parts_1 14 rfl rfl)
abbrev cX0_chance : ByteArray := prog_1_method_27_code
def yX0_chance : MethodName := ⟨RX0, "chance", "(III)I"⟩
def dkwX0_chance_5 : List UInt8 := [133, 42, 180, 0, 40, 28, 50, 180, 0, 206, 133, 29, 184, 0, 207, 136, 172]
abbrev dktX0_chance_5 : List UInt8 := dkwX0_chance_5 ++ []
def dkwX0_chance_4 : List UInt8 := [182, 0, 174, 192, 0, 76, 180, 0, 178, 167, 0, 4, 3, 96, 54, 4, 132, 5, 1, 167, 255, 183, 21, 4]
abbrev dktX0_chance_4 : List UInt8 := dkwX0_chance_4 ++ dktX0_chance_5
def dkwX0_chance_3 : List UInt8 := [182, 0, 174, 192, 0, 76, 27, 182, 0, 196, 153, 0, 26, 42, 180, 0, 40, 28, 50, 180, 0, 48, 21, 5]
abbrev dktX0_chance_3 : List UInt8 := dkwX0_chance_3 ++ dktX0_chance_4
def dkwX0_chance_2 : List UInt8 := [180, 0, 48, 182, 0, 163, 162, 0, 62, 21, 4, 42, 180, 0, 40, 28, 50, 180, 0, 48, 21, 5]
abbrev dktX0_chance_2 : List UInt8 := dkwX0_chance_2 ++ dktX0_chance_3
def dkwX0_chance_1 : List UInt8 := [184, 0, 36, 154, 0, 6, 16, 253, 172, 3, 54, 4, 3, 54, 5, 21, 5, 42, 180, 0, 40, 28, 50]
abbrev dktX0_chance_1 : List UInt8 := dkwX0_chance_1 ++ dktX0_chance_2
def dkwX0_chance_0 : List UInt8 := [42, 28, 182, 0, 101, 154, 0, 6, 16, 254, 172, 27, 184, 0, 190, 153, 0, 13, 29, 133, 9, 10]
abbrev dktX0_chance_0 : List UInt8 := dkwX0_chance_0 ++ dktX0_chance_1
theorem dksX0_chance_0 : cX0_chance.data.toList.drop 0 = dktX0_chance_0 := by decide +kernel
theorem dksX0_chance_1 : cX0_chance.data.toList.drop 22 = dktX0_chance_1 := dk_seg dksX0_chance_0 22 rfl rfl
theorem dksX0_chance_2 : cX0_chance.data.toList.drop 45 = dktX0_chance_2 := dk_seg dksX0_chance_1 23 rfl rfl
theorem dksX0_chance_3 : cX0_chance.data.toList.drop 67 = dktX0_chance_3 := dk_seg dksX0_chance_2 22 rfl rfl
theorem dksX0_chance_4 : cX0_chance.data.toList.drop 91 = dktX0_chance_4 := dk_seg dksX0_chance_3 24 rfl rfl
theorem dksX0_chance_5 : cX0_chance.data.toList.drop 115 = dktX0_chance_5 := dk_seg dksX0_chance_4 24 rfl rfl
theorem dX0_chance_0 : decode cX0_chance 0 = .ok (.aload_n 0, 1) := dk_42 (dk_at dksX0_chance_0 0 rfl rfl)
theorem dX0_chance_1 : decode cX0_chance 1 = .ok (.iload_n 2, 1) := dk_28 (dk_at dksX0_chance_0 1 rfl rfl)
theorem dX0_chance_2 : decode cX0_chance 2 = .ok (.invokevirtual 101, 3) := dk_182 0 101 (dk_at dksX0_chance_0 2 rfl rfl)
theorem dX0_chance_5 : decode cX0_chance 5 = .ok (.ifCond .ne 6, 3) := dk_154 0 6 (dk_at dksX0_chance_0 5 rfl rfl)
theorem dX0_chance_8 : decode cX0_chance 8 = .ok (.bipush (-2), 2) := dk_16 254 (dk_at dksX0_chance_0 8 rfl rfl)
theorem dX0_chance_10 : decode cX0_chance 10 = .ok (.ireturn, 1) := dk_172 (dk_at dksX0_chance_0 10 rfl rfl)
theorem dX0_chance_11 : decode cX0_chance 11 = .ok (.iload_n 1, 1) := dk_27 (dk_at dksX0_chance_0 11 rfl rfl)
theorem dX0_chance_12 : decode cX0_chance 12 = .ok (.invokestatic 190, 3) := dk_184 0 190 (dk_at dksX0_chance_0 12 rfl rfl)
theorem dX0_chance_15 : decode cX0_chance 15 = .ok (.ifCond .eq 13, 3) := dk_153 0 13 (dk_at dksX0_chance_0 15 rfl rfl)
theorem dX0_chance_18 : decode cX0_chance 18 = .ok (.iload_n 3, 1) := dk_29 (dk_at dksX0_chance_0 18 rfl rfl)
theorem dX0_chance_19 : decode cX0_chance 19 = .ok (.i2l, 1) := dk_133 (dk_at dksX0_chance_0 19 rfl rfl)
theorem dX0_chance_20 : decode cX0_chance 20 = .ok (.lconst 0, 1) := dk_9 (dk_at dksX0_chance_0 20 rfl rfl)
theorem dX0_chance_21 : decode cX0_chance 21 = .ok (.lconst 1, 1) := dk_10 (dk_at dksX0_chance_0 21 rfl rfl)
theorem dX0_chance_22 : decode cX0_chance 22 = .ok (.invokestatic 36, 3) := dk_184 0 36 (dk_at dksX0_chance_1 0 rfl rfl)
theorem dX0_chance_25 : decode cX0_chance 25 = .ok (.ifCond .ne 6, 3) := dk_154 0 6 (dk_at dksX0_chance_1 3 rfl rfl)
theorem dX0_chance_28 : decode cX0_chance 28 = .ok (.bipush (-3), 2) := dk_16 253 (dk_at dksX0_chance_1 6 rfl rfl)
theorem dX0_chance_30 : decode cX0_chance 30 = .ok (.ireturn, 1) := dk_172 (dk_at dksX0_chance_1 8 rfl rfl)
theorem dX0_chance_31 : decode cX0_chance 31 = .ok (.iconst 0, 1) := dk_3 (dk_at dksX0_chance_1 9 rfl rfl)
theorem dX0_chance_32 : decode cX0_chance 32 = .ok (.istore 4, 2) := dk_54 4 (dk_at dksX0_chance_1 10 rfl rfl)
theorem dX0_chance_34 : decode cX0_chance 34 = .ok (.iconst 0, 1) := dk_3 (dk_at dksX0_chance_1 12 rfl rfl)
theorem dX0_chance_35 : decode cX0_chance 35 = .ok (.istore 5, 2) := dk_54 5 (dk_at dksX0_chance_1 13 rfl rfl)
theorem dX0_chance_37 : decode cX0_chance 37 = .ok (.iload 5, 2) := dk_21 5 (dk_at dksX0_chance_1 15 rfl rfl)
theorem dX0_chance_39 : decode cX0_chance 39 = .ok (.aload_n 0, 1) := dk_42 (dk_at dksX0_chance_1 17 rfl rfl)
theorem dX0_chance_40 : decode cX0_chance 40 = .ok (.getfield 40, 3) := dk_180 0 40 (dk_at dksX0_chance_1 18 rfl rfl)
theorem dX0_chance_43 : decode cX0_chance 43 = .ok (.iload_n 2, 1) := dk_28 (dk_at dksX0_chance_1 21 rfl rfl)
theorem dX0_chance_44 : decode cX0_chance 44 = .ok (.aaload, 1) := dk_50 (dk_at dksX0_chance_1 22 rfl rfl)
theorem dX0_chance_45 : decode cX0_chance 45 = .ok (.getfield 48, 3) := dk_180 0 48 (dk_at dksX0_chance_2 0 rfl rfl)
theorem dX0_chance_48 : decode cX0_chance 48 = .ok (.invokevirtual 163, 3) := dk_182 0 163 (dk_at dksX0_chance_2 3 rfl rfl)
theorem dX0_chance_51 : decode cX0_chance 51 = .ok (.if_icmp .ge 62, 3) := dk_162 0 62 (dk_at dksX0_chance_2 6 rfl rfl)
theorem dX0_chance_54 : decode cX0_chance 54 = .ok (.iload 4, 2) := dk_21 4 (dk_at dksX0_chance_2 9 rfl rfl)
theorem dX0_chance_56 : decode cX0_chance 56 = .ok (.aload_n 0, 1) := dk_42 (dk_at dksX0_chance_2 11 rfl rfl)
theorem dX0_chance_57 : decode cX0_chance 57 = .ok (.getfield 40, 3) := dk_180 0 40 (dk_at dksX0_chance_2 12 rfl rfl)
theorem dX0_chance_60 : decode cX0_chance 60 = .ok (.iload_n 2, 1) := dk_28 (dk_at dksX0_chance_2 15 rfl rfl)
theorem dX0_chance_61 : decode cX0_chance 61 = .ok (.aaload, 1) := dk_50 (dk_at dksX0_chance_2 16 rfl rfl)
theorem dX0_chance_62 : decode cX0_chance 62 = .ok (.getfield 48, 3) := dk_180 0 48 (dk_at dksX0_chance_2 17 rfl rfl)
theorem dX0_chance_65 : decode cX0_chance 65 = .ok (.iload 5, 2) := dk_21 5 (dk_at dksX0_chance_2 20 rfl rfl)
theorem dX0_chance_67 : decode cX0_chance 67 = .ok (.invokevirtual 174, 3) := dk_182 0 174 (dk_at dksX0_chance_3 0 rfl rfl)
theorem dX0_chance_70 : decode cX0_chance 70 = .ok (.checkcast 76, 3) := dk_192 0 76 (dk_at dksX0_chance_3 3 rfl rfl)
theorem dX0_chance_73 : decode cX0_chance 73 = .ok (.iload_n 1, 1) := dk_27 (dk_at dksX0_chance_3 6 rfl rfl)
theorem dX0_chance_74 : decode cX0_chance 74 = .ok (.invokevirtual 196, 3) := dk_182 0 196 (dk_at dksX0_chance_3 7 rfl rfl)
theorem dX0_chance_77 : decode cX0_chance 77 = .ok (.ifCond .eq 26, 3) := dk_153 0 26 (dk_at dksX0_chance_3 10 rfl rfl)
theorem dX0_chance_80 : decode cX0_chance 80 = .ok (.aload_n 0, 1) := dk_42 (dk_at dksX0_chance_3 13 rfl rfl)
theorem dX0_chance_81 : decode cX0_chance 81 = .ok (.getfield 40, 3) := dk_180 0 40 (dk_at dksX0_chance_3 14 rfl rfl)
theorem dX0_chance_84 : decode cX0_chance 84 = .ok (.iload_n 2, 1) := dk_28 (dk_at dksX0_chance_3 17 rfl rfl)
theorem dX0_chance_85 : decode cX0_chance 85 = .ok (.aaload, 1) := dk_50 (dk_at dksX0_chance_3 18 rfl rfl)
theorem dX0_chance_86 : decode cX0_chance 86 = .ok (.getfield 48, 3) := dk_180 0 48 (dk_at dksX0_chance_3 19 rfl rfl)
theorem dX0_chance_89 : decode cX0_chance 89 = .ok (.iload 5, 2) := dk_21 5 (dk_at dksX0_chance_3 22 rfl rfl)
theorem dX0_chance_91 : decode cX0_chance 91 = .ok (.invokevirtual 174, 3) := dk_182 0 174 (dk_at dksX0_chance_4 0 rfl rfl)
theorem dX0_chance_94 : decode cX0_chance 94 = .ok (.checkcast 76, 3) := dk_192 0 76 (dk_at dksX0_chance_4 3 rfl rfl)
theorem dX0_chance_97 : decode cX0_chance 97 = .ok (.getfield 178, 3) := dk_180 0 178 (dk_at dksX0_chance_4 6 rfl rfl)
theorem dX0_chance_100 : decode cX0_chance 100 = .ok (.goto 4, 3) := dk_167 0 4 (dk_at dksX0_chance_4 9 rfl rfl)
theorem dX0_chance_103 : decode cX0_chance 103 = .ok (.iconst 0, 1) := dk_3 (dk_at dksX0_chance_4 12 rfl rfl)
theorem dX0_chance_104 : decode cX0_chance 104 = .ok (.iadd, 1) := dk_96 (dk_at dksX0_chance_4 13 rfl rfl)
theorem dX0_chance_105 : decode cX0_chance 105 = .ok (.istore 4, 2) := dk_54 4 (dk_at dksX0_chance_4 14 rfl rfl)
theorem dX0_chance_107 : decode cX0_chance 107 = .ok (.iinc 5 1, 3) := dk_132 5 1 (dk_at dksX0_chance_4 16 rfl rfl)
theorem dX0_chance_110 : decode cX0_chance 110 = .ok (.goto (-73), 3) := dk_167 255 183 (dk_at dksX0_chance_4 19 rfl rfl)
theorem dX0_chance_113 : decode cX0_chance 113 = .ok (.iload 4, 2) := dk_21 4 (dk_at dksX0_chance_4 22 rfl rfl)
theorem dX0_chance_115 : decode cX0_chance 115 = .ok (.i2l, 1) := dk_133 (dk_at dksX0_chance_5 0 rfl rfl)
theorem dX0_chance_116 : decode cX0_chance 116 = .ok (.aload_n 0, 1) := dk_42 (dk_at dksX0_chance_5 1 rfl rfl)
theorem dX0_chance_117 : decode cX0_chance 117 = .ok (.getfield 40, 3) := dk_180 0 40 (dk_at dksX0_chance_5 2 rfl rfl)
theorem dX0_chance_120 : decode cX0_chance 120 = .ok (.iload_n 2, 1) := dk_28 (dk_at dksX0_chance_5 5 rfl rfl)
theorem dX0_chance_121 : decode cX0_chance 121 = .ok (.aaload, 1) := dk_50 (dk_at dksX0_chance_5 6 rfl rfl)
theorem dX0_chance_122 : decode cX0_chance 122 = .ok (.getfield 206, 3) := dk_180 0 206 (dk_at dksX0_chance_5 7 rfl rfl)
theorem dX0_chance_125 : decode cX0_chance 125 = .ok (.i2l, 1) := dk_133 (dk_at dksX0_chance_5 10 rfl rfl)
theorem dX0_chance_126 : decode cX0_chance 126 = .ok (.iload_n 3, 1) := dk_29 (dk_at dksX0_chance_5 11 rfl rfl)
theorem dX0_chance_127 : decode cX0_chance 127 = .ok (.invokestatic 207, 3) := dk_184 0 207 (dk_at dksX0_chance_5 12 rfl rfl)
theorem dX0_chance_130 : decode cX0_chance 130 = .ok (.l2i, 1) := dk_136 (dk_at dksX0_chance_5 15 rfl rfl)
theorem dX0_chance_131 : decode cX0_chance 131 = .ok (.ireturn, 1) := dk_172 (dk_at dksX0_chance_5 16 rfl rfl)
abbrev cX0_part : ByteArray := prog_1_method_13_code
def yX0_part : MethodName := ⟨RX0, "part", "(JJI)J"⟩
def dkwX0_part_2 : List UInt8 := [173]
abbrev dktX0_part_2 : List UInt8 := dkwX0_part_2 ++ []
def dkwX0_part_1 : List UInt8 := [22, 7, 55, 5, 22, 9, 55, 7, 167, 255, 234, 21, 4, 154, 0, 7, 30, 167, 0, 4, 32, 22, 5, 109]
abbrev dktX0_part_1 : List UInt8 := dkwX0_part_1 ++ dktX0_part_2
def dkwX0_part_0 : List UInt8 := [30, 184, 0, 108, 55, 5, 32, 55, 7, 22, 7, 9, 148, 153, 0, 21, 22, 5, 22, 7, 113, 55, 9]
abbrev dktX0_part_0 : List UInt8 := dkwX0_part_0 ++ dktX0_part_1
theorem dksX0_part_0 : cX0_part.data.toList.drop 0 = dktX0_part_0 := by decide +kernel
theorem dksX0_part_1 : cX0_part.data.toList.drop 23 = dktX0_part_1 := dk_seg dksX0_part_0 23 rfl rfl
theorem dksX0_part_2 : cX0_part.data.toList.drop 47 = dktX0_part_2 := dk_seg dksX0_part_1 24 rfl rfl
theorem dX0_part_0 : decode cX0_part 0 = .ok (.lload_n 0, 1) := dk_30 (dk_at dksX0_part_0 0 rfl rfl)
theorem dX0_part_1 : decode cX0_part 1 = .ok (.invokestatic 108, 3) := dk_184 0 108 (dk_at dksX0_part_0 1 rfl rfl)
theorem dX0_part_4 : decode cX0_part 4 = .ok (.lstore 5, 2) := dk_55 5 (dk_at dksX0_part_0 4 rfl rfl)
theorem dX0_part_6 : decode cX0_part 6 = .ok (.lload_n 2, 1) := dk_32 (dk_at dksX0_part_0 6 rfl rfl)
theorem dX0_part_7 : decode cX0_part 7 = .ok (.lstore 7, 2) := dk_55 7 (dk_at dksX0_part_0 7 rfl rfl)
theorem dX0_part_9 : decode cX0_part 9 = .ok (.lload 7, 2) := dk_22 7 (dk_at dksX0_part_0 9 rfl rfl)
theorem dX0_part_11 : decode cX0_part 11 = .ok (.lconst 0, 1) := dk_9 (dk_at dksX0_part_0 11 rfl rfl)
theorem dX0_part_12 : decode cX0_part 12 = .ok (.lcmp, 1) := dk_148 (dk_at dksX0_part_0 12 rfl rfl)
theorem dX0_part_13 : decode cX0_part 13 = .ok (.ifCond .eq 21, 3) := dk_153 0 21 (dk_at dksX0_part_0 13 rfl rfl)
theorem dX0_part_16 : decode cX0_part 16 = .ok (.lload 5, 2) := dk_22 5 (dk_at dksX0_part_0 16 rfl rfl)
theorem dX0_part_18 : decode cX0_part 18 = .ok (.lload 7, 2) := dk_22 7 (dk_at dksX0_part_0 18 rfl rfl)
theorem dX0_part_20 : decode cX0_part 20 = .ok (.lrem, 1) := dk_113 (dk_at dksX0_part_0 20 rfl rfl)
theorem dX0_part_21 : decode cX0_part 21 = .ok (.lstore 9, 2) := dk_55 9 (dk_at dksX0_part_0 21 rfl rfl)
theorem dX0_part_23 : decode cX0_part 23 = .ok (.lload 7, 2) := dk_22 7 (dk_at dksX0_part_1 0 rfl rfl)
theorem dX0_part_25 : decode cX0_part 25 = .ok (.lstore 5, 2) := dk_55 5 (dk_at dksX0_part_1 2 rfl rfl)
theorem dX0_part_27 : decode cX0_part 27 = .ok (.lload 9, 2) := dk_22 9 (dk_at dksX0_part_1 4 rfl rfl)
theorem dX0_part_29 : decode cX0_part 29 = .ok (.lstore 7, 2) := dk_55 7 (dk_at dksX0_part_1 6 rfl rfl)
theorem dX0_part_31 : decode cX0_part 31 = .ok (.goto (-22), 3) := dk_167 255 234 (dk_at dksX0_part_1 8 rfl rfl)
theorem dX0_part_34 : decode cX0_part 34 = .ok (.iload 4, 2) := dk_21 4 (dk_at dksX0_part_1 11 rfl rfl)
theorem dX0_part_36 : decode cX0_part 36 = .ok (.ifCond .ne 7, 3) := dk_154 0 7 (dk_at dksX0_part_1 13 rfl rfl)
theorem dX0_part_39 : decode cX0_part 39 = .ok (.lload_n 0, 1) := dk_30 (dk_at dksX0_part_1 16 rfl rfl)
theorem dX0_part_40 : decode cX0_part 40 = .ok (.goto 4, 3) := dk_167 0 4 (dk_at dksX0_part_1 17 rfl rfl)
theorem dX0_part_43 : decode cX0_part 43 = .ok (.lload_n 2, 1) := dk_32 (dk_at dksX0_part_1 20 rfl rfl)
theorem dX0_part_44 : decode cX0_part 44 = .ok (.lload 5, 2) := dk_22 5 (dk_at dksX0_part_1 21 rfl rfl)
theorem dX0_part_46 : decode cX0_part 46 = .ok (.ldiv, 1) := dk_109 (dk_at dksX0_part_1 23 rfl rfl)
theorem dX0_part_47 : decode cX0_part 47 = .ok (.lreturn, 1) := dk_173 (dk_at dksX0_part_2 0 rfl rfl)
abbrev cX0_mean : ByteArray := prog_1_method_29_code
def yX0_mean : MethodName := ⟨RX0, "mean", "(IIII)J"⟩
def dkwX0_mean_1 : List UInt8 := [28, 29, 182, 0, 221, 58, 6, 25, 6, 180, 0, 225, 25, 6, 180, 0, 229, 21, 4, 184, 0, 207, 173]
abbrev dktX0_mean_1 : List UInt8 := dkwX0_mean_1 ++ []
def dkwX0_mean_0 : List UInt8 := [42, 27, 28, 29, 21, 4, 182, 0, 214, 54, 5, 21, 5, 153, 0, 9, 21, 5, 184, 0, 217, 173, 42, 27]
abbrev dktX0_mean_0 : List UInt8 := dkwX0_mean_0 ++ dktX0_mean_1
theorem dksX0_mean_0 : cX0_mean.data.toList.drop 0 = dktX0_mean_0 := by decide +kernel
theorem dksX0_mean_1 : cX0_mean.data.toList.drop 24 = dktX0_mean_1 := dk_seg dksX0_mean_0 24 rfl rfl
theorem dX0_mean_0 : decode cX0_mean 0 = .ok (.aload_n 0, 1) := dk_42 (dk_at dksX0_mean_0 0 rfl rfl)
theorem dX0_mean_1 : decode cX0_mean 1 = .ok (.iload_n 1, 1) := dk_27 (dk_at dksX0_mean_0 1 rfl rfl)
theorem dX0_mean_2 : decode cX0_mean 2 = .ok (.iload_n 2, 1) := dk_28 (dk_at dksX0_mean_0 2 rfl rfl)
theorem dX0_mean_3 : decode cX0_mean 3 = .ok (.iload_n 3, 1) := dk_29 (dk_at dksX0_mean_0 3 rfl rfl)
theorem dX0_mean_4 : decode cX0_mean 4 = .ok (.iload 4, 2) := dk_21 4 (dk_at dksX0_mean_0 4 rfl rfl)
theorem dX0_mean_6 : decode cX0_mean 6 = .ok (.invokevirtual 214, 3) := dk_182 0 214 (dk_at dksX0_mean_0 6 rfl rfl)
theorem dX0_mean_9 : decode cX0_mean 9 = .ok (.istore 5, 2) := dk_54 5 (dk_at dksX0_mean_0 9 rfl rfl)
theorem dX0_mean_11 : decode cX0_mean 11 = .ok (.iload 5, 2) := dk_21 5 (dk_at dksX0_mean_0 11 rfl rfl)
theorem dX0_mean_13 : decode cX0_mean 13 = .ok (.ifCond .eq 9, 3) := dk_153 0 9 (dk_at dksX0_mean_0 13 rfl rfl)
theorem dX0_mean_16 : decode cX0_mean 16 = .ok (.iload 5, 2) := dk_21 5 (dk_at dksX0_mean_0 16 rfl rfl)
theorem dX0_mean_18 : decode cX0_mean 18 = .ok (.invokestatic 217, 3) := dk_184 0 217 (dk_at dksX0_mean_0 18 rfl rfl)
theorem dX0_mean_21 : decode cX0_mean 21 = .ok (.lreturn, 1) := dk_173 (dk_at dksX0_mean_0 21 rfl rfl)
theorem dX0_mean_22 : decode cX0_mean 22 = .ok (.aload_n 0, 1) := dk_42 (dk_at dksX0_mean_0 22 rfl rfl)
theorem dX0_mean_23 : decode cX0_mean 23 = .ok (.iload_n 1, 1) := dk_27 (dk_at dksX0_mean_0 23 rfl rfl)
theorem dX0_mean_24 : decode cX0_mean 24 = .ok (.iload_n 2, 1) := dk_28 (dk_at dksX0_mean_1 0 rfl rfl)
theorem dX0_mean_25 : decode cX0_mean 25 = .ok (.iload_n 3, 1) := dk_29 (dk_at dksX0_mean_1 1 rfl rfl)
theorem dX0_mean_26 : decode cX0_mean 26 = .ok (.invokevirtual 221, 3) := dk_182 0 221 (dk_at dksX0_mean_1 2 rfl rfl)
theorem dX0_mean_29 : decode cX0_mean 29 = .ok (.astore 6, 2) := dk_58 6 (dk_at dksX0_mean_1 5 rfl rfl)
theorem dX0_mean_31 : decode cX0_mean 31 = .ok (.aload 6, 2) := dk_25 6 (dk_at dksX0_mean_1 7 rfl rfl)
theorem dX0_mean_33 : decode cX0_mean 33 = .ok (.getfield 225, 3) := dk_180 0 225 (dk_at dksX0_mean_1 9 rfl rfl)
theorem dX0_mean_36 : decode cX0_mean 36 = .ok (.aload 6, 2) := dk_25 6 (dk_at dksX0_mean_1 12 rfl rfl)
theorem dX0_mean_38 : decode cX0_mean 38 = .ok (.getfield 229, 3) := dk_180 0 229 (dk_at dksX0_mean_1 14 rfl rfl)
theorem dX0_mean_41 : decode cX0_mean 41 = .ok (.iload 4, 2) := dk_21 4 (dk_at dksX0_mean_1 17 rfl rfl)
theorem dX0_mean_43 : decode cX0_mean 43 = .ok (.invokestatic 207, 3) := dk_184 0 207 (dk_at dksX0_mean_1 19 rfl rfl)
theorem dX0_mean_46 : decode cX0_mean 46 = .ok (.lreturn, 1) := dk_173 (dk_at dksX0_mean_1 22 rfl rfl)
abbrev cX0_faultOf : ByteArray := prog_1_method_28_code
def yX0_faultOf : MethodName := ⟨RX0, "faultOf", "(IIII)I"⟩
def dkwX0_faultOf_1 : List UInt8 := [153, 0, 18, 21, 4, 133, 9, 10, 184, 0, 36, 153, 0, 7, 3, 167, 0, 5, 16, 253, 172]
abbrev dktX0_faultOf_1 : List UInt8 := dkwX0_faultOf_1 ++ []
def dkwX0_faultOf_0 : List UInt8 := [42, 28, 29, 182, 0, 211, 54, 5, 21, 5, 153, 0, 8, 21, 5, 167, 0, 27, 27, 184, 0, 190]
abbrev dktX0_faultOf_0 : List UInt8 := dkwX0_faultOf_0 ++ dktX0_faultOf_1
theorem dksX0_faultOf_0 : cX0_faultOf.data.toList.drop 0 = dktX0_faultOf_0 := by decide +kernel
theorem dksX0_faultOf_1 : cX0_faultOf.data.toList.drop 22 = dktX0_faultOf_1 := dk_seg dksX0_faultOf_0 22 rfl rfl
theorem dX0_faultOf_0 : decode cX0_faultOf 0 = .ok (.aload_n 0, 1) := dk_42 (dk_at dksX0_faultOf_0 0 rfl rfl)
theorem dX0_faultOf_1 : decode cX0_faultOf 1 = .ok (.iload_n 2, 1) := dk_28 (dk_at dksX0_faultOf_0 1 rfl rfl)
theorem dX0_faultOf_2 : decode cX0_faultOf 2 = .ok (.iload_n 3, 1) := dk_29 (dk_at dksX0_faultOf_0 2 rfl rfl)
theorem dX0_faultOf_3 : decode cX0_faultOf 3 = .ok (.invokevirtual 211, 3) := dk_182 0 211 (dk_at dksX0_faultOf_0 3 rfl rfl)
theorem dX0_faultOf_6 : decode cX0_faultOf 6 = .ok (.istore 5, 2) := dk_54 5 (dk_at dksX0_faultOf_0 6 rfl rfl)
theorem dX0_faultOf_8 : decode cX0_faultOf 8 = .ok (.iload 5, 2) := dk_21 5 (dk_at dksX0_faultOf_0 8 rfl rfl)
theorem dX0_faultOf_10 : decode cX0_faultOf 10 = .ok (.ifCond .eq 8, 3) := dk_153 0 8 (dk_at dksX0_faultOf_0 10 rfl rfl)
theorem dX0_faultOf_13 : decode cX0_faultOf 13 = .ok (.iload 5, 2) := dk_21 5 (dk_at dksX0_faultOf_0 13 rfl rfl)
theorem dX0_faultOf_15 : decode cX0_faultOf 15 = .ok (.goto 27, 3) := dk_167 0 27 (dk_at dksX0_faultOf_0 15 rfl rfl)
theorem dX0_faultOf_18 : decode cX0_faultOf 18 = .ok (.iload_n 1, 1) := dk_27 (dk_at dksX0_faultOf_0 18 rfl rfl)
theorem dX0_faultOf_19 : decode cX0_faultOf 19 = .ok (.invokestatic 190, 3) := dk_184 0 190 (dk_at dksX0_faultOf_0 19 rfl rfl)
theorem dX0_faultOf_22 : decode cX0_faultOf 22 = .ok (.ifCond .eq 18, 3) := dk_153 0 18 (dk_at dksX0_faultOf_1 0 rfl rfl)
theorem dX0_faultOf_25 : decode cX0_faultOf 25 = .ok (.iload 4, 2) := dk_21 4 (dk_at dksX0_faultOf_1 3 rfl rfl)
theorem dX0_faultOf_27 : decode cX0_faultOf 27 = .ok (.i2l, 1) := dk_133 (dk_at dksX0_faultOf_1 5 rfl rfl)
theorem dX0_faultOf_28 : decode cX0_faultOf 28 = .ok (.lconst 0, 1) := dk_9 (dk_at dksX0_faultOf_1 6 rfl rfl)
theorem dX0_faultOf_29 : decode cX0_faultOf 29 = .ok (.lconst 1, 1) := dk_10 (dk_at dksX0_faultOf_1 7 rfl rfl)
theorem dX0_faultOf_30 : decode cX0_faultOf 30 = .ok (.invokestatic 36, 3) := dk_184 0 36 (dk_at dksX0_faultOf_1 8 rfl rfl)
theorem dX0_faultOf_33 : decode cX0_faultOf 33 = .ok (.ifCond .eq 7, 3) := dk_153 0 7 (dk_at dksX0_faultOf_1 11 rfl rfl)
theorem dX0_faultOf_36 : decode cX0_faultOf 36 = .ok (.iconst 0, 1) := dk_3 (dk_at dksX0_faultOf_1 14 rfl rfl)
theorem dX0_faultOf_37 : decode cX0_faultOf 37 = .ok (.goto 5, 3) := dk_167 0 5 (dk_at dksX0_faultOf_1 15 rfl rfl)
theorem dX0_faultOf_40 : decode cX0_faultOf 40 = .ok (.bipush (-3), 2) := dk_16 253 (dk_at dksX0_faultOf_1 18 rfl rfl)
theorem dX0_faultOf_42 : decode cX0_faultOf 42 = .ok (.ireturn, 1) := dk_172 (dk_at dksX0_faultOf_1 20 rfl rfl)
abbrev cX0_faultOf_2 : ByteArray := prog_1_method_10_code
def yX0_faultOf_2 : MethodName := ⟨RX0, "faultOf", "(II)I"⟩
def dkwX0_faultOf_2_4 : List UInt8 := [132, 5, 1, 167, 255, 183, 21, 4, 153, 0, 8, 16, 253, 167, 0, 4, 3, 172]
abbrev dktX0_faultOf_2_4 : List UInt8 := dkwX0_faultOf_2_4 ++ []
def dkwX0_faultOf_2_3 : List UInt8 := [122, 4, 126, 4, 160, 0, 7, 4, 167, 0, 4, 3, 128, 54, 4, 29, 4, 21, 6, 120, 128, 62]
abbrev dktX0_faultOf_2_3 : List UInt8 := dkwX0_faultOf_2_3 ++ dktX0_faultOf_2_4
def dkwX0_faultOf_2_2 : List UInt8 := [42, 21, 6, 182, 0, 101, 154, 0, 6, 16, 254, 172, 21, 4, 21, 6, 16, 6, 159, 0, 17, 29, 21, 6]
abbrev dktX0_faultOf_2_2 : List UInt8 := dkwX0_faultOf_2_2 ++ dktX0_faultOf_2_3
def dkwX0_faultOf_2_1 : List UInt8 := [21, 5, 28, 162, 0, 73, 27, 7, 21, 5, 104, 122, 16, 15, 126, 54, 6, 21, 6, 16, 6, 159, 0, 15]
abbrev dktX0_faultOf_2_1 : List UInt8 := dkwX0_faultOf_2_1 ++ dktX0_faultOf_2_2
def dkwX0_faultOf_2_0 : List UInt8 := [28, 133, 10, 20, 0, 99, 184, 0, 36, 154, 0, 6, 16, 253, 172, 3, 62, 3, 54, 4, 3, 54, 5]
abbrev dktX0_faultOf_2_0 : List UInt8 := dkwX0_faultOf_2_0 ++ dktX0_faultOf_2_1
theorem dksX0_faultOf_2_0 : cX0_faultOf_2.data.toList.drop 0 = dktX0_faultOf_2_0 := by decide +kernel
theorem dksX0_faultOf_2_1 : cX0_faultOf_2.data.toList.drop 23 = dktX0_faultOf_2_1 := dk_seg dksX0_faultOf_2_0 23 rfl rfl
theorem dksX0_faultOf_2_2 : cX0_faultOf_2.data.toList.drop 47 = dktX0_faultOf_2_2 := dk_seg dksX0_faultOf_2_1 24 rfl rfl
theorem dksX0_faultOf_2_3 : cX0_faultOf_2.data.toList.drop 71 = dktX0_faultOf_2_3 := dk_seg dksX0_faultOf_2_2 24 rfl rfl
theorem dksX0_faultOf_2_4 : cX0_faultOf_2.data.toList.drop 93 = dktX0_faultOf_2_4 := dk_seg dksX0_faultOf_2_3 22 rfl rfl
theorem dX0_faultOf_2_0 : decode cX0_faultOf_2 0 = .ok (.iload_n 2, 1) := dk_28 (dk_at dksX0_faultOf_2_0 0 rfl rfl)
theorem dX0_faultOf_2_1 : decode cX0_faultOf_2 1 = .ok (.i2l, 1) := dk_133 (dk_at dksX0_faultOf_2_0 1 rfl rfl)
theorem dX0_faultOf_2_2 : decode cX0_faultOf_2 2 = .ok (.lconst 1, 1) := dk_10 (dk_at dksX0_faultOf_2_0 2 rfl rfl)
theorem dX0_faultOf_2_3 : decode cX0_faultOf_2 3 = .ok (.ldc2_w 99, 3) := dk_20 0 99 (dk_at dksX0_faultOf_2_0 3 rfl rfl)
theorem dX0_faultOf_2_6 : decode cX0_faultOf_2 6 = .ok (.invokestatic 36, 3) := dk_184 0 36 (dk_at dksX0_faultOf_2_0 6 rfl rfl)
theorem dX0_faultOf_2_9 : decode cX0_faultOf_2 9 = .ok (.ifCond .ne 6, 3) := dk_154 0 6 (dk_at dksX0_faultOf_2_0 9 rfl rfl)
theorem dX0_faultOf_2_12 : decode cX0_faultOf_2 12 = .ok (.bipush (-3), 2) := dk_16 253 (dk_at dksX0_faultOf_2_0 12 rfl rfl)
theorem dX0_faultOf_2_14 : decode cX0_faultOf_2 14 = .ok (.ireturn, 1) := dk_172 (dk_at dksX0_faultOf_2_0 14 rfl rfl)
theorem dX0_faultOf_2_15 : decode cX0_faultOf_2 15 = .ok (.iconst 0, 1) := dk_3 (dk_at dksX0_faultOf_2_0 15 rfl rfl)
theorem dX0_faultOf_2_16 : decode cX0_faultOf_2 16 = .ok (.istore_n 3, 1) := dk_62 (dk_at dksX0_faultOf_2_0 16 rfl rfl)
theorem dX0_faultOf_2_17 : decode cX0_faultOf_2 17 = .ok (.iconst 0, 1) := dk_3 (dk_at dksX0_faultOf_2_0 17 rfl rfl)
theorem dX0_faultOf_2_18 : decode cX0_faultOf_2 18 = .ok (.istore 4, 2) := dk_54 4 (dk_at dksX0_faultOf_2_0 18 rfl rfl)
theorem dX0_faultOf_2_20 : decode cX0_faultOf_2 20 = .ok (.iconst 0, 1) := dk_3 (dk_at dksX0_faultOf_2_0 20 rfl rfl)
theorem dX0_faultOf_2_21 : decode cX0_faultOf_2 21 = .ok (.istore 5, 2) := dk_54 5 (dk_at dksX0_faultOf_2_0 21 rfl rfl)
theorem dX0_faultOf_2_23 : decode cX0_faultOf_2 23 = .ok (.iload 5, 2) := dk_21 5 (dk_at dksX0_faultOf_2_1 0 rfl rfl)
theorem dX0_faultOf_2_25 : decode cX0_faultOf_2 25 = .ok (.iload_n 2, 1) := dk_28 (dk_at dksX0_faultOf_2_1 2 rfl rfl)
theorem dX0_faultOf_2_26 : decode cX0_faultOf_2 26 = .ok (.if_icmp .ge 73, 3) := dk_162 0 73 (dk_at dksX0_faultOf_2_1 3 rfl rfl)
theorem dX0_faultOf_2_29 : decode cX0_faultOf_2 29 = .ok (.iload_n 1, 1) := dk_27 (dk_at dksX0_faultOf_2_1 6 rfl rfl)
theorem dX0_faultOf_2_30 : decode cX0_faultOf_2 30 = .ok (.iconst 4, 1) := dk_7 (dk_at dksX0_faultOf_2_1 7 rfl rfl)
theorem dX0_faultOf_2_31 : decode cX0_faultOf_2 31 = .ok (.iload 5, 2) := dk_21 5 (dk_at dksX0_faultOf_2_1 8 rfl rfl)
theorem dX0_faultOf_2_33 : decode cX0_faultOf_2 33 = .ok (.imul, 1) := dk_104 (dk_at dksX0_faultOf_2_1 10 rfl rfl)
theorem dX0_faultOf_2_34 : decode cX0_faultOf_2 34 = .ok (.ishr, 1) := dk_122 (dk_at dksX0_faultOf_2_1 11 rfl rfl)
theorem dX0_faultOf_2_35 : decode cX0_faultOf_2 35 = .ok (.bipush 15, 2) := dk_16 15 (dk_at dksX0_faultOf_2_1 12 rfl rfl)
theorem dX0_faultOf_2_37 : decode cX0_faultOf_2 37 = .ok (.iand, 1) := dk_126 (dk_at dksX0_faultOf_2_1 14 rfl rfl)
theorem dX0_faultOf_2_38 : decode cX0_faultOf_2 38 = .ok (.istore 6, 2) := dk_54 6 (dk_at dksX0_faultOf_2_1 15 rfl rfl)
theorem dX0_faultOf_2_40 : decode cX0_faultOf_2 40 = .ok (.iload 6, 2) := dk_21 6 (dk_at dksX0_faultOf_2_1 17 rfl rfl)
theorem dX0_faultOf_2_42 : decode cX0_faultOf_2 42 = .ok (.bipush 6, 2) := dk_16 6 (dk_at dksX0_faultOf_2_1 19 rfl rfl)
theorem dX0_faultOf_2_44 : decode cX0_faultOf_2 44 = .ok (.if_icmp .eq 15, 3) := dk_159 0 15 (dk_at dksX0_faultOf_2_1 21 rfl rfl)
theorem dX0_faultOf_2_47 : decode cX0_faultOf_2 47 = .ok (.aload_n 0, 1) := dk_42 (dk_at dksX0_faultOf_2_2 0 rfl rfl)
theorem dX0_faultOf_2_48 : decode cX0_faultOf_2 48 = .ok (.iload 6, 2) := dk_21 6 (dk_at dksX0_faultOf_2_2 1 rfl rfl)
theorem dX0_faultOf_2_50 : decode cX0_faultOf_2 50 = .ok (.invokevirtual 101, 3) := dk_182 0 101 (dk_at dksX0_faultOf_2_2 3 rfl rfl)
theorem dX0_faultOf_2_53 : decode cX0_faultOf_2 53 = .ok (.ifCond .ne 6, 3) := dk_154 0 6 (dk_at dksX0_faultOf_2_2 6 rfl rfl)
theorem dX0_faultOf_2_56 : decode cX0_faultOf_2 56 = .ok (.bipush (-2), 2) := dk_16 254 (dk_at dksX0_faultOf_2_2 9 rfl rfl)
theorem dX0_faultOf_2_58 : decode cX0_faultOf_2 58 = .ok (.ireturn, 1) := dk_172 (dk_at dksX0_faultOf_2_2 11 rfl rfl)
theorem dX0_faultOf_2_59 : decode cX0_faultOf_2 59 = .ok (.iload 4, 2) := dk_21 4 (dk_at dksX0_faultOf_2_2 12 rfl rfl)
theorem dX0_faultOf_2_61 : decode cX0_faultOf_2 61 = .ok (.iload 6, 2) := dk_21 6 (dk_at dksX0_faultOf_2_2 14 rfl rfl)
theorem dX0_faultOf_2_63 : decode cX0_faultOf_2 63 = .ok (.bipush 6, 2) := dk_16 6 (dk_at dksX0_faultOf_2_2 16 rfl rfl)
theorem dX0_faultOf_2_65 : decode cX0_faultOf_2 65 = .ok (.if_icmp .eq 17, 3) := dk_159 0 17 (dk_at dksX0_faultOf_2_2 18 rfl rfl)
theorem dX0_faultOf_2_68 : decode cX0_faultOf_2 68 = .ok (.iload_n 3, 1) := dk_29 (dk_at dksX0_faultOf_2_2 21 rfl rfl)
theorem dX0_faultOf_2_69 : decode cX0_faultOf_2 69 = .ok (.iload 6, 2) := dk_21 6 (dk_at dksX0_faultOf_2_2 22 rfl rfl)
theorem dX0_faultOf_2_71 : decode cX0_faultOf_2 71 = .ok (.ishr, 1) := dk_122 (dk_at dksX0_faultOf_2_3 0 rfl rfl)
theorem dX0_faultOf_2_72 : decode cX0_faultOf_2 72 = .ok (.iconst 1, 1) := dk_4 (dk_at dksX0_faultOf_2_3 1 rfl rfl)
theorem dX0_faultOf_2_73 : decode cX0_faultOf_2 73 = .ok (.iand, 1) := dk_126 (dk_at dksX0_faultOf_2_3 2 rfl rfl)
theorem dX0_faultOf_2_74 : decode cX0_faultOf_2 74 = .ok (.iconst 1, 1) := dk_4 (dk_at dksX0_faultOf_2_3 3 rfl rfl)
theorem dX0_faultOf_2_75 : decode cX0_faultOf_2 75 = .ok (.if_icmp .ne 7, 3) := dk_160 0 7 (dk_at dksX0_faultOf_2_3 4 rfl rfl)
theorem dX0_faultOf_2_78 : decode cX0_faultOf_2 78 = .ok (.iconst 1, 1) := dk_4 (dk_at dksX0_faultOf_2_3 7 rfl rfl)
theorem dX0_faultOf_2_79 : decode cX0_faultOf_2 79 = .ok (.goto 4, 3) := dk_167 0 4 (dk_at dksX0_faultOf_2_3 8 rfl rfl)
theorem dX0_faultOf_2_82 : decode cX0_faultOf_2 82 = .ok (.iconst 0, 1) := dk_3 (dk_at dksX0_faultOf_2_3 11 rfl rfl)
theorem dX0_faultOf_2_83 : decode cX0_faultOf_2 83 = .ok (.ior, 1) := dk_128 (dk_at dksX0_faultOf_2_3 12 rfl rfl)
theorem dX0_faultOf_2_84 : decode cX0_faultOf_2 84 = .ok (.istore 4, 2) := dk_54 4 (dk_at dksX0_faultOf_2_3 13 rfl rfl)
theorem dX0_faultOf_2_86 : decode cX0_faultOf_2 86 = .ok (.iload_n 3, 1) := dk_29 (dk_at dksX0_faultOf_2_3 15 rfl rfl)
theorem dX0_faultOf_2_87 : decode cX0_faultOf_2 87 = .ok (.iconst 1, 1) := dk_4 (dk_at dksX0_faultOf_2_3 16 rfl rfl)
theorem dX0_faultOf_2_88 : decode cX0_faultOf_2 88 = .ok (.iload 6, 2) := dk_21 6 (dk_at dksX0_faultOf_2_3 17 rfl rfl)
theorem dX0_faultOf_2_90 : decode cX0_faultOf_2 90 = .ok (.ishl, 1) := dk_120 (dk_at dksX0_faultOf_2_3 19 rfl rfl)
theorem dX0_faultOf_2_91 : decode cX0_faultOf_2 91 = .ok (.ior, 1) := dk_128 (dk_at dksX0_faultOf_2_3 20 rfl rfl)
theorem dX0_faultOf_2_92 : decode cX0_faultOf_2 92 = .ok (.istore_n 3, 1) := dk_62 (dk_at dksX0_faultOf_2_3 21 rfl rfl)
theorem dX0_faultOf_2_93 : decode cX0_faultOf_2 93 = .ok (.iinc 5 1, 3) := dk_132 5 1 (dk_at dksX0_faultOf_2_4 0 rfl rfl)
theorem dX0_faultOf_2_96 : decode cX0_faultOf_2 96 = .ok (.goto (-73), 3) := dk_167 255 183 (dk_at dksX0_faultOf_2_4 3 rfl rfl)
theorem dX0_faultOf_2_99 : decode cX0_faultOf_2 99 = .ok (.iload 4, 2) := dk_21 4 (dk_at dksX0_faultOf_2_4 6 rfl rfl)
theorem dX0_faultOf_2_101 : decode cX0_faultOf_2 101 = .ok (.ifCond .eq 8, 3) := dk_153 0 8 (dk_at dksX0_faultOf_2_4 8 rfl rfl)
theorem dX0_faultOf_2_104 : decode cX0_faultOf_2 104 = .ok (.bipush (-3), 2) := dk_16 253 (dk_at dksX0_faultOf_2_4 11 rfl rfl)
theorem dX0_faultOf_2_106 : decode cX0_faultOf_2 106 = .ok (.goto 4, 3) := dk_167 0 4 (dk_at dksX0_faultOf_2_4 13 rfl rfl)
theorem dX0_faultOf_2_109 : decode cX0_faultOf_2 109 = .ok (.iconst 0, 1) := dk_3 (dk_at dksX0_faultOf_2_4 16 rfl rfl)
theorem dX0_faultOf_2_110 : decode cX0_faultOf_2 110 = .ok (.ireturn, 1) := dk_172 (dk_at dksX0_faultOf_2_4 17 rfl rfl)
abbrev cX0_refused : ByteArray := prog_1_method_12_code
def yX0_refused : MethodName := ⟨RX0, "refused", "(I)J"⟩
def dkwX0_refused_0 : List UInt8 := [20, 0, 106, 26, 133, 101, 173]
abbrev dktX0_refused_0 : List UInt8 := dkwX0_refused_0 ++ []
theorem dksX0_refused_0 : cX0_refused.data.toList.drop 0 = dktX0_refused_0 := by decide +kernel
theorem dX0_refused_0 : decode cX0_refused 0 = .ok (.ldc2_w 106, 3) := dk_20 0 106 (dk_at dksX0_refused_0 0 rfl rfl)
theorem dX0_refused_3 : decode cX0_refused 3 = .ok (.iload_n 0, 1) := dk_26 (dk_at dksX0_refused_0 3 rfl rfl)
theorem dX0_refused_4 : decode cX0_refused 4 = .ok (.i2l, 1) := dk_133 (dk_at dksX0_refused_0 4 rfl rfl)
theorem dX0_refused_5 : decode cX0_refused 5 = .ok (.lsub, 1) := dk_101 (dk_at dksX0_refused_0 5 rfl rfl)
theorem dX0_refused_6 : decode cX0_refused 6 = .ok (.lreturn, 1) := dk_173 (dk_at dksX0_refused_0 6 rfl rfl)
abbrev cX0_walked : ByteArray := prog_1_method_9_code
def yX0_walked : MethodName := ⟨RX0, "walked", "(III)LCarryUp$Walk;"⟩
def dkwX0_walked_0 : List UInt8 := [42, 180, 0, 85, 28, 29, 2, 3, 182, 0, 89, 27, 182, 0, 95, 176]
abbrev dktX0_walked_0 : List UInt8 := dkwX0_walked_0 ++ []
theorem dksX0_walked_0 : cX0_walked.data.toList.drop 0 = dktX0_walked_0 := by decide +kernel
theorem dX0_walked_0 : decode cX0_walked 0 = .ok (.aload_n 0, 1) := dk_42 (dk_at dksX0_walked_0 0 rfl rfl)
theorem dX0_walked_1 : decode cX0_walked 1 = .ok (.getfield 85, 3) := dk_180 0 85 (dk_at dksX0_walked_0 1 rfl rfl)
theorem dX0_walked_4 : decode cX0_walked 4 = .ok (.iload_n 2, 1) := dk_28 (dk_at dksX0_walked_0 4 rfl rfl)
theorem dX0_walked_5 : decode cX0_walked 5 = .ok (.iload_n 3, 1) := dk_29 (dk_at dksX0_walked_0 5 rfl rfl)
theorem dX0_walked_6 : decode cX0_walked 6 = .ok (.iconst (-1), 1) := dk_2 (dk_at dksX0_walked_0 6 rfl rfl)
theorem dX0_walked_7 : decode cX0_walked 7 = .ok (.iconst 0, 1) := dk_3 (dk_at dksX0_walked_0 7 rfl rfl)
theorem dX0_walked_8 : decode cX0_walked 8 = .ok (.invokevirtual 89, 3) := dk_182 0 89 (dk_at dksX0_walked_0 8 rfl rfl)
theorem dX0_walked_11 : decode cX0_walked 11 = .ok (.iload_n 1, 1) := dk_27 (dk_at dksX0_walked_0 11 rfl rfl)
theorem dX0_walked_12 : decode cX0_walked 12 = .ok (.invokevirtual 95, 3) := dk_182 0 95 (dk_at dksX0_walked_0 12 rfl rfl)
theorem dX0_walked_15 : decode cX0_walked 15 = .ok (.areturn, 1) := dk_176 (dk_at dksX0_walked_0 15 rfl rfl)
abbrev cX0_all : ByteArray := prog_1_method_30_code
def yX0_all : MethodName := ⟨RX0, "all", "(IIII)J"⟩
def dkwX0_all_1 : List UInt8 := [182, 0, 221, 58, 6, 25, 6, 180, 0, 232, 25, 6, 180, 0, 229, 21, 4, 184, 0, 207, 173]
abbrev dktX0_all_1 : List UInt8 := dkwX0_all_1 ++ []
def dkwX0_all_0 : List UInt8 := [42, 27, 28, 29, 21, 4, 182, 0, 214, 54, 5, 21, 5, 153, 0, 7, 21, 5, 133, 173, 42, 27, 28, 29]
abbrev dktX0_all_0 : List UInt8 := dkwX0_all_0 ++ dktX0_all_1
theorem dksX0_all_0 : cX0_all.data.toList.drop 0 = dktX0_all_0 := by decide +kernel
theorem dksX0_all_1 : cX0_all.data.toList.drop 24 = dktX0_all_1 := dk_seg dksX0_all_0 24 rfl rfl
theorem dX0_all_0 : decode cX0_all 0 = .ok (.aload_n 0, 1) := dk_42 (dk_at dksX0_all_0 0 rfl rfl)
theorem dX0_all_1 : decode cX0_all 1 = .ok (.iload_n 1, 1) := dk_27 (dk_at dksX0_all_0 1 rfl rfl)
theorem dX0_all_2 : decode cX0_all 2 = .ok (.iload_n 2, 1) := dk_28 (dk_at dksX0_all_0 2 rfl rfl)
theorem dX0_all_3 : decode cX0_all 3 = .ok (.iload_n 3, 1) := dk_29 (dk_at dksX0_all_0 3 rfl rfl)
theorem dX0_all_4 : decode cX0_all 4 = .ok (.iload 4, 2) := dk_21 4 (dk_at dksX0_all_0 4 rfl rfl)
theorem dX0_all_6 : decode cX0_all 6 = .ok (.invokevirtual 214, 3) := dk_182 0 214 (dk_at dksX0_all_0 6 rfl rfl)
theorem dX0_all_9 : decode cX0_all 9 = .ok (.istore 5, 2) := dk_54 5 (dk_at dksX0_all_0 9 rfl rfl)
theorem dX0_all_11 : decode cX0_all 11 = .ok (.iload 5, 2) := dk_21 5 (dk_at dksX0_all_0 11 rfl rfl)
theorem dX0_all_13 : decode cX0_all 13 = .ok (.ifCond .eq 7, 3) := dk_153 0 7 (dk_at dksX0_all_0 13 rfl rfl)
theorem dX0_all_16 : decode cX0_all 16 = .ok (.iload 5, 2) := dk_21 5 (dk_at dksX0_all_0 16 rfl rfl)
theorem dX0_all_18 : decode cX0_all 18 = .ok (.i2l, 1) := dk_133 (dk_at dksX0_all_0 18 rfl rfl)
theorem dX0_all_19 : decode cX0_all 19 = .ok (.lreturn, 1) := dk_173 (dk_at dksX0_all_0 19 rfl rfl)
theorem dX0_all_20 : decode cX0_all 20 = .ok (.aload_n 0, 1) := dk_42 (dk_at dksX0_all_0 20 rfl rfl)
theorem dX0_all_21 : decode cX0_all 21 = .ok (.iload_n 1, 1) := dk_27 (dk_at dksX0_all_0 21 rfl rfl)
theorem dX0_all_22 : decode cX0_all 22 = .ok (.iload_n 2, 1) := dk_28 (dk_at dksX0_all_0 22 rfl rfl)
theorem dX0_all_23 : decode cX0_all 23 = .ok (.iload_n 3, 1) := dk_29 (dk_at dksX0_all_0 23 rfl rfl)
theorem dX0_all_24 : decode cX0_all 24 = .ok (.invokevirtual 221, 3) := dk_182 0 221 (dk_at dksX0_all_1 0 rfl rfl)
theorem dX0_all_27 : decode cX0_all 27 = .ok (.astore 6, 2) := dk_58 6 (dk_at dksX0_all_1 3 rfl rfl)
theorem dX0_all_29 : decode cX0_all 29 = .ok (.aload 6, 2) := dk_25 6 (dk_at dksX0_all_1 5 rfl rfl)
theorem dX0_all_31 : decode cX0_all 31 = .ok (.getfield 232, 3) := dk_180 0 232 (dk_at dksX0_all_1 7 rfl rfl)
theorem dX0_all_34 : decode cX0_all 34 = .ok (.aload 6, 2) := dk_25 6 (dk_at dksX0_all_1 10 rfl rfl)
theorem dX0_all_36 : decode cX0_all 36 = .ok (.getfield 229, 3) := dk_180 0 229 (dk_at dksX0_all_1 12 rfl rfl)
theorem dX0_all_39 : decode cX0_all 39 = .ok (.iload 4, 2) := dk_21 4 (dk_at dksX0_all_1 15 rfl rfl)
theorem dX0_all_41 : decode cX0_all 41 = .ok (.invokestatic 207, 3) := dk_184 0 207 (dk_at dksX0_all_1 17 rfl rfl)
theorem dX0_all_44 : decode cX0_all 44 = .ok (.lreturn, 1) := dk_173 (dk_at dksX0_all_1 20 rfl rfl)
abbrev cX0_end : ByteArray := prog_1_method_31_code
def yX0_end : MethodName := ⟨RX0, "end", "(III)I"⟩
def dkwX0_end_1 : List UInt8 := [182, 0, 221, 180, 0, 235, 172]
abbrev dktX0_end_1 : List UInt8 := dkwX0_end_1 ++ []
def dkwX0_end_0 : List UInt8 := [42, 27, 28, 29, 3, 182, 0, 214, 54, 4, 21, 4, 153, 0, 8, 21, 4, 167, 0, 13, 42, 27, 28, 29]
abbrev dktX0_end_0 : List UInt8 := dkwX0_end_0 ++ dktX0_end_1
theorem dksX0_end_0 : cX0_end.data.toList.drop 0 = dktX0_end_0 := by decide +kernel
theorem dksX0_end_1 : cX0_end.data.toList.drop 24 = dktX0_end_1 := dk_seg dksX0_end_0 24 rfl rfl
theorem dX0_end_0 : decode cX0_end 0 = .ok (.aload_n 0, 1) := dk_42 (dk_at dksX0_end_0 0 rfl rfl)
theorem dX0_end_1 : decode cX0_end 1 = .ok (.iload_n 1, 1) := dk_27 (dk_at dksX0_end_0 1 rfl rfl)
theorem dX0_end_2 : decode cX0_end 2 = .ok (.iload_n 2, 1) := dk_28 (dk_at dksX0_end_0 2 rfl rfl)
theorem dX0_end_3 : decode cX0_end 3 = .ok (.iload_n 3, 1) := dk_29 (dk_at dksX0_end_0 3 rfl rfl)
theorem dX0_end_4 : decode cX0_end 4 = .ok (.iconst 0, 1) := dk_3 (dk_at dksX0_end_0 4 rfl rfl)
theorem dX0_end_5 : decode cX0_end 5 = .ok (.invokevirtual 214, 3) := dk_182 0 214 (dk_at dksX0_end_0 5 rfl rfl)
theorem dX0_end_8 : decode cX0_end 8 = .ok (.istore 4, 2) := dk_54 4 (dk_at dksX0_end_0 8 rfl rfl)
theorem dX0_end_10 : decode cX0_end 10 = .ok (.iload 4, 2) := dk_21 4 (dk_at dksX0_end_0 10 rfl rfl)
theorem dX0_end_12 : decode cX0_end 12 = .ok (.ifCond .eq 8, 3) := dk_153 0 8 (dk_at dksX0_end_0 12 rfl rfl)
theorem dX0_end_15 : decode cX0_end 15 = .ok (.iload 4, 2) := dk_21 4 (dk_at dksX0_end_0 15 rfl rfl)
theorem dX0_end_17 : decode cX0_end 17 = .ok (.goto 13, 3) := dk_167 0 13 (dk_at dksX0_end_0 17 rfl rfl)
theorem dX0_end_20 : decode cX0_end 20 = .ok (.aload_n 0, 1) := dk_42 (dk_at dksX0_end_0 20 rfl rfl)
theorem dX0_end_21 : decode cX0_end 21 = .ok (.iload_n 1, 1) := dk_27 (dk_at dksX0_end_0 21 rfl rfl)
theorem dX0_end_22 : decode cX0_end 22 = .ok (.iload_n 2, 1) := dk_28 (dk_at dksX0_end_0 22 rfl rfl)
theorem dX0_end_23 : decode cX0_end 23 = .ok (.iload_n 3, 1) := dk_29 (dk_at dksX0_end_0 23 rfl rfl)
theorem dX0_end_24 : decode cX0_end 24 = .ok (.invokevirtual 221, 3) := dk_182 0 221 (dk_at dksX0_end_1 0 rfl rfl)
theorem dX0_end_27 : decode cX0_end 27 = .ok (.getfield 235, 3) := dk_180 0 235 (dk_at dksX0_end_1 3 rfl rfl)
theorem dX0_end_30 : decode cX0_end 30 = .ok (.ireturn, 1) := dk_172 (dk_at dksX0_end_1 6 rfl rfl)
abbrev cX0_best : ByteArray := prog_1_method_33_code
def yX0_best : MethodName := ⟨RX0, "best", "(II)I"⟩
def dkwX0_best_0 : List UInt8 := [42, 27, 28, 182, 0, 211, 62, 29, 153, 0, 7, 29, 167, 0, 11, 42, 27, 28, 2, 3, 182, 0, 241, 172]
abbrev dktX0_best_0 : List UInt8 := dkwX0_best_0 ++ []
theorem dksX0_best_0 : cX0_best.data.toList.drop 0 = dktX0_best_0 := by decide +kernel
theorem dX0_best_0 : decode cX0_best 0 = .ok (.aload_n 0, 1) := dk_42 (dk_at dksX0_best_0 0 rfl rfl)
theorem dX0_best_1 : decode cX0_best 1 = .ok (.iload_n 1, 1) := dk_27 (dk_at dksX0_best_0 1 rfl rfl)
theorem dX0_best_2 : decode cX0_best 2 = .ok (.iload_n 2, 1) := dk_28 (dk_at dksX0_best_0 2 rfl rfl)
theorem dX0_best_3 : decode cX0_best 3 = .ok (.invokevirtual 211, 3) := dk_182 0 211 (dk_at dksX0_best_0 3 rfl rfl)
theorem dX0_best_6 : decode cX0_best 6 = .ok (.istore_n 3, 1) := dk_62 (dk_at dksX0_best_0 6 rfl rfl)
theorem dX0_best_7 : decode cX0_best 7 = .ok (.iload_n 3, 1) := dk_29 (dk_at dksX0_best_0 7 rfl rfl)
theorem dX0_best_8 : decode cX0_best 8 = .ok (.ifCond .eq 7, 3) := dk_153 0 7 (dk_at dksX0_best_0 8 rfl rfl)
theorem dX0_best_11 : decode cX0_best 11 = .ok (.iload_n 3, 1) := dk_29 (dk_at dksX0_best_0 11 rfl rfl)
theorem dX0_best_12 : decode cX0_best 12 = .ok (.goto 11, 3) := dk_167 0 11 (dk_at dksX0_best_0 12 rfl rfl)
theorem dX0_best_15 : decode cX0_best 15 = .ok (.aload_n 0, 1) := dk_42 (dk_at dksX0_best_0 15 rfl rfl)
theorem dX0_best_16 : decode cX0_best 16 = .ok (.iload_n 1, 1) := dk_27 (dk_at dksX0_best_0 16 rfl rfl)
theorem dX0_best_17 : decode cX0_best 17 = .ok (.iload_n 2, 1) := dk_28 (dk_at dksX0_best_0 17 rfl rfl)
theorem dX0_best_18 : decode cX0_best 18 = .ok (.iconst (-1), 1) := dk_2 (dk_at dksX0_best_0 18 rfl rfl)
theorem dX0_best_19 : decode cX0_best 19 = .ok (.iconst 0, 1) := dk_3 (dk_at dksX0_best_0 19 rfl rfl)
theorem dX0_best_20 : decode cX0_best 20 = .ok (.invokevirtual 241, 3) := dk_182 0 241 (dk_at dksX0_best_0 20 rfl rfl)
theorem dX0_best_23 : decode cX0_best 23 = .ok (.ireturn, 1) := dk_172 (dk_at dksX0_best_0 23 rfl rfl)
abbrev cX0_bestOf : ByteArray := prog_1_method_32_code
def yX0_bestOf : MethodName := ⟨RX0, "bestOf", "(IIII)I"⟩
def dkwX0_bestOf_3 : List UInt8 := [42, 180, 0, 85, 180, 0, 225, 181, 0, 238, 132, 6, 1, 167, 255, 190, 21, 5, 172]
abbrev dktX0_bestOf_3 : List UInt8 := dkwX0_bestOf_3 ++ []
def dkwX0_bestOf_2 : List UInt8 := [2, 159, 0, 18, 42, 180, 0, 85, 180, 0, 225, 42, 180, 0, 238, 148, 158, 0, 18, 21, 6, 54, 5, 42]
abbrev dktX0_bestOf_2 : List UInt8 := dkwX0_bestOf_2 ++ dktX0_bestOf_3
def dkwX0_bestOf_1 : List UInt8 := [162, 0, 64, 42, 21, 6, 182, 0, 193, 153, 0, 49, 42, 180, 0, 85, 21, 6, 182, 0, 95, 87, 21, 5]
abbrev dktX0_bestOf_1 : List UInt8 := dkwX0_bestOf_1 ++ dktX0_bestOf_2
def dkwX0_bestOf_0 : List UInt8 := [2, 54, 5, 42, 180, 0, 85, 27, 28, 29, 21, 4, 182, 0, 89, 87, 3, 54, 6, 21, 6, 17, 1, 0]
abbrev dktX0_bestOf_0 : List UInt8 := dkwX0_bestOf_0 ++ dktX0_bestOf_1
theorem dksX0_bestOf_0 : cX0_bestOf.data.toList.drop 0 = dktX0_bestOf_0 := by decide +kernel
theorem dksX0_bestOf_1 : cX0_bestOf.data.toList.drop 24 = dktX0_bestOf_1 := dk_seg dksX0_bestOf_0 24 rfl rfl
theorem dksX0_bestOf_2 : cX0_bestOf.data.toList.drop 48 = dktX0_bestOf_2 := dk_seg dksX0_bestOf_1 24 rfl rfl
theorem dksX0_bestOf_3 : cX0_bestOf.data.toList.drop 72 = dktX0_bestOf_3 := dk_seg dksX0_bestOf_2 24 rfl rfl
theorem dX0_bestOf_0 : decode cX0_bestOf 0 = .ok (.iconst (-1), 1) := dk_2 (dk_at dksX0_bestOf_0 0 rfl rfl)
theorem dX0_bestOf_1 : decode cX0_bestOf 1 = .ok (.istore 5, 2) := dk_54 5 (dk_at dksX0_bestOf_0 1 rfl rfl)
theorem dX0_bestOf_3 : decode cX0_bestOf 3 = .ok (.aload_n 0, 1) := dk_42 (dk_at dksX0_bestOf_0 3 rfl rfl)
theorem dX0_bestOf_4 : decode cX0_bestOf 4 = .ok (.getfield 85, 3) := dk_180 0 85 (dk_at dksX0_bestOf_0 4 rfl rfl)
theorem dX0_bestOf_7 : decode cX0_bestOf 7 = .ok (.iload_n 1, 1) := dk_27 (dk_at dksX0_bestOf_0 7 rfl rfl)
theorem dX0_bestOf_8 : decode cX0_bestOf 8 = .ok (.iload_n 2, 1) := dk_28 (dk_at dksX0_bestOf_0 8 rfl rfl)
theorem dX0_bestOf_9 : decode cX0_bestOf 9 = .ok (.iload_n 3, 1) := dk_29 (dk_at dksX0_bestOf_0 9 rfl rfl)
theorem dX0_bestOf_10 : decode cX0_bestOf 10 = .ok (.iload 4, 2) := dk_21 4 (dk_at dksX0_bestOf_0 10 rfl rfl)
theorem dX0_bestOf_12 : decode cX0_bestOf 12 = .ok (.invokevirtual 89, 3) := dk_182 0 89 (dk_at dksX0_bestOf_0 12 rfl rfl)
theorem dX0_bestOf_15 : decode cX0_bestOf 15 = .ok (.pop, 1) := dk_87 (dk_at dksX0_bestOf_0 15 rfl rfl)
theorem dX0_bestOf_16 : decode cX0_bestOf 16 = .ok (.iconst 0, 1) := dk_3 (dk_at dksX0_bestOf_0 16 rfl rfl)
theorem dX0_bestOf_17 : decode cX0_bestOf 17 = .ok (.istore 6, 2) := dk_54 6 (dk_at dksX0_bestOf_0 17 rfl rfl)
theorem dX0_bestOf_19 : decode cX0_bestOf 19 = .ok (.iload 6, 2) := dk_21 6 (dk_at dksX0_bestOf_0 19 rfl rfl)
theorem dX0_bestOf_21 : decode cX0_bestOf 21 = .ok (.sipush 256, 3) := dk_17 1 0 (dk_at dksX0_bestOf_0 21 rfl rfl)
theorem dX0_bestOf_24 : decode cX0_bestOf 24 = .ok (.if_icmp .ge 64, 3) := dk_162 0 64 (dk_at dksX0_bestOf_1 0 rfl rfl)
theorem dX0_bestOf_27 : decode cX0_bestOf 27 = .ok (.aload_n 0, 1) := dk_42 (dk_at dksX0_bestOf_1 3 rfl rfl)
theorem dX0_bestOf_28 : decode cX0_bestOf 28 = .ok (.iload 6, 2) := dk_21 6 (dk_at dksX0_bestOf_1 4 rfl rfl)
theorem dX0_bestOf_30 : decode cX0_bestOf 30 = .ok (.invokevirtual 193, 3) := dk_182 0 193 (dk_at dksX0_bestOf_1 6 rfl rfl)
theorem dX0_bestOf_33 : decode cX0_bestOf 33 = .ok (.ifCond .eq 49, 3) := dk_153 0 49 (dk_at dksX0_bestOf_1 9 rfl rfl)
theorem dX0_bestOf_36 : decode cX0_bestOf 36 = .ok (.aload_n 0, 1) := dk_42 (dk_at dksX0_bestOf_1 12 rfl rfl)
theorem dX0_bestOf_37 : decode cX0_bestOf 37 = .ok (.getfield 85, 3) := dk_180 0 85 (dk_at dksX0_bestOf_1 13 rfl rfl)
theorem dX0_bestOf_40 : decode cX0_bestOf 40 = .ok (.iload 6, 2) := dk_21 6 (dk_at dksX0_bestOf_1 16 rfl rfl)
theorem dX0_bestOf_42 : decode cX0_bestOf 42 = .ok (.invokevirtual 95, 3) := dk_182 0 95 (dk_at dksX0_bestOf_1 18 rfl rfl)
theorem dX0_bestOf_45 : decode cX0_bestOf 45 = .ok (.pop, 1) := dk_87 (dk_at dksX0_bestOf_1 21 rfl rfl)
theorem dX0_bestOf_46 : decode cX0_bestOf 46 = .ok (.iload 5, 2) := dk_21 5 (dk_at dksX0_bestOf_1 22 rfl rfl)
theorem dX0_bestOf_48 : decode cX0_bestOf 48 = .ok (.iconst (-1), 1) := dk_2 (dk_at dksX0_bestOf_2 0 rfl rfl)
theorem dX0_bestOf_49 : decode cX0_bestOf 49 = .ok (.if_icmp .eq 18, 3) := dk_159 0 18 (dk_at dksX0_bestOf_2 1 rfl rfl)
theorem dX0_bestOf_52 : decode cX0_bestOf 52 = .ok (.aload_n 0, 1) := dk_42 (dk_at dksX0_bestOf_2 4 rfl rfl)
theorem dX0_bestOf_53 : decode cX0_bestOf 53 = .ok (.getfield 85, 3) := dk_180 0 85 (dk_at dksX0_bestOf_2 5 rfl rfl)
theorem dX0_bestOf_56 : decode cX0_bestOf 56 = .ok (.getfield 225, 3) := dk_180 0 225 (dk_at dksX0_bestOf_2 8 rfl rfl)
theorem dX0_bestOf_59 : decode cX0_bestOf 59 = .ok (.aload_n 0, 1) := dk_42 (dk_at dksX0_bestOf_2 11 rfl rfl)
theorem dX0_bestOf_60 : decode cX0_bestOf 60 = .ok (.getfield 238, 3) := dk_180 0 238 (dk_at dksX0_bestOf_2 12 rfl rfl)
theorem dX0_bestOf_63 : decode cX0_bestOf 63 = .ok (.lcmp, 1) := dk_148 (dk_at dksX0_bestOf_2 15 rfl rfl)
theorem dX0_bestOf_64 : decode cX0_bestOf 64 = .ok (.ifCond .le 18, 3) := dk_158 0 18 (dk_at dksX0_bestOf_2 16 rfl rfl)
theorem dX0_bestOf_67 : decode cX0_bestOf 67 = .ok (.iload 6, 2) := dk_21 6 (dk_at dksX0_bestOf_2 19 rfl rfl)
theorem dX0_bestOf_69 : decode cX0_bestOf 69 = .ok (.istore 5, 2) := dk_54 5 (dk_at dksX0_bestOf_2 21 rfl rfl)
theorem dX0_bestOf_71 : decode cX0_bestOf 71 = .ok (.aload_n 0, 1) := dk_42 (dk_at dksX0_bestOf_2 23 rfl rfl)
theorem dX0_bestOf_72 : decode cX0_bestOf 72 = .ok (.aload_n 0, 1) := dk_42 (dk_at dksX0_bestOf_3 0 rfl rfl)
theorem dX0_bestOf_73 : decode cX0_bestOf 73 = .ok (.getfield 85, 3) := dk_180 0 85 (dk_at dksX0_bestOf_3 1 rfl rfl)
theorem dX0_bestOf_76 : decode cX0_bestOf 76 = .ok (.getfield 225, 3) := dk_180 0 225 (dk_at dksX0_bestOf_3 4 rfl rfl)
theorem dX0_bestOf_79 : decode cX0_bestOf 79 = .ok (.putfield 238, 3) := dk_181 0 238 (dk_at dksX0_bestOf_3 7 rfl rfl)
theorem dX0_bestOf_82 : decode cX0_bestOf 82 = .ok (.iinc 6 1, 3) := dk_132 6 1 (dk_at dksX0_bestOf_3 10 rfl rfl)
theorem dX0_bestOf_85 : decode cX0_bestOf 85 = .ok (.goto (-66), 3) := dk_167 255 190 (dk_at dksX0_bestOf_3 13 rfl rfl)
theorem dX0_bestOf_88 : decode cX0_bestOf 88 = .ok (.iload 5, 2) := dk_21 5 (dk_at dksX0_bestOf_3 16 rfl rfl)
theorem dX0_bestOf_90 : decode cX0_bestOf 90 = .ok (.ireturn, 1) := dk_172 (dk_at dksX0_bestOf_3 18 rfl rfl)
abbrev cX0_sure : ByteArray := prog_1_method_34_code
def yX0_sure : MethodName := ⟨RX0, "sure", "(IIII)I"⟩
def dkwX0_sure_5 : List UInt8 := [155, 0, 8, 21, 7, 167, 0, 5, 21, 6, 54, 6, 132, 7, 1, 167, 255, 175, 21, 6, 172]
abbrev dktX0_sure_5 : List UInt8 := dkwX0_sure_5 ++ []
def dkwX0_sure_4 : List UInt8 := [182, 0, 221, 58, 8, 25, 8, 180, 0, 232, 21, 4, 133, 105, 25, 8, 180, 0, 229, 29, 133, 105, 148]
abbrev dktX0_sure_4 : List UInt8 := dkwX0_sure_4 ++ dktX0_sure_5
def dkwX0_sure_3 : List UInt8 := [159, 0, 18, 42, 21, 7, 182, 0, 27, 42, 21, 6, 182, 0, 27, 162, 0, 43, 42, 21, 7, 27, 28]
abbrev dktX0_sure_3 : List UInt8 := dkwX0_sure_3 ++ dktX0_sure_4
def dkwX0_sure_2 : List UInt8 := [3, 54, 7, 21, 7, 17, 1, 0, 162, 0, 79, 42, 21, 7, 182, 0, 193, 153, 0, 64, 21, 6, 2]
abbrev dktX0_sure_2 : List UInt8 := dkwX0_sure_2 ++ dktX0_sure_3
def dkwX0_sure_1 : List UInt8 := [184, 0, 36, 153, 0, 15, 29, 133, 9, 21, 4, 133, 184, 0, 36, 154, 0, 6, 16, 253, 172, 2, 54, 6]
abbrev dktX0_sure_1 : List UInt8 := dkwX0_sure_1 ++ dktX0_sure_2
def dkwX0_sure_0 : List UInt8 := [42, 27, 28, 182, 0, 211, 54, 5, 21, 5, 153, 0, 6, 21, 5, 172, 21, 4, 133, 10, 20, 0, 244]
abbrev dktX0_sure_0 : List UInt8 := dkwX0_sure_0 ++ dktX0_sure_1
theorem dksX0_sure_0 : cX0_sure.data.toList.drop 0 = dktX0_sure_0 := by decide +kernel
theorem dksX0_sure_1 : cX0_sure.data.toList.drop 23 = dktX0_sure_1 := dk_seg dksX0_sure_0 23 rfl rfl
theorem dksX0_sure_2 : cX0_sure.data.toList.drop 47 = dktX0_sure_2 := dk_seg dksX0_sure_1 24 rfl rfl
theorem dksX0_sure_3 : cX0_sure.data.toList.drop 70 = dktX0_sure_3 := dk_seg dksX0_sure_2 23 rfl rfl
theorem dksX0_sure_4 : cX0_sure.data.toList.drop 93 = dktX0_sure_4 := dk_seg dksX0_sure_3 23 rfl rfl
theorem dksX0_sure_5 : cX0_sure.data.toList.drop 116 = dktX0_sure_5 := dk_seg dksX0_sure_4 23 rfl rfl
theorem dX0_sure_0 : decode cX0_sure 0 = .ok (.aload_n 0, 1) := dk_42 (dk_at dksX0_sure_0 0 rfl rfl)
theorem dX0_sure_1 : decode cX0_sure 1 = .ok (.iload_n 1, 1) := dk_27 (dk_at dksX0_sure_0 1 rfl rfl)
theorem dX0_sure_2 : decode cX0_sure 2 = .ok (.iload_n 2, 1) := dk_28 (dk_at dksX0_sure_0 2 rfl rfl)
theorem dX0_sure_3 : decode cX0_sure 3 = .ok (.invokevirtual 211, 3) := dk_182 0 211 (dk_at dksX0_sure_0 3 rfl rfl)
theorem dX0_sure_6 : decode cX0_sure 6 = .ok (.istore 5, 2) := dk_54 5 (dk_at dksX0_sure_0 6 rfl rfl)
theorem dX0_sure_8 : decode cX0_sure 8 = .ok (.iload 5, 2) := dk_21 5 (dk_at dksX0_sure_0 8 rfl rfl)
theorem dX0_sure_10 : decode cX0_sure 10 = .ok (.ifCond .eq 6, 3) := dk_153 0 6 (dk_at dksX0_sure_0 10 rfl rfl)
theorem dX0_sure_13 : decode cX0_sure 13 = .ok (.iload 5, 2) := dk_21 5 (dk_at dksX0_sure_0 13 rfl rfl)
theorem dX0_sure_15 : decode cX0_sure 15 = .ok (.ireturn, 1) := dk_172 (dk_at dksX0_sure_0 15 rfl rfl)
theorem dX0_sure_16 : decode cX0_sure 16 = .ok (.iload 4, 2) := dk_21 4 (dk_at dksX0_sure_0 16 rfl rfl)
theorem dX0_sure_18 : decode cX0_sure 18 = .ok (.i2l, 1) := dk_133 (dk_at dksX0_sure_0 18 rfl rfl)
theorem dX0_sure_19 : decode cX0_sure 19 = .ok (.lconst 1, 1) := dk_10 (dk_at dksX0_sure_0 19 rfl rfl)
theorem dX0_sure_20 : decode cX0_sure 20 = .ok (.ldc2_w 244, 3) := dk_20 0 244 (dk_at dksX0_sure_0 20 rfl rfl)
theorem dX0_sure_23 : decode cX0_sure 23 = .ok (.invokestatic 36, 3) := dk_184 0 36 (dk_at dksX0_sure_1 0 rfl rfl)
theorem dX0_sure_26 : decode cX0_sure 26 = .ok (.ifCond .eq 15, 3) := dk_153 0 15 (dk_at dksX0_sure_1 3 rfl rfl)
theorem dX0_sure_29 : decode cX0_sure 29 = .ok (.iload_n 3, 1) := dk_29 (dk_at dksX0_sure_1 6 rfl rfl)
theorem dX0_sure_30 : decode cX0_sure 30 = .ok (.i2l, 1) := dk_133 (dk_at dksX0_sure_1 7 rfl rfl)
theorem dX0_sure_31 : decode cX0_sure 31 = .ok (.lconst 0, 1) := dk_9 (dk_at dksX0_sure_1 8 rfl rfl)
theorem dX0_sure_32 : decode cX0_sure 32 = .ok (.iload 4, 2) := dk_21 4 (dk_at dksX0_sure_1 9 rfl rfl)
theorem dX0_sure_34 : decode cX0_sure 34 = .ok (.i2l, 1) := dk_133 (dk_at dksX0_sure_1 11 rfl rfl)
theorem dX0_sure_35 : decode cX0_sure 35 = .ok (.invokestatic 36, 3) := dk_184 0 36 (dk_at dksX0_sure_1 12 rfl rfl)
theorem dX0_sure_38 : decode cX0_sure 38 = .ok (.ifCond .ne 6, 3) := dk_154 0 6 (dk_at dksX0_sure_1 15 rfl rfl)
theorem dX0_sure_41 : decode cX0_sure 41 = .ok (.bipush (-3), 2) := dk_16 253 (dk_at dksX0_sure_1 18 rfl rfl)
theorem dX0_sure_43 : decode cX0_sure 43 = .ok (.ireturn, 1) := dk_172 (dk_at dksX0_sure_1 20 rfl rfl)
theorem dX0_sure_44 : decode cX0_sure 44 = .ok (.iconst (-1), 1) := dk_2 (dk_at dksX0_sure_1 21 rfl rfl)
theorem dX0_sure_45 : decode cX0_sure 45 = .ok (.istore 6, 2) := dk_54 6 (dk_at dksX0_sure_1 22 rfl rfl)
theorem dX0_sure_47 : decode cX0_sure 47 = .ok (.iconst 0, 1) := dk_3 (dk_at dksX0_sure_2 0 rfl rfl)
theorem dX0_sure_48 : decode cX0_sure 48 = .ok (.istore 7, 2) := dk_54 7 (dk_at dksX0_sure_2 1 rfl rfl)
theorem dX0_sure_50 : decode cX0_sure 50 = .ok (.iload 7, 2) := dk_21 7 (dk_at dksX0_sure_2 3 rfl rfl)
theorem dX0_sure_52 : decode cX0_sure 52 = .ok (.sipush 256, 3) := dk_17 1 0 (dk_at dksX0_sure_2 5 rfl rfl)
theorem dX0_sure_55 : decode cX0_sure 55 = .ok (.if_icmp .ge 79, 3) := dk_162 0 79 (dk_at dksX0_sure_2 8 rfl rfl)
theorem dX0_sure_58 : decode cX0_sure 58 = .ok (.aload_n 0, 1) := dk_42 (dk_at dksX0_sure_2 11 rfl rfl)
theorem dX0_sure_59 : decode cX0_sure 59 = .ok (.iload 7, 2) := dk_21 7 (dk_at dksX0_sure_2 12 rfl rfl)
theorem dX0_sure_61 : decode cX0_sure 61 = .ok (.invokevirtual 193, 3) := dk_182 0 193 (dk_at dksX0_sure_2 14 rfl rfl)
theorem dX0_sure_64 : decode cX0_sure 64 = .ok (.ifCond .eq 64, 3) := dk_153 0 64 (dk_at dksX0_sure_2 17 rfl rfl)
theorem dX0_sure_67 : decode cX0_sure 67 = .ok (.iload 6, 2) := dk_21 6 (dk_at dksX0_sure_2 20 rfl rfl)
theorem dX0_sure_69 : decode cX0_sure 69 = .ok (.iconst (-1), 1) := dk_2 (dk_at dksX0_sure_2 22 rfl rfl)
theorem dX0_sure_70 : decode cX0_sure 70 = .ok (.if_icmp .eq 18, 3) := dk_159 0 18 (dk_at dksX0_sure_3 0 rfl rfl)
theorem dX0_sure_73 : decode cX0_sure 73 = .ok (.aload_n 0, 1) := dk_42 (dk_at dksX0_sure_3 3 rfl rfl)
theorem dX0_sure_74 : decode cX0_sure 74 = .ok (.iload 7, 2) := dk_21 7 (dk_at dksX0_sure_3 4 rfl rfl)
theorem dX0_sure_76 : decode cX0_sure 76 = .ok (.invokevirtual 27, 3) := dk_182 0 27 (dk_at dksX0_sure_3 6 rfl rfl)
theorem dX0_sure_79 : decode cX0_sure 79 = .ok (.aload_n 0, 1) := dk_42 (dk_at dksX0_sure_3 9 rfl rfl)
theorem dX0_sure_80 : decode cX0_sure 80 = .ok (.iload 6, 2) := dk_21 6 (dk_at dksX0_sure_3 10 rfl rfl)
theorem dX0_sure_82 : decode cX0_sure 82 = .ok (.invokevirtual 27, 3) := dk_182 0 27 (dk_at dksX0_sure_3 12 rfl rfl)
theorem dX0_sure_85 : decode cX0_sure 85 = .ok (.if_icmp .ge 43, 3) := dk_162 0 43 (dk_at dksX0_sure_3 15 rfl rfl)
theorem dX0_sure_88 : decode cX0_sure 88 = .ok (.aload_n 0, 1) := dk_42 (dk_at dksX0_sure_3 18 rfl rfl)
theorem dX0_sure_89 : decode cX0_sure 89 = .ok (.iload 7, 2) := dk_21 7 (dk_at dksX0_sure_3 19 rfl rfl)
theorem dX0_sure_91 : decode cX0_sure 91 = .ok (.iload_n 1, 1) := dk_27 (dk_at dksX0_sure_3 21 rfl rfl)
theorem dX0_sure_92 : decode cX0_sure 92 = .ok (.iload_n 2, 1) := dk_28 (dk_at dksX0_sure_3 22 rfl rfl)
theorem dX0_sure_93 : decode cX0_sure 93 = .ok (.invokevirtual 221, 3) := dk_182 0 221 (dk_at dksX0_sure_4 0 rfl rfl)
theorem dX0_sure_96 : decode cX0_sure 96 = .ok (.astore 8, 2) := dk_58 8 (dk_at dksX0_sure_4 3 rfl rfl)
theorem dX0_sure_98 : decode cX0_sure 98 = .ok (.aload 8, 2) := dk_25 8 (dk_at dksX0_sure_4 5 rfl rfl)
theorem dX0_sure_100 : decode cX0_sure 100 = .ok (.getfield 232, 3) := dk_180 0 232 (dk_at dksX0_sure_4 7 rfl rfl)
theorem dX0_sure_103 : decode cX0_sure 103 = .ok (.iload 4, 2) := dk_21 4 (dk_at dksX0_sure_4 10 rfl rfl)
theorem dX0_sure_105 : decode cX0_sure 105 = .ok (.i2l, 1) := dk_133 (dk_at dksX0_sure_4 12 rfl rfl)
theorem dX0_sure_106 : decode cX0_sure 106 = .ok (.lmul, 1) := dk_105 (dk_at dksX0_sure_4 13 rfl rfl)
theorem dX0_sure_107 : decode cX0_sure 107 = .ok (.aload 8, 2) := dk_25 8 (dk_at dksX0_sure_4 14 rfl rfl)
theorem dX0_sure_109 : decode cX0_sure 109 = .ok (.getfield 229, 3) := dk_180 0 229 (dk_at dksX0_sure_4 16 rfl rfl)
theorem dX0_sure_112 : decode cX0_sure 112 = .ok (.iload_n 3, 1) := dk_29 (dk_at dksX0_sure_4 19 rfl rfl)
theorem dX0_sure_113 : decode cX0_sure 113 = .ok (.i2l, 1) := dk_133 (dk_at dksX0_sure_4 20 rfl rfl)
theorem dX0_sure_114 : decode cX0_sure 114 = .ok (.lmul, 1) := dk_105 (dk_at dksX0_sure_4 21 rfl rfl)
theorem dX0_sure_115 : decode cX0_sure 115 = .ok (.lcmp, 1) := dk_148 (dk_at dksX0_sure_4 22 rfl rfl)
theorem dX0_sure_116 : decode cX0_sure 116 = .ok (.ifCond .lt 8, 3) := dk_155 0 8 (dk_at dksX0_sure_5 0 rfl rfl)
theorem dX0_sure_119 : decode cX0_sure 119 = .ok (.iload 7, 2) := dk_21 7 (dk_at dksX0_sure_5 3 rfl rfl)
theorem dX0_sure_121 : decode cX0_sure 121 = .ok (.goto 5, 3) := dk_167 0 5 (dk_at dksX0_sure_5 5 rfl rfl)
theorem dX0_sure_124 : decode cX0_sure 124 = .ok (.iload 6, 2) := dk_21 6 (dk_at dksX0_sure_5 8 rfl rfl)
theorem dX0_sure_126 : decode cX0_sure 126 = .ok (.istore 6, 2) := dk_54 6 (dk_at dksX0_sure_5 10 rfl rfl)
theorem dX0_sure_128 : decode cX0_sure 128 = .ok (.iinc 7 1, 3) := dk_132 7 1 (dk_at dksX0_sure_5 12 rfl rfl)
theorem dX0_sure_131 : decode cX0_sure 131 = .ok (.goto (-81), 3) := dk_167 255 175 (dk_at dksX0_sure_5 15 rfl rfl)
theorem dX0_sure_134 : decode cX0_sure 134 = .ok (.iload 6, 2) := dk_21 6 (dk_at dksX0_sure_5 18 rfl rfl)
theorem dX0_sure_136 : decode cX0_sure 136 = .ok (.ireturn, 1) := dk_172 (dk_at dksX0_sure_5 20 rfl rfl)
abbrev cX0_know : ByteArray := prog_1_method_35_code
def yX0_know : MethodName := ⟨RX0, "know", "(IIII)J"⟩
def dkwX0_know_9 : List UInt8 := [180, 0, 229, 21, 4, 184, 0, 207, 173]
abbrev dktX0_know_9 : List UInt8 := dkwX0_know_9 ++ []
def dkwX0_know_8 : List UInt8 := [167, 255, 195, 42, 27, 28, 2, 3, 182, 0, 241, 87, 22, 7, 42, 180, 0, 238, 101, 42, 180, 0, 85]
abbrev dktX0_know_8 : List UInt8 := dkwX0_know_8 ++ dktX0_know_9
def dkwX0_know_7 : List UInt8 := [21, 9, 182, 0, 174, 192, 0, 76, 180, 0, 178, 133, 42, 180, 0, 238, 105, 97, 55, 7, 132, 9, 1]
abbrev dktX0_know_7 : List UInt8 := dkwX0_know_7 ++ dktX0_know_8
def dkwX0_know_6 : List UInt8 := [162, 0, 50, 42, 27, 28, 29, 21, 9, 182, 0, 241, 87, 22, 7, 42, 180, 0, 40, 29, 50, 180, 0, 48]
abbrev dktX0_know_6 : List UInt8 := dkwX0_know_6 ++ dktX0_know_7
def dkwX0_know_5 : List UInt8 := [184, 0, 217, 173, 9, 55, 7, 3, 54, 9, 21, 9, 42, 180, 0, 40, 29, 50, 180, 0, 48, 182, 0, 163]
abbrev dktX0_know_5 : List UInt8 := dkwX0_know_5 ++ dktX0_know_6
def dkwX0_know_4 : List UInt8 := [184, 0, 217, 173, 21, 5, 154, 0, 14, 21, 4, 133, 9, 10, 184, 0, 36, 154, 0, 9, 16, 253]
abbrev dktX0_know_4 : List UInt8 := dkwX0_know_4 ++ dktX0_know_5
def dkwX0_know_3 : List UInt8 := [154, 0, 9, 16, 253, 184, 0, 217, 173, 21, 5, 16, 254, 159, 0, 8, 21, 6, 154, 0, 9, 16, 254]
abbrev dktX0_know_3 : List UInt8 := dkwX0_know_3 ++ dktX0_know_4
def dkwX0_know_2 : List UInt8 := [4, 167, 0, 4, 3, 128, 54, 6, 132, 7, 1, 167, 255, 211, 28, 133, 10, 20, 0, 99, 184, 0, 36]
abbrev dktX0_know_2 : List UInt8 := dkwX0_know_2 ++ dktX0_know_3
def dkwX0_know_1 : List UInt8 := [162, 0, 38, 21, 6, 27, 7, 21, 7, 104, 122, 16, 15, 126, 29, 160, 0, 13, 29, 16, 6, 159, 0, 7]
abbrev dktX0_know_1 : List UInt8 := dkwX0_know_1 ++ dktX0_know_2
def dkwX0_know_0 : List UInt8 := [42, 27, 28, 182, 0, 211, 54, 5, 3, 54, 6, 3, 54, 7, 21, 7, 28, 162, 0, 45, 21, 7, 16, 6]
abbrev dktX0_know_0 : List UInt8 := dkwX0_know_0 ++ dktX0_know_1
theorem dksX0_know_0 : cX0_know.data.toList.drop 0 = dktX0_know_0 := by decide +kernel
theorem dksX0_know_1 : cX0_know.data.toList.drop 24 = dktX0_know_1 := dk_seg dksX0_know_0 24 rfl rfl
theorem dksX0_know_2 : cX0_know.data.toList.drop 48 = dktX0_know_2 := dk_seg dksX0_know_1 24 rfl rfl
theorem dksX0_know_3 : cX0_know.data.toList.drop 71 = dktX0_know_3 := dk_seg dksX0_know_2 23 rfl rfl
theorem dksX0_know_4 : cX0_know.data.toList.drop 94 = dktX0_know_4 := dk_seg dksX0_know_3 23 rfl rfl
theorem dksX0_know_5 : cX0_know.data.toList.drop 116 = dktX0_know_5 := dk_seg dksX0_know_4 22 rfl rfl
theorem dksX0_know_6 : cX0_know.data.toList.drop 140 = dktX0_know_6 := dk_seg dksX0_know_5 24 rfl rfl
theorem dksX0_know_7 : cX0_know.data.toList.drop 164 = dktX0_know_7 := dk_seg dksX0_know_6 24 rfl rfl
theorem dksX0_know_8 : cX0_know.data.toList.drop 187 = dktX0_know_8 := dk_seg dksX0_know_7 23 rfl rfl
theorem dksX0_know_9 : cX0_know.data.toList.drop 210 = dktX0_know_9 := dk_seg dksX0_know_8 23 rfl rfl
theorem dX0_know_0 : decode cX0_know 0 = .ok (.aload_n 0, 1) := dk_42 (dk_at dksX0_know_0 0 rfl rfl)
theorem dX0_know_1 : decode cX0_know 1 = .ok (.iload_n 1, 1) := dk_27 (dk_at dksX0_know_0 1 rfl rfl)
theorem dX0_know_2 : decode cX0_know 2 = .ok (.iload_n 2, 1) := dk_28 (dk_at dksX0_know_0 2 rfl rfl)
theorem dX0_know_3 : decode cX0_know 3 = .ok (.invokevirtual 211, 3) := dk_182 0 211 (dk_at dksX0_know_0 3 rfl rfl)
theorem dX0_know_6 : decode cX0_know 6 = .ok (.istore 5, 2) := dk_54 5 (dk_at dksX0_know_0 6 rfl rfl)
theorem dX0_know_8 : decode cX0_know 8 = .ok (.iconst 0, 1) := dk_3 (dk_at dksX0_know_0 8 rfl rfl)
theorem dX0_know_9 : decode cX0_know 9 = .ok (.istore 6, 2) := dk_54 6 (dk_at dksX0_know_0 9 rfl rfl)
theorem dX0_know_11 : decode cX0_know 11 = .ok (.iconst 0, 1) := dk_3 (dk_at dksX0_know_0 11 rfl rfl)
theorem dX0_know_12 : decode cX0_know 12 = .ok (.istore 7, 2) := dk_54 7 (dk_at dksX0_know_0 12 rfl rfl)
theorem dX0_know_14 : decode cX0_know 14 = .ok (.iload 7, 2) := dk_21 7 (dk_at dksX0_know_0 14 rfl rfl)
theorem dX0_know_16 : decode cX0_know 16 = .ok (.iload_n 2, 1) := dk_28 (dk_at dksX0_know_0 16 rfl rfl)
theorem dX0_know_17 : decode cX0_know 17 = .ok (.if_icmp .ge 45, 3) := dk_162 0 45 (dk_at dksX0_know_0 17 rfl rfl)
theorem dX0_know_20 : decode cX0_know 20 = .ok (.iload 7, 2) := dk_21 7 (dk_at dksX0_know_0 20 rfl rfl)
theorem dX0_know_22 : decode cX0_know 22 = .ok (.bipush 6, 2) := dk_16 6 (dk_at dksX0_know_0 22 rfl rfl)
theorem dX0_know_24 : decode cX0_know 24 = .ok (.if_icmp .ge 38, 3) := dk_162 0 38 (dk_at dksX0_know_1 0 rfl rfl)
theorem dX0_know_27 : decode cX0_know 27 = .ok (.iload 6, 2) := dk_21 6 (dk_at dksX0_know_1 3 rfl rfl)
theorem dX0_know_29 : decode cX0_know 29 = .ok (.iload_n 1, 1) := dk_27 (dk_at dksX0_know_1 5 rfl rfl)
theorem dX0_know_30 : decode cX0_know 30 = .ok (.iconst 4, 1) := dk_7 (dk_at dksX0_know_1 6 rfl rfl)
theorem dX0_know_31 : decode cX0_know 31 = .ok (.iload 7, 2) := dk_21 7 (dk_at dksX0_know_1 7 rfl rfl)
theorem dX0_know_33 : decode cX0_know 33 = .ok (.imul, 1) := dk_104 (dk_at dksX0_know_1 9 rfl rfl)
theorem dX0_know_34 : decode cX0_know 34 = .ok (.ishr, 1) := dk_122 (dk_at dksX0_know_1 10 rfl rfl)
theorem dX0_know_35 : decode cX0_know 35 = .ok (.bipush 15, 2) := dk_16 15 (dk_at dksX0_know_1 11 rfl rfl)
theorem dX0_know_37 : decode cX0_know 37 = .ok (.iand, 1) := dk_126 (dk_at dksX0_know_1 13 rfl rfl)
theorem dX0_know_38 : decode cX0_know 38 = .ok (.iload_n 3, 1) := dk_29 (dk_at dksX0_know_1 14 rfl rfl)
theorem dX0_know_39 : decode cX0_know 39 = .ok (.if_icmp .ne 13, 3) := dk_160 0 13 (dk_at dksX0_know_1 15 rfl rfl)
theorem dX0_know_42 : decode cX0_know 42 = .ok (.iload_n 3, 1) := dk_29 (dk_at dksX0_know_1 18 rfl rfl)
theorem dX0_know_43 : decode cX0_know 43 = .ok (.bipush 6, 2) := dk_16 6 (dk_at dksX0_know_1 19 rfl rfl)
theorem dX0_know_45 : decode cX0_know 45 = .ok (.if_icmp .eq 7, 3) := dk_159 0 7 (dk_at dksX0_know_1 21 rfl rfl)
theorem dX0_know_48 : decode cX0_know 48 = .ok (.iconst 1, 1) := dk_4 (dk_at dksX0_know_2 0 rfl rfl)
theorem dX0_know_49 : decode cX0_know 49 = .ok (.goto 4, 3) := dk_167 0 4 (dk_at dksX0_know_2 1 rfl rfl)
theorem dX0_know_52 : decode cX0_know 52 = .ok (.iconst 0, 1) := dk_3 (dk_at dksX0_know_2 4 rfl rfl)
theorem dX0_know_53 : decode cX0_know 53 = .ok (.ior, 1) := dk_128 (dk_at dksX0_know_2 5 rfl rfl)
theorem dX0_know_54 : decode cX0_know 54 = .ok (.istore 6, 2) := dk_54 6 (dk_at dksX0_know_2 6 rfl rfl)
theorem dX0_know_56 : decode cX0_know 56 = .ok (.iinc 7 1, 3) := dk_132 7 1 (dk_at dksX0_know_2 8 rfl rfl)
theorem dX0_know_59 : decode cX0_know 59 = .ok (.goto (-45), 3) := dk_167 255 211 (dk_at dksX0_know_2 11 rfl rfl)
theorem dX0_know_62 : decode cX0_know 62 = .ok (.iload_n 2, 1) := dk_28 (dk_at dksX0_know_2 14 rfl rfl)
theorem dX0_know_63 : decode cX0_know 63 = .ok (.i2l, 1) := dk_133 (dk_at dksX0_know_2 15 rfl rfl)
theorem dX0_know_64 : decode cX0_know 64 = .ok (.lconst 1, 1) := dk_10 (dk_at dksX0_know_2 16 rfl rfl)
theorem dX0_know_65 : decode cX0_know 65 = .ok (.ldc2_w 99, 3) := dk_20 0 99 (dk_at dksX0_know_2 17 rfl rfl)
theorem dX0_know_68 : decode cX0_know 68 = .ok (.invokestatic 36, 3) := dk_184 0 36 (dk_at dksX0_know_2 20 rfl rfl)
theorem dX0_know_71 : decode cX0_know 71 = .ok (.ifCond .ne 9, 3) := dk_154 0 9 (dk_at dksX0_know_3 0 rfl rfl)
theorem dX0_know_74 : decode cX0_know 74 = .ok (.bipush (-3), 2) := dk_16 253 (dk_at dksX0_know_3 3 rfl rfl)
theorem dX0_know_76 : decode cX0_know 76 = .ok (.invokestatic 217, 3) := dk_184 0 217 (dk_at dksX0_know_3 5 rfl rfl)
theorem dX0_know_79 : decode cX0_know 79 = .ok (.lreturn, 1) := dk_173 (dk_at dksX0_know_3 8 rfl rfl)
theorem dX0_know_80 : decode cX0_know 80 = .ok (.iload 5, 2) := dk_21 5 (dk_at dksX0_know_3 9 rfl rfl)
theorem dX0_know_82 : decode cX0_know 82 = .ok (.bipush (-2), 2) := dk_16 254 (dk_at dksX0_know_3 11 rfl rfl)
theorem dX0_know_84 : decode cX0_know 84 = .ok (.if_icmp .eq 8, 3) := dk_159 0 8 (dk_at dksX0_know_3 13 rfl rfl)
theorem dX0_know_87 : decode cX0_know 87 = .ok (.iload 6, 2) := dk_21 6 (dk_at dksX0_know_3 16 rfl rfl)
theorem dX0_know_89 : decode cX0_know 89 = .ok (.ifCond .ne 9, 3) := dk_154 0 9 (dk_at dksX0_know_3 18 rfl rfl)
theorem dX0_know_92 : decode cX0_know 92 = .ok (.bipush (-2), 2) := dk_16 254 (dk_at dksX0_know_3 21 rfl rfl)
theorem dX0_know_94 : decode cX0_know 94 = .ok (.invokestatic 217, 3) := dk_184 0 217 (dk_at dksX0_know_4 0 rfl rfl)
theorem dX0_know_97 : decode cX0_know 97 = .ok (.lreturn, 1) := dk_173 (dk_at dksX0_know_4 3 rfl rfl)
theorem dX0_know_98 : decode cX0_know 98 = .ok (.iload 5, 2) := dk_21 5 (dk_at dksX0_know_4 4 rfl rfl)
theorem dX0_know_100 : decode cX0_know 100 = .ok (.ifCond .ne 14, 3) := dk_154 0 14 (dk_at dksX0_know_4 6 rfl rfl)
theorem dX0_know_103 : decode cX0_know 103 = .ok (.iload 4, 2) := dk_21 4 (dk_at dksX0_know_4 9 rfl rfl)
theorem dX0_know_105 : decode cX0_know 105 = .ok (.i2l, 1) := dk_133 (dk_at dksX0_know_4 11 rfl rfl)
theorem dX0_know_106 : decode cX0_know 106 = .ok (.lconst 0, 1) := dk_9 (dk_at dksX0_know_4 12 rfl rfl)
theorem dX0_know_107 : decode cX0_know 107 = .ok (.lconst 1, 1) := dk_10 (dk_at dksX0_know_4 13 rfl rfl)
theorem dX0_know_108 : decode cX0_know 108 = .ok (.invokestatic 36, 3) := dk_184 0 36 (dk_at dksX0_know_4 14 rfl rfl)
theorem dX0_know_111 : decode cX0_know 111 = .ok (.ifCond .ne 9, 3) := dk_154 0 9 (dk_at dksX0_know_4 17 rfl rfl)
theorem dX0_know_114 : decode cX0_know 114 = .ok (.bipush (-3), 2) := dk_16 253 (dk_at dksX0_know_4 20 rfl rfl)
theorem dX0_know_116 : decode cX0_know 116 = .ok (.invokestatic 217, 3) := dk_184 0 217 (dk_at dksX0_know_5 0 rfl rfl)
theorem dX0_know_119 : decode cX0_know 119 = .ok (.lreturn, 1) := dk_173 (dk_at dksX0_know_5 3 rfl rfl)
theorem dX0_know_120 : decode cX0_know 120 = .ok (.lconst 0, 1) := dk_9 (dk_at dksX0_know_5 4 rfl rfl)
theorem dX0_know_121 : decode cX0_know 121 = .ok (.lstore 7, 2) := dk_55 7 (dk_at dksX0_know_5 5 rfl rfl)
theorem dX0_know_123 : decode cX0_know 123 = .ok (.iconst 0, 1) := dk_3 (dk_at dksX0_know_5 7 rfl rfl)
theorem dX0_know_124 : decode cX0_know 124 = .ok (.istore 9, 2) := dk_54 9 (dk_at dksX0_know_5 8 rfl rfl)
theorem dX0_know_126 : decode cX0_know 126 = .ok (.iload 9, 2) := dk_21 9 (dk_at dksX0_know_5 10 rfl rfl)
theorem dX0_know_128 : decode cX0_know 128 = .ok (.aload_n 0, 1) := dk_42 (dk_at dksX0_know_5 12 rfl rfl)
theorem dX0_know_129 : decode cX0_know 129 = .ok (.getfield 40, 3) := dk_180 0 40 (dk_at dksX0_know_5 13 rfl rfl)
theorem dX0_know_132 : decode cX0_know 132 = .ok (.iload_n 3, 1) := dk_29 (dk_at dksX0_know_5 16 rfl rfl)
theorem dX0_know_133 : decode cX0_know 133 = .ok (.aaload, 1) := dk_50 (dk_at dksX0_know_5 17 rfl rfl)
theorem dX0_know_134 : decode cX0_know 134 = .ok (.getfield 48, 3) := dk_180 0 48 (dk_at dksX0_know_5 18 rfl rfl)
theorem dX0_know_137 : decode cX0_know 137 = .ok (.invokevirtual 163, 3) := dk_182 0 163 (dk_at dksX0_know_5 21 rfl rfl)
theorem dX0_know_140 : decode cX0_know 140 = .ok (.if_icmp .ge 50, 3) := dk_162 0 50 (dk_at dksX0_know_6 0 rfl rfl)
theorem dX0_know_143 : decode cX0_know 143 = .ok (.aload_n 0, 1) := dk_42 (dk_at dksX0_know_6 3 rfl rfl)
theorem dX0_know_144 : decode cX0_know 144 = .ok (.iload_n 1, 1) := dk_27 (dk_at dksX0_know_6 4 rfl rfl)
theorem dX0_know_145 : decode cX0_know 145 = .ok (.iload_n 2, 1) := dk_28 (dk_at dksX0_know_6 5 rfl rfl)
theorem dX0_know_146 : decode cX0_know 146 = .ok (.iload_n 3, 1) := dk_29 (dk_at dksX0_know_6 6 rfl rfl)
theorem dX0_know_147 : decode cX0_know 147 = .ok (.iload 9, 2) := dk_21 9 (dk_at dksX0_know_6 7 rfl rfl)
theorem dX0_know_149 : decode cX0_know 149 = .ok (.invokevirtual 241, 3) := dk_182 0 241 (dk_at dksX0_know_6 9 rfl rfl)
theorem dX0_know_152 : decode cX0_know 152 = .ok (.pop, 1) := dk_87 (dk_at dksX0_know_6 12 rfl rfl)
theorem dX0_know_153 : decode cX0_know 153 = .ok (.lload 7, 2) := dk_22 7 (dk_at dksX0_know_6 13 rfl rfl)
theorem dX0_know_155 : decode cX0_know 155 = .ok (.aload_n 0, 1) := dk_42 (dk_at dksX0_know_6 15 rfl rfl)
theorem dX0_know_156 : decode cX0_know 156 = .ok (.getfield 40, 3) := dk_180 0 40 (dk_at dksX0_know_6 16 rfl rfl)
theorem dX0_know_159 : decode cX0_know 159 = .ok (.iload_n 3, 1) := dk_29 (dk_at dksX0_know_6 19 rfl rfl)
theorem dX0_know_160 : decode cX0_know 160 = .ok (.aaload, 1) := dk_50 (dk_at dksX0_know_6 20 rfl rfl)
theorem dX0_know_161 : decode cX0_know 161 = .ok (.getfield 48, 3) := dk_180 0 48 (dk_at dksX0_know_6 21 rfl rfl)
theorem dX0_know_164 : decode cX0_know 164 = .ok (.iload 9, 2) := dk_21 9 (dk_at dksX0_know_7 0 rfl rfl)
theorem dX0_know_166 : decode cX0_know 166 = .ok (.invokevirtual 174, 3) := dk_182 0 174 (dk_at dksX0_know_7 2 rfl rfl)
theorem dX0_know_169 : decode cX0_know 169 = .ok (.checkcast 76, 3) := dk_192 0 76 (dk_at dksX0_know_7 5 rfl rfl)
theorem dX0_know_172 : decode cX0_know 172 = .ok (.getfield 178, 3) := dk_180 0 178 (dk_at dksX0_know_7 8 rfl rfl)
theorem dX0_know_175 : decode cX0_know 175 = .ok (.i2l, 1) := dk_133 (dk_at dksX0_know_7 11 rfl rfl)
theorem dX0_know_176 : decode cX0_know 176 = .ok (.aload_n 0, 1) := dk_42 (dk_at dksX0_know_7 12 rfl rfl)
theorem dX0_know_177 : decode cX0_know 177 = .ok (.getfield 238, 3) := dk_180 0 238 (dk_at dksX0_know_7 13 rfl rfl)
theorem dX0_know_180 : decode cX0_know 180 = .ok (.lmul, 1) := dk_105 (dk_at dksX0_know_7 16 rfl rfl)
theorem dX0_know_181 : decode cX0_know 181 = .ok (.ladd, 1) := dk_97 (dk_at dksX0_know_7 17 rfl rfl)
theorem dX0_know_182 : decode cX0_know 182 = .ok (.lstore 7, 2) := dk_55 7 (dk_at dksX0_know_7 18 rfl rfl)
theorem dX0_know_184 : decode cX0_know 184 = .ok (.iinc 9 1, 3) := dk_132 9 1 (dk_at dksX0_know_7 20 rfl rfl)
theorem dX0_know_187 : decode cX0_know 187 = .ok (.goto (-61), 3) := dk_167 255 195 (dk_at dksX0_know_8 0 rfl rfl)
theorem dX0_know_190 : decode cX0_know 190 = .ok (.aload_n 0, 1) := dk_42 (dk_at dksX0_know_8 3 rfl rfl)
theorem dX0_know_191 : decode cX0_know 191 = .ok (.iload_n 1, 1) := dk_27 (dk_at dksX0_know_8 4 rfl rfl)
theorem dX0_know_192 : decode cX0_know 192 = .ok (.iload_n 2, 1) := dk_28 (dk_at dksX0_know_8 5 rfl rfl)
theorem dX0_know_193 : decode cX0_know 193 = .ok (.iconst (-1), 1) := dk_2 (dk_at dksX0_know_8 6 rfl rfl)
theorem dX0_know_194 : decode cX0_know 194 = .ok (.iconst 0, 1) := dk_3 (dk_at dksX0_know_8 7 rfl rfl)
theorem dX0_know_195 : decode cX0_know 195 = .ok (.invokevirtual 241, 3) := dk_182 0 241 (dk_at dksX0_know_8 8 rfl rfl)
theorem dX0_know_198 : decode cX0_know 198 = .ok (.pop, 1) := dk_87 (dk_at dksX0_know_8 11 rfl rfl)
theorem dX0_know_199 : decode cX0_know 199 = .ok (.lload 7, 2) := dk_22 7 (dk_at dksX0_know_8 12 rfl rfl)
theorem dX0_know_201 : decode cX0_know 201 = .ok (.aload_n 0, 1) := dk_42 (dk_at dksX0_know_8 14 rfl rfl)
theorem dX0_know_202 : decode cX0_know 202 = .ok (.getfield 238, 3) := dk_180 0 238 (dk_at dksX0_know_8 15 rfl rfl)
theorem dX0_know_205 : decode cX0_know 205 = .ok (.lsub, 1) := dk_101 (dk_at dksX0_know_8 18 rfl rfl)
theorem dX0_know_206 : decode cX0_know 206 = .ok (.aload_n 0, 1) := dk_42 (dk_at dksX0_know_8 19 rfl rfl)
theorem dX0_know_207 : decode cX0_know 207 = .ok (.getfield 85, 3) := dk_180 0 85 (dk_at dksX0_know_8 20 rfl rfl)
theorem dX0_know_210 : decode cX0_know 210 = .ok (.getfield 229, 3) := dk_180 0 229 (dk_at dksX0_know_9 0 rfl rfl)
theorem dX0_know_213 : decode cX0_know 213 = .ok (.iload 4, 2) := dk_21 4 (dk_at dksX0_know_9 3 rfl rfl)
theorem dX0_know_215 : decode cX0_know 215 = .ok (.invokestatic 207, 3) := dk_184 0 207 (dk_at dksX0_know_9 5 rfl rfl)
theorem dX0_know_218 : decode cX0_know 218 = .ok (.lreturn, 1) := dk_173 (dk_at dksX0_know_9 8 rfl rfl)
abbrev cX0_both : ByteArray := prog_1_method_37_code
def yX0_both : MethodName := ⟨RX0, "both", "(II)I"⟩
def dkwX0_both_2 : List UInt8 := [108, 167, 0, 8, 29, 17, 1, 0, 112, 172]
abbrev dktX0_both_2 : List UInt8 := dkwX0_both_2 ++ []
def dkwX0_both_1 : List UInt8 := [172, 42, 27, 182, 0, 248, 62, 29, 2, 160, 0, 7, 2, 167, 0, 20, 28, 154, 0, 11, 29, 17, 1, 0]
abbrev dktX0_both_1 : List UInt8 := dkwX0_both_1 ++ dktX0_both_2
def dkwX0_both_0 : List UInt8 := [27, 133, 10, 20, 0, 246, 184, 0, 36, 153, 0, 13, 28, 133, 9, 10, 184, 0, 36, 154, 0, 6, 16, 253]
abbrev dktX0_both_0 : List UInt8 := dkwX0_both_0 ++ dktX0_both_1
theorem dksX0_both_0 : cX0_both.data.toList.drop 0 = dktX0_both_0 := by decide +kernel
theorem dksX0_both_1 : cX0_both.data.toList.drop 24 = dktX0_both_1 := dk_seg dksX0_both_0 24 rfl rfl
theorem dksX0_both_2 : cX0_both.data.toList.drop 48 = dktX0_both_2 := dk_seg dksX0_both_1 24 rfl rfl
theorem dX0_both_0 : decode cX0_both 0 = .ok (.iload_n 1, 1) := dk_27 (dk_at dksX0_both_0 0 rfl rfl)
theorem dX0_both_1 : decode cX0_both 1 = .ok (.i2l, 1) := dk_133 (dk_at dksX0_both_0 1 rfl rfl)
theorem dX0_both_2 : decode cX0_both 2 = .ok (.lconst 1, 1) := dk_10 (dk_at dksX0_both_0 2 rfl rfl)
theorem dX0_both_3 : decode cX0_both 3 = .ok (.ldc2_w 246, 3) := dk_20 0 246 (dk_at dksX0_both_0 3 rfl rfl)
theorem dX0_both_6 : decode cX0_both 6 = .ok (.invokestatic 36, 3) := dk_184 0 36 (dk_at dksX0_both_0 6 rfl rfl)
theorem dX0_both_9 : decode cX0_both 9 = .ok (.ifCond .eq 13, 3) := dk_153 0 13 (dk_at dksX0_both_0 9 rfl rfl)
theorem dX0_both_12 : decode cX0_both 12 = .ok (.iload_n 2, 1) := dk_28 (dk_at dksX0_both_0 12 rfl rfl)
theorem dX0_both_13 : decode cX0_both 13 = .ok (.i2l, 1) := dk_133 (dk_at dksX0_both_0 13 rfl rfl)
theorem dX0_both_14 : decode cX0_both 14 = .ok (.lconst 0, 1) := dk_9 (dk_at dksX0_both_0 14 rfl rfl)
theorem dX0_both_15 : decode cX0_both 15 = .ok (.lconst 1, 1) := dk_10 (dk_at dksX0_both_0 15 rfl rfl)
theorem dX0_both_16 : decode cX0_both 16 = .ok (.invokestatic 36, 3) := dk_184 0 36 (dk_at dksX0_both_0 16 rfl rfl)
theorem dX0_both_19 : decode cX0_both 19 = .ok (.ifCond .ne 6, 3) := dk_154 0 6 (dk_at dksX0_both_0 19 rfl rfl)
theorem dX0_both_22 : decode cX0_both 22 = .ok (.bipush (-3), 2) := dk_16 253 (dk_at dksX0_both_0 22 rfl rfl)
theorem dX0_both_24 : decode cX0_both 24 = .ok (.ireturn, 1) := dk_172 (dk_at dksX0_both_1 0 rfl rfl)
theorem dX0_both_25 : decode cX0_both 25 = .ok (.aload_n 0, 1) := dk_42 (dk_at dksX0_both_1 1 rfl rfl)
theorem dX0_both_26 : decode cX0_both 26 = .ok (.iload_n 1, 1) := dk_27 (dk_at dksX0_both_1 2 rfl rfl)
theorem dX0_both_27 : decode cX0_both 27 = .ok (.invokevirtual 248, 3) := dk_182 0 248 (dk_at dksX0_both_1 3 rfl rfl)
theorem dX0_both_30 : decode cX0_both 30 = .ok (.istore_n 3, 1) := dk_62 (dk_at dksX0_both_1 6 rfl rfl)
theorem dX0_both_31 : decode cX0_both 31 = .ok (.iload_n 3, 1) := dk_29 (dk_at dksX0_both_1 7 rfl rfl)
theorem dX0_both_32 : decode cX0_both 32 = .ok (.iconst (-1), 1) := dk_2 (dk_at dksX0_both_1 8 rfl rfl)
theorem dX0_both_33 : decode cX0_both 33 = .ok (.if_icmp .ne 7, 3) := dk_160 0 7 (dk_at dksX0_both_1 9 rfl rfl)
theorem dX0_both_36 : decode cX0_both 36 = .ok (.iconst (-1), 1) := dk_2 (dk_at dksX0_both_1 12 rfl rfl)
theorem dX0_both_37 : decode cX0_both 37 = .ok (.goto 20, 3) := dk_167 0 20 (dk_at dksX0_both_1 13 rfl rfl)
theorem dX0_both_40 : decode cX0_both 40 = .ok (.iload_n 2, 1) := dk_28 (dk_at dksX0_both_1 16 rfl rfl)
theorem dX0_both_41 : decode cX0_both 41 = .ok (.ifCond .ne 11, 3) := dk_154 0 11 (dk_at dksX0_both_1 17 rfl rfl)
theorem dX0_both_44 : decode cX0_both 44 = .ok (.iload_n 3, 1) := dk_29 (dk_at dksX0_both_1 20 rfl rfl)
theorem dX0_both_45 : decode cX0_both 45 = .ok (.sipush 256, 3) := dk_17 1 0 (dk_at dksX0_both_1 21 rfl rfl)
theorem dX0_both_48 : decode cX0_both 48 = .ok (.idiv, 1) := dk_108 (dk_at dksX0_both_2 0 rfl rfl)
theorem dX0_both_49 : decode cX0_both 49 = .ok (.goto 8, 3) := dk_167 0 8 (dk_at dksX0_both_2 1 rfl rfl)
theorem dX0_both_52 : decode cX0_both 52 = .ok (.iload_n 3, 1) := dk_29 (dk_at dksX0_both_2 4 rfl rfl)
theorem dX0_both_53 : decode cX0_both 53 = .ok (.sipush 256, 3) := dk_17 1 0 (dk_at dksX0_both_2 5 rfl rfl)
theorem dX0_both_56 : decode cX0_both 56 = .ok (.irem, 1) := dk_112 (dk_at dksX0_both_2 8 rfl rfl)
theorem dX0_both_57 : decode cX0_both 57 = .ok (.ireturn, 1) := dk_172 (dk_at dksX0_both_2 9 rfl rfl)
abbrev cX0_bestBoth : ByteArray := prog_1_method_36_code
def yX0_bestBoth : MethodName := ⟨RX0, "bestBoth", "(I)I"⟩
def dkwX0_bestBoth_6 : List UInt8 := [96, 61, 42, 180, 0, 238, 66, 42, 180, 0, 85, 180, 0, 229, 55, 5, 132, 8, 1, 167, 255, 131, 28, 172]
abbrev dktX0_bestBoth_6 : List UInt8 := dkwX0_bestBoth_6 ++ []
def dkwX0_bestBoth_5 : List UInt8 := [22, 5, 105, 33, 42, 180, 0, 85, 180, 0, 229, 105, 148, 158, 0, 27, 17, 1, 0, 21, 9, 104, 21, 11]
abbrev dktX0_bestBoth_5 : List UInt8 := dkwX0_bestBoth_5 ++ dktX0_bestBoth_6
def dkwX0_bestBoth_4 : List UInt8 := [154, 0, 63, 42, 21, 9, 27, 2, 3, 182, 0, 241, 54, 11, 28, 2, 159, 0, 23, 42, 180, 0, 238]
abbrev dktX0_bestBoth_4 : List UInt8 := dkwX0_bestBoth_4 ++ dktX0_bestBoth_5
def dkwX0_bestBoth_3 : List UInt8 := [128, 54, 9, 21, 10, 16, 6, 108, 54, 10, 132, 11, 255, 167, 255, 226, 42, 21, 9, 27, 182, 0, 211]
abbrev dktX0_bestBoth_3 : List UInt8 := dkwX0_bestBoth_3 ++ dktX0_bestBoth_4
def dkwX0_bestBoth_2 : List UInt8 := [54, 10, 27, 4, 100, 54, 11, 21, 11, 155, 0, 31, 21, 9, 21, 10, 16, 6, 112, 7, 21, 11, 104, 120]
abbrev dktX0_bestBoth_2 : List UInt8 := dkwX0_bestBoth_2 ++ dktX0_bestBoth_3
def dkwX0_bestBoth_1 : List UInt8 := [167, 0, 6, 17, 0, 216, 54, 7, 3, 54, 8, 21, 8, 21, 7, 162, 0, 124, 3, 54, 9, 21, 8]
abbrev dktX0_bestBoth_1 : List UInt8 := dkwX0_bestBoth_1 ++ dktX0_bestBoth_2
def dkwX0_bestBoth_0 : List UInt8 := [2, 61, 9, 66, 10, 55, 5, 27, 4, 160, 0, 8, 16, 6, 167, 0, 16, 27, 5, 160, 0, 8, 16, 36]
abbrev dktX0_bestBoth_0 : List UInt8 := dkwX0_bestBoth_0 ++ dktX0_bestBoth_1
theorem dksX0_bestBoth_0 : cX0_bestBoth.data.toList.drop 0 = dktX0_bestBoth_0 := by decide +kernel
theorem dksX0_bestBoth_1 : cX0_bestBoth.data.toList.drop 24 = dktX0_bestBoth_1 := dk_seg dksX0_bestBoth_0 24 rfl rfl
theorem dksX0_bestBoth_2 : cX0_bestBoth.data.toList.drop 47 = dktX0_bestBoth_2 := dk_seg dksX0_bestBoth_1 23 rfl rfl
theorem dksX0_bestBoth_3 : cX0_bestBoth.data.toList.drop 71 = dktX0_bestBoth_3 := dk_seg dksX0_bestBoth_2 24 rfl rfl
theorem dksX0_bestBoth_4 : cX0_bestBoth.data.toList.drop 94 = dktX0_bestBoth_4 := dk_seg dksX0_bestBoth_3 23 rfl rfl
theorem dksX0_bestBoth_5 : cX0_bestBoth.data.toList.drop 117 = dktX0_bestBoth_5 := dk_seg dksX0_bestBoth_4 23 rfl rfl
theorem dksX0_bestBoth_6 : cX0_bestBoth.data.toList.drop 141 = dktX0_bestBoth_6 := dk_seg dksX0_bestBoth_5 24 rfl rfl
theorem dX0_bestBoth_0 : decode cX0_bestBoth 0 = .ok (.iconst (-1), 1) := dk_2 (dk_at dksX0_bestBoth_0 0 rfl rfl)
theorem dX0_bestBoth_1 : decode cX0_bestBoth 1 = .ok (.istore_n 2, 1) := dk_61 (dk_at dksX0_bestBoth_0 1 rfl rfl)
theorem dX0_bestBoth_2 : decode cX0_bestBoth 2 = .ok (.lconst 0, 1) := dk_9 (dk_at dksX0_bestBoth_0 2 rfl rfl)
theorem dX0_bestBoth_3 : decode cX0_bestBoth 3 = .ok (.lstore_n 3, 1) := dk_66 (dk_at dksX0_bestBoth_0 3 rfl rfl)
theorem dX0_bestBoth_4 : decode cX0_bestBoth 4 = .ok (.lconst 1, 1) := dk_10 (dk_at dksX0_bestBoth_0 4 rfl rfl)
theorem dX0_bestBoth_5 : decode cX0_bestBoth 5 = .ok (.lstore 5, 2) := dk_55 5 (dk_at dksX0_bestBoth_0 5 rfl rfl)
theorem dX0_bestBoth_7 : decode cX0_bestBoth 7 = .ok (.iload_n 1, 1) := dk_27 (dk_at dksX0_bestBoth_0 7 rfl rfl)
theorem dX0_bestBoth_8 : decode cX0_bestBoth 8 = .ok (.iconst 1, 1) := dk_4 (dk_at dksX0_bestBoth_0 8 rfl rfl)
theorem dX0_bestBoth_9 : decode cX0_bestBoth 9 = .ok (.if_icmp .ne 8, 3) := dk_160 0 8 (dk_at dksX0_bestBoth_0 9 rfl rfl)
theorem dX0_bestBoth_12 : decode cX0_bestBoth 12 = .ok (.bipush 6, 2) := dk_16 6 (dk_at dksX0_bestBoth_0 12 rfl rfl)
theorem dX0_bestBoth_14 : decode cX0_bestBoth 14 = .ok (.goto 16, 3) := dk_167 0 16 (dk_at dksX0_bestBoth_0 14 rfl rfl)
theorem dX0_bestBoth_17 : decode cX0_bestBoth 17 = .ok (.iload_n 1, 1) := dk_27 (dk_at dksX0_bestBoth_0 17 rfl rfl)
theorem dX0_bestBoth_18 : decode cX0_bestBoth 18 = .ok (.iconst 2, 1) := dk_5 (dk_at dksX0_bestBoth_0 18 rfl rfl)
theorem dX0_bestBoth_19 : decode cX0_bestBoth 19 = .ok (.if_icmp .ne 8, 3) := dk_160 0 8 (dk_at dksX0_bestBoth_0 19 rfl rfl)
theorem dX0_bestBoth_22 : decode cX0_bestBoth 22 = .ok (.bipush 36, 2) := dk_16 36 (dk_at dksX0_bestBoth_0 22 rfl rfl)
theorem dX0_bestBoth_24 : decode cX0_bestBoth 24 = .ok (.goto 6, 3) := dk_167 0 6 (dk_at dksX0_bestBoth_1 0 rfl rfl)
theorem dX0_bestBoth_27 : decode cX0_bestBoth 27 = .ok (.sipush 216, 3) := dk_17 0 216 (dk_at dksX0_bestBoth_1 3 rfl rfl)
theorem dX0_bestBoth_30 : decode cX0_bestBoth 30 = .ok (.istore 7, 2) := dk_54 7 (dk_at dksX0_bestBoth_1 6 rfl rfl)
theorem dX0_bestBoth_32 : decode cX0_bestBoth 32 = .ok (.iconst 0, 1) := dk_3 (dk_at dksX0_bestBoth_1 8 rfl rfl)
theorem dX0_bestBoth_33 : decode cX0_bestBoth 33 = .ok (.istore 8, 2) := dk_54 8 (dk_at dksX0_bestBoth_1 9 rfl rfl)
theorem dX0_bestBoth_35 : decode cX0_bestBoth 35 = .ok (.iload 8, 2) := dk_21 8 (dk_at dksX0_bestBoth_1 11 rfl rfl)
theorem dX0_bestBoth_37 : decode cX0_bestBoth 37 = .ok (.iload 7, 2) := dk_21 7 (dk_at dksX0_bestBoth_1 13 rfl rfl)
theorem dX0_bestBoth_39 : decode cX0_bestBoth 39 = .ok (.if_icmp .ge 124, 3) := dk_162 0 124 (dk_at dksX0_bestBoth_1 15 rfl rfl)
theorem dX0_bestBoth_42 : decode cX0_bestBoth 42 = .ok (.iconst 0, 1) := dk_3 (dk_at dksX0_bestBoth_1 18 rfl rfl)
theorem dX0_bestBoth_43 : decode cX0_bestBoth 43 = .ok (.istore 9, 2) := dk_54 9 (dk_at dksX0_bestBoth_1 19 rfl rfl)
theorem dX0_bestBoth_45 : decode cX0_bestBoth 45 = .ok (.iload 8, 2) := dk_21 8 (dk_at dksX0_bestBoth_1 21 rfl rfl)
theorem dX0_bestBoth_47 : decode cX0_bestBoth 47 = .ok (.istore 10, 2) := dk_54 10 (dk_at dksX0_bestBoth_2 0 rfl rfl)
theorem dX0_bestBoth_49 : decode cX0_bestBoth 49 = .ok (.iload_n 1, 1) := dk_27 (dk_at dksX0_bestBoth_2 2 rfl rfl)
theorem dX0_bestBoth_50 : decode cX0_bestBoth 50 = .ok (.iconst 1, 1) := dk_4 (dk_at dksX0_bestBoth_2 3 rfl rfl)
theorem dX0_bestBoth_51 : decode cX0_bestBoth 51 = .ok (.isub, 1) := dk_100 (dk_at dksX0_bestBoth_2 4 rfl rfl)
theorem dX0_bestBoth_52 : decode cX0_bestBoth 52 = .ok (.istore 11, 2) := dk_54 11 (dk_at dksX0_bestBoth_2 5 rfl rfl)
theorem dX0_bestBoth_54 : decode cX0_bestBoth 54 = .ok (.iload 11, 2) := dk_21 11 (dk_at dksX0_bestBoth_2 7 rfl rfl)
theorem dX0_bestBoth_56 : decode cX0_bestBoth 56 = .ok (.ifCond .lt 31, 3) := dk_155 0 31 (dk_at dksX0_bestBoth_2 9 rfl rfl)
theorem dX0_bestBoth_59 : decode cX0_bestBoth 59 = .ok (.iload 9, 2) := dk_21 9 (dk_at dksX0_bestBoth_2 12 rfl rfl)
theorem dX0_bestBoth_61 : decode cX0_bestBoth 61 = .ok (.iload 10, 2) := dk_21 10 (dk_at dksX0_bestBoth_2 14 rfl rfl)
theorem dX0_bestBoth_63 : decode cX0_bestBoth 63 = .ok (.bipush 6, 2) := dk_16 6 (dk_at dksX0_bestBoth_2 16 rfl rfl)
theorem dX0_bestBoth_65 : decode cX0_bestBoth 65 = .ok (.irem, 1) := dk_112 (dk_at dksX0_bestBoth_2 18 rfl rfl)
theorem dX0_bestBoth_66 : decode cX0_bestBoth 66 = .ok (.iconst 4, 1) := dk_7 (dk_at dksX0_bestBoth_2 19 rfl rfl)
theorem dX0_bestBoth_67 : decode cX0_bestBoth 67 = .ok (.iload 11, 2) := dk_21 11 (dk_at dksX0_bestBoth_2 20 rfl rfl)
theorem dX0_bestBoth_69 : decode cX0_bestBoth 69 = .ok (.imul, 1) := dk_104 (dk_at dksX0_bestBoth_2 22 rfl rfl)
theorem dX0_bestBoth_70 : decode cX0_bestBoth 70 = .ok (.ishl, 1) := dk_120 (dk_at dksX0_bestBoth_2 23 rfl rfl)
theorem dX0_bestBoth_71 : decode cX0_bestBoth 71 = .ok (.ior, 1) := dk_128 (dk_at dksX0_bestBoth_3 0 rfl rfl)
theorem dX0_bestBoth_72 : decode cX0_bestBoth 72 = .ok (.istore 9, 2) := dk_54 9 (dk_at dksX0_bestBoth_3 1 rfl rfl)
theorem dX0_bestBoth_74 : decode cX0_bestBoth 74 = .ok (.iload 10, 2) := dk_21 10 (dk_at dksX0_bestBoth_3 3 rfl rfl)
theorem dX0_bestBoth_76 : decode cX0_bestBoth 76 = .ok (.bipush 6, 2) := dk_16 6 (dk_at dksX0_bestBoth_3 5 rfl rfl)
theorem dX0_bestBoth_78 : decode cX0_bestBoth 78 = .ok (.idiv, 1) := dk_108 (dk_at dksX0_bestBoth_3 7 rfl rfl)
theorem dX0_bestBoth_79 : decode cX0_bestBoth 79 = .ok (.istore 10, 2) := dk_54 10 (dk_at dksX0_bestBoth_3 8 rfl rfl)
theorem dX0_bestBoth_81 : decode cX0_bestBoth 81 = .ok (.iinc 11 (-1), 3) := dk_132 11 255 (dk_at dksX0_bestBoth_3 10 rfl rfl)
theorem dX0_bestBoth_84 : decode cX0_bestBoth 84 = .ok (.goto (-30), 3) := dk_167 255 226 (dk_at dksX0_bestBoth_3 13 rfl rfl)
theorem dX0_bestBoth_87 : decode cX0_bestBoth 87 = .ok (.aload_n 0, 1) := dk_42 (dk_at dksX0_bestBoth_3 16 rfl rfl)
theorem dX0_bestBoth_88 : decode cX0_bestBoth 88 = .ok (.iload 9, 2) := dk_21 9 (dk_at dksX0_bestBoth_3 17 rfl rfl)
theorem dX0_bestBoth_90 : decode cX0_bestBoth 90 = .ok (.iload_n 1, 1) := dk_27 (dk_at dksX0_bestBoth_3 19 rfl rfl)
theorem dX0_bestBoth_91 : decode cX0_bestBoth 91 = .ok (.invokevirtual 211, 3) := dk_182 0 211 (dk_at dksX0_bestBoth_3 20 rfl rfl)
theorem dX0_bestBoth_94 : decode cX0_bestBoth 94 = .ok (.ifCond .ne 63, 3) := dk_154 0 63 (dk_at dksX0_bestBoth_4 0 rfl rfl)
theorem dX0_bestBoth_97 : decode cX0_bestBoth 97 = .ok (.aload_n 0, 1) := dk_42 (dk_at dksX0_bestBoth_4 3 rfl rfl)
theorem dX0_bestBoth_98 : decode cX0_bestBoth 98 = .ok (.iload 9, 2) := dk_21 9 (dk_at dksX0_bestBoth_4 4 rfl rfl)
theorem dX0_bestBoth_100 : decode cX0_bestBoth 100 = .ok (.iload_n 1, 1) := dk_27 (dk_at dksX0_bestBoth_4 6 rfl rfl)
theorem dX0_bestBoth_101 : decode cX0_bestBoth 101 = .ok (.iconst (-1), 1) := dk_2 (dk_at dksX0_bestBoth_4 7 rfl rfl)
theorem dX0_bestBoth_102 : decode cX0_bestBoth 102 = .ok (.iconst 0, 1) := dk_3 (dk_at dksX0_bestBoth_4 8 rfl rfl)
theorem dX0_bestBoth_103 : decode cX0_bestBoth 103 = .ok (.invokevirtual 241, 3) := dk_182 0 241 (dk_at dksX0_bestBoth_4 9 rfl rfl)
theorem dX0_bestBoth_106 : decode cX0_bestBoth 106 = .ok (.istore 11, 2) := dk_54 11 (dk_at dksX0_bestBoth_4 12 rfl rfl)
theorem dX0_bestBoth_108 : decode cX0_bestBoth 108 = .ok (.iload_n 2, 1) := dk_28 (dk_at dksX0_bestBoth_4 14 rfl rfl)
theorem dX0_bestBoth_109 : decode cX0_bestBoth 109 = .ok (.iconst (-1), 1) := dk_2 (dk_at dksX0_bestBoth_4 15 rfl rfl)
theorem dX0_bestBoth_110 : decode cX0_bestBoth 110 = .ok (.if_icmp .eq 23, 3) := dk_159 0 23 (dk_at dksX0_bestBoth_4 16 rfl rfl)
theorem dX0_bestBoth_113 : decode cX0_bestBoth 113 = .ok (.aload_n 0, 1) := dk_42 (dk_at dksX0_bestBoth_4 19 rfl rfl)
theorem dX0_bestBoth_114 : decode cX0_bestBoth 114 = .ok (.getfield 238, 3) := dk_180 0 238 (dk_at dksX0_bestBoth_4 20 rfl rfl)
theorem dX0_bestBoth_117 : decode cX0_bestBoth 117 = .ok (.lload 5, 2) := dk_22 5 (dk_at dksX0_bestBoth_5 0 rfl rfl)
theorem dX0_bestBoth_119 : decode cX0_bestBoth 119 = .ok (.lmul, 1) := dk_105 (dk_at dksX0_bestBoth_5 2 rfl rfl)
theorem dX0_bestBoth_120 : decode cX0_bestBoth 120 = .ok (.lload_n 3, 1) := dk_33 (dk_at dksX0_bestBoth_5 3 rfl rfl)
theorem dX0_bestBoth_121 : decode cX0_bestBoth 121 = .ok (.aload_n 0, 1) := dk_42 (dk_at dksX0_bestBoth_5 4 rfl rfl)
theorem dX0_bestBoth_122 : decode cX0_bestBoth 122 = .ok (.getfield 85, 3) := dk_180 0 85 (dk_at dksX0_bestBoth_5 5 rfl rfl)
theorem dX0_bestBoth_125 : decode cX0_bestBoth 125 = .ok (.getfield 229, 3) := dk_180 0 229 (dk_at dksX0_bestBoth_5 8 rfl rfl)
theorem dX0_bestBoth_128 : decode cX0_bestBoth 128 = .ok (.lmul, 1) := dk_105 (dk_at dksX0_bestBoth_5 11 rfl rfl)
theorem dX0_bestBoth_129 : decode cX0_bestBoth 129 = .ok (.lcmp, 1) := dk_148 (dk_at dksX0_bestBoth_5 12 rfl rfl)
theorem dX0_bestBoth_130 : decode cX0_bestBoth 130 = .ok (.ifCond .le 27, 3) := dk_158 0 27 (dk_at dksX0_bestBoth_5 13 rfl rfl)
theorem dX0_bestBoth_133 : decode cX0_bestBoth 133 = .ok (.sipush 256, 3) := dk_17 1 0 (dk_at dksX0_bestBoth_5 16 rfl rfl)
theorem dX0_bestBoth_136 : decode cX0_bestBoth 136 = .ok (.iload 9, 2) := dk_21 9 (dk_at dksX0_bestBoth_5 19 rfl rfl)
theorem dX0_bestBoth_138 : decode cX0_bestBoth 138 = .ok (.imul, 1) := dk_104 (dk_at dksX0_bestBoth_5 21 rfl rfl)
theorem dX0_bestBoth_139 : decode cX0_bestBoth 139 = .ok (.iload 11, 2) := dk_21 11 (dk_at dksX0_bestBoth_5 22 rfl rfl)
theorem dX0_bestBoth_141 : decode cX0_bestBoth 141 = .ok (.iadd, 1) := dk_96 (dk_at dksX0_bestBoth_6 0 rfl rfl)
theorem dX0_bestBoth_142 : decode cX0_bestBoth 142 = .ok (.istore_n 2, 1) := dk_61 (dk_at dksX0_bestBoth_6 1 rfl rfl)
theorem dX0_bestBoth_143 : decode cX0_bestBoth 143 = .ok (.aload_n 0, 1) := dk_42 (dk_at dksX0_bestBoth_6 2 rfl rfl)
theorem dX0_bestBoth_144 : decode cX0_bestBoth 144 = .ok (.getfield 238, 3) := dk_180 0 238 (dk_at dksX0_bestBoth_6 3 rfl rfl)
theorem dX0_bestBoth_147 : decode cX0_bestBoth 147 = .ok (.lstore_n 3, 1) := dk_66 (dk_at dksX0_bestBoth_6 6 rfl rfl)
theorem dX0_bestBoth_148 : decode cX0_bestBoth 148 = .ok (.aload_n 0, 1) := dk_42 (dk_at dksX0_bestBoth_6 7 rfl rfl)
theorem dX0_bestBoth_149 : decode cX0_bestBoth 149 = .ok (.getfield 85, 3) := dk_180 0 85 (dk_at dksX0_bestBoth_6 8 rfl rfl)
theorem dX0_bestBoth_152 : decode cX0_bestBoth 152 = .ok (.getfield 229, 3) := dk_180 0 229 (dk_at dksX0_bestBoth_6 11 rfl rfl)
theorem dX0_bestBoth_155 : decode cX0_bestBoth 155 = .ok (.lstore 5, 2) := dk_55 5 (dk_at dksX0_bestBoth_6 14 rfl rfl)
theorem dX0_bestBoth_157 : decode cX0_bestBoth 157 = .ok (.iinc 8 1, 3) := dk_132 8 1 (dk_at dksX0_bestBoth_6 16 rfl rfl)
theorem dX0_bestBoth_160 : decode cX0_bestBoth 160 = .ok (.goto (-125), 3) := dk_167 255 131 (dk_at dksX0_bestBoth_6 19 rfl rfl)
theorem dX0_bestBoth_163 : decode cX0_bestBoth 163 = .ok (.iload_n 2, 1) := dk_28 (dk_at dksX0_bestBoth_6 22 rfl rfl)
theorem dX0_bestBoth_164 : decode cX0_bestBoth 164 = .ok (.ireturn, 1) := dk_172 (dk_at dksX0_bestBoth_6 23 rfl rfl)
abbrev cX0_value : ByteArray := prog_1_method_42_code
def yX0_value : MethodName := ⟨RX0, "value", "(IIIII)J"⟩
def dkwX0_value_3 : List UInt8 := [184, 0, 207, 173]
abbrev dktX0_value_3 : List UInt8 := dkwX0_value_3 ++ []
def dkwX0_value_2 : List UInt8 := [167, 0, 27, 42, 27, 28, 29, 21, 4, 42, 182, 0, 199, 182, 1, 12, 42, 21, 4, 182, 1, 9, 21, 5]
abbrev dktX0_value_2 : List UInt8 := dkwX0_value_2 ++ dktX0_value_3
def dkwX0_value_1 : List UInt8 := [154, 0, 8, 16, 253, 167, 0, 5, 21, 6, 54, 6, 21, 6, 153, 0, 11, 21, 6, 184, 0, 217]
abbrev dktX0_value_1 : List UInt8 := dkwX0_value_1 ++ dktX0_value_2
def dkwX0_value_0 : List UInt8 := [42, 27, 28, 29, 21, 4, 182, 1, 31, 54, 6, 21, 6, 154, 0, 19, 21, 5, 133, 9, 10, 184, 0, 36]
abbrev dktX0_value_0 : List UInt8 := dkwX0_value_0 ++ dktX0_value_1
theorem dksX0_value_0 : cX0_value.data.toList.drop 0 = dktX0_value_0 := by decide +kernel
theorem dksX0_value_1 : cX0_value.data.toList.drop 24 = dktX0_value_1 := dk_seg dksX0_value_0 24 rfl rfl
theorem dksX0_value_2 : cX0_value.data.toList.drop 46 = dktX0_value_2 := dk_seg dksX0_value_1 22 rfl rfl
theorem dksX0_value_3 : cX0_value.data.toList.drop 70 = dktX0_value_3 := dk_seg dksX0_value_2 24 rfl rfl
theorem dX0_value_0 : decode cX0_value 0 = .ok (.aload_n 0, 1) := dk_42 (dk_at dksX0_value_0 0 rfl rfl)
theorem dX0_value_1 : decode cX0_value 1 = .ok (.iload_n 1, 1) := dk_27 (dk_at dksX0_value_0 1 rfl rfl)
theorem dX0_value_2 : decode cX0_value 2 = .ok (.iload_n 2, 1) := dk_28 (dk_at dksX0_value_0 2 rfl rfl)
theorem dX0_value_3 : decode cX0_value 3 = .ok (.iload_n 3, 1) := dk_29 (dk_at dksX0_value_0 3 rfl rfl)
theorem dX0_value_4 : decode cX0_value 4 = .ok (.iload 4, 2) := dk_21 4 (dk_at dksX0_value_0 4 rfl rfl)
theorem dX0_value_6 : decode cX0_value 6 = .ok (.invokevirtual 287, 3) := dk_182 1 31 (dk_at dksX0_value_0 6 rfl rfl)
theorem dX0_value_9 : decode cX0_value 9 = .ok (.istore 6, 2) := dk_54 6 (dk_at dksX0_value_0 9 rfl rfl)
theorem dX0_value_11 : decode cX0_value 11 = .ok (.iload 6, 2) := dk_21 6 (dk_at dksX0_value_0 11 rfl rfl)
theorem dX0_value_13 : decode cX0_value 13 = .ok (.ifCond .ne 19, 3) := dk_154 0 19 (dk_at dksX0_value_0 13 rfl rfl)
theorem dX0_value_16 : decode cX0_value 16 = .ok (.iload 5, 2) := dk_21 5 (dk_at dksX0_value_0 16 rfl rfl)
theorem dX0_value_18 : decode cX0_value 18 = .ok (.i2l, 1) := dk_133 (dk_at dksX0_value_0 18 rfl rfl)
theorem dX0_value_19 : decode cX0_value 19 = .ok (.lconst 0, 1) := dk_9 (dk_at dksX0_value_0 19 rfl rfl)
theorem dX0_value_20 : decode cX0_value 20 = .ok (.lconst 1, 1) := dk_10 (dk_at dksX0_value_0 20 rfl rfl)
theorem dX0_value_21 : decode cX0_value 21 = .ok (.invokestatic 36, 3) := dk_184 0 36 (dk_at dksX0_value_0 21 rfl rfl)
theorem dX0_value_24 : decode cX0_value 24 = .ok (.ifCond .ne 8, 3) := dk_154 0 8 (dk_at dksX0_value_1 0 rfl rfl)
theorem dX0_value_27 : decode cX0_value 27 = .ok (.bipush (-3), 2) := dk_16 253 (dk_at dksX0_value_1 3 rfl rfl)
theorem dX0_value_29 : decode cX0_value 29 = .ok (.goto 5, 3) := dk_167 0 5 (dk_at dksX0_value_1 5 rfl rfl)
theorem dX0_value_32 : decode cX0_value 32 = .ok (.iload 6, 2) := dk_21 6 (dk_at dksX0_value_1 8 rfl rfl)
theorem dX0_value_34 : decode cX0_value 34 = .ok (.istore 6, 2) := dk_54 6 (dk_at dksX0_value_1 10 rfl rfl)
theorem dX0_value_36 : decode cX0_value 36 = .ok (.iload 6, 2) := dk_21 6 (dk_at dksX0_value_1 12 rfl rfl)
theorem dX0_value_38 : decode cX0_value 38 = .ok (.ifCond .eq 11, 3) := dk_153 0 11 (dk_at dksX0_value_1 14 rfl rfl)
theorem dX0_value_41 : decode cX0_value 41 = .ok (.iload 6, 2) := dk_21 6 (dk_at dksX0_value_1 17 rfl rfl)
theorem dX0_value_43 : decode cX0_value 43 = .ok (.invokestatic 217, 3) := dk_184 0 217 (dk_at dksX0_value_1 19 rfl rfl)
theorem dX0_value_46 : decode cX0_value 46 = .ok (.goto 27, 3) := dk_167 0 27 (dk_at dksX0_value_2 0 rfl rfl)
theorem dX0_value_49 : decode cX0_value 49 = .ok (.aload_n 0, 1) := dk_42 (dk_at dksX0_value_2 3 rfl rfl)
theorem dX0_value_50 : decode cX0_value 50 = .ok (.iload_n 1, 1) := dk_27 (dk_at dksX0_value_2 4 rfl rfl)
theorem dX0_value_51 : decode cX0_value 51 = .ok (.iload_n 2, 1) := dk_28 (dk_at dksX0_value_2 5 rfl rfl)
theorem dX0_value_52 : decode cX0_value 52 = .ok (.iload_n 3, 1) := dk_29 (dk_at dksX0_value_2 6 rfl rfl)
theorem dX0_value_53 : decode cX0_value 53 = .ok (.iload 4, 2) := dk_21 4 (dk_at dksX0_value_2 7 rfl rfl)
theorem dX0_value_55 : decode cX0_value 55 = .ok (.aload_n 0, 1) := dk_42 (dk_at dksX0_value_2 9 rfl rfl)
theorem dX0_value_56 : decode cX0_value 56 = .ok (.invokevirtual 199, 3) := dk_182 0 199 (dk_at dksX0_value_2 10 rfl rfl)
theorem dX0_value_59 : decode cX0_value 59 = .ok (.invokevirtual 268, 3) := dk_182 1 12 (dk_at dksX0_value_2 13 rfl rfl)
theorem dX0_value_62 : decode cX0_value 62 = .ok (.aload_n 0, 1) := dk_42 (dk_at dksX0_value_2 16 rfl rfl)
theorem dX0_value_63 : decode cX0_value 63 = .ok (.iload 4, 2) := dk_21 4 (dk_at dksX0_value_2 17 rfl rfl)
theorem dX0_value_65 : decode cX0_value 65 = .ok (.invokevirtual 265, 3) := dk_182 1 9 (dk_at dksX0_value_2 19 rfl rfl)
theorem dX0_value_68 : decode cX0_value 68 = .ok (.iload 5, 2) := dk_21 5 (dk_at dksX0_value_2 22 rfl rfl)
theorem dX0_value_70 : decode cX0_value 70 = .ok (.invokestatic 207, 3) := dk_184 0 207 (dk_at dksX0_value_3 0 rfl rfl)
theorem dX0_value_73 : decode cX0_value 73 = .ok (.lreturn, 1) := dk_173 (dk_at dksX0_value_3 3 rfl rfl)
abbrev cX0_faultOfNow : ByteArray := prog_1_method_41_code
def yX0_faultOfNow : MethodName := ⟨RX0, "faultOfNow", "(IIII)I"⟩
def dkwX0_faultOfNow_4 : List UInt8 := [184, 0, 190, 154, 0, 8, 16, 253, 167, 0, 4, 3, 172]
abbrev dktX0_faultOfNow_4 : List UInt8 := dkwX0_faultOfNow_4 ++ []
def dkwX0_faultOfNow_3 : List UInt8 := [21, 4, 184, 1, 24, 7, 163, 0, 22, 28, 133, 9, 20, 1, 29, 184, 0, 36, 153, 0, 10, 29]
abbrev dktX0_faultOfNow_3 : List UInt8 := dkwX0_faultOfNow_3 ++ dktX0_faultOfNow_4
def dkwX0_faultOfNow_2 : List UInt8 := [4, 126, 4, 160, 0, 15, 42, 21, 5, 182, 0, 101, 154, 0, 6, 16, 254, 172, 132, 5, 1, 167, 255, 223]
abbrev dktX0_faultOfNow_2 : List UInt8 := dkwX0_faultOfNow_2 ++ dktX0_faultOfNow_3
def dkwX0_faultOfNow_1 : List UInt8 := [184, 0, 36, 154, 0, 6, 16, 253, 172, 3, 54, 5, 21, 5, 16, 6, 162, 0, 32, 21, 4, 21, 5, 122]
abbrev dktX0_faultOfNow_1 : List UInt8 := dkwX0_faultOfNow_1 ++ dktX0_faultOfNow_2
def dkwX0_faultOfNow_0 : List UInt8 := [27, 133, 9, 20, 0, 34, 184, 0, 36, 154, 0, 6, 16, 254, 172, 21, 4, 133, 9, 20, 1, 22]
abbrev dktX0_faultOfNow_0 : List UInt8 := dkwX0_faultOfNow_0 ++ dktX0_faultOfNow_1
theorem dksX0_faultOfNow_0 : cX0_faultOfNow.data.toList.drop 0 = dktX0_faultOfNow_0 := by decide +kernel
theorem dksX0_faultOfNow_1 : cX0_faultOfNow.data.toList.drop 22 = dktX0_faultOfNow_1 := dk_seg dksX0_faultOfNow_0 22 rfl rfl
theorem dksX0_faultOfNow_2 : cX0_faultOfNow.data.toList.drop 46 = dktX0_faultOfNow_2 := dk_seg dksX0_faultOfNow_1 24 rfl rfl
theorem dksX0_faultOfNow_3 : cX0_faultOfNow.data.toList.drop 70 = dktX0_faultOfNow_3 := dk_seg dksX0_faultOfNow_2 24 rfl rfl
theorem dksX0_faultOfNow_4 : cX0_faultOfNow.data.toList.drop 92 = dktX0_faultOfNow_4 := dk_seg dksX0_faultOfNow_3 22 rfl rfl
theorem dX0_faultOfNow_0 : decode cX0_faultOfNow 0 = .ok (.iload_n 1, 1) := dk_27 (dk_at dksX0_faultOfNow_0 0 rfl rfl)
theorem dX0_faultOfNow_1 : decode cX0_faultOfNow 1 = .ok (.i2l, 1) := dk_133 (dk_at dksX0_faultOfNow_0 1 rfl rfl)
theorem dX0_faultOfNow_2 : decode cX0_faultOfNow 2 = .ok (.lconst 0, 1) := dk_9 (dk_at dksX0_faultOfNow_0 2 rfl rfl)
theorem dX0_faultOfNow_3 : decode cX0_faultOfNow 3 = .ok (.ldc2_w 34, 3) := dk_20 0 34 (dk_at dksX0_faultOfNow_0 3 rfl rfl)
theorem dX0_faultOfNow_6 : decode cX0_faultOfNow 6 = .ok (.invokestatic 36, 3) := dk_184 0 36 (dk_at dksX0_faultOfNow_0 6 rfl rfl)
theorem dX0_faultOfNow_9 : decode cX0_faultOfNow 9 = .ok (.ifCond .ne 6, 3) := dk_154 0 6 (dk_at dksX0_faultOfNow_0 9 rfl rfl)
theorem dX0_faultOfNow_12 : decode cX0_faultOfNow 12 = .ok (.bipush (-2), 2) := dk_16 254 (dk_at dksX0_faultOfNow_0 12 rfl rfl)
theorem dX0_faultOfNow_14 : decode cX0_faultOfNow 14 = .ok (.ireturn, 1) := dk_172 (dk_at dksX0_faultOfNow_0 14 rfl rfl)
theorem dX0_faultOfNow_15 : decode cX0_faultOfNow 15 = .ok (.iload 4, 2) := dk_21 4 (dk_at dksX0_faultOfNow_0 15 rfl rfl)
theorem dX0_faultOfNow_17 : decode cX0_faultOfNow 17 = .ok (.i2l, 1) := dk_133 (dk_at dksX0_faultOfNow_0 17 rfl rfl)
theorem dX0_faultOfNow_18 : decode cX0_faultOfNow 18 = .ok (.lconst 0, 1) := dk_9 (dk_at dksX0_faultOfNow_0 18 rfl rfl)
theorem dX0_faultOfNow_19 : decode cX0_faultOfNow 19 = .ok (.ldc2_w 278, 3) := dk_20 1 22 (dk_at dksX0_faultOfNow_0 19 rfl rfl)
theorem dX0_faultOfNow_22 : decode cX0_faultOfNow 22 = .ok (.invokestatic 36, 3) := dk_184 0 36 (dk_at dksX0_faultOfNow_1 0 rfl rfl)
theorem dX0_faultOfNow_25 : decode cX0_faultOfNow 25 = .ok (.ifCond .ne 6, 3) := dk_154 0 6 (dk_at dksX0_faultOfNow_1 3 rfl rfl)
theorem dX0_faultOfNow_28 : decode cX0_faultOfNow 28 = .ok (.bipush (-3), 2) := dk_16 253 (dk_at dksX0_faultOfNow_1 6 rfl rfl)
theorem dX0_faultOfNow_30 : decode cX0_faultOfNow 30 = .ok (.ireturn, 1) := dk_172 (dk_at dksX0_faultOfNow_1 8 rfl rfl)
theorem dX0_faultOfNow_31 : decode cX0_faultOfNow 31 = .ok (.iconst 0, 1) := dk_3 (dk_at dksX0_faultOfNow_1 9 rfl rfl)
theorem dX0_faultOfNow_32 : decode cX0_faultOfNow 32 = .ok (.istore 5, 2) := dk_54 5 (dk_at dksX0_faultOfNow_1 10 rfl rfl)
theorem dX0_faultOfNow_34 : decode cX0_faultOfNow 34 = .ok (.iload 5, 2) := dk_21 5 (dk_at dksX0_faultOfNow_1 12 rfl rfl)
theorem dX0_faultOfNow_36 : decode cX0_faultOfNow 36 = .ok (.bipush 6, 2) := dk_16 6 (dk_at dksX0_faultOfNow_1 14 rfl rfl)
theorem dX0_faultOfNow_38 : decode cX0_faultOfNow 38 = .ok (.if_icmp .ge 32, 3) := dk_162 0 32 (dk_at dksX0_faultOfNow_1 16 rfl rfl)
theorem dX0_faultOfNow_41 : decode cX0_faultOfNow 41 = .ok (.iload 4, 2) := dk_21 4 (dk_at dksX0_faultOfNow_1 19 rfl rfl)
theorem dX0_faultOfNow_43 : decode cX0_faultOfNow 43 = .ok (.iload 5, 2) := dk_21 5 (dk_at dksX0_faultOfNow_1 21 rfl rfl)
theorem dX0_faultOfNow_45 : decode cX0_faultOfNow 45 = .ok (.ishr, 1) := dk_122 (dk_at dksX0_faultOfNow_1 23 rfl rfl)
theorem dX0_faultOfNow_46 : decode cX0_faultOfNow 46 = .ok (.iconst 1, 1) := dk_4 (dk_at dksX0_faultOfNow_2 0 rfl rfl)
theorem dX0_faultOfNow_47 : decode cX0_faultOfNow 47 = .ok (.iand, 1) := dk_126 (dk_at dksX0_faultOfNow_2 1 rfl rfl)
theorem dX0_faultOfNow_48 : decode cX0_faultOfNow 48 = .ok (.iconst 1, 1) := dk_4 (dk_at dksX0_faultOfNow_2 2 rfl rfl)
theorem dX0_faultOfNow_49 : decode cX0_faultOfNow 49 = .ok (.if_icmp .ne 15, 3) := dk_160 0 15 (dk_at dksX0_faultOfNow_2 3 rfl rfl)
theorem dX0_faultOfNow_52 : decode cX0_faultOfNow 52 = .ok (.aload_n 0, 1) := dk_42 (dk_at dksX0_faultOfNow_2 6 rfl rfl)
theorem dX0_faultOfNow_53 : decode cX0_faultOfNow 53 = .ok (.iload 5, 2) := dk_21 5 (dk_at dksX0_faultOfNow_2 7 rfl rfl)
theorem dX0_faultOfNow_55 : decode cX0_faultOfNow 55 = .ok (.invokevirtual 101, 3) := dk_182 0 101 (dk_at dksX0_faultOfNow_2 9 rfl rfl)
theorem dX0_faultOfNow_58 : decode cX0_faultOfNow 58 = .ok (.ifCond .ne 6, 3) := dk_154 0 6 (dk_at dksX0_faultOfNow_2 12 rfl rfl)
theorem dX0_faultOfNow_61 : decode cX0_faultOfNow 61 = .ok (.bipush (-2), 2) := dk_16 254 (dk_at dksX0_faultOfNow_2 15 rfl rfl)
theorem dX0_faultOfNow_63 : decode cX0_faultOfNow 63 = .ok (.ireturn, 1) := dk_172 (dk_at dksX0_faultOfNow_2 17 rfl rfl)
theorem dX0_faultOfNow_64 : decode cX0_faultOfNow 64 = .ok (.iinc 5 1, 3) := dk_132 5 1 (dk_at dksX0_faultOfNow_2 18 rfl rfl)
theorem dX0_faultOfNow_67 : decode cX0_faultOfNow 67 = .ok (.goto (-33), 3) := dk_167 255 223 (dk_at dksX0_faultOfNow_2 21 rfl rfl)
theorem dX0_faultOfNow_70 : decode cX0_faultOfNow 70 = .ok (.iload 4, 2) := dk_21 4 (dk_at dksX0_faultOfNow_3 0 rfl rfl)
theorem dX0_faultOfNow_72 : decode cX0_faultOfNow 72 = .ok (.invokestatic 280, 3) := dk_184 1 24 (dk_at dksX0_faultOfNow_3 2 rfl rfl)
theorem dX0_faultOfNow_75 : decode cX0_faultOfNow 75 = .ok (.iconst 4, 1) := dk_7 (dk_at dksX0_faultOfNow_3 5 rfl rfl)
theorem dX0_faultOfNow_76 : decode cX0_faultOfNow 76 = .ok (.if_icmp .gt 22, 3) := dk_163 0 22 (dk_at dksX0_faultOfNow_3 6 rfl rfl)
theorem dX0_faultOfNow_79 : decode cX0_faultOfNow 79 = .ok (.iload_n 2, 1) := dk_28 (dk_at dksX0_faultOfNow_3 9 rfl rfl)
theorem dX0_faultOfNow_80 : decode cX0_faultOfNow 80 = .ok (.i2l, 1) := dk_133 (dk_at dksX0_faultOfNow_3 10 rfl rfl)
theorem dX0_faultOfNow_81 : decode cX0_faultOfNow 81 = .ok (.lconst 0, 1) := dk_9 (dk_at dksX0_faultOfNow_3 11 rfl rfl)
theorem dX0_faultOfNow_82 : decode cX0_faultOfNow 82 = .ok (.ldc2_w 285, 3) := dk_20 1 29 (dk_at dksX0_faultOfNow_3 12 rfl rfl)
theorem dX0_faultOfNow_85 : decode cX0_faultOfNow 85 = .ok (.invokestatic 36, 3) := dk_184 0 36 (dk_at dksX0_faultOfNow_3 15 rfl rfl)
theorem dX0_faultOfNow_88 : decode cX0_faultOfNow 88 = .ok (.ifCond .eq 10, 3) := dk_153 0 10 (dk_at dksX0_faultOfNow_3 18 rfl rfl)
theorem dX0_faultOfNow_91 : decode cX0_faultOfNow 91 = .ok (.iload_n 3, 1) := dk_29 (dk_at dksX0_faultOfNow_3 21 rfl rfl)
theorem dX0_faultOfNow_92 : decode cX0_faultOfNow 92 = .ok (.invokestatic 190, 3) := dk_184 0 190 (dk_at dksX0_faultOfNow_4 0 rfl rfl)
theorem dX0_faultOfNow_95 : decode cX0_faultOfNow 95 = .ok (.ifCond .ne 8, 3) := dk_154 0 8 (dk_at dksX0_faultOfNow_4 3 rfl rfl)
theorem dX0_faultOfNow_98 : decode cX0_faultOfNow 98 = .ok (.bipush (-3), 2) := dk_16 253 (dk_at dksX0_faultOfNow_4 6 rfl rfl)
theorem dX0_faultOfNow_100 : decode cX0_faultOfNow 100 = .ok (.goto 4, 3) := dk_167 0 4 (dk_at dksX0_faultOfNow_4 8 rfl rfl)
theorem dX0_faultOfNow_103 : decode cX0_faultOfNow 103 = .ok (.iconst 0, 1) := dk_3 (dk_at dksX0_faultOfNow_4 11 rfl rfl)
theorem dX0_faultOfNow_104 : decode cX0_faultOfNow 104 = .ok (.ireturn, 1) := dk_172 (dk_at dksX0_faultOfNow_4 12 rfl rfl)
abbrev cX0_valueOf : ByteArray := prog_1_method_39_code
def yX0_valueOf : MethodName := ⟨RX0, "valueOf", "(IIIII)J"⟩
def dkwX0_valueOf_2 : List UInt8 := [55, 6, 132, 8, 1, 167, 255, 210, 22, 6, 173]
abbrev dktX0_valueOf_2 : List UInt8 := dkwX0_valueOf_2 ++ []
def dkwX0_valueOf_1 : List UInt8 := [22, 6, 42, 21, 8, 27, 28, 29, 21, 4, 21, 5, 182, 0, 251, 184, 0, 255, 167, 0, 5, 22, 6]
abbrev dktX0_valueOf_1 : List UInt8 := dkwX0_valueOf_1 ++ dktX0_valueOf_2
def dkwX0_valueOf_0 : List UInt8 := [9, 55, 6, 3, 54, 8, 21, 8, 16, 6, 162, 0, 45, 21, 4, 21, 8, 122, 4, 126, 4, 160, 0, 24]
abbrev dktX0_valueOf_0 : List UInt8 := dkwX0_valueOf_0 ++ dktX0_valueOf_1
theorem dksX0_valueOf_0 : cX0_valueOf.data.toList.drop 0 = dktX0_valueOf_0 := by decide +kernel
theorem dksX0_valueOf_1 : cX0_valueOf.data.toList.drop 24 = dktX0_valueOf_1 := dk_seg dksX0_valueOf_0 24 rfl rfl
theorem dksX0_valueOf_2 : cX0_valueOf.data.toList.drop 47 = dktX0_valueOf_2 := dk_seg dksX0_valueOf_1 23 rfl rfl
theorem dX0_valueOf_0 : decode cX0_valueOf 0 = .ok (.lconst 0, 1) := dk_9 (dk_at dksX0_valueOf_0 0 rfl rfl)
theorem dX0_valueOf_1 : decode cX0_valueOf 1 = .ok (.lstore 6, 2) := dk_55 6 (dk_at dksX0_valueOf_0 1 rfl rfl)
theorem dX0_valueOf_3 : decode cX0_valueOf 3 = .ok (.iconst 0, 1) := dk_3 (dk_at dksX0_valueOf_0 3 rfl rfl)
theorem dX0_valueOf_4 : decode cX0_valueOf 4 = .ok (.istore 8, 2) := dk_54 8 (dk_at dksX0_valueOf_0 4 rfl rfl)
theorem dX0_valueOf_6 : decode cX0_valueOf 6 = .ok (.iload 8, 2) := dk_21 8 (dk_at dksX0_valueOf_0 6 rfl rfl)
theorem dX0_valueOf_8 : decode cX0_valueOf 8 = .ok (.bipush 6, 2) := dk_16 6 (dk_at dksX0_valueOf_0 8 rfl rfl)
theorem dX0_valueOf_10 : decode cX0_valueOf 10 = .ok (.if_icmp .ge 45, 3) := dk_162 0 45 (dk_at dksX0_valueOf_0 10 rfl rfl)
theorem dX0_valueOf_13 : decode cX0_valueOf 13 = .ok (.iload 4, 2) := dk_21 4 (dk_at dksX0_valueOf_0 13 rfl rfl)
theorem dX0_valueOf_15 : decode cX0_valueOf 15 = .ok (.iload 8, 2) := dk_21 8 (dk_at dksX0_valueOf_0 15 rfl rfl)
theorem dX0_valueOf_17 : decode cX0_valueOf 17 = .ok (.ishr, 1) := dk_122 (dk_at dksX0_valueOf_0 17 rfl rfl)
theorem dX0_valueOf_18 : decode cX0_valueOf 18 = .ok (.iconst 1, 1) := dk_4 (dk_at dksX0_valueOf_0 18 rfl rfl)
theorem dX0_valueOf_19 : decode cX0_valueOf 19 = .ok (.iand, 1) := dk_126 (dk_at dksX0_valueOf_0 19 rfl rfl)
theorem dX0_valueOf_20 : decode cX0_valueOf 20 = .ok (.iconst 1, 1) := dk_4 (dk_at dksX0_valueOf_0 20 rfl rfl)
theorem dX0_valueOf_21 : decode cX0_valueOf 21 = .ok (.if_icmp .ne 24, 3) := dk_160 0 24 (dk_at dksX0_valueOf_0 21 rfl rfl)
theorem dX0_valueOf_24 : decode cX0_valueOf 24 = .ok (.lload 6, 2) := dk_22 6 (dk_at dksX0_valueOf_1 0 rfl rfl)
theorem dX0_valueOf_26 : decode cX0_valueOf 26 = .ok (.aload_n 0, 1) := dk_42 (dk_at dksX0_valueOf_1 2 rfl rfl)
theorem dX0_valueOf_27 : decode cX0_valueOf 27 = .ok (.iload 8, 2) := dk_21 8 (dk_at dksX0_valueOf_1 3 rfl rfl)
theorem dX0_valueOf_29 : decode cX0_valueOf 29 = .ok (.iload_n 1, 1) := dk_27 (dk_at dksX0_valueOf_1 5 rfl rfl)
theorem dX0_valueOf_30 : decode cX0_valueOf 30 = .ok (.iload_n 2, 1) := dk_28 (dk_at dksX0_valueOf_1 6 rfl rfl)
theorem dX0_valueOf_31 : decode cX0_valueOf 31 = .ok (.iload_n 3, 1) := dk_29 (dk_at dksX0_valueOf_1 7 rfl rfl)
theorem dX0_valueOf_32 : decode cX0_valueOf 32 = .ok (.iload 4, 2) := dk_21 4 (dk_at dksX0_valueOf_1 8 rfl rfl)
theorem dX0_valueOf_34 : decode cX0_valueOf 34 = .ok (.iload 5, 2) := dk_21 5 (dk_at dksX0_valueOf_1 10 rfl rfl)
theorem dX0_valueOf_36 : decode cX0_valueOf 36 = .ok (.invokevirtual 251, 3) := dk_182 0 251 (dk_at dksX0_valueOf_1 12 rfl rfl)
theorem dX0_valueOf_39 : decode cX0_valueOf 39 = .ok (.invokestatic 255, 3) := dk_184 0 255 (dk_at dksX0_valueOf_1 15 rfl rfl)
theorem dX0_valueOf_42 : decode cX0_valueOf 42 = .ok (.goto 5, 3) := dk_167 0 5 (dk_at dksX0_valueOf_1 18 rfl rfl)
theorem dX0_valueOf_45 : decode cX0_valueOf 45 = .ok (.lload 6, 2) := dk_22 6 (dk_at dksX0_valueOf_1 21 rfl rfl)
theorem dX0_valueOf_47 : decode cX0_valueOf 47 = .ok (.lstore 6, 2) := dk_55 6 (dk_at dksX0_valueOf_2 0 rfl rfl)
theorem dX0_valueOf_49 : decode cX0_valueOf 49 = .ok (.iinc 8 1, 3) := dk_132 8 1 (dk_at dksX0_valueOf_2 2 rfl rfl)
theorem dX0_valueOf_52 : decode cX0_valueOf 52 = .ok (.goto (-46), 3) := dk_167 255 210 (dk_at dksX0_valueOf_2 5 rfl rfl)
theorem dX0_valueOf_55 : decode cX0_valueOf 55 = .ok (.lload 6, 2) := dk_22 6 (dk_at dksX0_valueOf_2 8 rfl rfl)
theorem dX0_valueOf_57 : decode cX0_valueOf 57 = .ok (.lreturn, 1) := dk_173 (dk_at dksX0_valueOf_2 10 rfl rfl)
abbrev cX0_valueBy : ByteArray := prog_1_method_40_code
def yX0_valueBy : MethodName := ⟨RX0, "valueBy", "(IIIIII)J"⟩
def dkwX0_valueBy_10 : List UInt8 := [167, 255, 121, 22, 13, 173]
abbrev dktX0_valueBy_10 : List UInt8 := dkwX0_valueBy_10 ++ []
def dkwX0_valueBy_9 : List UInt8 := [133, 22, 11, 105, 101, 55, 17, 22, 13, 25, 16, 180, 0, 178, 133, 22, 17, 105, 97, 55, 13, 132, 15, 1]
abbrev dktX0_valueBy_9 : List UInt8 := dkwX0_valueBy_9 ++ dktX0_valueBy_10
def dkwX0_valueBy_8 : List UInt8 := [21, 10, 25, 7, 180, 0, 167, 8, 46, 96, 21, 4, 21, 8, 21, 6, 182, 1, 12, 25, 7, 182, 1, 16]
abbrev dktX0_valueBy_8 : List UInt8 := dkwX0_valueBy_8 ++ dktX0_valueBy_9
def dkwX0_valueBy_7 : List UInt8 := [21, 4, 21, 6, 182, 0, 202, 21, 8, 21, 6, 182, 1, 12, 97, 167, 0, 38, 42, 25, 7, 182, 1, 3]
abbrev dktX0_valueBy_7 : List UInt8 := dkwX0_valueBy_7 ++ dktX0_valueBy_8
def dkwX0_valueBy_6 : List UInt8 := [182, 1, 19, 133, 22, 11, 105, 42, 25, 7, 182, 1, 3, 21, 10, 25, 16, 180, 0, 181, 96, 25, 16]
abbrev dktX0_valueBy_6 : List UInt8 := dkwX0_valueBy_6 ++ dktX0_valueBy_7
def dkwX0_valueBy_5 : List UInt8 := [21, 15, 182, 0, 174, 192, 0, 76, 58, 16, 25, 16, 21, 4, 182, 0, 196, 153, 0, 46, 25, 7]
abbrev dktX0_valueBy_5 : List UInt8 := dkwX0_valueBy_5 ++ dktX0_valueBy_6
def dkwX0_valueBy_4 : List UInt8 := [55, 13, 3, 54, 15, 21, 15, 25, 7, 180, 0, 48, 182, 0, 163, 162, 0, 128, 25, 7, 180, 0, 48]
abbrev dktX0_valueBy_4 : List UInt8 := dkwX0_valueBy_4 ++ dktX0_valueBy_5
def dkwX0_valueBy_3 : List UInt8 := [21, 9, 21, 4, 21, 8, 21, 6, 182, 1, 12, 25, 7, 182, 1, 16, 133, 22, 11, 105, 101, 105, 173, 9]
abbrev dktX0_valueBy_3 : List UInt8 := dkwX0_valueBy_3 ++ dktX0_valueBy_4
def dkwX0_valueBy_2 : List UInt8 := [182, 1, 9, 55, 11, 21, 10, 2, 160, 0, 38, 25, 7, 180, 0, 206, 133, 42, 25, 7, 182, 1, 3]
abbrev dktX0_valueBy_2 : List UInt8 := dkwX0_valueBy_2 ++ dktX0_valueBy_3
def dkwX0_valueBy_1 : List UInt8 := [50, 25, 7, 182, 1, 3, 53, 96, 54, 9, 25, 7, 21, 9, 182, 1, 6, 54, 10, 42, 21, 8]
abbrev dktX0_valueBy_1 : List UInt8 := dkwX0_valueBy_1 ++ dktX0_valueBy_2
def dkwX0_valueBy_0 : List UInt8 := [42, 180, 0, 40, 27, 50, 58, 7, 21, 5, 4, 27, 120, 2, 130, 126, 54, 8, 29, 42, 180, 0, 69, 28]
abbrev dktX0_valueBy_0 : List UInt8 := dkwX0_valueBy_0 ++ dktX0_valueBy_1
theorem dksX0_valueBy_0 : cX0_valueBy.data.toList.drop 0 = dktX0_valueBy_0 := by decide +kernel
theorem dksX0_valueBy_1 : cX0_valueBy.data.toList.drop 24 = dktX0_valueBy_1 := dk_seg dksX0_valueBy_0 24 rfl rfl
theorem dksX0_valueBy_2 : cX0_valueBy.data.toList.drop 46 = dktX0_valueBy_2 := dk_seg dksX0_valueBy_1 22 rfl rfl
theorem dksX0_valueBy_3 : cX0_valueBy.data.toList.drop 69 = dktX0_valueBy_3 := dk_seg dksX0_valueBy_2 23 rfl rfl
theorem dksX0_valueBy_4 : cX0_valueBy.data.toList.drop 93 = dktX0_valueBy_4 := dk_seg dksX0_valueBy_3 24 rfl rfl
theorem dksX0_valueBy_5 : cX0_valueBy.data.toList.drop 116 = dktX0_valueBy_5 := dk_seg dksX0_valueBy_4 23 rfl rfl
theorem dksX0_valueBy_6 : cX0_valueBy.data.toList.drop 138 = dktX0_valueBy_6 := dk_seg dksX0_valueBy_5 22 rfl rfl
theorem dksX0_valueBy_7 : cX0_valueBy.data.toList.drop 161 = dktX0_valueBy_7 := dk_seg dksX0_valueBy_6 23 rfl rfl
theorem dksX0_valueBy_8 : cX0_valueBy.data.toList.drop 185 = dktX0_valueBy_8 := dk_seg dksX0_valueBy_7 24 rfl rfl
theorem dksX0_valueBy_9 : cX0_valueBy.data.toList.drop 209 = dktX0_valueBy_9 := dk_seg dksX0_valueBy_8 24 rfl rfl
theorem dksX0_valueBy_10 : cX0_valueBy.data.toList.drop 233 = dktX0_valueBy_10 := dk_seg dksX0_valueBy_9 24 rfl rfl
theorem dX0_valueBy_0 : decode cX0_valueBy 0 = .ok (.aload_n 0, 1) := dk_42 (dk_at dksX0_valueBy_0 0 rfl rfl)
theorem dX0_valueBy_1 : decode cX0_valueBy 1 = .ok (.getfield 40, 3) := dk_180 0 40 (dk_at dksX0_valueBy_0 1 rfl rfl)
theorem dX0_valueBy_4 : decode cX0_valueBy 4 = .ok (.iload_n 1, 1) := dk_27 (dk_at dksX0_valueBy_0 4 rfl rfl)
theorem dX0_valueBy_5 : decode cX0_valueBy 5 = .ok (.aaload, 1) := dk_50 (dk_at dksX0_valueBy_0 5 rfl rfl)
theorem dX0_valueBy_6 : decode cX0_valueBy 6 = .ok (.astore 7, 2) := dk_58 7 (dk_at dksX0_valueBy_0 6 rfl rfl)
theorem dX0_valueBy_8 : decode cX0_valueBy 8 = .ok (.iload 5, 2) := dk_21 5 (dk_at dksX0_valueBy_0 8 rfl rfl)
theorem dX0_valueBy_10 : decode cX0_valueBy 10 = .ok (.iconst 1, 1) := dk_4 (dk_at dksX0_valueBy_0 10 rfl rfl)
theorem dX0_valueBy_11 : decode cX0_valueBy 11 = .ok (.iload_n 1, 1) := dk_27 (dk_at dksX0_valueBy_0 11 rfl rfl)
theorem dX0_valueBy_12 : decode cX0_valueBy 12 = .ok (.ishl, 1) := dk_120 (dk_at dksX0_valueBy_0 12 rfl rfl)
theorem dX0_valueBy_13 : decode cX0_valueBy 13 = .ok (.iconst (-1), 1) := dk_2 (dk_at dksX0_valueBy_0 13 rfl rfl)
theorem dX0_valueBy_14 : decode cX0_valueBy 14 = .ok (.ixor, 1) := dk_130 (dk_at dksX0_valueBy_0 14 rfl rfl)
theorem dX0_valueBy_15 : decode cX0_valueBy 15 = .ok (.iand, 1) := dk_126 (dk_at dksX0_valueBy_0 15 rfl rfl)
theorem dX0_valueBy_16 : decode cX0_valueBy 16 = .ok (.istore 8, 2) := dk_54 8 (dk_at dksX0_valueBy_0 16 rfl rfl)
theorem dX0_valueBy_18 : decode cX0_valueBy 18 = .ok (.iload_n 3, 1) := dk_29 (dk_at dksX0_valueBy_0 18 rfl rfl)
theorem dX0_valueBy_19 : decode cX0_valueBy 19 = .ok (.aload_n 0, 1) := dk_42 (dk_at dksX0_valueBy_0 19 rfl rfl)
theorem dX0_valueBy_20 : decode cX0_valueBy 20 = .ok (.getfield 69, 3) := dk_180 0 69 (dk_at dksX0_valueBy_0 20 rfl rfl)
theorem dX0_valueBy_23 : decode cX0_valueBy 23 = .ok (.iload_n 2, 1) := dk_28 (dk_at dksX0_valueBy_0 23 rfl rfl)
theorem dX0_valueBy_24 : decode cX0_valueBy 24 = .ok (.aaload, 1) := dk_50 (dk_at dksX0_valueBy_1 0 rfl rfl)
theorem dX0_valueBy_25 : decode cX0_valueBy 25 = .ok (.aload 7, 2) := dk_25 7 (dk_at dksX0_valueBy_1 1 rfl rfl)
theorem dX0_valueBy_27 : decode cX0_valueBy 27 = .ok (.invokevirtual 259, 3) := dk_182 1 3 (dk_at dksX0_valueBy_1 3 rfl rfl)
theorem dX0_valueBy_30 : decode cX0_valueBy 30 = .ok (.saload, 1) := dk_53 (dk_at dksX0_valueBy_1 6 rfl rfl)
theorem dX0_valueBy_31 : decode cX0_valueBy 31 = .ok (.iadd, 1) := dk_96 (dk_at dksX0_valueBy_1 7 rfl rfl)
theorem dX0_valueBy_32 : decode cX0_valueBy 32 = .ok (.istore 9, 2) := dk_54 9 (dk_at dksX0_valueBy_1 8 rfl rfl)
theorem dX0_valueBy_34 : decode cX0_valueBy 34 = .ok (.aload 7, 2) := dk_25 7 (dk_at dksX0_valueBy_1 10 rfl rfl)
theorem dX0_valueBy_36 : decode cX0_valueBy 36 = .ok (.iload 9, 2) := dk_21 9 (dk_at dksX0_valueBy_1 12 rfl rfl)
theorem dX0_valueBy_38 : decode cX0_valueBy 38 = .ok (.invokevirtual 262, 3) := dk_182 1 6 (dk_at dksX0_valueBy_1 14 rfl rfl)
theorem dX0_valueBy_41 : decode cX0_valueBy 41 = .ok (.istore 10, 2) := dk_54 10 (dk_at dksX0_valueBy_1 17 rfl rfl)
theorem dX0_valueBy_43 : decode cX0_valueBy 43 = .ok (.aload_n 0, 1) := dk_42 (dk_at dksX0_valueBy_1 19 rfl rfl)
theorem dX0_valueBy_44 : decode cX0_valueBy 44 = .ok (.iload 8, 2) := dk_21 8 (dk_at dksX0_valueBy_1 20 rfl rfl)
theorem dX0_valueBy_46 : decode cX0_valueBy 46 = .ok (.invokevirtual 265, 3) := dk_182 1 9 (dk_at dksX0_valueBy_2 0 rfl rfl)
theorem dX0_valueBy_49 : decode cX0_valueBy 49 = .ok (.lstore 11, 2) := dk_55 11 (dk_at dksX0_valueBy_2 3 rfl rfl)
theorem dX0_valueBy_51 : decode cX0_valueBy 51 = .ok (.iload 10, 2) := dk_21 10 (dk_at dksX0_valueBy_2 5 rfl rfl)
theorem dX0_valueBy_53 : decode cX0_valueBy 53 = .ok (.iconst (-1), 1) := dk_2 (dk_at dksX0_valueBy_2 7 rfl rfl)
theorem dX0_valueBy_54 : decode cX0_valueBy 54 = .ok (.if_icmp .ne 38, 3) := dk_160 0 38 (dk_at dksX0_valueBy_2 8 rfl rfl)
theorem dX0_valueBy_57 : decode cX0_valueBy 57 = .ok (.aload 7, 2) := dk_25 7 (dk_at dksX0_valueBy_2 11 rfl rfl)
theorem dX0_valueBy_59 : decode cX0_valueBy 59 = .ok (.getfield 206, 3) := dk_180 0 206 (dk_at dksX0_valueBy_2 13 rfl rfl)
theorem dX0_valueBy_62 : decode cX0_valueBy 62 = .ok (.i2l, 1) := dk_133 (dk_at dksX0_valueBy_2 16 rfl rfl)
theorem dX0_valueBy_63 : decode cX0_valueBy 63 = .ok (.aload_n 0, 1) := dk_42 (dk_at dksX0_valueBy_2 17 rfl rfl)
theorem dX0_valueBy_64 : decode cX0_valueBy 64 = .ok (.aload 7, 2) := dk_25 7 (dk_at dksX0_valueBy_2 18 rfl rfl)
theorem dX0_valueBy_66 : decode cX0_valueBy 66 = .ok (.invokevirtual 259, 3) := dk_182 1 3 (dk_at dksX0_valueBy_2 20 rfl rfl)
theorem dX0_valueBy_69 : decode cX0_valueBy 69 = .ok (.iload 9, 2) := dk_21 9 (dk_at dksX0_valueBy_3 0 rfl rfl)
theorem dX0_valueBy_71 : decode cX0_valueBy 71 = .ok (.iload 4, 2) := dk_21 4 (dk_at dksX0_valueBy_3 2 rfl rfl)
theorem dX0_valueBy_73 : decode cX0_valueBy 73 = .ok (.iload 8, 2) := dk_21 8 (dk_at dksX0_valueBy_3 4 rfl rfl)
theorem dX0_valueBy_75 : decode cX0_valueBy 75 = .ok (.iload 6, 2) := dk_21 6 (dk_at dksX0_valueBy_3 6 rfl rfl)
theorem dX0_valueBy_77 : decode cX0_valueBy 77 = .ok (.invokevirtual 268, 3) := dk_182 1 12 (dk_at dksX0_valueBy_3 8 rfl rfl)
theorem dX0_valueBy_80 : decode cX0_valueBy 80 = .ok (.aload 7, 2) := dk_25 7 (dk_at dksX0_valueBy_3 11 rfl rfl)
theorem dX0_valueBy_82 : decode cX0_valueBy 82 = .ok (.invokevirtual 272, 3) := dk_182 1 16 (dk_at dksX0_valueBy_3 13 rfl rfl)
theorem dX0_valueBy_85 : decode cX0_valueBy 85 = .ok (.i2l, 1) := dk_133 (dk_at dksX0_valueBy_3 16 rfl rfl)
theorem dX0_valueBy_86 : decode cX0_valueBy 86 = .ok (.lload 11, 2) := dk_22 11 (dk_at dksX0_valueBy_3 17 rfl rfl)
theorem dX0_valueBy_88 : decode cX0_valueBy 88 = .ok (.lmul, 1) := dk_105 (dk_at dksX0_valueBy_3 19 rfl rfl)
theorem dX0_valueBy_89 : decode cX0_valueBy 89 = .ok (.lsub, 1) := dk_101 (dk_at dksX0_valueBy_3 20 rfl rfl)
theorem dX0_valueBy_90 : decode cX0_valueBy 90 = .ok (.lmul, 1) := dk_105 (dk_at dksX0_valueBy_3 21 rfl rfl)
theorem dX0_valueBy_91 : decode cX0_valueBy 91 = .ok (.lreturn, 1) := dk_173 (dk_at dksX0_valueBy_3 22 rfl rfl)
theorem dX0_valueBy_92 : decode cX0_valueBy 92 = .ok (.lconst 0, 1) := dk_9 (dk_at dksX0_valueBy_3 23 rfl rfl)
theorem dX0_valueBy_93 : decode cX0_valueBy 93 = .ok (.lstore 13, 2) := dk_55 13 (dk_at dksX0_valueBy_4 0 rfl rfl)
theorem dX0_valueBy_95 : decode cX0_valueBy 95 = .ok (.iconst 0, 1) := dk_3 (dk_at dksX0_valueBy_4 2 rfl rfl)
theorem dX0_valueBy_96 : decode cX0_valueBy 96 = .ok (.istore 15, 2) := dk_54 15 (dk_at dksX0_valueBy_4 3 rfl rfl)
theorem dX0_valueBy_98 : decode cX0_valueBy 98 = .ok (.iload 15, 2) := dk_21 15 (dk_at dksX0_valueBy_4 5 rfl rfl)
theorem dX0_valueBy_100 : decode cX0_valueBy 100 = .ok (.aload 7, 2) := dk_25 7 (dk_at dksX0_valueBy_4 7 rfl rfl)
theorem dX0_valueBy_102 : decode cX0_valueBy 102 = .ok (.getfield 48, 3) := dk_180 0 48 (dk_at dksX0_valueBy_4 9 rfl rfl)
theorem dX0_valueBy_105 : decode cX0_valueBy 105 = .ok (.invokevirtual 163, 3) := dk_182 0 163 (dk_at dksX0_valueBy_4 12 rfl rfl)
theorem dX0_valueBy_108 : decode cX0_valueBy 108 = .ok (.if_icmp .ge 128, 3) := dk_162 0 128 (dk_at dksX0_valueBy_4 15 rfl rfl)
theorem dX0_valueBy_111 : decode cX0_valueBy 111 = .ok (.aload 7, 2) := dk_25 7 (dk_at dksX0_valueBy_4 18 rfl rfl)
theorem dX0_valueBy_113 : decode cX0_valueBy 113 = .ok (.getfield 48, 3) := dk_180 0 48 (dk_at dksX0_valueBy_4 20 rfl rfl)
theorem dX0_valueBy_116 : decode cX0_valueBy 116 = .ok (.iload 15, 2) := dk_21 15 (dk_at dksX0_valueBy_5 0 rfl rfl)
theorem dX0_valueBy_118 : decode cX0_valueBy 118 = .ok (.invokevirtual 174, 3) := dk_182 0 174 (dk_at dksX0_valueBy_5 2 rfl rfl)
theorem dX0_valueBy_121 : decode cX0_valueBy 121 = .ok (.checkcast 76, 3) := dk_192 0 76 (dk_at dksX0_valueBy_5 5 rfl rfl)
theorem dX0_valueBy_124 : decode cX0_valueBy 124 = .ok (.astore 16, 2) := dk_58 16 (dk_at dksX0_valueBy_5 8 rfl rfl)
theorem dX0_valueBy_126 : decode cX0_valueBy 126 = .ok (.aload 16, 2) := dk_25 16 (dk_at dksX0_valueBy_5 10 rfl rfl)
theorem dX0_valueBy_128 : decode cX0_valueBy 128 = .ok (.iload 4, 2) := dk_21 4 (dk_at dksX0_valueBy_5 12 rfl rfl)
theorem dX0_valueBy_130 : decode cX0_valueBy 130 = .ok (.invokevirtual 196, 3) := dk_182 0 196 (dk_at dksX0_valueBy_5 14 rfl rfl)
theorem dX0_valueBy_133 : decode cX0_valueBy 133 = .ok (.ifCond .eq 46, 3) := dk_153 0 46 (dk_at dksX0_valueBy_5 17 rfl rfl)
theorem dX0_valueBy_136 : decode cX0_valueBy 136 = .ok (.aload 7, 2) := dk_25 7 (dk_at dksX0_valueBy_5 20 rfl rfl)
theorem dX0_valueBy_138 : decode cX0_valueBy 138 = .ok (.invokevirtual 275, 3) := dk_182 1 19 (dk_at dksX0_valueBy_6 0 rfl rfl)
theorem dX0_valueBy_141 : decode cX0_valueBy 141 = .ok (.i2l, 1) := dk_133 (dk_at dksX0_valueBy_6 3 rfl rfl)
theorem dX0_valueBy_142 : decode cX0_valueBy 142 = .ok (.lload 11, 2) := dk_22 11 (dk_at dksX0_valueBy_6 4 rfl rfl)
theorem dX0_valueBy_144 : decode cX0_valueBy 144 = .ok (.lmul, 1) := dk_105 (dk_at dksX0_valueBy_6 6 rfl rfl)
theorem dX0_valueBy_145 : decode cX0_valueBy 145 = .ok (.aload_n 0, 1) := dk_42 (dk_at dksX0_valueBy_6 7 rfl rfl)
theorem dX0_valueBy_146 : decode cX0_valueBy 146 = .ok (.aload 7, 2) := dk_25 7 (dk_at dksX0_valueBy_6 8 rfl rfl)
theorem dX0_valueBy_148 : decode cX0_valueBy 148 = .ok (.invokevirtual 259, 3) := dk_182 1 3 (dk_at dksX0_valueBy_6 10 rfl rfl)
theorem dX0_valueBy_151 : decode cX0_valueBy 151 = .ok (.iload 10, 2) := dk_21 10 (dk_at dksX0_valueBy_6 13 rfl rfl)
theorem dX0_valueBy_153 : decode cX0_valueBy 153 = .ok (.aload 16, 2) := dk_25 16 (dk_at dksX0_valueBy_6 15 rfl rfl)
theorem dX0_valueBy_155 : decode cX0_valueBy 155 = .ok (.getfield 181, 3) := dk_180 0 181 (dk_at dksX0_valueBy_6 17 rfl rfl)
theorem dX0_valueBy_158 : decode cX0_valueBy 158 = .ok (.iadd, 1) := dk_96 (dk_at dksX0_valueBy_6 20 rfl rfl)
theorem dX0_valueBy_159 : decode cX0_valueBy 159 = .ok (.aload 16, 2) := dk_25 16 (dk_at dksX0_valueBy_6 21 rfl rfl)
theorem dX0_valueBy_161 : decode cX0_valueBy 161 = .ok (.iload 4, 2) := dk_21 4 (dk_at dksX0_valueBy_7 0 rfl rfl)
theorem dX0_valueBy_163 : decode cX0_valueBy 163 = .ok (.iload 6, 2) := dk_21 6 (dk_at dksX0_valueBy_7 2 rfl rfl)
theorem dX0_valueBy_165 : decode cX0_valueBy 165 = .ok (.invokevirtual 202, 3) := dk_182 0 202 (dk_at dksX0_valueBy_7 4 rfl rfl)
theorem dX0_valueBy_168 : decode cX0_valueBy 168 = .ok (.iload 8, 2) := dk_21 8 (dk_at dksX0_valueBy_7 7 rfl rfl)
theorem dX0_valueBy_170 : decode cX0_valueBy 170 = .ok (.iload 6, 2) := dk_21 6 (dk_at dksX0_valueBy_7 9 rfl rfl)
theorem dX0_valueBy_172 : decode cX0_valueBy 172 = .ok (.invokevirtual 268, 3) := dk_182 1 12 (dk_at dksX0_valueBy_7 11 rfl rfl)
theorem dX0_valueBy_175 : decode cX0_valueBy 175 = .ok (.ladd, 1) := dk_97 (dk_at dksX0_valueBy_7 14 rfl rfl)
theorem dX0_valueBy_176 : decode cX0_valueBy 176 = .ok (.goto 38, 3) := dk_167 0 38 (dk_at dksX0_valueBy_7 15 rfl rfl)
theorem dX0_valueBy_179 : decode cX0_valueBy 179 = .ok (.aload_n 0, 1) := dk_42 (dk_at dksX0_valueBy_7 18 rfl rfl)
theorem dX0_valueBy_180 : decode cX0_valueBy 180 = .ok (.aload 7, 2) := dk_25 7 (dk_at dksX0_valueBy_7 19 rfl rfl)
theorem dX0_valueBy_182 : decode cX0_valueBy 182 = .ok (.invokevirtual 259, 3) := dk_182 1 3 (dk_at dksX0_valueBy_7 21 rfl rfl)
theorem dX0_valueBy_185 : decode cX0_valueBy 185 = .ok (.iload 10, 2) := dk_21 10 (dk_at dksX0_valueBy_8 0 rfl rfl)
theorem dX0_valueBy_187 : decode cX0_valueBy 187 = .ok (.aload 7, 2) := dk_25 7 (dk_at dksX0_valueBy_8 2 rfl rfl)
theorem dX0_valueBy_189 : decode cX0_valueBy 189 = .ok (.getfield 167, 3) := dk_180 0 167 (dk_at dksX0_valueBy_8 4 rfl rfl)
theorem dX0_valueBy_192 : decode cX0_valueBy 192 = .ok (.iconst 5, 1) := dk_8 (dk_at dksX0_valueBy_8 7 rfl rfl)
theorem dX0_valueBy_193 : decode cX0_valueBy 193 = .ok (.iaload, 1) := dk_46 (dk_at dksX0_valueBy_8 8 rfl rfl)
theorem dX0_valueBy_194 : decode cX0_valueBy 194 = .ok (.iadd, 1) := dk_96 (dk_at dksX0_valueBy_8 9 rfl rfl)
theorem dX0_valueBy_195 : decode cX0_valueBy 195 = .ok (.iload 4, 2) := dk_21 4 (dk_at dksX0_valueBy_8 10 rfl rfl)
theorem dX0_valueBy_197 : decode cX0_valueBy 197 = .ok (.iload 8, 2) := dk_21 8 (dk_at dksX0_valueBy_8 12 rfl rfl)
theorem dX0_valueBy_199 : decode cX0_valueBy 199 = .ok (.iload 6, 2) := dk_21 6 (dk_at dksX0_valueBy_8 14 rfl rfl)
theorem dX0_valueBy_201 : decode cX0_valueBy 201 = .ok (.invokevirtual 268, 3) := dk_182 1 12 (dk_at dksX0_valueBy_8 16 rfl rfl)
theorem dX0_valueBy_204 : decode cX0_valueBy 204 = .ok (.aload 7, 2) := dk_25 7 (dk_at dksX0_valueBy_8 19 rfl rfl)
theorem dX0_valueBy_206 : decode cX0_valueBy 206 = .ok (.invokevirtual 272, 3) := dk_182 1 16 (dk_at dksX0_valueBy_8 21 rfl rfl)
theorem dX0_valueBy_209 : decode cX0_valueBy 209 = .ok (.i2l, 1) := dk_133 (dk_at dksX0_valueBy_9 0 rfl rfl)
theorem dX0_valueBy_210 : decode cX0_valueBy 210 = .ok (.lload 11, 2) := dk_22 11 (dk_at dksX0_valueBy_9 1 rfl rfl)
theorem dX0_valueBy_212 : decode cX0_valueBy 212 = .ok (.lmul, 1) := dk_105 (dk_at dksX0_valueBy_9 3 rfl rfl)
theorem dX0_valueBy_213 : decode cX0_valueBy 213 = .ok (.lsub, 1) := dk_101 (dk_at dksX0_valueBy_9 4 rfl rfl)
theorem dX0_valueBy_214 : decode cX0_valueBy 214 = .ok (.lstore 17, 2) := dk_55 17 (dk_at dksX0_valueBy_9 5 rfl rfl)
theorem dX0_valueBy_216 : decode cX0_valueBy 216 = .ok (.lload 13, 2) := dk_22 13 (dk_at dksX0_valueBy_9 7 rfl rfl)
theorem dX0_valueBy_218 : decode cX0_valueBy 218 = .ok (.aload 16, 2) := dk_25 16 (dk_at dksX0_valueBy_9 9 rfl rfl)
theorem dX0_valueBy_220 : decode cX0_valueBy 220 = .ok (.getfield 178, 3) := dk_180 0 178 (dk_at dksX0_valueBy_9 11 rfl rfl)
theorem dX0_valueBy_223 : decode cX0_valueBy 223 = .ok (.i2l, 1) := dk_133 (dk_at dksX0_valueBy_9 14 rfl rfl)
theorem dX0_valueBy_224 : decode cX0_valueBy 224 = .ok (.lload 17, 2) := dk_22 17 (dk_at dksX0_valueBy_9 15 rfl rfl)
theorem dX0_valueBy_226 : decode cX0_valueBy 226 = .ok (.lmul, 1) := dk_105 (dk_at dksX0_valueBy_9 17 rfl rfl)
theorem dX0_valueBy_227 : decode cX0_valueBy 227 = .ok (.ladd, 1) := dk_97 (dk_at dksX0_valueBy_9 18 rfl rfl)
theorem dX0_valueBy_228 : decode cX0_valueBy 228 = .ok (.lstore 13, 2) := dk_55 13 (dk_at dksX0_valueBy_9 19 rfl rfl)
theorem dX0_valueBy_230 : decode cX0_valueBy 230 = .ok (.iinc 15 1, 3) := dk_132 15 1 (dk_at dksX0_valueBy_9 21 rfl rfl)
theorem dX0_valueBy_233 : decode cX0_valueBy 233 = .ok (.goto (-135), 3) := dk_167 255 121 (dk_at dksX0_valueBy_10 0 rfl rfl)
theorem dX0_valueBy_236 : decode cX0_valueBy 236 = .ok (.lload 13, 2) := dk_22 13 (dk_at dksX0_valueBy_10 3 rfl rfl)
theorem dX0_valueBy_238 : decode cX0_valueBy 238 = .ok (.lreturn, 1) := dk_173 (dk_at dksX0_valueBy_10 5 rfl rfl)
abbrev cX0_productOf : ByteArray := prog_1_method_38_code
def yX0_productOf : MethodName := ⟨RX0, "productOf", "(I)J"⟩
def dkwX0_productOf_1 : List UInt8 := [180, 0, 40, 21, 4, 50, 180, 0, 206, 133, 167, 0, 4, 10, 105, 65, 132, 4, 1, 167, 255, 218, 32, 173]
abbrev dktX0_productOf_1 : List UInt8 := dkwX0_productOf_1 ++ []
def dkwX0_productOf_0 : List UInt8 := [10, 65, 3, 54, 4, 21, 4, 16, 6, 162, 0, 37, 32, 27, 21, 4, 122, 4, 126, 4, 160, 0, 17, 42]
abbrev dktX0_productOf_0 : List UInt8 := dkwX0_productOf_0 ++ dktX0_productOf_1
theorem dksX0_productOf_0 : cX0_productOf.data.toList.drop 0 = dktX0_productOf_0 := by decide +kernel
theorem dksX0_productOf_1 : cX0_productOf.data.toList.drop 24 = dktX0_productOf_1 := dk_seg dksX0_productOf_0 24 rfl rfl
theorem dX0_productOf_0 : decode cX0_productOf 0 = .ok (.lconst 1, 1) := dk_10 (dk_at dksX0_productOf_0 0 rfl rfl)
theorem dX0_productOf_1 : decode cX0_productOf 1 = .ok (.lstore_n 2, 1) := dk_65 (dk_at dksX0_productOf_0 1 rfl rfl)
theorem dX0_productOf_2 : decode cX0_productOf 2 = .ok (.iconst 0, 1) := dk_3 (dk_at dksX0_productOf_0 2 rfl rfl)
theorem dX0_productOf_3 : decode cX0_productOf 3 = .ok (.istore 4, 2) := dk_54 4 (dk_at dksX0_productOf_0 3 rfl rfl)
theorem dX0_productOf_5 : decode cX0_productOf 5 = .ok (.iload 4, 2) := dk_21 4 (dk_at dksX0_productOf_0 5 rfl rfl)
theorem dX0_productOf_7 : decode cX0_productOf 7 = .ok (.bipush 6, 2) := dk_16 6 (dk_at dksX0_productOf_0 7 rfl rfl)
theorem dX0_productOf_9 : decode cX0_productOf 9 = .ok (.if_icmp .ge 37, 3) := dk_162 0 37 (dk_at dksX0_productOf_0 9 rfl rfl)
theorem dX0_productOf_12 : decode cX0_productOf 12 = .ok (.lload_n 2, 1) := dk_32 (dk_at dksX0_productOf_0 12 rfl rfl)
theorem dX0_productOf_13 : decode cX0_productOf 13 = .ok (.iload_n 1, 1) := dk_27 (dk_at dksX0_productOf_0 13 rfl rfl)
theorem dX0_productOf_14 : decode cX0_productOf 14 = .ok (.iload 4, 2) := dk_21 4 (dk_at dksX0_productOf_0 14 rfl rfl)
theorem dX0_productOf_16 : decode cX0_productOf 16 = .ok (.ishr, 1) := dk_122 (dk_at dksX0_productOf_0 16 rfl rfl)
theorem dX0_productOf_17 : decode cX0_productOf 17 = .ok (.iconst 1, 1) := dk_4 (dk_at dksX0_productOf_0 17 rfl rfl)
theorem dX0_productOf_18 : decode cX0_productOf 18 = .ok (.iand, 1) := dk_126 (dk_at dksX0_productOf_0 18 rfl rfl)
theorem dX0_productOf_19 : decode cX0_productOf 19 = .ok (.iconst 1, 1) := dk_4 (dk_at dksX0_productOf_0 19 rfl rfl)
theorem dX0_productOf_20 : decode cX0_productOf 20 = .ok (.if_icmp .ne 17, 3) := dk_160 0 17 (dk_at dksX0_productOf_0 20 rfl rfl)
theorem dX0_productOf_23 : decode cX0_productOf 23 = .ok (.aload_n 0, 1) := dk_42 (dk_at dksX0_productOf_0 23 rfl rfl)
theorem dX0_productOf_24 : decode cX0_productOf 24 = .ok (.getfield 40, 3) := dk_180 0 40 (dk_at dksX0_productOf_1 0 rfl rfl)
theorem dX0_productOf_27 : decode cX0_productOf 27 = .ok (.iload 4, 2) := dk_21 4 (dk_at dksX0_productOf_1 3 rfl rfl)
theorem dX0_productOf_29 : decode cX0_productOf 29 = .ok (.aaload, 1) := dk_50 (dk_at dksX0_productOf_1 5 rfl rfl)
theorem dX0_productOf_30 : decode cX0_productOf 30 = .ok (.getfield 206, 3) := dk_180 0 206 (dk_at dksX0_productOf_1 6 rfl rfl)
theorem dX0_productOf_33 : decode cX0_productOf 33 = .ok (.i2l, 1) := dk_133 (dk_at dksX0_productOf_1 9 rfl rfl)
theorem dX0_productOf_34 : decode cX0_productOf 34 = .ok (.goto 4, 3) := dk_167 0 4 (dk_at dksX0_productOf_1 10 rfl rfl)
theorem dX0_productOf_37 : decode cX0_productOf 37 = .ok (.lconst 1, 1) := dk_10 (dk_at dksX0_productOf_1 13 rfl rfl)
theorem dX0_productOf_38 : decode cX0_productOf 38 = .ok (.lmul, 1) := dk_105 (dk_at dksX0_productOf_1 14 rfl rfl)
theorem dX0_productOf_39 : decode cX0_productOf 39 = .ok (.lstore_n 2, 1) := dk_65 (dk_at dksX0_productOf_1 15 rfl rfl)
theorem dX0_productOf_40 : decode cX0_productOf 40 = .ok (.iinc 4 1, 3) := dk_132 4 1 (dk_at dksX0_productOf_1 16 rfl rfl)
theorem dX0_productOf_43 : decode cX0_productOf 43 = .ok (.goto (-38), 3) := dk_167 255 218 (dk_at dksX0_productOf_1 19 rfl rfl)
theorem dX0_productOf_46 : decode cX0_productOf 46 = .ok (.lload_n 2, 1) := dk_32 (dk_at dksX0_productOf_1 22 rfl rfl)
theorem dX0_productOf_47 : decode cX0_productOf 47 = .ok (.lreturn, 1) := dk_173 (dk_at dksX0_productOf_1 23 rfl rfl)
abbrev cX0_next : ByteArray := prog_1_method_43_code
def yX0_next : MethodName := ⟨RX0, "next", "(IIII)I"⟩
def dkwX0_next_3 : List UInt8 := [182, 0, 199, 182, 0, 251, 22, 6, 148, 154, 0, 6, 21, 8, 172, 132, 8, 1, 167, 255, 204, 2, 172]
abbrev dktX0_next_3 : List UInt8 := dkwX0_next_3 ++ []
def dkwX0_next_2 : List UInt8 := [148, 158, 0, 44, 21, 4, 21, 8, 122, 4, 126, 4, 160, 0, 27, 42, 21, 8, 27, 28, 29, 21, 4, 42]
abbrev dktX0_next_2 : List UInt8 := dkwX0_next_2 ++ dktX0_next_3
def dkwX0_next_1 : List UInt8 := [21, 4, 42, 182, 0, 199, 182, 1, 12, 55, 6, 3, 54, 8, 21, 8, 16, 6, 162, 0, 51, 22, 6, 9]
abbrev dktX0_next_1 : List UInt8 := dkwX0_next_1 ++ dktX0_next_2
def dkwX0_next_0 : List UInt8 := [42, 27, 28, 29, 21, 4, 182, 1, 31, 54, 5, 21, 5, 153, 0, 6, 21, 5, 172, 42, 27, 28, 29]
abbrev dktX0_next_0 : List UInt8 := dkwX0_next_0 ++ dktX0_next_1
theorem dksX0_next_0 : cX0_next.data.toList.drop 0 = dktX0_next_0 := by decide +kernel
theorem dksX0_next_1 : cX0_next.data.toList.drop 23 = dktX0_next_1 := dk_seg dksX0_next_0 23 rfl rfl
theorem dksX0_next_2 : cX0_next.data.toList.drop 47 = dktX0_next_2 := dk_seg dksX0_next_1 24 rfl rfl
theorem dksX0_next_3 : cX0_next.data.toList.drop 71 = dktX0_next_3 := dk_seg dksX0_next_2 24 rfl rfl
theorem dX0_next_0 : decode cX0_next 0 = .ok (.aload_n 0, 1) := dk_42 (dk_at dksX0_next_0 0 rfl rfl)
theorem dX0_next_1 : decode cX0_next 1 = .ok (.iload_n 1, 1) := dk_27 (dk_at dksX0_next_0 1 rfl rfl)
theorem dX0_next_2 : decode cX0_next 2 = .ok (.iload_n 2, 1) := dk_28 (dk_at dksX0_next_0 2 rfl rfl)
theorem dX0_next_3 : decode cX0_next 3 = .ok (.iload_n 3, 1) := dk_29 (dk_at dksX0_next_0 3 rfl rfl)
theorem dX0_next_4 : decode cX0_next 4 = .ok (.iload 4, 2) := dk_21 4 (dk_at dksX0_next_0 4 rfl rfl)
theorem dX0_next_6 : decode cX0_next 6 = .ok (.invokevirtual 287, 3) := dk_182 1 31 (dk_at dksX0_next_0 6 rfl rfl)
theorem dX0_next_9 : decode cX0_next 9 = .ok (.istore 5, 2) := dk_54 5 (dk_at dksX0_next_0 9 rfl rfl)
theorem dX0_next_11 : decode cX0_next 11 = .ok (.iload 5, 2) := dk_21 5 (dk_at dksX0_next_0 11 rfl rfl)
theorem dX0_next_13 : decode cX0_next 13 = .ok (.ifCond .eq 6, 3) := dk_153 0 6 (dk_at dksX0_next_0 13 rfl rfl)
theorem dX0_next_16 : decode cX0_next 16 = .ok (.iload 5, 2) := dk_21 5 (dk_at dksX0_next_0 16 rfl rfl)
theorem dX0_next_18 : decode cX0_next 18 = .ok (.ireturn, 1) := dk_172 (dk_at dksX0_next_0 18 rfl rfl)
theorem dX0_next_19 : decode cX0_next 19 = .ok (.aload_n 0, 1) := dk_42 (dk_at dksX0_next_0 19 rfl rfl)
theorem dX0_next_20 : decode cX0_next 20 = .ok (.iload_n 1, 1) := dk_27 (dk_at dksX0_next_0 20 rfl rfl)
theorem dX0_next_21 : decode cX0_next 21 = .ok (.iload_n 2, 1) := dk_28 (dk_at dksX0_next_0 21 rfl rfl)
theorem dX0_next_22 : decode cX0_next 22 = .ok (.iload_n 3, 1) := dk_29 (dk_at dksX0_next_0 22 rfl rfl)
theorem dX0_next_23 : decode cX0_next 23 = .ok (.iload 4, 2) := dk_21 4 (dk_at dksX0_next_1 0 rfl rfl)
theorem dX0_next_25 : decode cX0_next 25 = .ok (.aload_n 0, 1) := dk_42 (dk_at dksX0_next_1 2 rfl rfl)
theorem dX0_next_26 : decode cX0_next 26 = .ok (.invokevirtual 199, 3) := dk_182 0 199 (dk_at dksX0_next_1 3 rfl rfl)
theorem dX0_next_29 : decode cX0_next 29 = .ok (.invokevirtual 268, 3) := dk_182 1 12 (dk_at dksX0_next_1 6 rfl rfl)
theorem dX0_next_32 : decode cX0_next 32 = .ok (.lstore 6, 2) := dk_55 6 (dk_at dksX0_next_1 9 rfl rfl)
theorem dX0_next_34 : decode cX0_next 34 = .ok (.iconst 0, 1) := dk_3 (dk_at dksX0_next_1 11 rfl rfl)
theorem dX0_next_35 : decode cX0_next 35 = .ok (.istore 8, 2) := dk_54 8 (dk_at dksX0_next_1 12 rfl rfl)
theorem dX0_next_37 : decode cX0_next 37 = .ok (.iload 8, 2) := dk_21 8 (dk_at dksX0_next_1 14 rfl rfl)
theorem dX0_next_39 : decode cX0_next 39 = .ok (.bipush 6, 2) := dk_16 6 (dk_at dksX0_next_1 16 rfl rfl)
theorem dX0_next_41 : decode cX0_next 41 = .ok (.if_icmp .ge 51, 3) := dk_162 0 51 (dk_at dksX0_next_1 18 rfl rfl)
theorem dX0_next_44 : decode cX0_next 44 = .ok (.lload 6, 2) := dk_22 6 (dk_at dksX0_next_1 21 rfl rfl)
theorem dX0_next_46 : decode cX0_next 46 = .ok (.lconst 0, 1) := dk_9 (dk_at dksX0_next_1 23 rfl rfl)
theorem dX0_next_47 : decode cX0_next 47 = .ok (.lcmp, 1) := dk_148 (dk_at dksX0_next_2 0 rfl rfl)
theorem dX0_next_48 : decode cX0_next 48 = .ok (.ifCond .le 44, 3) := dk_158 0 44 (dk_at dksX0_next_2 1 rfl rfl)
theorem dX0_next_51 : decode cX0_next 51 = .ok (.iload 4, 2) := dk_21 4 (dk_at dksX0_next_2 4 rfl rfl)
theorem dX0_next_53 : decode cX0_next 53 = .ok (.iload 8, 2) := dk_21 8 (dk_at dksX0_next_2 6 rfl rfl)
theorem dX0_next_55 : decode cX0_next 55 = .ok (.ishr, 1) := dk_122 (dk_at dksX0_next_2 8 rfl rfl)
theorem dX0_next_56 : decode cX0_next 56 = .ok (.iconst 1, 1) := dk_4 (dk_at dksX0_next_2 9 rfl rfl)
theorem dX0_next_57 : decode cX0_next 57 = .ok (.iand, 1) := dk_126 (dk_at dksX0_next_2 10 rfl rfl)
theorem dX0_next_58 : decode cX0_next 58 = .ok (.iconst 1, 1) := dk_4 (dk_at dksX0_next_2 11 rfl rfl)
theorem dX0_next_59 : decode cX0_next 59 = .ok (.if_icmp .ne 27, 3) := dk_160 0 27 (dk_at dksX0_next_2 12 rfl rfl)
theorem dX0_next_62 : decode cX0_next 62 = .ok (.aload_n 0, 1) := dk_42 (dk_at dksX0_next_2 15 rfl rfl)
theorem dX0_next_63 : decode cX0_next 63 = .ok (.iload 8, 2) := dk_21 8 (dk_at dksX0_next_2 16 rfl rfl)
theorem dX0_next_65 : decode cX0_next 65 = .ok (.iload_n 1, 1) := dk_27 (dk_at dksX0_next_2 18 rfl rfl)
theorem dX0_next_66 : decode cX0_next 66 = .ok (.iload_n 2, 1) := dk_28 (dk_at dksX0_next_2 19 rfl rfl)
theorem dX0_next_67 : decode cX0_next 67 = .ok (.iload_n 3, 1) := dk_29 (dk_at dksX0_next_2 20 rfl rfl)
theorem dX0_next_68 : decode cX0_next 68 = .ok (.iload 4, 2) := dk_21 4 (dk_at dksX0_next_2 21 rfl rfl)
theorem dX0_next_70 : decode cX0_next 70 = .ok (.aload_n 0, 1) := dk_42 (dk_at dksX0_next_2 23 rfl rfl)
theorem dX0_next_71 : decode cX0_next 71 = .ok (.invokevirtual 199, 3) := dk_182 0 199 (dk_at dksX0_next_3 0 rfl rfl)
theorem dX0_next_74 : decode cX0_next 74 = .ok (.invokevirtual 251, 3) := dk_182 0 251 (dk_at dksX0_next_3 3 rfl rfl)
theorem dX0_next_77 : decode cX0_next 77 = .ok (.lload 6, 2) := dk_22 6 (dk_at dksX0_next_3 6 rfl rfl)
theorem dX0_next_79 : decode cX0_next 79 = .ok (.lcmp, 1) := dk_148 (dk_at dksX0_next_3 8 rfl rfl)
theorem dX0_next_80 : decode cX0_next 80 = .ok (.ifCond .ne 6, 3) := dk_154 0 6 (dk_at dksX0_next_3 9 rfl rfl)
theorem dX0_next_83 : decode cX0_next 83 = .ok (.iload 8, 2) := dk_21 8 (dk_at dksX0_next_3 12 rfl rfl)
theorem dX0_next_85 : decode cX0_next 85 = .ok (.ireturn, 1) := dk_172 (dk_at dksX0_next_3 14 rfl rfl)
theorem dX0_next_86 : decode cX0_next 86 = .ok (.iinc 8 1, 3) := dk_132 8 1 (dk_at dksX0_next_3 15 rfl rfl)
theorem dX0_next_89 : decode cX0_next 89 = .ok (.goto (-52), 3) := dk_167 255 204 (dk_at dksX0_next_3 18 rfl rfl)
theorem dX0_next_92 : decode cX0_next 92 = .ok (.iconst (-1), 1) := dk_2 (dk_at dksX0_next_3 21 rfl rfl)
theorem dX0_next_93 : decode cX0_next 93 = .ok (.ireturn, 1) := dk_172 (dk_at dksX0_next_3 22 rfl rfl)
abbrev cX0_stands : ByteArray := prog_1_method_44_code
def yX0_stands : MethodName := ⟨RX0, "stands", "(II)I"⟩
def dkwX0_stands_6 : List UInt8 := [167, 255, 152, 29, 153, 0, 7, 4, 167, 0, 4, 3, 172]
abbrev dktX0_stands_6 : List UInt8 := dkwX0_stands_6 ++ []
def dkwX0_stands_5 : List UInt8 := [27, 122, 4, 126, 4, 160, 0, 7, 4, 167, 0, 4, 3, 126, 62, 132, 8, 1, 167, 255, 175, 132, 6, 1]
abbrev dktX0_stands_5 : List UInt8 := dkwX0_stands_5 ++ dktX0_stands_6
def dkwX0_stands_4 : List UInt8 := [28, 122, 4, 126, 154, 0, 32, 25, 9, 180, 0, 187, 28, 122, 4, 126, 153, 0, 16, 25, 9, 180, 0, 187]
abbrev dktX0_stands_4 : List UInt8 := dkwX0_stands_4 ++ dktX0_stands_5
def dkwX0_stands_3 : List UInt8 := [162, 0, 69, 25, 7, 180, 0, 48, 21, 8, 182, 0, 174, 192, 0, 76, 58, 9, 29, 25, 9, 180, 0, 184]
abbrev dktX0_stands_3 : List UInt8 := dkwX0_stands_3 ++ dktX0_stands_4
def dkwX0_stands_2 : List UInt8 := [21, 6, 50, 58, 7, 3, 54, 8, 25, 7, 198, 0, 82, 21, 8, 25, 7, 180, 0, 48, 182, 0, 163]
abbrev dktX0_stands_2 : List UInt8 := dkwX0_stands_2 ++ dktX0_stands_3
def dkwX0_stands_1 : List UInt8 := [42, 180, 0, 40, 58, 4, 25, 4, 190, 54, 5, 3, 54, 6, 21, 6, 21, 5, 162, 0, 103, 25, 4]
abbrev dktX0_stands_1 : List UInt8 := dkwX0_stands_1 ++ dktX0_stands_2
def dkwX0_stands_0 : List UInt8 := [27, 184, 0, 160, 153, 0, 15, 28, 184, 0, 160, 153, 0, 8, 27, 28, 160, 0, 6, 16, 254, 172, 4, 62]
abbrev dktX0_stands_0 : List UInt8 := dkwX0_stands_0 ++ dktX0_stands_1
theorem dksX0_stands_0 : cX0_stands.data.toList.drop 0 = dktX0_stands_0 := by decide +kernel
theorem dksX0_stands_1 : cX0_stands.data.toList.drop 24 = dktX0_stands_1 := dk_seg dksX0_stands_0 24 rfl rfl
theorem dksX0_stands_2 : cX0_stands.data.toList.drop 47 = dktX0_stands_2 := dk_seg dksX0_stands_1 23 rfl rfl
theorem dksX0_stands_3 : cX0_stands.data.toList.drop 70 = dktX0_stands_3 := dk_seg dksX0_stands_2 23 rfl rfl
theorem dksX0_stands_4 : cX0_stands.data.toList.drop 94 = dktX0_stands_4 := dk_seg dksX0_stands_3 24 rfl rfl
theorem dksX0_stands_5 : cX0_stands.data.toList.drop 118 = dktX0_stands_5 := dk_seg dksX0_stands_4 24 rfl rfl
theorem dksX0_stands_6 : cX0_stands.data.toList.drop 142 = dktX0_stands_6 := dk_seg dksX0_stands_5 24 rfl rfl
theorem dX0_stands_0 : decode cX0_stands 0 = .ok (.iload_n 1, 1) := dk_27 (dk_at dksX0_stands_0 0 rfl rfl)
theorem dX0_stands_1 : decode cX0_stands 1 = .ok (.invokestatic 160, 3) := dk_184 0 160 (dk_at dksX0_stands_0 1 rfl rfl)
theorem dX0_stands_4 : decode cX0_stands 4 = .ok (.ifCond .eq 15, 3) := dk_153 0 15 (dk_at dksX0_stands_0 4 rfl rfl)
theorem dX0_stands_7 : decode cX0_stands 7 = .ok (.iload_n 2, 1) := dk_28 (dk_at dksX0_stands_0 7 rfl rfl)
theorem dX0_stands_8 : decode cX0_stands 8 = .ok (.invokestatic 160, 3) := dk_184 0 160 (dk_at dksX0_stands_0 8 rfl rfl)
theorem dX0_stands_11 : decode cX0_stands 11 = .ok (.ifCond .eq 8, 3) := dk_153 0 8 (dk_at dksX0_stands_0 11 rfl rfl)
theorem dX0_stands_14 : decode cX0_stands 14 = .ok (.iload_n 1, 1) := dk_27 (dk_at dksX0_stands_0 14 rfl rfl)
theorem dX0_stands_15 : decode cX0_stands 15 = .ok (.iload_n 2, 1) := dk_28 (dk_at dksX0_stands_0 15 rfl rfl)
theorem dX0_stands_16 : decode cX0_stands 16 = .ok (.if_icmp .ne 6, 3) := dk_160 0 6 (dk_at dksX0_stands_0 16 rfl rfl)
theorem dX0_stands_19 : decode cX0_stands 19 = .ok (.bipush (-2), 2) := dk_16 254 (dk_at dksX0_stands_0 19 rfl rfl)
theorem dX0_stands_21 : decode cX0_stands 21 = .ok (.ireturn, 1) := dk_172 (dk_at dksX0_stands_0 21 rfl rfl)
theorem dX0_stands_22 : decode cX0_stands 22 = .ok (.iconst 1, 1) := dk_4 (dk_at dksX0_stands_0 22 rfl rfl)
theorem dX0_stands_23 : decode cX0_stands 23 = .ok (.istore_n 3, 1) := dk_62 (dk_at dksX0_stands_0 23 rfl rfl)
theorem dX0_stands_24 : decode cX0_stands 24 = .ok (.aload_n 0, 1) := dk_42 (dk_at dksX0_stands_1 0 rfl rfl)
theorem dX0_stands_25 : decode cX0_stands 25 = .ok (.getfield 40, 3) := dk_180 0 40 (dk_at dksX0_stands_1 1 rfl rfl)
theorem dX0_stands_28 : decode cX0_stands 28 = .ok (.astore 4, 2) := dk_58 4 (dk_at dksX0_stands_1 4 rfl rfl)
theorem dX0_stands_30 : decode cX0_stands 30 = .ok (.aload 4, 2) := dk_25 4 (dk_at dksX0_stands_1 6 rfl rfl)
theorem dX0_stands_32 : decode cX0_stands 32 = .ok (.arraylength, 1) := dk_190 (dk_at dksX0_stands_1 8 rfl rfl)
theorem dX0_stands_33 : decode cX0_stands 33 = .ok (.istore 5, 2) := dk_54 5 (dk_at dksX0_stands_1 9 rfl rfl)
theorem dX0_stands_35 : decode cX0_stands 35 = .ok (.iconst 0, 1) := dk_3 (dk_at dksX0_stands_1 11 rfl rfl)
theorem dX0_stands_36 : decode cX0_stands 36 = .ok (.istore 6, 2) := dk_54 6 (dk_at dksX0_stands_1 12 rfl rfl)
theorem dX0_stands_38 : decode cX0_stands 38 = .ok (.iload 6, 2) := dk_21 6 (dk_at dksX0_stands_1 14 rfl rfl)
theorem dX0_stands_40 : decode cX0_stands 40 = .ok (.iload 5, 2) := dk_21 5 (dk_at dksX0_stands_1 16 rfl rfl)
theorem dX0_stands_42 : decode cX0_stands 42 = .ok (.if_icmp .ge 103, 3) := dk_162 0 103 (dk_at dksX0_stands_1 18 rfl rfl)
theorem dX0_stands_45 : decode cX0_stands 45 = .ok (.aload 4, 2) := dk_25 4 (dk_at dksX0_stands_1 21 rfl rfl)
theorem dX0_stands_47 : decode cX0_stands 47 = .ok (.iload 6, 2) := dk_21 6 (dk_at dksX0_stands_2 0 rfl rfl)
theorem dX0_stands_49 : decode cX0_stands 49 = .ok (.aaload, 1) := dk_50 (dk_at dksX0_stands_2 2 rfl rfl)
theorem dX0_stands_50 : decode cX0_stands 50 = .ok (.astore 7, 2) := dk_58 7 (dk_at dksX0_stands_2 3 rfl rfl)
theorem dX0_stands_52 : decode cX0_stands 52 = .ok (.iconst 0, 1) := dk_3 (dk_at dksX0_stands_2 5 rfl rfl)
theorem dX0_stands_53 : decode cX0_stands 53 = .ok (.istore 8, 2) := dk_54 8 (dk_at dksX0_stands_2 6 rfl rfl)
theorem dX0_stands_55 : decode cX0_stands 55 = .ok (.aload 7, 2) := dk_25 7 (dk_at dksX0_stands_2 8 rfl rfl)
theorem dX0_stands_57 : decode cX0_stands 57 = .ok (.ifnull 82, 3) := dk_198 0 82 (dk_at dksX0_stands_2 10 rfl rfl)
theorem dX0_stands_60 : decode cX0_stands 60 = .ok (.iload 8, 2) := dk_21 8 (dk_at dksX0_stands_2 13 rfl rfl)
theorem dX0_stands_62 : decode cX0_stands 62 = .ok (.aload 7, 2) := dk_25 7 (dk_at dksX0_stands_2 15 rfl rfl)
theorem dX0_stands_64 : decode cX0_stands 64 = .ok (.getfield 48, 3) := dk_180 0 48 (dk_at dksX0_stands_2 17 rfl rfl)
theorem dX0_stands_67 : decode cX0_stands 67 = .ok (.invokevirtual 163, 3) := dk_182 0 163 (dk_at dksX0_stands_2 20 rfl rfl)
theorem dX0_stands_70 : decode cX0_stands 70 = .ok (.if_icmp .ge 69, 3) := dk_162 0 69 (dk_at dksX0_stands_3 0 rfl rfl)
theorem dX0_stands_73 : decode cX0_stands 73 = .ok (.aload 7, 2) := dk_25 7 (dk_at dksX0_stands_3 3 rfl rfl)
theorem dX0_stands_75 : decode cX0_stands 75 = .ok (.getfield 48, 3) := dk_180 0 48 (dk_at dksX0_stands_3 5 rfl rfl)
theorem dX0_stands_78 : decode cX0_stands 78 = .ok (.iload 8, 2) := dk_21 8 (dk_at dksX0_stands_3 8 rfl rfl)
theorem dX0_stands_80 : decode cX0_stands 80 = .ok (.invokevirtual 174, 3) := dk_182 0 174 (dk_at dksX0_stands_3 10 rfl rfl)
theorem dX0_stands_83 : decode cX0_stands 83 = .ok (.checkcast 76, 3) := dk_192 0 76 (dk_at dksX0_stands_3 13 rfl rfl)
theorem dX0_stands_86 : decode cX0_stands 86 = .ok (.astore 9, 2) := dk_58 9 (dk_at dksX0_stands_3 16 rfl rfl)
theorem dX0_stands_88 : decode cX0_stands 88 = .ok (.iload_n 3, 1) := dk_29 (dk_at dksX0_stands_3 18 rfl rfl)
theorem dX0_stands_89 : decode cX0_stands 89 = .ok (.aload 9, 2) := dk_25 9 (dk_at dksX0_stands_3 19 rfl rfl)
theorem dX0_stands_91 : decode cX0_stands 91 = .ok (.getfield 184, 3) := dk_180 0 184 (dk_at dksX0_stands_3 21 rfl rfl)
theorem dX0_stands_94 : decode cX0_stands 94 = .ok (.iload_n 2, 1) := dk_28 (dk_at dksX0_stands_4 0 rfl rfl)
theorem dX0_stands_95 : decode cX0_stands 95 = .ok (.ishr, 1) := dk_122 (dk_at dksX0_stands_4 1 rfl rfl)
theorem dX0_stands_96 : decode cX0_stands 96 = .ok (.iconst 1, 1) := dk_4 (dk_at dksX0_stands_4 2 rfl rfl)
theorem dX0_stands_97 : decode cX0_stands 97 = .ok (.iand, 1) := dk_126 (dk_at dksX0_stands_4 3 rfl rfl)
theorem dX0_stands_98 : decode cX0_stands 98 = .ok (.ifCond .ne 32, 3) := dk_154 0 32 (dk_at dksX0_stands_4 4 rfl rfl)
theorem dX0_stands_101 : decode cX0_stands 101 = .ok (.aload 9, 2) := dk_25 9 (dk_at dksX0_stands_4 7 rfl rfl)
theorem dX0_stands_103 : decode cX0_stands 103 = .ok (.getfield 187, 3) := dk_180 0 187 (dk_at dksX0_stands_4 9 rfl rfl)
theorem dX0_stands_106 : decode cX0_stands 106 = .ok (.iload_n 2, 1) := dk_28 (dk_at dksX0_stands_4 12 rfl rfl)
theorem dX0_stands_107 : decode cX0_stands 107 = .ok (.ishr, 1) := dk_122 (dk_at dksX0_stands_4 13 rfl rfl)
theorem dX0_stands_108 : decode cX0_stands 108 = .ok (.iconst 1, 1) := dk_4 (dk_at dksX0_stands_4 14 rfl rfl)
theorem dX0_stands_109 : decode cX0_stands 109 = .ok (.iand, 1) := dk_126 (dk_at dksX0_stands_4 15 rfl rfl)
theorem dX0_stands_110 : decode cX0_stands 110 = .ok (.ifCond .eq 16, 3) := dk_153 0 16 (dk_at dksX0_stands_4 16 rfl rfl)
theorem dX0_stands_113 : decode cX0_stands 113 = .ok (.aload 9, 2) := dk_25 9 (dk_at dksX0_stands_4 19 rfl rfl)
theorem dX0_stands_115 : decode cX0_stands 115 = .ok (.getfield 187, 3) := dk_180 0 187 (dk_at dksX0_stands_4 21 rfl rfl)
theorem dX0_stands_118 : decode cX0_stands 118 = .ok (.iload_n 1, 1) := dk_27 (dk_at dksX0_stands_5 0 rfl rfl)
theorem dX0_stands_119 : decode cX0_stands 119 = .ok (.ishr, 1) := dk_122 (dk_at dksX0_stands_5 1 rfl rfl)
theorem dX0_stands_120 : decode cX0_stands 120 = .ok (.iconst 1, 1) := dk_4 (dk_at dksX0_stands_5 2 rfl rfl)
theorem dX0_stands_121 : decode cX0_stands 121 = .ok (.iand, 1) := dk_126 (dk_at dksX0_stands_5 3 rfl rfl)
theorem dX0_stands_122 : decode cX0_stands 122 = .ok (.iconst 1, 1) := dk_4 (dk_at dksX0_stands_5 4 rfl rfl)
theorem dX0_stands_123 : decode cX0_stands 123 = .ok (.if_icmp .ne 7, 3) := dk_160 0 7 (dk_at dksX0_stands_5 5 rfl rfl)
theorem dX0_stands_126 : decode cX0_stands 126 = .ok (.iconst 1, 1) := dk_4 (dk_at dksX0_stands_5 8 rfl rfl)
theorem dX0_stands_127 : decode cX0_stands 127 = .ok (.goto 4, 3) := dk_167 0 4 (dk_at dksX0_stands_5 9 rfl rfl)
theorem dX0_stands_130 : decode cX0_stands 130 = .ok (.iconst 0, 1) := dk_3 (dk_at dksX0_stands_5 12 rfl rfl)
theorem dX0_stands_131 : decode cX0_stands 131 = .ok (.iand, 1) := dk_126 (dk_at dksX0_stands_5 13 rfl rfl)
theorem dX0_stands_132 : decode cX0_stands 132 = .ok (.istore_n 3, 1) := dk_62 (dk_at dksX0_stands_5 14 rfl rfl)
theorem dX0_stands_133 : decode cX0_stands 133 = .ok (.iinc 8 1, 3) := dk_132 8 1 (dk_at dksX0_stands_5 15 rfl rfl)
theorem dX0_stands_136 : decode cX0_stands 136 = .ok (.goto (-81), 3) := dk_167 255 175 (dk_at dksX0_stands_5 18 rfl rfl)
theorem dX0_stands_139 : decode cX0_stands 139 = .ok (.iinc 6 1, 3) := dk_132 6 1 (dk_at dksX0_stands_5 21 rfl rfl)
theorem dX0_stands_142 : decode cX0_stands 142 = .ok (.goto (-104), 3) := dk_167 255 152 (dk_at dksX0_stands_6 0 rfl rfl)
theorem dX0_stands_145 : decode cX0_stands 145 = .ok (.iload_n 3, 1) := dk_29 (dk_at dksX0_stands_6 3 rfl rfl)
theorem dX0_stands_146 : decode cX0_stands 146 = .ok (.ifCond .eq 7, 3) := dk_153 0 7 (dk_at dksX0_stands_6 4 rfl rfl)
theorem dX0_stands_149 : decode cX0_stands 149 = .ok (.iconst 1, 1) := dk_4 (dk_at dksX0_stands_6 7 rfl rfl)
theorem dX0_stands_150 : decode cX0_stands 150 = .ok (.goto 4, 3) := dk_167 0 4 (dk_at dksX0_stands_6 8 rfl rfl)
theorem dX0_stands_153 : decode cX0_stands 153 = .ok (.iconst 0, 1) := dk_3 (dk_at dksX0_stands_6 11 rfl rfl)
theorem dX0_stands_154 : decode cX0_stands 154 = .ok (.ireturn, 1) := dk_172 (dk_at dksX0_stands_6 12 rfl rfl)
abbrev cX0_idle : ByteArray := prog_1_method_45_code
def yX0_idle : MethodName := ⟨RX0, "idle", "()I"⟩
def dkwX0_idle_4 : List UInt8 := [17, 0, 255, 27, 2, 130, 126, 172]
abbrev dktX0_idle_4 : List UInt8 := dkwX0_idle_4 ++ []
def dkwX0_idle_3 : List UInt8 := [182, 0, 174, 192, 0, 76, 180, 0, 187, 128, 128, 60, 132, 6, 1, 167, 255, 199, 132, 4, 1, 167, 255, 178]
abbrev dktX0_idle_3 : List UInt8 := dkwX0_idle_3 ++ dktX0_idle_4
def dkwX0_idle_2 : List UInt8 := [25, 5, 180, 0, 48, 21, 6, 182, 0, 174, 192, 0, 76, 180, 0, 184, 25, 5, 180, 0, 48, 21, 6]
abbrev dktX0_idle_2 : List UInt8 := dkwX0_idle_2 ++ dktX0_idle_3
def dkwX0_idle_1 : List UInt8 := [58, 5, 3, 54, 6, 25, 5, 198, 0, 58, 21, 6, 25, 5, 180, 0, 48, 182, 0, 163, 162, 0, 45, 27]
abbrev dktX0_idle_1 : List UInt8 := dkwX0_idle_1 ++ dktX0_idle_2
def dkwX0_idle_0 : List UInt8 := [3, 60, 42, 180, 0, 40, 77, 44, 190, 62, 3, 54, 4, 21, 4, 29, 162, 0, 78, 44, 21, 4, 50]
abbrev dktX0_idle_0 : List UInt8 := dkwX0_idle_0 ++ dktX0_idle_1
theorem dksX0_idle_0 : cX0_idle.data.toList.drop 0 = dktX0_idle_0 := by decide +kernel
theorem dksX0_idle_1 : cX0_idle.data.toList.drop 23 = dktX0_idle_1 := dk_seg dksX0_idle_0 23 rfl rfl
theorem dksX0_idle_2 : cX0_idle.data.toList.drop 47 = dktX0_idle_2 := dk_seg dksX0_idle_1 24 rfl rfl
theorem dksX0_idle_3 : cX0_idle.data.toList.drop 70 = dktX0_idle_3 := dk_seg dksX0_idle_2 23 rfl rfl
theorem dksX0_idle_4 : cX0_idle.data.toList.drop 94 = dktX0_idle_4 := dk_seg dksX0_idle_3 24 rfl rfl
theorem dX0_idle_0 : decode cX0_idle 0 = .ok (.iconst 0, 1) := dk_3 (dk_at dksX0_idle_0 0 rfl rfl)
theorem dX0_idle_1 : decode cX0_idle 1 = .ok (.istore_n 1, 1) := dk_60 (dk_at dksX0_idle_0 1 rfl rfl)
theorem dX0_idle_2 : decode cX0_idle 2 = .ok (.aload_n 0, 1) := dk_42 (dk_at dksX0_idle_0 2 rfl rfl)
theorem dX0_idle_3 : decode cX0_idle 3 = .ok (.getfield 40, 3) := dk_180 0 40 (dk_at dksX0_idle_0 3 rfl rfl)
theorem dX0_idle_6 : decode cX0_idle 6 = .ok (.astore_n 2, 1) := dk_77 (dk_at dksX0_idle_0 6 rfl rfl)
theorem dX0_idle_7 : decode cX0_idle 7 = .ok (.aload_n 2, 1) := dk_44 (dk_at dksX0_idle_0 7 rfl rfl)
theorem dX0_idle_8 : decode cX0_idle 8 = .ok (.arraylength, 1) := dk_190 (dk_at dksX0_idle_0 8 rfl rfl)
theorem dX0_idle_9 : decode cX0_idle 9 = .ok (.istore_n 3, 1) := dk_62 (dk_at dksX0_idle_0 9 rfl rfl)
theorem dX0_idle_10 : decode cX0_idle 10 = .ok (.iconst 0, 1) := dk_3 (dk_at dksX0_idle_0 10 rfl rfl)
theorem dX0_idle_11 : decode cX0_idle 11 = .ok (.istore 4, 2) := dk_54 4 (dk_at dksX0_idle_0 11 rfl rfl)
theorem dX0_idle_13 : decode cX0_idle 13 = .ok (.iload 4, 2) := dk_21 4 (dk_at dksX0_idle_0 13 rfl rfl)
theorem dX0_idle_15 : decode cX0_idle 15 = .ok (.iload_n 3, 1) := dk_29 (dk_at dksX0_idle_0 15 rfl rfl)
theorem dX0_idle_16 : decode cX0_idle 16 = .ok (.if_icmp .ge 78, 3) := dk_162 0 78 (dk_at dksX0_idle_0 16 rfl rfl)
theorem dX0_idle_19 : decode cX0_idle 19 = .ok (.aload_n 2, 1) := dk_44 (dk_at dksX0_idle_0 19 rfl rfl)
theorem dX0_idle_20 : decode cX0_idle 20 = .ok (.iload 4, 2) := dk_21 4 (dk_at dksX0_idle_0 20 rfl rfl)
theorem dX0_idle_22 : decode cX0_idle 22 = .ok (.aaload, 1) := dk_50 (dk_at dksX0_idle_0 22 rfl rfl)
theorem dX0_idle_23 : decode cX0_idle 23 = .ok (.astore 5, 2) := dk_58 5 (dk_at dksX0_idle_1 0 rfl rfl)
theorem dX0_idle_25 : decode cX0_idle 25 = .ok (.iconst 0, 1) := dk_3 (dk_at dksX0_idle_1 2 rfl rfl)
theorem dX0_idle_26 : decode cX0_idle 26 = .ok (.istore 6, 2) := dk_54 6 (dk_at dksX0_idle_1 3 rfl rfl)
theorem dX0_idle_28 : decode cX0_idle 28 = .ok (.aload 5, 2) := dk_25 5 (dk_at dksX0_idle_1 5 rfl rfl)
theorem dX0_idle_30 : decode cX0_idle 30 = .ok (.ifnull 58, 3) := dk_198 0 58 (dk_at dksX0_idle_1 7 rfl rfl)
theorem dX0_idle_33 : decode cX0_idle 33 = .ok (.iload 6, 2) := dk_21 6 (dk_at dksX0_idle_1 10 rfl rfl)
theorem dX0_idle_35 : decode cX0_idle 35 = .ok (.aload 5, 2) := dk_25 5 (dk_at dksX0_idle_1 12 rfl rfl)
theorem dX0_idle_37 : decode cX0_idle 37 = .ok (.getfield 48, 3) := dk_180 0 48 (dk_at dksX0_idle_1 14 rfl rfl)
theorem dX0_idle_40 : decode cX0_idle 40 = .ok (.invokevirtual 163, 3) := dk_182 0 163 (dk_at dksX0_idle_1 17 rfl rfl)
theorem dX0_idle_43 : decode cX0_idle 43 = .ok (.if_icmp .ge 45, 3) := dk_162 0 45 (dk_at dksX0_idle_1 20 rfl rfl)
theorem dX0_idle_46 : decode cX0_idle 46 = .ok (.iload_n 1, 1) := dk_27 (dk_at dksX0_idle_1 23 rfl rfl)
theorem dX0_idle_47 : decode cX0_idle 47 = .ok (.aload 5, 2) := dk_25 5 (dk_at dksX0_idle_2 0 rfl rfl)
theorem dX0_idle_49 : decode cX0_idle 49 = .ok (.getfield 48, 3) := dk_180 0 48 (dk_at dksX0_idle_2 2 rfl rfl)
theorem dX0_idle_52 : decode cX0_idle 52 = .ok (.iload 6, 2) := dk_21 6 (dk_at dksX0_idle_2 5 rfl rfl)
theorem dX0_idle_54 : decode cX0_idle 54 = .ok (.invokevirtual 174, 3) := dk_182 0 174 (dk_at dksX0_idle_2 7 rfl rfl)
theorem dX0_idle_57 : decode cX0_idle 57 = .ok (.checkcast 76, 3) := dk_192 0 76 (dk_at dksX0_idle_2 10 rfl rfl)
theorem dX0_idle_60 : decode cX0_idle 60 = .ok (.getfield 184, 3) := dk_180 0 184 (dk_at dksX0_idle_2 13 rfl rfl)
theorem dX0_idle_63 : decode cX0_idle 63 = .ok (.aload 5, 2) := dk_25 5 (dk_at dksX0_idle_2 16 rfl rfl)
theorem dX0_idle_65 : decode cX0_idle 65 = .ok (.getfield 48, 3) := dk_180 0 48 (dk_at dksX0_idle_2 18 rfl rfl)
theorem dX0_idle_68 : decode cX0_idle 68 = .ok (.iload 6, 2) := dk_21 6 (dk_at dksX0_idle_2 21 rfl rfl)
theorem dX0_idle_70 : decode cX0_idle 70 = .ok (.invokevirtual 174, 3) := dk_182 0 174 (dk_at dksX0_idle_3 0 rfl rfl)
theorem dX0_idle_73 : decode cX0_idle 73 = .ok (.checkcast 76, 3) := dk_192 0 76 (dk_at dksX0_idle_3 3 rfl rfl)
theorem dX0_idle_76 : decode cX0_idle 76 = .ok (.getfield 187, 3) := dk_180 0 187 (dk_at dksX0_idle_3 6 rfl rfl)
theorem dX0_idle_79 : decode cX0_idle 79 = .ok (.ior, 1) := dk_128 (dk_at dksX0_idle_3 9 rfl rfl)
theorem dX0_idle_80 : decode cX0_idle 80 = .ok (.ior, 1) := dk_128 (dk_at dksX0_idle_3 10 rfl rfl)
theorem dX0_idle_81 : decode cX0_idle 81 = .ok (.istore_n 1, 1) := dk_60 (dk_at dksX0_idle_3 11 rfl rfl)
theorem dX0_idle_82 : decode cX0_idle 82 = .ok (.iinc 6 1, 3) := dk_132 6 1 (dk_at dksX0_idle_3 12 rfl rfl)
theorem dX0_idle_85 : decode cX0_idle 85 = .ok (.goto (-57), 3) := dk_167 255 199 (dk_at dksX0_idle_3 15 rfl rfl)
theorem dX0_idle_88 : decode cX0_idle 88 = .ok (.iinc 4 1, 3) := dk_132 4 1 (dk_at dksX0_idle_3 18 rfl rfl)
theorem dX0_idle_91 : decode cX0_idle 91 = .ok (.goto (-78), 3) := dk_167 255 178 (dk_at dksX0_idle_3 21 rfl rfl)
theorem dX0_idle_94 : decode cX0_idle 94 = .ok (.sipush 255, 3) := dk_17 0 255 (dk_at dksX0_idle_4 0 rfl rfl)
theorem dX0_idle_97 : decode cX0_idle 97 = .ok (.iload_n 1, 1) := dk_27 (dk_at dksX0_idle_4 3 rfl rfl)
theorem dX0_idle_98 : decode cX0_idle 98 = .ok (.iconst (-1), 1) := dk_2 (dk_at dksX0_idle_4 4 rfl rfl)
theorem dX0_idle_99 : decode cX0_idle 99 = .ok (.ixor, 1) := dk_130 (dk_at dksX0_idle_4 5 rfl rfl)
theorem dX0_idle_100 : decode cX0_idle 100 = .ok (.iand, 1) := dk_126 (dk_at dksX0_idle_4 6 rfl rfl)
theorem dX0_idle_101 : decode cX0_idle 101 = .ok (.ireturn, 1) := dk_172 (dk_at dksX0_idle_4 7 rfl rfl)
abbrev cX0_visit : ByteArray := prog_1_method_46_code
def yX0_visit : MethodName := ⟨RX0, "visit", "(III)I"⟩
def dkwX0_visit_3 : List UInt8 := [180, 0, 128, 182, 0, 163, 172]
abbrev dktX0_visit_3 : List UInt8 := dkwX0_visit_3 ++ []
def dkwX0_visit_2 : List UInt8 := [180, 0, 40, 27, 50, 180, 0, 48, 28, 182, 0, 174, 192, 1, 36, 29, 183, 1, 38, 182, 1, 41, 87, 42]
abbrev dktX0_visit_2 : List UInt8 := dkwX0_visit_2 ++ dktX0_visit_3
def dkwX0_visit_1 : List UInt8 := [180, 0, 128, 182, 0, 163, 16, 16, 160, 0, 6, 16, 251, 172, 42, 180, 0, 128, 187, 1, 34, 89, 42]
abbrev dktX0_visit_1 : List UInt8 := dkwX0_visit_1 ++ dktX0_visit_2
def dkwX0_visit_0 : List UInt8 := [42, 27, 28, 182, 0, 170, 154, 0, 6, 16, 254, 172, 29, 184, 0, 190, 154, 0, 6, 16, 253, 172, 42]
abbrev dktX0_visit_0 : List UInt8 := dkwX0_visit_0 ++ dktX0_visit_1
theorem dksX0_visit_0 : cX0_visit.data.toList.drop 0 = dktX0_visit_0 := by decide +kernel
theorem dksX0_visit_1 : cX0_visit.data.toList.drop 23 = dktX0_visit_1 := dk_seg dksX0_visit_0 23 rfl rfl
theorem dksX0_visit_2 : cX0_visit.data.toList.drop 46 = dktX0_visit_2 := dk_seg dksX0_visit_1 23 rfl rfl
theorem dksX0_visit_3 : cX0_visit.data.toList.drop 70 = dktX0_visit_3 := dk_seg dksX0_visit_2 24 rfl rfl
theorem dX0_visit_0 : decode cX0_visit 0 = .ok (.aload_n 0, 1) := dk_42 (dk_at dksX0_visit_0 0 rfl rfl)
theorem dX0_visit_1 : decode cX0_visit 1 = .ok (.iload_n 1, 1) := dk_27 (dk_at dksX0_visit_0 1 rfl rfl)
theorem dX0_visit_2 : decode cX0_visit 2 = .ok (.iload_n 2, 1) := dk_28 (dk_at dksX0_visit_0 2 rfl rfl)
theorem dX0_visit_3 : decode cX0_visit 3 = .ok (.invokevirtual 170, 3) := dk_182 0 170 (dk_at dksX0_visit_0 3 rfl rfl)
theorem dX0_visit_6 : decode cX0_visit 6 = .ok (.ifCond .ne 6, 3) := dk_154 0 6 (dk_at dksX0_visit_0 6 rfl rfl)
theorem dX0_visit_9 : decode cX0_visit 9 = .ok (.bipush (-2), 2) := dk_16 254 (dk_at dksX0_visit_0 9 rfl rfl)
theorem dX0_visit_11 : decode cX0_visit 11 = .ok (.ireturn, 1) := dk_172 (dk_at dksX0_visit_0 11 rfl rfl)
theorem dX0_visit_12 : decode cX0_visit 12 = .ok (.iload_n 3, 1) := dk_29 (dk_at dksX0_visit_0 12 rfl rfl)
theorem dX0_visit_13 : decode cX0_visit 13 = .ok (.invokestatic 190, 3) := dk_184 0 190 (dk_at dksX0_visit_0 13 rfl rfl)
theorem dX0_visit_16 : decode cX0_visit 16 = .ok (.ifCond .ne 6, 3) := dk_154 0 6 (dk_at dksX0_visit_0 16 rfl rfl)
theorem dX0_visit_19 : decode cX0_visit 19 = .ok (.bipush (-3), 2) := dk_16 253 (dk_at dksX0_visit_0 19 rfl rfl)
theorem dX0_visit_21 : decode cX0_visit 21 = .ok (.ireturn, 1) := dk_172 (dk_at dksX0_visit_0 21 rfl rfl)
theorem dX0_visit_22 : decode cX0_visit 22 = .ok (.aload_n 0, 1) := dk_42 (dk_at dksX0_visit_0 22 rfl rfl)
theorem dX0_visit_23 : decode cX0_visit 23 = .ok (.getfield 128, 3) := dk_180 0 128 (dk_at dksX0_visit_1 0 rfl rfl)
theorem dX0_visit_26 : decode cX0_visit 26 = .ok (.invokevirtual 163, 3) := dk_182 0 163 (dk_at dksX0_visit_1 3 rfl rfl)
theorem dX0_visit_29 : decode cX0_visit 29 = .ok (.bipush 16, 2) := dk_16 16 (dk_at dksX0_visit_1 6 rfl rfl)
theorem dX0_visit_31 : decode cX0_visit 31 = .ok (.if_icmp .ne 6, 3) := dk_160 0 6 (dk_at dksX0_visit_1 8 rfl rfl)
theorem dX0_visit_34 : decode cX0_visit 34 = .ok (.bipush (-5), 2) := dk_16 251 (dk_at dksX0_visit_1 11 rfl rfl)
theorem dX0_visit_36 : decode cX0_visit 36 = .ok (.ireturn, 1) := dk_172 (dk_at dksX0_visit_1 13 rfl rfl)
theorem dX0_visit_37 : decode cX0_visit 37 = .ok (.aload_n 0, 1) := dk_42 (dk_at dksX0_visit_1 14 rfl rfl)
theorem dX0_visit_38 : decode cX0_visit 38 = .ok (.getfield 128, 3) := dk_180 0 128 (dk_at dksX0_visit_1 15 rfl rfl)
theorem dX0_visit_41 : decode cX0_visit 41 = .ok (.new 290, 3) := dk_187 1 34 (dk_at dksX0_visit_1 18 rfl rfl)
theorem dX0_visit_44 : decode cX0_visit 44 = .ok (.dup, 1) := dk_89 (dk_at dksX0_visit_1 21 rfl rfl)
theorem dX0_visit_45 : decode cX0_visit 45 = .ok (.aload_n 0, 1) := dk_42 (dk_at dksX0_visit_1 22 rfl rfl)
theorem dX0_visit_46 : decode cX0_visit 46 = .ok (.getfield 40, 3) := dk_180 0 40 (dk_at dksX0_visit_2 0 rfl rfl)
theorem dX0_visit_49 : decode cX0_visit 49 = .ok (.iload_n 1, 1) := dk_27 (dk_at dksX0_visit_2 3 rfl rfl)
theorem dX0_visit_50 : decode cX0_visit 50 = .ok (.aaload, 1) := dk_50 (dk_at dksX0_visit_2 4 rfl rfl)
theorem dX0_visit_51 : decode cX0_visit 51 = .ok (.getfield 48, 3) := dk_180 0 48 (dk_at dksX0_visit_2 5 rfl rfl)
theorem dX0_visit_54 : decode cX0_visit 54 = .ok (.iload_n 2, 1) := dk_28 (dk_at dksX0_visit_2 8 rfl rfl)
theorem dX0_visit_55 : decode cX0_visit 55 = .ok (.invokevirtual 174, 3) := dk_182 0 174 (dk_at dksX0_visit_2 9 rfl rfl)
theorem dX0_visit_58 : decode cX0_visit 58 = .ok (.checkcast 292, 3) := dk_192 1 36 (dk_at dksX0_visit_2 12 rfl rfl)
theorem dX0_visit_61 : decode cX0_visit 61 = .ok (.iload_n 3, 1) := dk_29 (dk_at dksX0_visit_2 15 rfl rfl)
theorem dX0_visit_62 : decode cX0_visit 62 = .ok (.invokespecial 294, 3) := dk_183 1 38 (dk_at dksX0_visit_2 16 rfl rfl)
theorem dX0_visit_65 : decode cX0_visit 65 = .ok (.invokevirtual 297, 3) := dk_182 1 41 (dk_at dksX0_visit_2 19 rfl rfl)
theorem dX0_visit_68 : decode cX0_visit 68 = .ok (.pop, 1) := dk_87 (dk_at dksX0_visit_2 22 rfl rfl)
theorem dX0_visit_69 : decode cX0_visit 69 = .ok (.aload_n 0, 1) := dk_42 (dk_at dksX0_visit_2 23 rfl rfl)
theorem dX0_visit_70 : decode cX0_visit 70 = .ok (.getfield 128, 3) := dk_180 0 128 (dk_at dksX0_visit_3 0 rfl rfl)
theorem dX0_visit_73 : decode cX0_visit 73 = .ok (.invokevirtual 163, 3) := dk_182 0 163 (dk_at dksX0_visit_3 3 rfl rfl)
theorem dX0_visit_76 : decode cX0_visit 76 = .ok (.ireturn, 1) := dk_172 (dk_at dksX0_visit_3 6 rfl rfl)
abbrev cX0_saved : ByteArray := prog_1_method_48_code
def yX0_saved : MethodName := ⟨RX0, "saved", "(I)I"⟩
def dkwX0_saved_0 : List UInt8 := [27, 184, 0, 190, 153, 0, 11, 42, 27, 182, 1, 47, 167, 0, 5, 16, 253, 172]
abbrev dktX0_saved_0 : List UInt8 := dkwX0_saved_0 ++ []
theorem dksX0_saved_0 : cX0_saved.data.toList.drop 0 = dktX0_saved_0 := by decide +kernel
theorem dX0_saved_0 : decode cX0_saved 0 = .ok (.iload_n 1, 1) := dk_27 (dk_at dksX0_saved_0 0 rfl rfl)
theorem dX0_saved_1 : decode cX0_saved 1 = .ok (.invokestatic 190, 3) := dk_184 0 190 (dk_at dksX0_saved_0 1 rfl rfl)
theorem dX0_saved_4 : decode cX0_saved 4 = .ok (.ifCond .eq 11, 3) := dk_153 0 11 (dk_at dksX0_saved_0 4 rfl rfl)
theorem dX0_saved_7 : decode cX0_saved 7 = .ok (.aload_n 0, 1) := dk_42 (dk_at dksX0_saved_0 7 rfl rfl)
theorem dX0_saved_8 : decode cX0_saved 8 = .ok (.iload_n 1, 1) := dk_27 (dk_at dksX0_saved_0 8 rfl rfl)
theorem dX0_saved_9 : decode cX0_saved 9 = .ok (.invokevirtual 303, 3) := dk_182 1 47 (dk_at dksX0_saved_0 9 rfl rfl)
theorem dX0_saved_12 : decode cX0_saved 12 = .ok (.goto 5, 3) := dk_167 0 5 (dk_at dksX0_saved_0 12 rfl rfl)
theorem dX0_saved_15 : decode cX0_saved 15 = .ok (.bipush (-3), 2) := dk_16 253 (dk_at dksX0_saved_0 15 rfl rfl)
theorem dX0_saved_17 : decode cX0_saved 17 = .ok (.ireturn, 1) := dk_172 (dk_at dksX0_saved_0 17 rfl rfl)
abbrev cX0_savedBy : ByteArray := prog_1_method_47_code
def yX0_savedBy : MethodName := ⟨RX0, "savedBy", "(I)I"⟩
def dkwX0_savedBy_2 : List UInt8 := [172]
abbrev dktX0_savedBy_2 : List UInt8 := dkwX0_savedBy_2 ++ []
def dkwX0_savedBy_1 : List UInt8 := [192, 1, 34, 27, 182, 1, 44, 153, 0, 7, 4, 167, 0, 4, 3, 96, 61, 132, 3, 1, 167, 255, 216, 28]
abbrev dktX0_savedBy_1 : List UInt8 := dkwX0_savedBy_1 ++ dktX0_savedBy_2
def dkwX0_savedBy_0 : List UInt8 := [3, 61, 3, 62, 29, 42, 180, 0, 128, 182, 0, 163, 162, 0, 35, 28, 42, 180, 0, 128, 29, 182, 0, 174]
abbrev dktX0_savedBy_0 : List UInt8 := dkwX0_savedBy_0 ++ dktX0_savedBy_1
theorem dksX0_savedBy_0 : cX0_savedBy.data.toList.drop 0 = dktX0_savedBy_0 := by decide +kernel
theorem dksX0_savedBy_1 : cX0_savedBy.data.toList.drop 24 = dktX0_savedBy_1 := dk_seg dksX0_savedBy_0 24 rfl rfl
theorem dksX0_savedBy_2 : cX0_savedBy.data.toList.drop 48 = dktX0_savedBy_2 := dk_seg dksX0_savedBy_1 24 rfl rfl
theorem dX0_savedBy_0 : decode cX0_savedBy 0 = .ok (.iconst 0, 1) := dk_3 (dk_at dksX0_savedBy_0 0 rfl rfl)
theorem dX0_savedBy_1 : decode cX0_savedBy 1 = .ok (.istore_n 2, 1) := dk_61 (dk_at dksX0_savedBy_0 1 rfl rfl)
theorem dX0_savedBy_2 : decode cX0_savedBy 2 = .ok (.iconst 0, 1) := dk_3 (dk_at dksX0_savedBy_0 2 rfl rfl)
theorem dX0_savedBy_3 : decode cX0_savedBy 3 = .ok (.istore_n 3, 1) := dk_62 (dk_at dksX0_savedBy_0 3 rfl rfl)
theorem dX0_savedBy_4 : decode cX0_savedBy 4 = .ok (.iload_n 3, 1) := dk_29 (dk_at dksX0_savedBy_0 4 rfl rfl)
theorem dX0_savedBy_5 : decode cX0_savedBy 5 = .ok (.aload_n 0, 1) := dk_42 (dk_at dksX0_savedBy_0 5 rfl rfl)
theorem dX0_savedBy_6 : decode cX0_savedBy 6 = .ok (.getfield 128, 3) := dk_180 0 128 (dk_at dksX0_savedBy_0 6 rfl rfl)
theorem dX0_savedBy_9 : decode cX0_savedBy 9 = .ok (.invokevirtual 163, 3) := dk_182 0 163 (dk_at dksX0_savedBy_0 9 rfl rfl)
theorem dX0_savedBy_12 : decode cX0_savedBy 12 = .ok (.if_icmp .ge 35, 3) := dk_162 0 35 (dk_at dksX0_savedBy_0 12 rfl rfl)
theorem dX0_savedBy_15 : decode cX0_savedBy 15 = .ok (.iload_n 2, 1) := dk_28 (dk_at dksX0_savedBy_0 15 rfl rfl)
theorem dX0_savedBy_16 : decode cX0_savedBy 16 = .ok (.aload_n 0, 1) := dk_42 (dk_at dksX0_savedBy_0 16 rfl rfl)
theorem dX0_savedBy_17 : decode cX0_savedBy 17 = .ok (.getfield 128, 3) := dk_180 0 128 (dk_at dksX0_savedBy_0 17 rfl rfl)
theorem dX0_savedBy_20 : decode cX0_savedBy 20 = .ok (.iload_n 3, 1) := dk_29 (dk_at dksX0_savedBy_0 20 rfl rfl)
theorem dX0_savedBy_21 : decode cX0_savedBy 21 = .ok (.invokevirtual 174, 3) := dk_182 0 174 (dk_at dksX0_savedBy_0 21 rfl rfl)
theorem dX0_savedBy_24 : decode cX0_savedBy 24 = .ok (.checkcast 290, 3) := dk_192 1 34 (dk_at dksX0_savedBy_1 0 rfl rfl)
theorem dX0_savedBy_27 : decode cX0_savedBy 27 = .ok (.iload_n 1, 1) := dk_27 (dk_at dksX0_savedBy_1 3 rfl rfl)
theorem dX0_savedBy_28 : decode cX0_savedBy 28 = .ok (.invokevirtual 300, 3) := dk_182 1 44 (dk_at dksX0_savedBy_1 4 rfl rfl)
theorem dX0_savedBy_31 : decode cX0_savedBy 31 = .ok (.ifCond .eq 7, 3) := dk_153 0 7 (dk_at dksX0_savedBy_1 7 rfl rfl)
theorem dX0_savedBy_34 : decode cX0_savedBy 34 = .ok (.iconst 1, 1) := dk_4 (dk_at dksX0_savedBy_1 10 rfl rfl)
theorem dX0_savedBy_35 : decode cX0_savedBy 35 = .ok (.goto 4, 3) := dk_167 0 4 (dk_at dksX0_savedBy_1 11 rfl rfl)
theorem dX0_savedBy_38 : decode cX0_savedBy 38 = .ok (.iconst 0, 1) := dk_3 (dk_at dksX0_savedBy_1 14 rfl rfl)
theorem dX0_savedBy_39 : decode cX0_savedBy 39 = .ok (.iadd, 1) := dk_96 (dk_at dksX0_savedBy_1 15 rfl rfl)
theorem dX0_savedBy_40 : decode cX0_savedBy 40 = .ok (.istore_n 2, 1) := dk_61 (dk_at dksX0_savedBy_1 16 rfl rfl)
theorem dX0_savedBy_41 : decode cX0_savedBy 41 = .ok (.iinc 3 1, 3) := dk_132 3 1 (dk_at dksX0_savedBy_1 17 rfl rfl)
theorem dX0_savedBy_44 : decode cX0_savedBy 44 = .ok (.goto (-40), 3) := dk_167 255 216 (dk_at dksX0_savedBy_1 20 rfl rfl)
theorem dX0_savedBy_47 : decode cX0_savedBy 47 = .ok (.iload_n 2, 1) := dk_28 (dk_at dksX0_savedBy_1 23 rfl rfl)
theorem dX0_savedBy_48 : decode cX0_savedBy 48 = .ok (.ireturn, 1) := dk_172 (dk_at dksX0_savedBy_2 0 rfl rfl)
abbrev cX0_most : ByteArray := prog_1_method_49_code
def yX0_most : MethodName := ⟨RX0, "most", "(I)I"⟩
def dkwX0_most_2 : List UInt8 := [182, 1, 47, 164, 0, 7, 29, 167, 0, 4, 28, 61, 132, 3, 1, 167, 255, 214, 28, 172]
abbrev dktX0_most_2 : List UInt8 := dkwX0_most_2 ++ []
def dkwX0_most_1 : List UInt8 := [162, 0, 41, 29, 184, 1, 24, 27, 160, 0, 25, 28, 2, 159, 0, 16, 42, 29, 182, 1, 47, 42, 28]
abbrev dktX0_most_1 : List UInt8 := dkwX0_most_1 ++ dktX0_most_2
def dkwX0_most_0 : List UInt8 := [27, 133, 10, 20, 0, 246, 184, 0, 36, 154, 0, 6, 16, 253, 172, 2, 61, 3, 62, 29, 17, 1, 0]
abbrev dktX0_most_0 : List UInt8 := dkwX0_most_0 ++ dktX0_most_1
theorem dksX0_most_0 : cX0_most.data.toList.drop 0 = dktX0_most_0 := by decide +kernel
theorem dksX0_most_1 : cX0_most.data.toList.drop 23 = dktX0_most_1 := dk_seg dksX0_most_0 23 rfl rfl
theorem dksX0_most_2 : cX0_most.data.toList.drop 46 = dktX0_most_2 := dk_seg dksX0_most_1 23 rfl rfl
theorem dX0_most_0 : decode cX0_most 0 = .ok (.iload_n 1, 1) := dk_27 (dk_at dksX0_most_0 0 rfl rfl)
theorem dX0_most_1 : decode cX0_most 1 = .ok (.i2l, 1) := dk_133 (dk_at dksX0_most_0 1 rfl rfl)
theorem dX0_most_2 : decode cX0_most 2 = .ok (.lconst 1, 1) := dk_10 (dk_at dksX0_most_0 2 rfl rfl)
theorem dX0_most_3 : decode cX0_most 3 = .ok (.ldc2_w 246, 3) := dk_20 0 246 (dk_at dksX0_most_0 3 rfl rfl)
theorem dX0_most_6 : decode cX0_most 6 = .ok (.invokestatic 36, 3) := dk_184 0 36 (dk_at dksX0_most_0 6 rfl rfl)
theorem dX0_most_9 : decode cX0_most 9 = .ok (.ifCond .ne 6, 3) := dk_154 0 6 (dk_at dksX0_most_0 9 rfl rfl)
theorem dX0_most_12 : decode cX0_most 12 = .ok (.bipush (-3), 2) := dk_16 253 (dk_at dksX0_most_0 12 rfl rfl)
theorem dX0_most_14 : decode cX0_most 14 = .ok (.ireturn, 1) := dk_172 (dk_at dksX0_most_0 14 rfl rfl)
theorem dX0_most_15 : decode cX0_most 15 = .ok (.iconst (-1), 1) := dk_2 (dk_at dksX0_most_0 15 rfl rfl)
theorem dX0_most_16 : decode cX0_most 16 = .ok (.istore_n 2, 1) := dk_61 (dk_at dksX0_most_0 16 rfl rfl)
theorem dX0_most_17 : decode cX0_most 17 = .ok (.iconst 0, 1) := dk_3 (dk_at dksX0_most_0 17 rfl rfl)
theorem dX0_most_18 : decode cX0_most 18 = .ok (.istore_n 3, 1) := dk_62 (dk_at dksX0_most_0 18 rfl rfl)
theorem dX0_most_19 : decode cX0_most 19 = .ok (.iload_n 3, 1) := dk_29 (dk_at dksX0_most_0 19 rfl rfl)
theorem dX0_most_20 : decode cX0_most 20 = .ok (.sipush 256, 3) := dk_17 1 0 (dk_at dksX0_most_0 20 rfl rfl)
theorem dX0_most_23 : decode cX0_most 23 = .ok (.if_icmp .ge 41, 3) := dk_162 0 41 (dk_at dksX0_most_1 0 rfl rfl)
theorem dX0_most_26 : decode cX0_most 26 = .ok (.iload_n 3, 1) := dk_29 (dk_at dksX0_most_1 3 rfl rfl)
theorem dX0_most_27 : decode cX0_most 27 = .ok (.invokestatic 280, 3) := dk_184 1 24 (dk_at dksX0_most_1 4 rfl rfl)
theorem dX0_most_30 : decode cX0_most 30 = .ok (.iload_n 1, 1) := dk_27 (dk_at dksX0_most_1 7 rfl rfl)
theorem dX0_most_31 : decode cX0_most 31 = .ok (.if_icmp .ne 25, 3) := dk_160 0 25 (dk_at dksX0_most_1 8 rfl rfl)
theorem dX0_most_34 : decode cX0_most 34 = .ok (.iload_n 2, 1) := dk_28 (dk_at dksX0_most_1 11 rfl rfl)
theorem dX0_most_35 : decode cX0_most 35 = .ok (.iconst (-1), 1) := dk_2 (dk_at dksX0_most_1 12 rfl rfl)
theorem dX0_most_36 : decode cX0_most 36 = .ok (.if_icmp .eq 16, 3) := dk_159 0 16 (dk_at dksX0_most_1 13 rfl rfl)
theorem dX0_most_39 : decode cX0_most 39 = .ok (.aload_n 0, 1) := dk_42 (dk_at dksX0_most_1 16 rfl rfl)
theorem dX0_most_40 : decode cX0_most 40 = .ok (.iload_n 3, 1) := dk_29 (dk_at dksX0_most_1 17 rfl rfl)
theorem dX0_most_41 : decode cX0_most 41 = .ok (.invokevirtual 303, 3) := dk_182 1 47 (dk_at dksX0_most_1 18 rfl rfl)
theorem dX0_most_44 : decode cX0_most 44 = .ok (.aload_n 0, 1) := dk_42 (dk_at dksX0_most_1 21 rfl rfl)
theorem dX0_most_45 : decode cX0_most 45 = .ok (.iload_n 2, 1) := dk_28 (dk_at dksX0_most_1 22 rfl rfl)
theorem dX0_most_46 : decode cX0_most 46 = .ok (.invokevirtual 303, 3) := dk_182 1 47 (dk_at dksX0_most_2 0 rfl rfl)
theorem dX0_most_49 : decode cX0_most 49 = .ok (.if_icmp .le 7, 3) := dk_164 0 7 (dk_at dksX0_most_2 3 rfl rfl)
theorem dX0_most_52 : decode cX0_most 52 = .ok (.iload_n 3, 1) := dk_29 (dk_at dksX0_most_2 6 rfl rfl)
theorem dX0_most_53 : decode cX0_most 53 = .ok (.goto 4, 3) := dk_167 0 4 (dk_at dksX0_most_2 7 rfl rfl)
theorem dX0_most_56 : decode cX0_most 56 = .ok (.iload_n 2, 1) := dk_28 (dk_at dksX0_most_2 10 rfl rfl)
theorem dX0_most_57 : decode cX0_most 57 = .ok (.istore_n 2, 1) := dk_61 (dk_at dksX0_most_2 11 rfl rfl)
theorem dX0_most_58 : decode cX0_most 58 = .ok (.iinc 3 1, 3) := dk_132 3 1 (dk_at dksX0_most_2 12 rfl rfl)
theorem dX0_most_61 : decode cX0_most 61 = .ok (.goto (-42), 3) := dk_167 255 214 (dk_at dksX0_most_2 15 rfl rfl)
theorem dX0_most_64 : decode cX0_most 64 = .ok (.iload_n 2, 1) := dk_28 (dk_at dksX0_most_2 18 rfl rfl)
theorem dX0_most_65 : decode cX0_most 65 = .ok (.ireturn, 1) := dk_172 (dk_at dksX0_most_2 19 rfl rfl)
abbrev cX0_box : ByteArray := prog_1_method_51_code
def yX0_box : MethodName := ⟨RX0, "box", "(I)I"⟩
def dkwX0_box_4 : List UInt8 := [172]
abbrev dktX0_box_4 : List UInt8 := dkwX0_box_4 ++ []
def dkwX0_box_3 : List UInt8 := [167, 0, 4, 28, 61, 132, 3, 1, 167, 255, 196, 27, 154, 0, 7, 28, 167, 0, 8, 42, 28, 182, 1, 51]
abbrev dktX0_box_3 : List UInt8 := dkwX0_box_3 ++ dktX0_box_4
def dkwX0_box_2 : List UInt8 := [157, 0, 21, 21, 4, 154, 0, 20, 42, 29, 182, 0, 27, 42, 28, 182, 0, 27, 162, 0, 7, 29]
abbrev dktX0_box_2 : List UInt8 := dkwX0_box_2 ++ dktX0_box_3
def dkwX0_box_1 : List UInt8 := [42, 29, 182, 1, 51, 42, 28, 182, 1, 51, 100, 54, 4, 42, 29, 182, 0, 193, 153, 0, 30, 21, 4]
abbrev dktX0_box_1 : List UInt8 := dkwX0_box_1 ++ dktX0_box_2
def dkwX0_box_0 : List UInt8 := [27, 133, 9, 10, 184, 0, 36, 154, 0, 6, 16, 253, 172, 3, 61, 4, 62, 29, 17, 1, 0, 162, 0, 59]
abbrev dktX0_box_0 : List UInt8 := dkwX0_box_0 ++ dktX0_box_1
theorem dksX0_box_0 : cX0_box.data.toList.drop 0 = dktX0_box_0 := by decide +kernel
theorem dksX0_box_1 : cX0_box.data.toList.drop 24 = dktX0_box_1 := dk_seg dksX0_box_0 24 rfl rfl
theorem dksX0_box_2 : cX0_box.data.toList.drop 47 = dktX0_box_2 := dk_seg dksX0_box_1 23 rfl rfl
theorem dksX0_box_3 : cX0_box.data.toList.drop 69 = dktX0_box_3 := dk_seg dksX0_box_2 22 rfl rfl
theorem dksX0_box_4 : cX0_box.data.toList.drop 93 = dktX0_box_4 := dk_seg dksX0_box_3 24 rfl rfl
theorem dX0_box_0 : decode cX0_box 0 = .ok (.iload_n 1, 1) := dk_27 (dk_at dksX0_box_0 0 rfl rfl)
theorem dX0_box_1 : decode cX0_box 1 = .ok (.i2l, 1) := dk_133 (dk_at dksX0_box_0 1 rfl rfl)
theorem dX0_box_2 : decode cX0_box 2 = .ok (.lconst 0, 1) := dk_9 (dk_at dksX0_box_0 2 rfl rfl)
theorem dX0_box_3 : decode cX0_box 3 = .ok (.lconst 1, 1) := dk_10 (dk_at dksX0_box_0 3 rfl rfl)
theorem dX0_box_4 : decode cX0_box 4 = .ok (.invokestatic 36, 3) := dk_184 0 36 (dk_at dksX0_box_0 4 rfl rfl)
theorem dX0_box_7 : decode cX0_box 7 = .ok (.ifCond .ne 6, 3) := dk_154 0 6 (dk_at dksX0_box_0 7 rfl rfl)
theorem dX0_box_10 : decode cX0_box 10 = .ok (.bipush (-3), 2) := dk_16 253 (dk_at dksX0_box_0 10 rfl rfl)
theorem dX0_box_12 : decode cX0_box 12 = .ok (.ireturn, 1) := dk_172 (dk_at dksX0_box_0 12 rfl rfl)
theorem dX0_box_13 : decode cX0_box 13 = .ok (.iconst 0, 1) := dk_3 (dk_at dksX0_box_0 13 rfl rfl)
theorem dX0_box_14 : decode cX0_box 14 = .ok (.istore_n 2, 1) := dk_61 (dk_at dksX0_box_0 14 rfl rfl)
theorem dX0_box_15 : decode cX0_box 15 = .ok (.iconst 1, 1) := dk_4 (dk_at dksX0_box_0 15 rfl rfl)
theorem dX0_box_16 : decode cX0_box 16 = .ok (.istore_n 3, 1) := dk_62 (dk_at dksX0_box_0 16 rfl rfl)
theorem dX0_box_17 : decode cX0_box 17 = .ok (.iload_n 3, 1) := dk_29 (dk_at dksX0_box_0 17 rfl rfl)
theorem dX0_box_18 : decode cX0_box 18 = .ok (.sipush 256, 3) := dk_17 1 0 (dk_at dksX0_box_0 18 rfl rfl)
theorem dX0_box_21 : decode cX0_box 21 = .ok (.if_icmp .ge 59, 3) := dk_162 0 59 (dk_at dksX0_box_0 21 rfl rfl)
theorem dX0_box_24 : decode cX0_box 24 = .ok (.aload_n 0, 1) := dk_42 (dk_at dksX0_box_1 0 rfl rfl)
theorem dX0_box_25 : decode cX0_box 25 = .ok (.iload_n 3, 1) := dk_29 (dk_at dksX0_box_1 1 rfl rfl)
theorem dX0_box_26 : decode cX0_box 26 = .ok (.invokevirtual 307, 3) := dk_182 1 51 (dk_at dksX0_box_1 2 rfl rfl)
theorem dX0_box_29 : decode cX0_box 29 = .ok (.aload_n 0, 1) := dk_42 (dk_at dksX0_box_1 5 rfl rfl)
theorem dX0_box_30 : decode cX0_box 30 = .ok (.iload_n 2, 1) := dk_28 (dk_at dksX0_box_1 6 rfl rfl)
theorem dX0_box_31 : decode cX0_box 31 = .ok (.invokevirtual 307, 3) := dk_182 1 51 (dk_at dksX0_box_1 7 rfl rfl)
theorem dX0_box_34 : decode cX0_box 34 = .ok (.isub, 1) := dk_100 (dk_at dksX0_box_1 10 rfl rfl)
theorem dX0_box_35 : decode cX0_box 35 = .ok (.istore 4, 2) := dk_54 4 (dk_at dksX0_box_1 11 rfl rfl)
theorem dX0_box_37 : decode cX0_box 37 = .ok (.aload_n 0, 1) := dk_42 (dk_at dksX0_box_1 13 rfl rfl)
theorem dX0_box_38 : decode cX0_box 38 = .ok (.iload_n 3, 1) := dk_29 (dk_at dksX0_box_1 14 rfl rfl)
theorem dX0_box_39 : decode cX0_box 39 = .ok (.invokevirtual 193, 3) := dk_182 0 193 (dk_at dksX0_box_1 15 rfl rfl)
theorem dX0_box_42 : decode cX0_box 42 = .ok (.ifCond .eq 30, 3) := dk_153 0 30 (dk_at dksX0_box_1 18 rfl rfl)
theorem dX0_box_45 : decode cX0_box 45 = .ok (.iload 4, 2) := dk_21 4 (dk_at dksX0_box_1 21 rfl rfl)
theorem dX0_box_47 : decode cX0_box 47 = .ok (.ifCond .gt 21, 3) := dk_157 0 21 (dk_at dksX0_box_2 0 rfl rfl)
theorem dX0_box_50 : decode cX0_box 50 = .ok (.iload 4, 2) := dk_21 4 (dk_at dksX0_box_2 3 rfl rfl)
theorem dX0_box_52 : decode cX0_box 52 = .ok (.ifCond .ne 20, 3) := dk_154 0 20 (dk_at dksX0_box_2 5 rfl rfl)
theorem dX0_box_55 : decode cX0_box 55 = .ok (.aload_n 0, 1) := dk_42 (dk_at dksX0_box_2 8 rfl rfl)
theorem dX0_box_56 : decode cX0_box 56 = .ok (.iload_n 3, 1) := dk_29 (dk_at dksX0_box_2 9 rfl rfl)
theorem dX0_box_57 : decode cX0_box 57 = .ok (.invokevirtual 27, 3) := dk_182 0 27 (dk_at dksX0_box_2 10 rfl rfl)
theorem dX0_box_60 : decode cX0_box 60 = .ok (.aload_n 0, 1) := dk_42 (dk_at dksX0_box_2 13 rfl rfl)
theorem dX0_box_61 : decode cX0_box 61 = .ok (.iload_n 2, 1) := dk_28 (dk_at dksX0_box_2 14 rfl rfl)
theorem dX0_box_62 : decode cX0_box 62 = .ok (.invokevirtual 27, 3) := dk_182 0 27 (dk_at dksX0_box_2 15 rfl rfl)
theorem dX0_box_65 : decode cX0_box 65 = .ok (.if_icmp .ge 7, 3) := dk_162 0 7 (dk_at dksX0_box_2 18 rfl rfl)
theorem dX0_box_68 : decode cX0_box 68 = .ok (.iload_n 3, 1) := dk_29 (dk_at dksX0_box_2 21 rfl rfl)
theorem dX0_box_69 : decode cX0_box 69 = .ok (.goto 4, 3) := dk_167 0 4 (dk_at dksX0_box_3 0 rfl rfl)
theorem dX0_box_72 : decode cX0_box 72 = .ok (.iload_n 2, 1) := dk_28 (dk_at dksX0_box_3 3 rfl rfl)
theorem dX0_box_73 : decode cX0_box 73 = .ok (.istore_n 2, 1) := dk_61 (dk_at dksX0_box_3 4 rfl rfl)
theorem dX0_box_74 : decode cX0_box 74 = .ok (.iinc 3 1, 3) := dk_132 3 1 (dk_at dksX0_box_3 5 rfl rfl)
theorem dX0_box_77 : decode cX0_box 77 = .ok (.goto (-60), 3) := dk_167 255 196 (dk_at dksX0_box_3 8 rfl rfl)
theorem dX0_box_80 : decode cX0_box 80 = .ok (.iload_n 1, 1) := dk_27 (dk_at dksX0_box_3 11 rfl rfl)
theorem dX0_box_81 : decode cX0_box 81 = .ok (.ifCond .ne 7, 3) := dk_154 0 7 (dk_at dksX0_box_3 12 rfl rfl)
theorem dX0_box_84 : decode cX0_box 84 = .ok (.iload_n 2, 1) := dk_28 (dk_at dksX0_box_3 15 rfl rfl)
theorem dX0_box_85 : decode cX0_box 85 = .ok (.goto 8, 3) := dk_167 0 8 (dk_at dksX0_box_3 16 rfl rfl)
theorem dX0_box_88 : decode cX0_box 88 = .ok (.aload_n 0, 1) := dk_42 (dk_at dksX0_box_3 19 rfl rfl)
theorem dX0_box_89 : decode cX0_box 89 = .ok (.iload_n 2, 1) := dk_28 (dk_at dksX0_box_3 20 rfl rfl)
theorem dX0_box_90 : decode cX0_box 90 = .ok (.invokevirtual 307, 3) := dk_182 1 51 (dk_at dksX0_box_3 21 rfl rfl)
theorem dX0_box_93 : decode cX0_box 93 = .ok (.ireturn, 1) := dk_172 (dk_at dksX0_box_4 0 rfl rfl)
abbrev cX0_metBy : ByteArray := prog_1_method_50_code
def yX0_metBy : MethodName := ⟨RX0, "metBy", "(I)I"⟩
def dkwX0_metBy_2 : List UInt8 := [172]
abbrev dktX0_metBy_2 : List UInt8 := dkwX0_metBy_2 ++ []
def dkwX0_metBy_1 : List UInt8 := [192, 1, 34, 27, 182, 1, 50, 153, 0, 7, 4, 167, 0, 4, 3, 96, 61, 132, 3, 1, 167, 255, 216, 28]
abbrev dktX0_metBy_1 : List UInt8 := dkwX0_metBy_1 ++ dktX0_metBy_2
def dkwX0_metBy_0 : List UInt8 := [3, 61, 3, 62, 29, 42, 180, 0, 128, 182, 0, 163, 162, 0, 35, 28, 42, 180, 0, 128, 29, 182, 0, 174]
abbrev dktX0_metBy_0 : List UInt8 := dkwX0_metBy_0 ++ dktX0_metBy_1
theorem dksX0_metBy_0 : cX0_metBy.data.toList.drop 0 = dktX0_metBy_0 := by decide +kernel
theorem dksX0_metBy_1 : cX0_metBy.data.toList.drop 24 = dktX0_metBy_1 := dk_seg dksX0_metBy_0 24 rfl rfl
theorem dksX0_metBy_2 : cX0_metBy.data.toList.drop 48 = dktX0_metBy_2 := dk_seg dksX0_metBy_1 24 rfl rfl
theorem dX0_metBy_0 : decode cX0_metBy 0 = .ok (.iconst 0, 1) := dk_3 (dk_at dksX0_metBy_0 0 rfl rfl)
theorem dX0_metBy_1 : decode cX0_metBy 1 = .ok (.istore_n 2, 1) := dk_61 (dk_at dksX0_metBy_0 1 rfl rfl)
theorem dX0_metBy_2 : decode cX0_metBy 2 = .ok (.iconst 0, 1) := dk_3 (dk_at dksX0_metBy_0 2 rfl rfl)
theorem dX0_metBy_3 : decode cX0_metBy 3 = .ok (.istore_n 3, 1) := dk_62 (dk_at dksX0_metBy_0 3 rfl rfl)
theorem dX0_metBy_4 : decode cX0_metBy 4 = .ok (.iload_n 3, 1) := dk_29 (dk_at dksX0_metBy_0 4 rfl rfl)
theorem dX0_metBy_5 : decode cX0_metBy 5 = .ok (.aload_n 0, 1) := dk_42 (dk_at dksX0_metBy_0 5 rfl rfl)
theorem dX0_metBy_6 : decode cX0_metBy 6 = .ok (.getfield 128, 3) := dk_180 0 128 (dk_at dksX0_metBy_0 6 rfl rfl)
theorem dX0_metBy_9 : decode cX0_metBy 9 = .ok (.invokevirtual 163, 3) := dk_182 0 163 (dk_at dksX0_metBy_0 9 rfl rfl)
theorem dX0_metBy_12 : decode cX0_metBy 12 = .ok (.if_icmp .ge 35, 3) := dk_162 0 35 (dk_at dksX0_metBy_0 12 rfl rfl)
theorem dX0_metBy_15 : decode cX0_metBy 15 = .ok (.iload_n 2, 1) := dk_28 (dk_at dksX0_metBy_0 15 rfl rfl)
theorem dX0_metBy_16 : decode cX0_metBy 16 = .ok (.aload_n 0, 1) := dk_42 (dk_at dksX0_metBy_0 16 rfl rfl)
theorem dX0_metBy_17 : decode cX0_metBy 17 = .ok (.getfield 128, 3) := dk_180 0 128 (dk_at dksX0_metBy_0 17 rfl rfl)
theorem dX0_metBy_20 : decode cX0_metBy 20 = .ok (.iload_n 3, 1) := dk_29 (dk_at dksX0_metBy_0 20 rfl rfl)
theorem dX0_metBy_21 : decode cX0_metBy 21 = .ok (.invokevirtual 174, 3) := dk_182 0 174 (dk_at dksX0_metBy_0 21 rfl rfl)
theorem dX0_metBy_24 : decode cX0_metBy 24 = .ok (.checkcast 290, 3) := dk_192 1 34 (dk_at dksX0_metBy_1 0 rfl rfl)
theorem dX0_metBy_27 : decode cX0_metBy 27 = .ok (.iload_n 1, 1) := dk_27 (dk_at dksX0_metBy_1 3 rfl rfl)
theorem dX0_metBy_28 : decode cX0_metBy 28 = .ok (.invokevirtual 306, 3) := dk_182 1 50 (dk_at dksX0_metBy_1 4 rfl rfl)
theorem dX0_metBy_31 : decode cX0_metBy 31 = .ok (.ifCond .eq 7, 3) := dk_153 0 7 (dk_at dksX0_metBy_1 7 rfl rfl)
theorem dX0_metBy_34 : decode cX0_metBy 34 = .ok (.iconst 1, 1) := dk_4 (dk_at dksX0_metBy_1 10 rfl rfl)
theorem dX0_metBy_35 : decode cX0_metBy 35 = .ok (.goto 4, 3) := dk_167 0 4 (dk_at dksX0_metBy_1 11 rfl rfl)
theorem dX0_metBy_38 : decode cX0_metBy 38 = .ok (.iconst 0, 1) := dk_3 (dk_at dksX0_metBy_1 14 rfl rfl)
theorem dX0_metBy_39 : decode cX0_metBy 39 = .ok (.iadd, 1) := dk_96 (dk_at dksX0_metBy_1 15 rfl rfl)
theorem dX0_metBy_40 : decode cX0_metBy 40 = .ok (.istore_n 2, 1) := dk_61 (dk_at dksX0_metBy_1 16 rfl rfl)
theorem dX0_metBy_41 : decode cX0_metBy 41 = .ok (.iinc 3 1, 3) := dk_132 3 1 (dk_at dksX0_metBy_1 17 rfl rfl)
theorem dX0_metBy_44 : decode cX0_metBy 44 = .ok (.goto (-40), 3) := dk_167 255 216 (dk_at dksX0_metBy_1 20 rfl rfl)
theorem dX0_metBy_47 : decode cX0_metBy 47 = .ok (.iload_n 2, 1) := dk_28 (dk_at dksX0_metBy_1 23 rfl rfl)
theorem dX0_metBy_48 : decode cX0_metBy 48 = .ok (.ireturn, 1) := dk_172 (dk_at dksX0_metBy_2 0 rfl rfl)
abbrev cX0_run : ByteArray := prog_1_method_52_code
def yX0_run : MethodName := ⟨RX0, "run", "(IIIII)I"⟩
def dkwX0_run_18 : List UInt8 := [172]
abbrev dktX0_run_18 : List UInt8 := dkwX0_run_18 ++ []
def dkwX0_run_17 : List UInt8 := [21, 5, 4, 160, 0, 8, 21, 9, 167, 0, 16, 21, 5, 5, 160, 0, 8, 21, 12, 167, 0, 5, 21, 11]
abbrev dktX0_run_17 : List UInt8 := dkwX0_run_17 ++ dktX0_run_18
def dkwX0_run_16 : List UInt8 := [120, 167, 0, 4, 3, 128, 54, 12, 132, 13, 1, 167, 254, 204, 21, 5, 154, 0, 8, 21, 8, 167, 0, 27]
abbrev dktX0_run_16 : List UInt8 := dkwX0_run_16 ++ dktX0_run_17
def dkwX0_run_15 : List UInt8 := [42, 182, 0, 199, 182, 0, 202, 167, 0, 5, 21, 11, 54, 11, 21, 12, 21, 19, 153, 0, 10, 4, 21, 14]
abbrev dktX0_run_15 : List UInt8 := dkwX0_run_15 ++ dktX0_run_16
def dkwX0_run_14 : List UInt8 := [182, 1, 19, 167, 0, 9, 25, 15, 182, 1, 16, 116, 96, 54, 8, 21, 19, 153, 0, 17, 25, 18, 21, 11]
abbrev dktX0_run_14 : List UInt8 := dkwX0_run_14 ++ dktX0_run_15
def dkwX0_run_13 : List UInt8 := [167, 0, 10, 25, 15, 180, 0, 167, 8, 46, 96, 54, 9, 21, 8, 21, 19, 153, 0, 11, 25, 15]
abbrev dktX0_run_13 : List UInt8 := dkwX0_run_13 ++ dktX0_run_14
def dkwX0_run_12 : List UInt8 := [182, 0, 196, 54, 19, 25, 15, 21, 9, 182, 1, 6, 21, 19, 153, 0, 11, 25, 18, 180, 0, 181]
abbrev dktX0_run_12 : List UInt8 := dkwX0_run_12 ++ dktX0_run_13
def dkwX0_run_11 : List UInt8 := [167, 255, 211, 25, 15, 180, 0, 48, 21, 17, 182, 0, 174, 192, 0, 76, 58, 18, 25, 18, 21, 11]
abbrev dktX0_run_11 : List UInt8 := dkwX0_run_11 ++ dktX0_run_12
def dkwX0_run_10 : List UInt8 := [21, 16, 25, 15, 180, 0, 48, 21, 17, 182, 0, 174, 192, 0, 76, 180, 0, 178, 100, 54, 16, 132, 17, 1]
abbrev dktX0_run_10 : List UInt8 := dkwX0_run_10 ++ dktX0_run_11
def dkwX0_run_9 : List UInt8 := [54, 17, 21, 16, 25, 15, 180, 0, 48, 21, 17, 182, 0, 174, 192, 0, 76, 180, 0, 178, 161, 0, 30]
abbrev dktX0_run_9 : List UInt8 := dkwX0_run_9 ++ dktX0_run_10
def dkwX0_run_8 : List UInt8 := [17, 54, 25, 96, 19, 1, 56, 112, 54, 7, 21, 7, 16, 64, 108, 25, 15, 180, 0, 206, 112, 54, 16, 3]
abbrev dktX0_run_8 : List UInt8 := dkwX0_run_8 ++ dktX0_run_9
def dkwX0_run_7 : List UInt8 := [160, 0, 16, 21, 8, 25, 15, 182, 1, 16, 100, 54, 8, 167, 0, 202, 21, 7, 17, 98, 85, 104]
abbrev dktX0_run_7 : List UInt8 := dkwX0_run_7 ++ dktX0_run_8
def dkwX0_run_6 : List UInt8 := [25, 15, 182, 1, 3, 53, 96, 54, 9, 25, 15, 182, 1, 3, 54, 10, 25, 15, 21, 9, 182, 1, 6, 2]
abbrev dktX0_run_6 : List UInt8 := dkwX0_run_6 ++ dktX0_run_7
def dkwX0_run_5 : List UInt8 := [54, 11, 167, 1, 4, 42, 180, 0, 40, 21, 14, 50, 58, 15, 21, 9, 42, 180, 0, 69, 21, 10, 50]
abbrev dktX0_run_5 : List UInt8 := dkwX0_run_5 ++ dktX0_run_6
def dkwX0_run_4 : List UInt8 := [16, 6, 160, 0, 26, 21, 9, 42, 180, 0, 69, 21, 10, 50, 3, 53, 96, 54, 9, 3, 54, 10, 28]
abbrev dktX0_run_4 : List UInt8 := dkwX0_run_4 ++ dktX0_run_5
def dkwX0_run_3 : List UInt8 := [3, 54, 13, 21, 13, 21, 4, 162, 1, 51, 29, 7, 21, 13, 104, 122, 16, 15, 126, 54, 14, 21, 14]
abbrev dktX0_run_3 : List UInt8 := dkwX0_run_3 ++ dktX0_run_4
def dkwX0_run_2 : List UInt8 := [172, 27, 54, 7, 17, 3, 232, 54, 8, 42, 180, 0, 66, 54, 9, 3, 54, 10, 28, 54, 11, 3, 54, 12]
abbrev dktX0_run_2 : List UInt8 := dkwX0_run_2 ++ dktX0_run_3
def dkwX0_run_1 : List UInt8 := [20, 1, 54, 184, 0, 36, 153, 0, 16, 21, 5, 133, 9, 20, 0, 246, 184, 0, 36, 154, 0, 6, 16, 253]
abbrev dktX0_run_1 : List UInt8 := dkwX0_run_1 ++ dktX0_run_2
def dkwX0_run_0 : List UInt8 := [42, 28, 29, 21, 4, 3, 182, 0, 214, 54, 6, 21, 6, 153, 0, 6, 21, 6, 172, 27, 133, 9]
abbrev dktX0_run_0 : List UInt8 := dkwX0_run_0 ++ dktX0_run_1
theorem dksX0_run_0 : cX0_run.data.toList.drop 0 = dktX0_run_0 := by decide +kernel
theorem dksX0_run_1 : cX0_run.data.toList.drop 22 = dktX0_run_1 := dk_seg dksX0_run_0 22 rfl rfl
theorem dksX0_run_2 : cX0_run.data.toList.drop 46 = dktX0_run_2 := dk_seg dksX0_run_1 24 rfl rfl
theorem dksX0_run_3 : cX0_run.data.toList.drop 70 = dktX0_run_3 := dk_seg dksX0_run_2 24 rfl rfl
theorem dksX0_run_4 : cX0_run.data.toList.drop 93 = dktX0_run_4 := dk_seg dksX0_run_3 23 rfl rfl
theorem dksX0_run_5 : cX0_run.data.toList.drop 116 = dktX0_run_5 := dk_seg dksX0_run_4 23 rfl rfl
theorem dksX0_run_6 : cX0_run.data.toList.drop 139 = dktX0_run_6 := dk_seg dksX0_run_5 23 rfl rfl
theorem dksX0_run_7 : cX0_run.data.toList.drop 163 = dktX0_run_7 := dk_seg dksX0_run_6 24 rfl rfl
theorem dksX0_run_8 : cX0_run.data.toList.drop 185 = dktX0_run_8 := dk_seg dksX0_run_7 22 rfl rfl
theorem dksX0_run_9 : cX0_run.data.toList.drop 209 = dktX0_run_9 := dk_seg dksX0_run_8 24 rfl rfl
theorem dksX0_run_10 : cX0_run.data.toList.drop 232 = dktX0_run_10 := dk_seg dksX0_run_9 23 rfl rfl
theorem dksX0_run_11 : cX0_run.data.toList.drop 256 = dktX0_run_11 := dk_seg dksX0_run_10 24 rfl rfl
theorem dksX0_run_12 : cX0_run.data.toList.drop 278 = dktX0_run_12 := dk_seg dksX0_run_11 22 rfl rfl
theorem dksX0_run_13 : cX0_run.data.toList.drop 300 = dktX0_run_13 := dk_seg dksX0_run_12 22 rfl rfl
theorem dksX0_run_14 : cX0_run.data.toList.drop 322 = dktX0_run_14 := dk_seg dksX0_run_13 22 rfl rfl
theorem dksX0_run_15 : cX0_run.data.toList.drop 346 = dktX0_run_15 := dk_seg dksX0_run_14 24 rfl rfl
theorem dksX0_run_16 : cX0_run.data.toList.drop 370 = dktX0_run_16 := dk_seg dksX0_run_15 24 rfl rfl
theorem dksX0_run_17 : cX0_run.data.toList.drop 394 = dktX0_run_17 := dk_seg dksX0_run_16 24 rfl rfl
theorem dksX0_run_18 : cX0_run.data.toList.drop 418 = dktX0_run_18 := dk_seg dksX0_run_17 24 rfl rfl
theorem dX0_run_0 : decode cX0_run 0 = .ok (.aload_n 0, 1) := dk_42 (dk_at dksX0_run_0 0 rfl rfl)
theorem dX0_run_1 : decode cX0_run 1 = .ok (.iload_n 2, 1) := dk_28 (dk_at dksX0_run_0 1 rfl rfl)
theorem dX0_run_2 : decode cX0_run 2 = .ok (.iload_n 3, 1) := dk_29 (dk_at dksX0_run_0 2 rfl rfl)
theorem dX0_run_3 : decode cX0_run 3 = .ok (.iload 4, 2) := dk_21 4 (dk_at dksX0_run_0 3 rfl rfl)
theorem dX0_run_5 : decode cX0_run 5 = .ok (.iconst 0, 1) := dk_3 (dk_at dksX0_run_0 5 rfl rfl)
theorem dX0_run_6 : decode cX0_run 6 = .ok (.invokevirtual 214, 3) := dk_182 0 214 (dk_at dksX0_run_0 6 rfl rfl)
theorem dX0_run_9 : decode cX0_run 9 = .ok (.istore 6, 2) := dk_54 6 (dk_at dksX0_run_0 9 rfl rfl)
theorem dX0_run_11 : decode cX0_run 11 = .ok (.iload 6, 2) := dk_21 6 (dk_at dksX0_run_0 11 rfl rfl)
theorem dX0_run_13 : decode cX0_run 13 = .ok (.ifCond .eq 6, 3) := dk_153 0 6 (dk_at dksX0_run_0 13 rfl rfl)
theorem dX0_run_16 : decode cX0_run 16 = .ok (.iload 6, 2) := dk_21 6 (dk_at dksX0_run_0 16 rfl rfl)
theorem dX0_run_18 : decode cX0_run 18 = .ok (.ireturn, 1) := dk_172 (dk_at dksX0_run_0 18 rfl rfl)
theorem dX0_run_19 : decode cX0_run 19 = .ok (.iload_n 1, 1) := dk_27 (dk_at dksX0_run_0 19 rfl rfl)
theorem dX0_run_20 : decode cX0_run 20 = .ok (.i2l, 1) := dk_133 (dk_at dksX0_run_0 20 rfl rfl)
theorem dX0_run_21 : decode cX0_run 21 = .ok (.lconst 0, 1) := dk_9 (dk_at dksX0_run_0 21 rfl rfl)
theorem dX0_run_22 : decode cX0_run 22 = .ok (.ldc2_w 310, 3) := dk_20 1 54 (dk_at dksX0_run_1 0 rfl rfl)
theorem dX0_run_25 : decode cX0_run 25 = .ok (.invokestatic 36, 3) := dk_184 0 36 (dk_at dksX0_run_1 3 rfl rfl)
theorem dX0_run_28 : decode cX0_run 28 = .ok (.ifCond .eq 16, 3) := dk_153 0 16 (dk_at dksX0_run_1 6 rfl rfl)
theorem dX0_run_31 : decode cX0_run 31 = .ok (.iload 5, 2) := dk_21 5 (dk_at dksX0_run_1 9 rfl rfl)
theorem dX0_run_33 : decode cX0_run 33 = .ok (.i2l, 1) := dk_133 (dk_at dksX0_run_1 11 rfl rfl)
theorem dX0_run_34 : decode cX0_run 34 = .ok (.lconst 0, 1) := dk_9 (dk_at dksX0_run_1 12 rfl rfl)
theorem dX0_run_35 : decode cX0_run 35 = .ok (.ldc2_w 246, 3) := dk_20 0 246 (dk_at dksX0_run_1 13 rfl rfl)
theorem dX0_run_38 : decode cX0_run 38 = .ok (.invokestatic 36, 3) := dk_184 0 36 (dk_at dksX0_run_1 16 rfl rfl)
theorem dX0_run_41 : decode cX0_run 41 = .ok (.ifCond .ne 6, 3) := dk_154 0 6 (dk_at dksX0_run_1 19 rfl rfl)
theorem dX0_run_44 : decode cX0_run 44 = .ok (.bipush (-3), 2) := dk_16 253 (dk_at dksX0_run_1 22 rfl rfl)
theorem dX0_run_46 : decode cX0_run 46 = .ok (.ireturn, 1) := dk_172 (dk_at dksX0_run_2 0 rfl rfl)
theorem dX0_run_47 : decode cX0_run 47 = .ok (.iload_n 1, 1) := dk_27 (dk_at dksX0_run_2 1 rfl rfl)
theorem dX0_run_48 : decode cX0_run 48 = .ok (.istore 7, 2) := dk_54 7 (dk_at dksX0_run_2 2 rfl rfl)
theorem dX0_run_50 : decode cX0_run 50 = .ok (.sipush 1000, 3) := dk_17 3 232 (dk_at dksX0_run_2 4 rfl rfl)
theorem dX0_run_53 : decode cX0_run 53 = .ok (.istore 8, 2) := dk_54 8 (dk_at dksX0_run_2 7 rfl rfl)
theorem dX0_run_55 : decode cX0_run 55 = .ok (.aload_n 0, 1) := dk_42 (dk_at dksX0_run_2 9 rfl rfl)
theorem dX0_run_56 : decode cX0_run 56 = .ok (.getfield 66, 3) := dk_180 0 66 (dk_at dksX0_run_2 10 rfl rfl)
theorem dX0_run_59 : decode cX0_run 59 = .ok (.istore 9, 2) := dk_54 9 (dk_at dksX0_run_2 13 rfl rfl)
theorem dX0_run_61 : decode cX0_run 61 = .ok (.iconst 0, 1) := dk_3 (dk_at dksX0_run_2 15 rfl rfl)
theorem dX0_run_62 : decode cX0_run 62 = .ok (.istore 10, 2) := dk_54 10 (dk_at dksX0_run_2 16 rfl rfl)
theorem dX0_run_64 : decode cX0_run 64 = .ok (.iload_n 2, 1) := dk_28 (dk_at dksX0_run_2 18 rfl rfl)
theorem dX0_run_65 : decode cX0_run 65 = .ok (.istore 11, 2) := dk_54 11 (dk_at dksX0_run_2 19 rfl rfl)
theorem dX0_run_67 : decode cX0_run 67 = .ok (.iconst 0, 1) := dk_3 (dk_at dksX0_run_2 21 rfl rfl)
theorem dX0_run_68 : decode cX0_run 68 = .ok (.istore 12, 2) := dk_54 12 (dk_at dksX0_run_2 22 rfl rfl)
theorem dX0_run_70 : decode cX0_run 70 = .ok (.iconst 0, 1) := dk_3 (dk_at dksX0_run_3 0 rfl rfl)
theorem dX0_run_71 : decode cX0_run 71 = .ok (.istore 13, 2) := dk_54 13 (dk_at dksX0_run_3 1 rfl rfl)
theorem dX0_run_73 : decode cX0_run 73 = .ok (.iload 13, 2) := dk_21 13 (dk_at dksX0_run_3 3 rfl rfl)
theorem dX0_run_75 : decode cX0_run 75 = .ok (.iload 4, 2) := dk_21 4 (dk_at dksX0_run_3 5 rfl rfl)
theorem dX0_run_77 : decode cX0_run 77 = .ok (.if_icmp .ge 307, 3) := dk_162 1 51 (dk_at dksX0_run_3 7 rfl rfl)
theorem dX0_run_80 : decode cX0_run 80 = .ok (.iload_n 3, 1) := dk_29 (dk_at dksX0_run_3 10 rfl rfl)
theorem dX0_run_81 : decode cX0_run 81 = .ok (.iconst 4, 1) := dk_7 (dk_at dksX0_run_3 11 rfl rfl)
theorem dX0_run_82 : decode cX0_run 82 = .ok (.iload 13, 2) := dk_21 13 (dk_at dksX0_run_3 12 rfl rfl)
theorem dX0_run_84 : decode cX0_run 84 = .ok (.imul, 1) := dk_104 (dk_at dksX0_run_3 14 rfl rfl)
theorem dX0_run_85 : decode cX0_run 85 = .ok (.ishr, 1) := dk_122 (dk_at dksX0_run_3 15 rfl rfl)
theorem dX0_run_86 : decode cX0_run 86 = .ok (.bipush 15, 2) := dk_16 15 (dk_at dksX0_run_3 16 rfl rfl)
theorem dX0_run_88 : decode cX0_run 88 = .ok (.iand, 1) := dk_126 (dk_at dksX0_run_3 18 rfl rfl)
theorem dX0_run_89 : decode cX0_run 89 = .ok (.istore 14, 2) := dk_54 14 (dk_at dksX0_run_3 19 rfl rfl)
theorem dX0_run_91 : decode cX0_run 91 = .ok (.iload 14, 2) := dk_21 14 (dk_at dksX0_run_3 21 rfl rfl)
theorem dX0_run_93 : decode cX0_run 93 = .ok (.bipush 6, 2) := dk_16 6 (dk_at dksX0_run_4 0 rfl rfl)
theorem dX0_run_95 : decode cX0_run 95 = .ok (.if_icmp .ne 26, 3) := dk_160 0 26 (dk_at dksX0_run_4 2 rfl rfl)
theorem dX0_run_98 : decode cX0_run 98 = .ok (.iload 9, 2) := dk_21 9 (dk_at dksX0_run_4 5 rfl rfl)
theorem dX0_run_100 : decode cX0_run 100 = .ok (.aload_n 0, 1) := dk_42 (dk_at dksX0_run_4 7 rfl rfl)
theorem dX0_run_101 : decode cX0_run 101 = .ok (.getfield 69, 3) := dk_180 0 69 (dk_at dksX0_run_4 8 rfl rfl)
theorem dX0_run_104 : decode cX0_run 104 = .ok (.iload 10, 2) := dk_21 10 (dk_at dksX0_run_4 11 rfl rfl)
theorem dX0_run_106 : decode cX0_run 106 = .ok (.aaload, 1) := dk_50 (dk_at dksX0_run_4 13 rfl rfl)
theorem dX0_run_107 : decode cX0_run 107 = .ok (.iconst 0, 1) := dk_3 (dk_at dksX0_run_4 14 rfl rfl)
theorem dX0_run_108 : decode cX0_run 108 = .ok (.saload, 1) := dk_53 (dk_at dksX0_run_4 15 rfl rfl)
theorem dX0_run_109 : decode cX0_run 109 = .ok (.iadd, 1) := dk_96 (dk_at dksX0_run_4 16 rfl rfl)
theorem dX0_run_110 : decode cX0_run 110 = .ok (.istore 9, 2) := dk_54 9 (dk_at dksX0_run_4 17 rfl rfl)
theorem dX0_run_112 : decode cX0_run 112 = .ok (.iconst 0, 1) := dk_3 (dk_at dksX0_run_4 19 rfl rfl)
theorem dX0_run_113 : decode cX0_run 113 = .ok (.istore 10, 2) := dk_54 10 (dk_at dksX0_run_4 20 rfl rfl)
theorem dX0_run_115 : decode cX0_run 115 = .ok (.iload_n 2, 1) := dk_28 (dk_at dksX0_run_4 22 rfl rfl)
theorem dX0_run_116 : decode cX0_run 116 = .ok (.istore 11, 2) := dk_54 11 (dk_at dksX0_run_5 0 rfl rfl)
theorem dX0_run_118 : decode cX0_run 118 = .ok (.goto 260, 3) := dk_167 1 4 (dk_at dksX0_run_5 2 rfl rfl)
theorem dX0_run_121 : decode cX0_run 121 = .ok (.aload_n 0, 1) := dk_42 (dk_at dksX0_run_5 5 rfl rfl)
theorem dX0_run_122 : decode cX0_run 122 = .ok (.getfield 40, 3) := dk_180 0 40 (dk_at dksX0_run_5 6 rfl rfl)
theorem dX0_run_125 : decode cX0_run 125 = .ok (.iload 14, 2) := dk_21 14 (dk_at dksX0_run_5 9 rfl rfl)
theorem dX0_run_127 : decode cX0_run 127 = .ok (.aaload, 1) := dk_50 (dk_at dksX0_run_5 11 rfl rfl)
theorem dX0_run_128 : decode cX0_run 128 = .ok (.astore 15, 2) := dk_58 15 (dk_at dksX0_run_5 12 rfl rfl)
theorem dX0_run_130 : decode cX0_run 130 = .ok (.iload 9, 2) := dk_21 9 (dk_at dksX0_run_5 14 rfl rfl)
theorem dX0_run_132 : decode cX0_run 132 = .ok (.aload_n 0, 1) := dk_42 (dk_at dksX0_run_5 16 rfl rfl)
theorem dX0_run_133 : decode cX0_run 133 = .ok (.getfield 69, 3) := dk_180 0 69 (dk_at dksX0_run_5 17 rfl rfl)
theorem dX0_run_136 : decode cX0_run 136 = .ok (.iload 10, 2) := dk_21 10 (dk_at dksX0_run_5 20 rfl rfl)
theorem dX0_run_138 : decode cX0_run 138 = .ok (.aaload, 1) := dk_50 (dk_at dksX0_run_5 22 rfl rfl)
theorem dX0_run_139 : decode cX0_run 139 = .ok (.aload 15, 2) := dk_25 15 (dk_at dksX0_run_6 0 rfl rfl)
theorem dX0_run_141 : decode cX0_run 141 = .ok (.invokevirtual 259, 3) := dk_182 1 3 (dk_at dksX0_run_6 2 rfl rfl)
theorem dX0_run_144 : decode cX0_run 144 = .ok (.saload, 1) := dk_53 (dk_at dksX0_run_6 5 rfl rfl)
theorem dX0_run_145 : decode cX0_run 145 = .ok (.iadd, 1) := dk_96 (dk_at dksX0_run_6 6 rfl rfl)
theorem dX0_run_146 : decode cX0_run 146 = .ok (.istore 9, 2) := dk_54 9 (dk_at dksX0_run_6 7 rfl rfl)
theorem dX0_run_148 : decode cX0_run 148 = .ok (.aload 15, 2) := dk_25 15 (dk_at dksX0_run_6 9 rfl rfl)
theorem dX0_run_150 : decode cX0_run 150 = .ok (.invokevirtual 259, 3) := dk_182 1 3 (dk_at dksX0_run_6 11 rfl rfl)
theorem dX0_run_153 : decode cX0_run 153 = .ok (.istore 10, 2) := dk_54 10 (dk_at dksX0_run_6 14 rfl rfl)
theorem dX0_run_155 : decode cX0_run 155 = .ok (.aload 15, 2) := dk_25 15 (dk_at dksX0_run_6 16 rfl rfl)
theorem dX0_run_157 : decode cX0_run 157 = .ok (.iload 9, 2) := dk_21 9 (dk_at dksX0_run_6 18 rfl rfl)
theorem dX0_run_159 : decode cX0_run 159 = .ok (.invokevirtual 262, 3) := dk_182 1 6 (dk_at dksX0_run_6 20 rfl rfl)
theorem dX0_run_162 : decode cX0_run 162 = .ok (.iconst (-1), 1) := dk_2 (dk_at dksX0_run_6 23 rfl rfl)
theorem dX0_run_163 : decode cX0_run 163 = .ok (.if_icmp .ne 16, 3) := dk_160 0 16 (dk_at dksX0_run_7 0 rfl rfl)
theorem dX0_run_166 : decode cX0_run 166 = .ok (.iload 8, 2) := dk_21 8 (dk_at dksX0_run_7 3 rfl rfl)
theorem dX0_run_168 : decode cX0_run 168 = .ok (.aload 15, 2) := dk_25 15 (dk_at dksX0_run_7 5 rfl rfl)
theorem dX0_run_170 : decode cX0_run 170 = .ok (.invokevirtual 272, 3) := dk_182 1 16 (dk_at dksX0_run_7 7 rfl rfl)
theorem dX0_run_173 : decode cX0_run 173 = .ok (.isub, 1) := dk_100 (dk_at dksX0_run_7 10 rfl rfl)
theorem dX0_run_174 : decode cX0_run 174 = .ok (.istore 8, 2) := dk_54 8 (dk_at dksX0_run_7 11 rfl rfl)
theorem dX0_run_176 : decode cX0_run 176 = .ok (.goto 202, 3) := dk_167 0 202 (dk_at dksX0_run_7 13 rfl rfl)
theorem dX0_run_179 : decode cX0_run 179 = .ok (.iload 7, 2) := dk_21 7 (dk_at dksX0_run_7 16 rfl rfl)
theorem dX0_run_181 : decode cX0_run 181 = .ok (.sipush 25173, 3) := dk_17 98 85 (dk_at dksX0_run_7 18 rfl rfl)
theorem dX0_run_184 : decode cX0_run 184 = .ok (.imul, 1) := dk_104 (dk_at dksX0_run_7 21 rfl rfl)
theorem dX0_run_185 : decode cX0_run 185 = .ok (.sipush 13849, 3) := dk_17 54 25 (dk_at dksX0_run_8 0 rfl rfl)
theorem dX0_run_188 : decode cX0_run 188 = .ok (.iadd, 1) := dk_96 (dk_at dksX0_run_8 3 rfl rfl)
theorem dX0_run_189 : decode cX0_run 189 = .ok (.ldc_w 312, 3) := dk_19 1 56 (dk_at dksX0_run_8 4 rfl rfl)
theorem dX0_run_192 : decode cX0_run 192 = .ok (.irem, 1) := dk_112 (dk_at dksX0_run_8 7 rfl rfl)
theorem dX0_run_193 : decode cX0_run 193 = .ok (.istore 7, 2) := dk_54 7 (dk_at dksX0_run_8 8 rfl rfl)
theorem dX0_run_195 : decode cX0_run 195 = .ok (.iload 7, 2) := dk_21 7 (dk_at dksX0_run_8 10 rfl rfl)
theorem dX0_run_197 : decode cX0_run 197 = .ok (.bipush 64, 2) := dk_16 64 (dk_at dksX0_run_8 12 rfl rfl)
theorem dX0_run_199 : decode cX0_run 199 = .ok (.idiv, 1) := dk_108 (dk_at dksX0_run_8 14 rfl rfl)
theorem dX0_run_200 : decode cX0_run 200 = .ok (.aload 15, 2) := dk_25 15 (dk_at dksX0_run_8 15 rfl rfl)
theorem dX0_run_202 : decode cX0_run 202 = .ok (.getfield 206, 3) := dk_180 0 206 (dk_at dksX0_run_8 17 rfl rfl)
theorem dX0_run_205 : decode cX0_run 205 = .ok (.irem, 1) := dk_112 (dk_at dksX0_run_8 20 rfl rfl)
theorem dX0_run_206 : decode cX0_run 206 = .ok (.istore 16, 2) := dk_54 16 (dk_at dksX0_run_8 21 rfl rfl)
theorem dX0_run_208 : decode cX0_run 208 = .ok (.iconst 0, 1) := dk_3 (dk_at dksX0_run_8 23 rfl rfl)
theorem dX0_run_209 : decode cX0_run 209 = .ok (.istore 17, 2) := dk_54 17 (dk_at dksX0_run_9 0 rfl rfl)
theorem dX0_run_211 : decode cX0_run 211 = .ok (.iload 16, 2) := dk_21 16 (dk_at dksX0_run_9 2 rfl rfl)
theorem dX0_run_213 : decode cX0_run 213 = .ok (.aload 15, 2) := dk_25 15 (dk_at dksX0_run_9 4 rfl rfl)
theorem dX0_run_215 : decode cX0_run 215 = .ok (.getfield 48, 3) := dk_180 0 48 (dk_at dksX0_run_9 6 rfl rfl)
theorem dX0_run_218 : decode cX0_run 218 = .ok (.iload 17, 2) := dk_21 17 (dk_at dksX0_run_9 9 rfl rfl)
theorem dX0_run_220 : decode cX0_run 220 = .ok (.invokevirtual 174, 3) := dk_182 0 174 (dk_at dksX0_run_9 11 rfl rfl)
theorem dX0_run_223 : decode cX0_run 223 = .ok (.checkcast 76, 3) := dk_192 0 76 (dk_at dksX0_run_9 14 rfl rfl)
theorem dX0_run_226 : decode cX0_run 226 = .ok (.getfield 178, 3) := dk_180 0 178 (dk_at dksX0_run_9 17 rfl rfl)
theorem dX0_run_229 : decode cX0_run 229 = .ok (.if_icmp .lt 30, 3) := dk_161 0 30 (dk_at dksX0_run_9 20 rfl rfl)
theorem dX0_run_232 : decode cX0_run 232 = .ok (.iload 16, 2) := dk_21 16 (dk_at dksX0_run_10 0 rfl rfl)
theorem dX0_run_234 : decode cX0_run 234 = .ok (.aload 15, 2) := dk_25 15 (dk_at dksX0_run_10 2 rfl rfl)
theorem dX0_run_236 : decode cX0_run 236 = .ok (.getfield 48, 3) := dk_180 0 48 (dk_at dksX0_run_10 4 rfl rfl)
theorem dX0_run_239 : decode cX0_run 239 = .ok (.iload 17, 2) := dk_21 17 (dk_at dksX0_run_10 7 rfl rfl)
theorem dX0_run_241 : decode cX0_run 241 = .ok (.invokevirtual 174, 3) := dk_182 0 174 (dk_at dksX0_run_10 9 rfl rfl)
theorem dX0_run_244 : decode cX0_run 244 = .ok (.checkcast 76, 3) := dk_192 0 76 (dk_at dksX0_run_10 12 rfl rfl)
theorem dX0_run_247 : decode cX0_run 247 = .ok (.getfield 178, 3) := dk_180 0 178 (dk_at dksX0_run_10 15 rfl rfl)
theorem dX0_run_250 : decode cX0_run 250 = .ok (.isub, 1) := dk_100 (dk_at dksX0_run_10 18 rfl rfl)
theorem dX0_run_251 : decode cX0_run 251 = .ok (.istore 16, 2) := dk_54 16 (dk_at dksX0_run_10 19 rfl rfl)
theorem dX0_run_253 : decode cX0_run 253 = .ok (.iinc 17 1, 3) := dk_132 17 1 (dk_at dksX0_run_10 21 rfl rfl)
theorem dX0_run_256 : decode cX0_run 256 = .ok (.goto (-45), 3) := dk_167 255 211 (dk_at dksX0_run_11 0 rfl rfl)
theorem dX0_run_259 : decode cX0_run 259 = .ok (.aload 15, 2) := dk_25 15 (dk_at dksX0_run_11 3 rfl rfl)
theorem dX0_run_261 : decode cX0_run 261 = .ok (.getfield 48, 3) := dk_180 0 48 (dk_at dksX0_run_11 5 rfl rfl)
theorem dX0_run_264 : decode cX0_run 264 = .ok (.iload 17, 2) := dk_21 17 (dk_at dksX0_run_11 8 rfl rfl)
theorem dX0_run_266 : decode cX0_run 266 = .ok (.invokevirtual 174, 3) := dk_182 0 174 (dk_at dksX0_run_11 10 rfl rfl)
theorem dX0_run_269 : decode cX0_run 269 = .ok (.checkcast 76, 3) := dk_192 0 76 (dk_at dksX0_run_11 13 rfl rfl)
theorem dX0_run_272 : decode cX0_run 272 = .ok (.astore 18, 2) := dk_58 18 (dk_at dksX0_run_11 16 rfl rfl)
theorem dX0_run_274 : decode cX0_run 274 = .ok (.aload 18, 2) := dk_25 18 (dk_at dksX0_run_11 18 rfl rfl)
theorem dX0_run_276 : decode cX0_run 276 = .ok (.iload 11, 2) := dk_21 11 (dk_at dksX0_run_11 20 rfl rfl)
theorem dX0_run_278 : decode cX0_run 278 = .ok (.invokevirtual 196, 3) := dk_182 0 196 (dk_at dksX0_run_12 0 rfl rfl)
theorem dX0_run_281 : decode cX0_run 281 = .ok (.istore 19, 2) := dk_54 19 (dk_at dksX0_run_12 3 rfl rfl)
theorem dX0_run_283 : decode cX0_run 283 = .ok (.aload 15, 2) := dk_25 15 (dk_at dksX0_run_12 5 rfl rfl)
theorem dX0_run_285 : decode cX0_run 285 = .ok (.iload 9, 2) := dk_21 9 (dk_at dksX0_run_12 7 rfl rfl)
theorem dX0_run_287 : decode cX0_run 287 = .ok (.invokevirtual 262, 3) := dk_182 1 6 (dk_at dksX0_run_12 9 rfl rfl)
theorem dX0_run_290 : decode cX0_run 290 = .ok (.iload 19, 2) := dk_21 19 (dk_at dksX0_run_12 12 rfl rfl)
theorem dX0_run_292 : decode cX0_run 292 = .ok (.ifCond .eq 11, 3) := dk_153 0 11 (dk_at dksX0_run_12 14 rfl rfl)
theorem dX0_run_295 : decode cX0_run 295 = .ok (.aload 18, 2) := dk_25 18 (dk_at dksX0_run_12 17 rfl rfl)
theorem dX0_run_297 : decode cX0_run 297 = .ok (.getfield 181, 3) := dk_180 0 181 (dk_at dksX0_run_12 19 rfl rfl)
theorem dX0_run_300 : decode cX0_run 300 = .ok (.goto 10, 3) := dk_167 0 10 (dk_at dksX0_run_13 0 rfl rfl)
theorem dX0_run_303 : decode cX0_run 303 = .ok (.aload 15, 2) := dk_25 15 (dk_at dksX0_run_13 3 rfl rfl)
theorem dX0_run_305 : decode cX0_run 305 = .ok (.getfield 167, 3) := dk_180 0 167 (dk_at dksX0_run_13 5 rfl rfl)
theorem dX0_run_308 : decode cX0_run 308 = .ok (.iconst 5, 1) := dk_8 (dk_at dksX0_run_13 8 rfl rfl)
theorem dX0_run_309 : decode cX0_run 309 = .ok (.iaload, 1) := dk_46 (dk_at dksX0_run_13 9 rfl rfl)
theorem dX0_run_310 : decode cX0_run 310 = .ok (.iadd, 1) := dk_96 (dk_at dksX0_run_13 10 rfl rfl)
theorem dX0_run_311 : decode cX0_run 311 = .ok (.istore 9, 2) := dk_54 9 (dk_at dksX0_run_13 11 rfl rfl)
theorem dX0_run_313 : decode cX0_run 313 = .ok (.iload 8, 2) := dk_21 8 (dk_at dksX0_run_13 13 rfl rfl)
theorem dX0_run_315 : decode cX0_run 315 = .ok (.iload 19, 2) := dk_21 19 (dk_at dksX0_run_13 15 rfl rfl)
theorem dX0_run_317 : decode cX0_run 317 = .ok (.ifCond .eq 11, 3) := dk_153 0 11 (dk_at dksX0_run_13 17 rfl rfl)
theorem dX0_run_320 : decode cX0_run 320 = .ok (.aload 15, 2) := dk_25 15 (dk_at dksX0_run_13 20 rfl rfl)
theorem dX0_run_322 : decode cX0_run 322 = .ok (.invokevirtual 275, 3) := dk_182 1 19 (dk_at dksX0_run_14 0 rfl rfl)
theorem dX0_run_325 : decode cX0_run 325 = .ok (.goto 9, 3) := dk_167 0 9 (dk_at dksX0_run_14 3 rfl rfl)
theorem dX0_run_328 : decode cX0_run 328 = .ok (.aload 15, 2) := dk_25 15 (dk_at dksX0_run_14 6 rfl rfl)
theorem dX0_run_330 : decode cX0_run 330 = .ok (.invokevirtual 272, 3) := dk_182 1 16 (dk_at dksX0_run_14 8 rfl rfl)
theorem dX0_run_333 : decode cX0_run 333 = .ok (.ineg, 1) := dk_116 (dk_at dksX0_run_14 11 rfl rfl)
theorem dX0_run_334 : decode cX0_run 334 = .ok (.iadd, 1) := dk_96 (dk_at dksX0_run_14 12 rfl rfl)
theorem dX0_run_335 : decode cX0_run 335 = .ok (.istore 8, 2) := dk_54 8 (dk_at dksX0_run_14 13 rfl rfl)
theorem dX0_run_337 : decode cX0_run 337 = .ok (.iload 19, 2) := dk_21 19 (dk_at dksX0_run_14 15 rfl rfl)
theorem dX0_run_339 : decode cX0_run 339 = .ok (.ifCond .eq 17, 3) := dk_153 0 17 (dk_at dksX0_run_14 17 rfl rfl)
theorem dX0_run_342 : decode cX0_run 342 = .ok (.aload 18, 2) := dk_25 18 (dk_at dksX0_run_14 20 rfl rfl)
theorem dX0_run_344 : decode cX0_run 344 = .ok (.iload 11, 2) := dk_21 11 (dk_at dksX0_run_14 22 rfl rfl)
theorem dX0_run_346 : decode cX0_run 346 = .ok (.aload_n 0, 1) := dk_42 (dk_at dksX0_run_15 0 rfl rfl)
theorem dX0_run_347 : decode cX0_run 347 = .ok (.invokevirtual 199, 3) := dk_182 0 199 (dk_at dksX0_run_15 1 rfl rfl)
theorem dX0_run_350 : decode cX0_run 350 = .ok (.invokevirtual 202, 3) := dk_182 0 202 (dk_at dksX0_run_15 4 rfl rfl)
theorem dX0_run_353 : decode cX0_run 353 = .ok (.goto 5, 3) := dk_167 0 5 (dk_at dksX0_run_15 7 rfl rfl)
theorem dX0_run_356 : decode cX0_run 356 = .ok (.iload 11, 2) := dk_21 11 (dk_at dksX0_run_15 10 rfl rfl)
theorem dX0_run_358 : decode cX0_run 358 = .ok (.istore 11, 2) := dk_54 11 (dk_at dksX0_run_15 12 rfl rfl)
theorem dX0_run_360 : decode cX0_run 360 = .ok (.iload 12, 2) := dk_21 12 (dk_at dksX0_run_15 14 rfl rfl)
theorem dX0_run_362 : decode cX0_run 362 = .ok (.iload 19, 2) := dk_21 19 (dk_at dksX0_run_15 16 rfl rfl)
theorem dX0_run_364 : decode cX0_run 364 = .ok (.ifCond .eq 10, 3) := dk_153 0 10 (dk_at dksX0_run_15 18 rfl rfl)
theorem dX0_run_367 : decode cX0_run 367 = .ok (.iconst 1, 1) := dk_4 (dk_at dksX0_run_15 21 rfl rfl)
theorem dX0_run_368 : decode cX0_run 368 = .ok (.iload 14, 2) := dk_21 14 (dk_at dksX0_run_15 22 rfl rfl)
theorem dX0_run_370 : decode cX0_run 370 = .ok (.ishl, 1) := dk_120 (dk_at dksX0_run_16 0 rfl rfl)
theorem dX0_run_371 : decode cX0_run 371 = .ok (.goto 4, 3) := dk_167 0 4 (dk_at dksX0_run_16 1 rfl rfl)
theorem dX0_run_374 : decode cX0_run 374 = .ok (.iconst 0, 1) := dk_3 (dk_at dksX0_run_16 4 rfl rfl)
theorem dX0_run_375 : decode cX0_run 375 = .ok (.ior, 1) := dk_128 (dk_at dksX0_run_16 5 rfl rfl)
theorem dX0_run_376 : decode cX0_run 376 = .ok (.istore 12, 2) := dk_54 12 (dk_at dksX0_run_16 6 rfl rfl)
theorem dX0_run_378 : decode cX0_run 378 = .ok (.iinc 13 1, 3) := dk_132 13 1 (dk_at dksX0_run_16 8 rfl rfl)
theorem dX0_run_381 : decode cX0_run 381 = .ok (.goto (-308), 3) := dk_167 254 204 (dk_at dksX0_run_16 11 rfl rfl)
theorem dX0_run_384 : decode cX0_run 384 = .ok (.iload 5, 2) := dk_21 5 (dk_at dksX0_run_16 14 rfl rfl)
theorem dX0_run_386 : decode cX0_run 386 = .ok (.ifCond .ne 8, 3) := dk_154 0 8 (dk_at dksX0_run_16 16 rfl rfl)
theorem dX0_run_389 : decode cX0_run 389 = .ok (.iload 8, 2) := dk_21 8 (dk_at dksX0_run_16 19 rfl rfl)
theorem dX0_run_391 : decode cX0_run 391 = .ok (.goto 27, 3) := dk_167 0 27 (dk_at dksX0_run_16 21 rfl rfl)
theorem dX0_run_394 : decode cX0_run 394 = .ok (.iload 5, 2) := dk_21 5 (dk_at dksX0_run_17 0 rfl rfl)
theorem dX0_run_396 : decode cX0_run 396 = .ok (.iconst 1, 1) := dk_4 (dk_at dksX0_run_17 2 rfl rfl)
theorem dX0_run_397 : decode cX0_run 397 = .ok (.if_icmp .ne 8, 3) := dk_160 0 8 (dk_at dksX0_run_17 3 rfl rfl)
theorem dX0_run_400 : decode cX0_run 400 = .ok (.iload 9, 2) := dk_21 9 (dk_at dksX0_run_17 6 rfl rfl)
theorem dX0_run_402 : decode cX0_run 402 = .ok (.goto 16, 3) := dk_167 0 16 (dk_at dksX0_run_17 8 rfl rfl)
theorem dX0_run_405 : decode cX0_run 405 = .ok (.iload 5, 2) := dk_21 5 (dk_at dksX0_run_17 11 rfl rfl)
theorem dX0_run_407 : decode cX0_run 407 = .ok (.iconst 2, 1) := dk_5 (dk_at dksX0_run_17 13 rfl rfl)
theorem dX0_run_408 : decode cX0_run 408 = .ok (.if_icmp .ne 8, 3) := dk_160 0 8 (dk_at dksX0_run_17 14 rfl rfl)
theorem dX0_run_411 : decode cX0_run 411 = .ok (.iload 12, 2) := dk_21 12 (dk_at dksX0_run_17 17 rfl rfl)
theorem dX0_run_413 : decode cX0_run 413 = .ok (.goto 5, 3) := dk_167 0 5 (dk_at dksX0_run_17 19 rfl rfl)
theorem dX0_run_416 : decode cX0_run 416 = .ok (.iload 11, 2) := dk_21 11 (dk_at dksX0_run_17 22 rfl rfl)
theorem dX0_run_418 : decode cX0_run 418 = .ok (.ireturn, 1) := dk_172 (dk_at dksX0_run_18 0 rfl rfl)
abbrev cX0_count : ByteArray := prog_1_method_53_code
def yX0_count : MethodName := ⟨RX0, "count", "(I)I"⟩
def dkwX0_count_5 : List UInt8 := [180, 0, 66, 172, 16, 253, 172]
abbrev dktX0_count_5 : List UInt8 := dkwX0_count_5 ++ []
def dkwX0_count_4 : List UInt8 := [180, 0, 133, 172, 42, 180, 0, 128, 182, 0, 163, 172, 42, 180, 0, 31, 172, 42, 180, 0, 24, 172, 42]
abbrev dktX0_count_4 : List UInt8 := dkwX0_count_4 ++ dktX0_count_5
def dkwX0_count_3 : List UInt8 := [58, 6, 28, 25, 6, 199, 0, 7, 3, 167, 0, 4, 4, 96, 61, 132, 5, 1, 167, 255, 227, 28, 172, 42]
abbrev dktX0_count_3 : List UInt8 := dkwX0_count_3 ++ dktX0_count_4
def dkwX0_count_2 : List UInt8 := [42, 180, 0, 40, 78, 45, 190, 54, 4, 3, 54, 5, 21, 5, 21, 4, 162, 0, 28, 45, 21, 5, 50]
abbrev dktX0_count_2 : List UInt8 := dkwX0_count_2 ++ dktX0_count_3
def dkwX0_count_1 : List UInt8 := [170, 0, 0, 0, 111, 0, 0, 0, 0, 0, 0, 0, 5, 0, 0, 0, 37, 0, 0, 0, 83, 0, 0, 0, 88, 0, 0, 0, 96, 0, 0, 0, 101, 0, 0, 0, 106]
abbrev dktX0_count_1 : List UInt8 := dkwX0_count_1 ++ dktX0_count_2
def dkwX0_count_0 : List UInt8 := [3, 61, 27]
abbrev dktX0_count_0 : List UInt8 := dkwX0_count_0 ++ dktX0_count_1
theorem dksX0_count_0 : cX0_count.data.toList.drop 0 = dktX0_count_0 := by decide +kernel
theorem dksX0_count_1 : cX0_count.data.toList.drop 3 = dktX0_count_1 := dk_seg dksX0_count_0 3 rfl rfl
theorem dksX0_count_2 : cX0_count.data.toList.drop 40 = dktX0_count_2 := dk_seg dksX0_count_1 37 rfl rfl
theorem dksX0_count_3 : cX0_count.data.toList.drop 63 = dktX0_count_3 := dk_seg dksX0_count_2 23 rfl rfl
theorem dksX0_count_4 : cX0_count.data.toList.drop 87 = dktX0_count_4 := dk_seg dksX0_count_3 24 rfl rfl
theorem dksX0_count_5 : cX0_count.data.toList.drop 110 = dktX0_count_5 := dk_seg dksX0_count_4 23 rfl rfl
theorem dX0_count_0 : decode cX0_count 0 = .ok (.iconst 0, 1) := dk_3 (dk_at dksX0_count_0 0 rfl rfl)
theorem dX0_count_1 : decode cX0_count 1 = .ok (.istore_n 2, 1) := dk_61 (dk_at dksX0_count_0 1 rfl rfl)
theorem dX0_count_2 : decode cX0_count 2 = .ok (.iload_n 1, 1) := dk_27 (dk_at dksX0_count_0 2 rfl rfl)
theorem dX0_count_3 : decode cX0_count 3 = .ok (.tableswitch 111 0 5 #[37, 83, 88, 96, 101, 106], 37) := by decide +kernel
theorem dX0_count_40 : decode cX0_count 40 = .ok (.aload_n 0, 1) := dk_42 (dk_at dksX0_count_2 0 rfl rfl)
theorem dX0_count_41 : decode cX0_count 41 = .ok (.getfield 40, 3) := dk_180 0 40 (dk_at dksX0_count_2 1 rfl rfl)
theorem dX0_count_44 : decode cX0_count 44 = .ok (.astore_n 3, 1) := dk_78 (dk_at dksX0_count_2 4 rfl rfl)
theorem dX0_count_45 : decode cX0_count 45 = .ok (.aload_n 3, 1) := dk_45 (dk_at dksX0_count_2 5 rfl rfl)
theorem dX0_count_46 : decode cX0_count 46 = .ok (.arraylength, 1) := dk_190 (dk_at dksX0_count_2 6 rfl rfl)
theorem dX0_count_47 : decode cX0_count 47 = .ok (.istore 4, 2) := dk_54 4 (dk_at dksX0_count_2 7 rfl rfl)
theorem dX0_count_49 : decode cX0_count 49 = .ok (.iconst 0, 1) := dk_3 (dk_at dksX0_count_2 9 rfl rfl)
theorem dX0_count_50 : decode cX0_count 50 = .ok (.istore 5, 2) := dk_54 5 (dk_at dksX0_count_2 10 rfl rfl)
theorem dX0_count_52 : decode cX0_count 52 = .ok (.iload 5, 2) := dk_21 5 (dk_at dksX0_count_2 12 rfl rfl)
theorem dX0_count_54 : decode cX0_count 54 = .ok (.iload 4, 2) := dk_21 4 (dk_at dksX0_count_2 14 rfl rfl)
theorem dX0_count_56 : decode cX0_count 56 = .ok (.if_icmp .ge 28, 3) := dk_162 0 28 (dk_at dksX0_count_2 16 rfl rfl)
theorem dX0_count_59 : decode cX0_count 59 = .ok (.aload_n 3, 1) := dk_45 (dk_at dksX0_count_2 19 rfl rfl)
theorem dX0_count_60 : decode cX0_count 60 = .ok (.iload 5, 2) := dk_21 5 (dk_at dksX0_count_2 20 rfl rfl)
theorem dX0_count_62 : decode cX0_count 62 = .ok (.aaload, 1) := dk_50 (dk_at dksX0_count_2 22 rfl rfl)
theorem dX0_count_63 : decode cX0_count 63 = .ok (.astore 6, 2) := dk_58 6 (dk_at dksX0_count_3 0 rfl rfl)
theorem dX0_count_65 : decode cX0_count 65 = .ok (.iload_n 2, 1) := dk_28 (dk_at dksX0_count_3 2 rfl rfl)
theorem dX0_count_66 : decode cX0_count 66 = .ok (.aload 6, 2) := dk_25 6 (dk_at dksX0_count_3 3 rfl rfl)
theorem dX0_count_68 : decode cX0_count 68 = .ok (.ifnonnull 7, 3) := dk_199 0 7 (dk_at dksX0_count_3 5 rfl rfl)
theorem dX0_count_71 : decode cX0_count 71 = .ok (.iconst 0, 1) := dk_3 (dk_at dksX0_count_3 8 rfl rfl)
theorem dX0_count_72 : decode cX0_count 72 = .ok (.goto 4, 3) := dk_167 0 4 (dk_at dksX0_count_3 9 rfl rfl)
theorem dX0_count_75 : decode cX0_count 75 = .ok (.iconst 1, 1) := dk_4 (dk_at dksX0_count_3 12 rfl rfl)
theorem dX0_count_76 : decode cX0_count 76 = .ok (.iadd, 1) := dk_96 (dk_at dksX0_count_3 13 rfl rfl)
theorem dX0_count_77 : decode cX0_count 77 = .ok (.istore_n 2, 1) := dk_61 (dk_at dksX0_count_3 14 rfl rfl)
theorem dX0_count_78 : decode cX0_count 78 = .ok (.iinc 5 1, 3) := dk_132 5 1 (dk_at dksX0_count_3 15 rfl rfl)
theorem dX0_count_81 : decode cX0_count 81 = .ok (.goto (-29), 3) := dk_167 255 227 (dk_at dksX0_count_3 18 rfl rfl)
theorem dX0_count_84 : decode cX0_count 84 = .ok (.iload_n 2, 1) := dk_28 (dk_at dksX0_count_3 21 rfl rfl)
theorem dX0_count_85 : decode cX0_count 85 = .ok (.ireturn, 1) := dk_172 (dk_at dksX0_count_3 22 rfl rfl)
theorem dX0_count_86 : decode cX0_count 86 = .ok (.aload_n 0, 1) := dk_42 (dk_at dksX0_count_3 23 rfl rfl)
theorem dX0_count_87 : decode cX0_count 87 = .ok (.getfield 133, 3) := dk_180 0 133 (dk_at dksX0_count_4 0 rfl rfl)
theorem dX0_count_90 : decode cX0_count 90 = .ok (.ireturn, 1) := dk_172 (dk_at dksX0_count_4 3 rfl rfl)
theorem dX0_count_91 : decode cX0_count 91 = .ok (.aload_n 0, 1) := dk_42 (dk_at dksX0_count_4 4 rfl rfl)
theorem dX0_count_92 : decode cX0_count 92 = .ok (.getfield 128, 3) := dk_180 0 128 (dk_at dksX0_count_4 5 rfl rfl)
theorem dX0_count_95 : decode cX0_count 95 = .ok (.invokevirtual 163, 3) := dk_182 0 163 (dk_at dksX0_count_4 8 rfl rfl)
theorem dX0_count_98 : decode cX0_count 98 = .ok (.ireturn, 1) := dk_172 (dk_at dksX0_count_4 11 rfl rfl)
theorem dX0_count_99 : decode cX0_count 99 = .ok (.aload_n 0, 1) := dk_42 (dk_at dksX0_count_4 12 rfl rfl)
theorem dX0_count_100 : decode cX0_count 100 = .ok (.getfield 31, 3) := dk_180 0 31 (dk_at dksX0_count_4 13 rfl rfl)
theorem dX0_count_103 : decode cX0_count 103 = .ok (.ireturn, 1) := dk_172 (dk_at dksX0_count_4 16 rfl rfl)
theorem dX0_count_104 : decode cX0_count 104 = .ok (.aload_n 0, 1) := dk_42 (dk_at dksX0_count_4 17 rfl rfl)
theorem dX0_count_105 : decode cX0_count 105 = .ok (.getfield 24, 3) := dk_180 0 24 (dk_at dksX0_count_4 18 rfl rfl)
theorem dX0_count_108 : decode cX0_count 108 = .ok (.ireturn, 1) := dk_172 (dk_at dksX0_count_4 21 rfl rfl)
theorem dX0_count_109 : decode cX0_count 109 = .ok (.aload_n 0, 1) := dk_42 (dk_at dksX0_count_4 22 rfl rfl)
theorem dX0_count_110 : decode cX0_count 110 = .ok (.getfield 66, 3) := dk_180 0 66 (dk_at dksX0_count_5 0 rfl rfl)
theorem dX0_count_113 : decode cX0_count 113 = .ok (.ireturn, 1) := dk_172 (dk_at dksX0_count_5 3 rfl rfl)
theorem dX0_count_114 : decode cX0_count 114 = .ok (.bipush (-3), 2) := dk_16 253 (dk_at dksX0_count_5 4 rfl rfl)
theorem dX0_count_116 : decode cX0_count 116 = .ok (.ireturn, 1) := dk_172 (dk_at dksX0_count_5 6 rfl rfl)
theorem q77 : (Jvm.Cond.initialized "CarryUp") ∈ lw_all := lw_g (lw_at lw_m1 1 rfl) rfl
theorem q110 : (Jvm.Cond.instantiable "CarryUp" (11 : Nat)) ∈ lw_all := lw_g (lw_at lw_m1 34 rfl) rfl
theorem q112 : (Jvm.Cond.instanceMethod ({ cls := "CarryUp", name := "<init>", desc := "()V" } : Jvm.MethodName)) ∈ lw_all := lw_g (lw_at lw_m1 36 rfl) rfl
theorem q113 : (Jvm.Cond.code ({ cls := "CarryUp", name := "<init>", desc := "()V" } : Jvm.MethodName) prog_1_method_14_code (3 : Nat) (Option.none : Option Jvm.ClassFile.FieldType)) ∈ lw_all := lw_g (lw_at lw_m1 37 rfl) rfl
theorem q114 : (Jvm.Cond.methodLink "CarryUp" (114 : Nat) ({ cls := "java/lang/Object", name := "<init>", desc := "()V" } : Jvm.MethodName)) ∈ lw_all := lw_g (lw_at lw_m1 38 rfl) rfl
theorem q117 : (Jvm.Cond.classLink "CarryUp" (115 : Nat) "java/lang/Object") ∈ lw_all := lw_g (lw_at lw_m1 41 rfl) rfl
theorem q119 : (Jvm.Cond.classLink "CarryUp" (119 : Nat) "[[S") ∈ lw_all := lw_g (lw_at lw_m1 43 rfl) rfl
theorem q121 : (Jvm.Cond.classLink "CarryUp" (49 : Nat) "CarryUp$Call") ∈ lw_all := lw_g (lw_at lw_m1 45 rfl) rfl
theorem q123 : (Jvm.Cond.classLink "CarryUp" (90 : Nat) "CarryUp$Walk") ∈ lw_all := lw_g (lw_at lw_m1 47 rfl) rfl
theorem q125 : (Jvm.Cond.methodLinkNest "CarryUp" (124 : Nat) ({ cls := "CarryUp$Walk", name := "<init>", desc := "(LCarryUp;)V" } : Jvm.MethodName) "CarryUp") ∈ lw_tbl := lw_at lw_m1 49 rfl
theorem q136 : (Jvm.Cond.fieldLink "CarryUp" (225 : Nat) "CarryUp$Walk" "brings" "J") ∈ lw_all := lw_g (lw_at lw_m1 60 rfl) rfl
theorem q138 : (Jvm.Cond.fieldLink "CarryUp" (232 : Nat) "CarryUp$Walk" "done" "J") ∈ lw_all := lw_g (lw_at lw_m1 62 rfl) rfl
theorem q140 : (Jvm.Cond.fieldLink "CarryUp" (229 : Nat) "CarryUp$Walk" "below" "J") ∈ lw_all := lw_g (lw_at lw_m1 64 rfl) rfl
theorem q142 : (Jvm.Cond.fieldLink "CarryUp" (235 : Nat) "CarryUp$Walk" "end" "I") ∈ lw_all := lw_g (lw_at lw_m1 66 rfl) rfl
theorem q169 : (Jvm.Cond.classLink "CarryUp" (55 : Nat) "java/util/ArrayList") ∈ lw_all := lw_g (lw_at lw_m1 93 rfl) rfl
theorem q171 : (Jvm.Cond.methodLink "CarryUp" (127 : Nat) ({ cls := "java/util/ArrayList", name := "<init>", desc := "()V" } : Jvm.MethodName)) ∈ lw_all := lw_g (lw_at lw_m1 95 rfl) rfl
theorem q195 : (Jvm.Cond.classLink "CarryUp" (7 : Nat) "CarryUp$Thing") ∈ lw_all := lw_g (lw_at lw_m1 119 rfl) rfl
theorem q197 : (Jvm.Cond.methodLink "CarryUp" (65 : Nat) ({ cls := "CarryUp$Thing", name := "<init>", desc := "(II)V" } : Jvm.MethodName)) ∈ lw_all := lw_g (lw_at lw_m1 121 rfl) rfl
theorem q202 : (Jvm.Cond.fieldLink "CarryUp" (17 : Nat) "CarryUp$Thing" "weight" "I") ∈ lw_all := lw_g (lw_at lw_m1 126 rfl) rfl
theorem q204 : (Jvm.Cond.fieldLink "CarryUp" (21 : Nat) "CarryUp$Thing" "price" "I") ∈ lw_all := lw_g (lw_at lw_m1 128 rfl) rfl
theorem q210 : (Jvm.Cond.fieldLink "CarryUp" (1 : Nat) "CarryUp" "things" "[Ljava/lang/Object;") ∈ lw_all := lw_g (lw_at lw_m1 134 rfl) rfl
theorem q211 : (Jvm.Cond.fieldLink "CarryUp" (31 : Nat) "CarryUp" "load" "I") ∈ lw_all := lw_g (lw_at lw_m1 135 rfl) rfl
theorem q212 : (Jvm.Cond.fieldLink "CarryUp" (24 : Nat) "CarryUp" "purse" "I") ∈ lw_all := lw_g (lw_at lw_m1 136 rfl) rfl
theorem q214 : (Jvm.Cond.fieldLink "CarryUp" (66 : Nat) "CarryUp" "begin" "I") ∈ lw_all := lw_g (lw_at lw_m1 138 rfl) rfl
theorem q216 : (Jvm.Cond.fieldLink "CarryUp" (69 : Nat) "CarryUp" "ways" "[[S") ∈ lw_all := lw_g (lw_at lw_m1 140 rfl) rfl
theorem q218 : (Jvm.Cond.fieldLink "CarryUp" (40 : Nat) "CarryUp" "calls" "[LCarryUp$Call;") ∈ lw_all := lw_g (lw_at lw_m1 142 rfl) rfl
theorem q220 : (Jvm.Cond.fieldLink "CarryUp" (120 : Nat) "CarryUp" "text" "[B") ∈ lw_all := lw_g (lw_at lw_m1 144 rfl) rfl
theorem q222 : (Jvm.Cond.fieldLink "CarryUp" (133 : Nat) "CarryUp" "bytes" "I") ∈ lw_all := lw_g (lw_at lw_m1 146 rfl) rfl
theorem q223 : (Jvm.Cond.fieldLink "CarryUp" (85 : Nat) "CarryUp" "walk" "LCarryUp$Walk;") ∈ lw_all := lw_g (lw_at lw_m1 147 rfl) rfl
theorem q224 : (Jvm.Cond.fieldLink "CarryUp" (128 : Nat) "CarryUp" "book" "Ljava/util/ArrayList;") ∈ lw_all := lw_g (lw_at lw_m1 148 rfl) rfl
theorem q225 : (Jvm.Cond.fieldLink "CarryUp" (238 : Nat) "CarryUp" "mostBrings" "J") ∈ lw_all := lw_g (lw_at lw_m1 149 rfl) rfl
theorem q226 : (Jvm.Cond.laysFinal "CarryUp" "CarryUp" "things" "[Ljava/lang/Object;") ∈ lw_all := lw_g (lw_at lw_m1 150 rfl) rfl
theorem q227 : (Jvm.Cond.soleField "CarryUp" "things") ∈ lw_all := lw_g (lw_at lw_m1 151 rfl) rfl
theorem q228 : (Jvm.Cond.lays "CarryUp" "CarryUp" "load" "I") ∈ lw_all := lw_g (lw_at lw_m1 152 rfl) rfl
theorem q229 : (Jvm.Cond.soleField "CarryUp" "load") ∈ lw_all := lw_g (lw_at lw_m1 153 rfl) rfl
theorem q230 : (Jvm.Cond.lays "CarryUp" "CarryUp" "purse" "I") ∈ lw_all := lw_g (lw_at lw_m1 154 rfl) rfl
theorem q231 : (Jvm.Cond.soleField "CarryUp" "purse") ∈ lw_all := lw_g (lw_at lw_m1 155 rfl) rfl
theorem q232 : (Jvm.Cond.lays "CarryUp" "CarryUp" "begin" "I") ∈ lw_all := lw_g (lw_at lw_m1 156 rfl) rfl
theorem q233 : (Jvm.Cond.soleField "CarryUp" "begin") ∈ lw_all := lw_g (lw_at lw_m1 157 rfl) rfl
theorem q234 : (Jvm.Cond.laysFinal "CarryUp" "CarryUp" "ways" "[[S") ∈ lw_all := lw_g (lw_at lw_m1 158 rfl) rfl
theorem q235 : (Jvm.Cond.soleField "CarryUp" "ways") ∈ lw_all := lw_g (lw_at lw_m1 159 rfl) rfl
theorem q236 : (Jvm.Cond.laysFinal "CarryUp" "CarryUp" "calls" "[LCarryUp$Call;") ∈ lw_all := lw_g (lw_at lw_m1 160 rfl) rfl
theorem q237 : (Jvm.Cond.soleField "CarryUp" "calls") ∈ lw_all := lw_g (lw_at lw_m1 161 rfl) rfl
theorem q238 : (Jvm.Cond.laysFinal "CarryUp" "CarryUp" "text" "[B") ∈ lw_all := lw_g (lw_at lw_m1 162 rfl) rfl
theorem q239 : (Jvm.Cond.soleField "CarryUp" "text") ∈ lw_all := lw_g (lw_at lw_m1 163 rfl) rfl
theorem q240 : (Jvm.Cond.lays "CarryUp" "CarryUp" "bytes" "I") ∈ lw_all := lw_g (lw_at lw_m1 164 rfl) rfl
theorem q241 : (Jvm.Cond.soleField "CarryUp" "bytes") ∈ lw_all := lw_g (lw_at lw_m1 165 rfl) rfl
theorem q242 : (Jvm.Cond.laysFinal "CarryUp" "CarryUp" "walk" "LCarryUp$Walk;") ∈ lw_all := lw_g (lw_at lw_m1 166 rfl) rfl
theorem q243 : (Jvm.Cond.soleField "CarryUp" "walk") ∈ lw_all := lw_g (lw_at lw_m1 167 rfl) rfl
theorem q244 : (Jvm.Cond.laysFinal "CarryUp" "CarryUp" "book" "Ljava/util/ArrayList;") ∈ lw_all := lw_g (lw_at lw_m1 168 rfl) rfl
theorem q245 : (Jvm.Cond.soleField "CarryUp" "book") ∈ lw_all := lw_g (lw_at lw_m1 169 rfl) rfl
theorem q246 : (Jvm.Cond.lays "CarryUp" "CarryUp" "mostBrings" "J") ∈ lw_all := lw_g (lw_at lw_m1 170 rfl) rfl
theorem q247 : (Jvm.Cond.soleField "CarryUp" "mostBrings") ∈ lw_all := lw_g (lw_at lw_m1 171 rfl) rfl
theorem q248 : (Jvm.Cond.superclass "CarryUp" "java/lang/Object") ∈ lw_all := lw_g (lw_at lw_m1 172 rfl) rfl
theorem q250 : (Jvm.Cond.instanceMethod ({ cls := "CarryUp", name := "write", desc := "(JI)I" } : Jvm.MethodName)) ∈ lw_all := lw_g (lw_at lw_m1 174 rfl) rfl
theorem q251 : (Jvm.Cond.selects "CarryUp" ({ cls := "CarryUp", name := "write", desc := "(JI)I" } : Jvm.MethodName) ({ cls := "CarryUp", name := "write", desc := "(JI)I" } : Jvm.MethodName)) ∈ lw_all := lw_g (lw_at lw_m1 175 rfl) rfl
theorem q252 : (Jvm.Cond.code ({ cls := "CarryUp", name := "write", desc := "(JI)I" } : Jvm.MethodName) prog_1_method_15_code (5 : Nat) (Option.some Jvm.ClassFile.FieldType.int)) ∈ lw_all := lw_g (lw_at lw_m1 176 rfl) rfl
theorem q253 : (Jvm.Cond.constantLong "CarryUp" (131 : Nat) (8 : Int64)) ∈ lw_all := lw_g (lw_at lw_m1 177 rfl) rfl
theorem q254 : (Jvm.Cond.methodLink "CarryUp" (36 : Nat) ({ cls := "CarryUp", name := "in", desc := "(JJJ)Z" } : Jvm.MethodName)) ∈ lw_all := lw_g (lw_at lw_m1 178 rfl) rfl
theorem q255 : (Jvm.Cond.static ({ cls := "CarryUp", name := "in", desc := "(JJJ)Z" } : Jvm.MethodName)) ∈ lw_all := lw_g (lw_at lw_m1 179 rfl) rfl
theorem q256 : (Jvm.Cond.code ({ cls := "CarryUp", name := "in", desc := "(JJJ)Z" } : Jvm.MethodName) prog_1_method_1_code (6 : Nat) (Option.some Jvm.ClassFile.FieldType.boolean)) ∈ lw_all := lw_g (lw_at lw_m1 180 rfl) rfl
theorem q258 : (Jvm.Cond.instanceMethod ({ cls := "CarryUp", name := "erase", desc := "()I" } : Jvm.MethodName)) ∈ lw_all := lw_g (lw_at lw_m1 182 rfl) rfl
theorem q259 : (Jvm.Cond.selects "CarryUp" ({ cls := "CarryUp", name := "erase", desc := "()I" } : Jvm.MethodName) ({ cls := "CarryUp", name := "erase", desc := "()I" } : Jvm.MethodName)) ∈ lw_all := lw_g (lw_at lw_m1 183 rfl) rfl
theorem q260 : (Jvm.Cond.code ({ cls := "CarryUp", name := "erase", desc := "()I" } : Jvm.MethodName) prog_1_method_16_code (2 : Nat) (Option.some Jvm.ClassFile.FieldType.int)) ∈ lw_all := lw_g (lw_at lw_m1 184 rfl) rfl
theorem q262 : (Jvm.Cond.instanceMethod ({ cls := "CarryUp", name := "fault", desc := "()I" } : Jvm.MethodName)) ∈ lw_all := lw_g (lw_at lw_m1 186 rfl) rfl
theorem q263 : (Jvm.Cond.selects "CarryUp" ({ cls := "CarryUp", name := "fault", desc := "()I" } : Jvm.MethodName) ({ cls := "CarryUp", name := "fault", desc := "()I" } : Jvm.MethodName)) ∈ lw_all := lw_g (lw_at lw_m1 187 rfl) rfl
theorem q264 : (Jvm.Cond.codeWith ({ cls := "CarryUp", name := "fault", desc := "()I" } : Jvm.MethodName) prog_1_method_17_code (2 : Nat) (Option.some Jvm.ClassFile.FieldType.int) [((0 : Nat), (13 : Nat), (14 : Nat), (143 : Nat))]) ∈ lw_all := lw_g (lw_at lw_m1 188 rfl) rfl
theorem q265 : (Jvm.Cond.classLink "CarryUp" (143 : Nat) "CarryUp$Fault") ∈ lw_all := lw_g (lw_at lw_m1 189 rfl) rfl
theorem q266 : (Jvm.Cond.classLink "CarryUp" (136 : Nat) "CarryUp$Reader") ∈ lw_all := lw_g (lw_at lw_m1 190 rfl) rfl
theorem q268 : (Jvm.Cond.methodLinkNest "CarryUp" (138 : Nat) ({ cls := "CarryUp$Reader", name := "<init>", desc := "(LCarryUp;)V" } : Jvm.MethodName) "CarryUp") ∈ lw_tbl := lw_at lw_m1 192 rfl
theorem q279 : (Jvm.Cond.fieldLink "CarryUp" (151 : Nat) "CarryUp$Reader" "told" "[[I") ∈ lw_all := lw_g (lw_at lw_m1 203 rfl) rfl
theorem q281 : (Jvm.Cond.fieldLink "CarryUp" (148 : Nat) "CarryUp$Reader" "many" "I") ∈ lw_all := lw_g (lw_at lw_m1 205 rfl) rfl
theorem q296 : (Jvm.Cond.methodLink "CarryUp" (139 : Nat) ({ cls := "CarryUp$Reader", name := "read", desc := "()LCarryUp$Reader;" } : Jvm.MethodName)) ∈ lw_all := lw_g (lw_at lw_m1 220 rfl) rfl
theorem q505 : (Jvm.Cond.laysStatic "CarryUp" "WORDS" "[Ljava/lang/String;") ∈ lw_tbl := lw_at lw_m2 189 rfl
theorem q565 : (Jvm.Cond.fieldLink "CarryUp" (145 : Nat) "CarryUp$Fault" "at" "I") ∈ lw_all := lw_g (lw_at lw_m3 9 rfl) rfl
theorem q673 : (Jvm.Cond.instanceMethod ({ cls := "CarryUp", name := "day", desc := "()I" } : Jvm.MethodName)) ∈ lw_all := lw_g (lw_at lw_m3 117 rfl) rfl
theorem q674 : (Jvm.Cond.selects "CarryUp" ({ cls := "CarryUp", name := "day", desc := "()I" } : Jvm.MethodName) ({ cls := "CarryUp", name := "day", desc := "()I" } : Jvm.MethodName)) ∈ lw_all := lw_g (lw_at lw_m3 118 rfl) rfl
theorem q675 : (Jvm.Cond.codeWith ({ cls := "CarryUp", name := "day", desc := "()I" } : Jvm.MethodName) prog_1_method_18_code (3 : Nat) (Option.some Jvm.ClassFile.FieldType.int) [((9 : Nat), (14 : Nat), (17 : Nat), (143 : Nat))]) ∈ lw_all := lw_g (lw_at lw_m3 119 rfl) rfl
theorem q676 : (Jvm.Cond.methodLink "CarryUp" (155 : Nat) ({ cls := "CarryUp", name := "tell", desc := "([I)V" } : Jvm.MethodName)) ∈ lw_all := lw_g (lw_at lw_m3 120 rfl) rfl
theorem q677 : (Jvm.Cond.privateMethod ({ cls := "CarryUp", name := "tell", desc := "([I)V" } : Jvm.MethodName)) ∈ lw_tbl := lw_at lw_m3 121 rfl
theorem q678 : (Jvm.Cond.instanceMethod ({ cls := "CarryUp", name := "tell", desc := "([I)V" } : Jvm.MethodName)) ∈ lw_all := lw_g (lw_at lw_m3 122 rfl) rfl
theorem q679 : (Jvm.Cond.code ({ cls := "CarryUp", name := "tell", desc := "([I)V" } : Jvm.MethodName) prog_1_method_8_code (2 : Nat) (Option.none : Option Jvm.ClassFile.FieldType)) ∈ lw_all := lw_g (lw_at lw_m3 123 rfl) rfl
theorem q680 : (Jvm.Cond.classLink "CarryUp" (59 : Nat) "CarryUp$Tool") ∈ lw_all := lw_g (lw_at lw_m3 124 rfl) rfl
theorem q682 : (Jvm.Cond.methodLink "CarryUp" (61 : Nat) ({ cls := "CarryUp$Tool", name := "<init>", desc := "(II)V" } : Jvm.MethodName)) ∈ lw_all := lw_g (lw_at lw_m3 126 rfl) rfl
theorem q690 : (Jvm.Cond.methodLink "CarryUp" (73 : Nat) ({ cls := "CarryUp$Call", name := "<init>", desc := "([I)V" } : Jvm.MethodName)) ∈ lw_all := lw_g (lw_at lw_m3 134 rfl) rfl
theorem q698 : (Jvm.Cond.fieldLink "CarryUp" (167 : Nat) "CarryUp$Call" "told" "[I") ∈ lw_all := lw_g (lw_at lw_m3 142 rfl) rfl
theorem q701 : (Jvm.Cond.fieldLink "CarryUp" (48 : Nat) "CarryUp$Call" "sorts" "Ljava/util/ArrayList;") ∈ lw_all := lw_g (lw_at lw_m3 145 rfl) rfl
theorem q704 : (Jvm.Cond.fieldLink "CarryUp" (206 : Nat) "CarryUp$Call" "likely" "I") ∈ lw_all := lw_g (lw_at lw_m3 148 rfl) rfl
theorem q712 : (Jvm.Cond.methodLink "CarryUp" (44 : Nat) ({ cls := "CarryUp", name := "isTold", desc := "(I)Z" } : Jvm.MethodName)) ∈ lw_all := lw_g (lw_at lw_m3 156 rfl) rfl
theorem q713 : (Jvm.Cond.privateMethod ({ cls := "CarryUp", name := "isTold", desc := "(I)Z" } : Jvm.MethodName)) ∈ lw_tbl := lw_at lw_m3 157 rfl
theorem q714 : (Jvm.Cond.instanceMethod ({ cls := "CarryUp", name := "isTold", desc := "(I)Z" } : Jvm.MethodName)) ∈ lw_all := lw_g (lw_at lw_m3 158 rfl) rfl
theorem q715 : (Jvm.Cond.code ({ cls := "CarryUp", name := "isTold", desc := "(I)Z" } : Jvm.MethodName) prog_1_method_6_code (2 : Nat) (Option.some Jvm.ClassFile.FieldType.boolean)) ∈ lw_all := lw_g (lw_at lw_m3 159 rfl) rfl
theorem q716 : (Jvm.Cond.constantLong "CarryUp" (34 : Nat) (5 : Int64)) ∈ lw_all := lw_g (lw_at lw_m3 160 rfl) rfl
theorem q717 : (Jvm.Cond.classLink "CarryUp" (76 : Nat) "CarryUp$Sort") ∈ lw_all := lw_g (lw_at lw_m3 161 rfl) rfl
theorem q719 : (Jvm.Cond.methodLink "CarryUp" (78 : Nat) ({ cls := "CarryUp$Sort", name := "<init>", desc := "(IIII)V" } : Jvm.MethodName)) ∈ lw_all := lw_g (lw_at lw_m3 163 rfl) rfl
theorem q729 : (Jvm.Cond.fieldLink "CarryUp" (178 : Nat) "CarryUp$Sort" "likely" "I") ∈ lw_all := lw_g (lw_at lw_m3 173 rfl) rfl
theorem q732 : (Jvm.Cond.fieldLink "CarryUp" (181 : Nat) "CarryUp$Sort" "minutes" "I") ∈ lw_all := lw_g (lw_at lw_m3 176 rfl) rfl
theorem q735 : (Jvm.Cond.fieldLink "CarryUp" (184 : Nat) "CarryUp$Sort" "all" "I") ∈ lw_all := lw_g (lw_at lw_m3 179 rfl) rfl
theorem q739 : (Jvm.Cond.fieldLink "CarryUp" (187 : Nat) "CarryUp$Sort" "one" "I") ∈ lw_all := lw_g (lw_at lw_m3 183 rfl) rfl
theorem q750 : (Jvm.Cond.methodLink "CarryUp" (81 : Nat) ({ cls := "CarryUp$Call", name := "add", desc := "(LCarryUp$Sort;)V" } : Jvm.MethodName)) ∈ lw_all := lw_g (lw_at lw_m3 194 rfl) rfl
theorem q781 : (Jvm.Cond.selects "CarryUp" ({ cls := "java/lang/Object", name := "getClass", desc := "()Ljava/lang/Class;" } : Jvm.MethodName) ({ cls := "java/lang/Object", name := "getClass", desc := "()Ljava/lang/Class;" } : Jvm.MethodName)) ∈ lw_all := lw_g (lw_at lw_m3 225 rfl) rfl
theorem q804 : (Jvm.Cond.instanceMethod ({ cls := "CarryUp", name := "thing", desc := "(II)I" } : Jvm.MethodName)) ∈ lw_all := lw_g (lw_at lw_m4 8 rfl) rfl
theorem q805 : (Jvm.Cond.selects "CarryUp" ({ cls := "CarryUp", name := "thing", desc := "(II)I" } : Jvm.MethodName) ({ cls := "CarryUp", name := "thing", desc := "(II)I" } : Jvm.MethodName)) ∈ lw_all := lw_g (lw_at lw_m4 9 rfl) rfl
theorem q806 : (Jvm.Cond.code ({ cls := "CarryUp", name := "thing", desc := "(II)I" } : Jvm.MethodName) prog_1_method_20_code (3 : Nat) (Option.some Jvm.ClassFile.FieldType.int)) ∈ lw_all := lw_g (lw_at lw_m4 10 rfl) rfl
theorem q807 : (Jvm.Cond.methodLink "CarryUp" (160 : Nat) ({ cls := "CarryUp", name := "isThing", desc := "(I)Z" } : Jvm.MethodName)) ∈ lw_all := lw_g (lw_at lw_m4 11 rfl) rfl
theorem q808 : (Jvm.Cond.static ({ cls := "CarryUp", name := "isThing", desc := "(I)Z" } : Jvm.MethodName)) ∈ lw_all := lw_g (lw_at lw_m4 12 rfl) rfl
theorem q809 : (Jvm.Cond.code ({ cls := "CarryUp", name := "isThing", desc := "(I)Z" } : Jvm.MethodName) prog_1_method_19_code (1 : Nat) (Option.some Jvm.ClassFile.FieldType.boolean)) ∈ lw_all := lw_g (lw_at lw_m4 13 rfl) rfl
theorem q810 : (Jvm.Cond.constantLong "CarryUp" (158 : Nat) (7 : Int64)) ∈ lw_all := lw_g (lw_at lw_m4 14 rfl) rfl
theorem q811 : (Jvm.Cond.methodLink "CarryUp" (9 : Nat) ({ cls := "CarryUp", name := "thingAt", desc := "(I)LCarryUp$Thing;" } : Jvm.MethodName)) ∈ lw_all := lw_g (lw_at lw_m4 15 rfl) rfl
theorem q812 : (Jvm.Cond.privateMethod ({ cls := "CarryUp", name := "thingAt", desc := "(I)LCarryUp$Thing;" } : Jvm.MethodName)) ∈ lw_tbl := lw_at lw_m4 16 rfl
theorem q813 : (Jvm.Cond.instanceMethod ({ cls := "CarryUp", name := "thingAt", desc := "(I)LCarryUp$Thing;" } : Jvm.MethodName)) ∈ lw_all := lw_g (lw_at lw_m4 17 rfl) rfl
theorem q814 : (Jvm.Cond.code ({ cls := "CarryUp", name := "thingAt", desc := "(I)LCarryUp$Thing;" } : Jvm.MethodName) prog_1_method_2_code (2 : Nat) (Option.some (Jvm.ClassFile.FieldType.object "CarryUp$Thing"))) ∈ lw_all := lw_g (lw_at lw_m4 18 rfl) rfl
theorem q815 : (Jvm.Cond.methodLink "CarryUp" (13 : Nat) ({ cls := "CarryUp$Thing", name := "isUsed", desc := "()Z" } : Jvm.MethodName)) ∈ lw_all := lw_g (lw_at lw_m4 19 rfl) rfl
theorem q825 : (Jvm.Cond.instanceMethod ({ cls := "CarryUp", name := "call", desc := "(II)I" } : Jvm.MethodName)) ∈ lw_all := lw_g (lw_at lw_m4 29 rfl) rfl
theorem q826 : (Jvm.Cond.selects "CarryUp" ({ cls := "CarryUp", name := "call", desc := "(II)I" } : Jvm.MethodName) ({ cls := "CarryUp", name := "call", desc := "(II)I" } : Jvm.MethodName)) ∈ lw_all := lw_g (lw_at lw_m4 30 rfl) rfl
theorem q827 : (Jvm.Cond.code ({ cls := "CarryUp", name := "call", desc := "(II)I" } : Jvm.MethodName) prog_1_method_21_code (3 : Nat) (Option.some Jvm.ClassFile.FieldType.int)) ∈ lw_all := lw_g (lw_at lw_m4 31 rfl) rfl
theorem q828 : (Jvm.Cond.constantLong "CarryUp" (99 : Nat) (6 : Int64)) ∈ lw_all := lw_g (lw_at lw_m4 32 rfl) rfl
theorem q829 : (Jvm.Cond.methodLink "CarryUp" (163 : Nat) ({ cls := "java/util/ArrayList", name := "size", desc := "()I" } : Jvm.MethodName)) ∈ lw_all := lw_g (lw_at lw_m4 33 rfl) rfl
theorem q831 : (Jvm.Cond.instanceMethod ({ cls := "CarryUp", name := "sort", desc := "(III)I" } : Jvm.MethodName)) ∈ lw_all := lw_g (lw_at lw_m4 35 rfl) rfl
theorem q832 : (Jvm.Cond.selects "CarryUp" ({ cls := "CarryUp", name := "sort", desc := "(III)I" } : Jvm.MethodName) ({ cls := "CarryUp", name := "sort", desc := "(III)I" } : Jvm.MethodName)) ∈ lw_all := lw_g (lw_at lw_m4 36 rfl) rfl
theorem q833 : (Jvm.Cond.code ({ cls := "CarryUp", name := "sort", desc := "(III)I" } : Jvm.MethodName) prog_1_method_23_code (5 : Nat) (Option.some Jvm.ClassFile.FieldType.int)) ∈ lw_all := lw_g (lw_at lw_m4 37 rfl) rfl
theorem q834 : (Jvm.Cond.methodLink "CarryUp" (170 : Nat) ({ cls := "CarryUp", name := "isSort", desc := "(II)Z" } : Jvm.MethodName)) ∈ lw_all := lw_g (lw_at lw_m4 38 rfl) rfl
theorem q835 : (Jvm.Cond.privateMethod ({ cls := "CarryUp", name := "isSort", desc := "(II)Z" } : Jvm.MethodName)) ∈ lw_tbl := lw_at lw_m4 39 rfl
theorem q836 : (Jvm.Cond.instanceMethod ({ cls := "CarryUp", name := "isSort", desc := "(II)Z" } : Jvm.MethodName)) ∈ lw_all := lw_g (lw_at lw_m4 40 rfl) rfl
theorem q837 : (Jvm.Cond.code ({ cls := "CarryUp", name := "isSort", desc := "(II)Z" } : Jvm.MethodName) prog_1_method_22_code (3 : Nat) (Option.some Jvm.ClassFile.FieldType.boolean)) ∈ lw_all := lw_g (lw_at lw_m4 41 rfl) rfl
theorem q838 : (Jvm.Cond.methodLink "CarryUp" (101 : Nat) ({ cls := "CarryUp", name := "isCall", desc := "(I)Z" } : Jvm.MethodName)) ∈ lw_all := lw_g (lw_at lw_m4 42 rfl) rfl
theorem q839 : (Jvm.Cond.privateMethod ({ cls := "CarryUp", name := "isCall", desc := "(I)Z" } : Jvm.MethodName)) ∈ lw_tbl := lw_at lw_m4 43 rfl
theorem q840 : (Jvm.Cond.instanceMethod ({ cls := "CarryUp", name := "isCall", desc := "(I)Z" } : Jvm.MethodName)) ∈ lw_all := lw_g (lw_at lw_m4 44 rfl) rfl
theorem q841 : (Jvm.Cond.code ({ cls := "CarryUp", name := "isCall", desc := "(I)Z" } : Jvm.MethodName) prog_1_method_7_code (2 : Nat) (Option.some Jvm.ClassFile.FieldType.boolean)) ∈ lw_all := lw_g (lw_at lw_m4 45 rfl) rfl
theorem q842 : (Jvm.Cond.methodLink "CarryUp" (54 : Nat) ({ cls := "java/util/ArrayList", name := "isEmpty", desc := "()Z" } : Jvm.MethodName)) ∈ lw_all := lw_g (lw_at lw_m4 46 rfl) rfl
theorem q846 : (Jvm.Cond.methodLink "CarryUp" (174 : Nat) ({ cls := "java/util/ArrayList", name := "get", desc := "(I)Ljava/lang/Object;" } : Jvm.MethodName)) ∈ lw_all := lw_g (lw_at lw_m4 50 rfl) rfl
theorem q859 : (Jvm.Cond.instanceMethod ({ cls := "CarryUp", name := "way", desc := "(II)I" } : Jvm.MethodName)) ∈ lw_all := lw_g (lw_at lw_m4 63 rfl) rfl
theorem q860 : (Jvm.Cond.selects "CarryUp" ({ cls := "CarryUp", name := "way", desc := "(II)I" } : Jvm.MethodName) ({ cls := "CarryUp", name := "way", desc := "(II)I" } : Jvm.MethodName)) ∈ lw_all := lw_g (lw_at lw_m4 64 rfl) rfl
theorem q861 : (Jvm.Cond.code ({ cls := "CarryUp", name := "way", desc := "(II)I" } : Jvm.MethodName) prog_1_method_24_code (3 : Nat) (Option.some Jvm.ClassFile.FieldType.int)) ∈ lw_all := lw_g (lw_at lw_m4 65 rfl) rfl
theorem q863 : (Jvm.Cond.instanceMethod ({ cls := "CarryUp", name := "may", desc := "(I)I" } : Jvm.MethodName)) ∈ lw_all := lw_g (lw_at lw_m4 67 rfl) rfl
theorem q864 : (Jvm.Cond.selects "CarryUp" ({ cls := "CarryUp", name := "may", desc := "(I)I" } : Jvm.MethodName) ({ cls := "CarryUp", name := "may", desc := "(I)I" } : Jvm.MethodName)) ∈ lw_all := lw_g (lw_at lw_m4 68 rfl) rfl
theorem q865 : (Jvm.Cond.code ({ cls := "CarryUp", name := "may", desc := "(I)I" } : Jvm.MethodName) prog_1_method_25_code (2 : Nat) (Option.some Jvm.ClassFile.FieldType.int)) ∈ lw_all := lw_g (lw_at lw_m4 69 rfl) rfl
theorem q866 : (Jvm.Cond.methodLink "CarryUp" (190 : Nat) ({ cls := "CarryUp", name := "isBag", desc := "(I)Z" } : Jvm.MethodName)) ∈ lw_all := lw_g (lw_at lw_m4 70 rfl) rfl
theorem q867 : (Jvm.Cond.static ({ cls := "CarryUp", name := "isBag", desc := "(I)Z" } : Jvm.MethodName)) ∈ lw_all := lw_g (lw_at lw_m4 71 rfl) rfl
theorem q868 : (Jvm.Cond.code ({ cls := "CarryUp", name := "isBag", desc := "(I)Z" } : Jvm.MethodName) prog_1_method_11_code (1 : Nat) (Option.some Jvm.ClassFile.FieldType.boolean)) ∈ lw_all := lw_g (lw_at lw_m4 72 rfl) rfl
theorem q869 : (Jvm.Cond.constantLong "CarryUp" (104 : Nat) (255 : Int64)) ∈ lw_all := lw_g (lw_at lw_m4 73 rfl) rfl
theorem q870 : (Jvm.Cond.methodLink "CarryUp" (193 : Nat) ({ cls := "CarryUp", name := "mayBe", desc := "(I)Z" } : Jvm.MethodName)) ∈ lw_all := lw_g (lw_at lw_m4 74 rfl) rfl
theorem q871 : (Jvm.Cond.privateMethod ({ cls := "CarryUp", name := "mayBe", desc := "(I)Z" } : Jvm.MethodName)) ∈ lw_tbl := lw_at lw_m4 75 rfl
theorem q872 : (Jvm.Cond.instanceMethod ({ cls := "CarryUp", name := "mayBe", desc := "(I)Z" } : Jvm.MethodName)) ∈ lw_all := lw_g (lw_at lw_m4 76 rfl) rfl
theorem q873 : (Jvm.Cond.code ({ cls := "CarryUp", name := "mayBe", desc := "(I)Z" } : Jvm.MethodName) prog_1_method_5_code (4 : Nat) (Option.some Jvm.ClassFile.FieldType.boolean)) ∈ lw_all := lw_g (lw_at lw_m4 77 rfl) rfl
theorem q874 : (Jvm.Cond.methodLink "CarryUp" (27 : Nat) ({ cls := "CarryUp", name := "weightOf", desc := "(I)I" } : Jvm.MethodName)) ∈ lw_all := lw_g (lw_at lw_m4 78 rfl) rfl
theorem q875 : (Jvm.Cond.privateMethod ({ cls := "CarryUp", name := "weightOf", desc := "(I)I" } : Jvm.MethodName)) ∈ lw_tbl := lw_at lw_m4 79 rfl
theorem q876 : (Jvm.Cond.instanceMethod ({ cls := "CarryUp", name := "weightOf", desc := "(I)I" } : Jvm.MethodName)) ∈ lw_all := lw_g (lw_at lw_m4 80 rfl) rfl
theorem q877 : (Jvm.Cond.code ({ cls := "CarryUp", name := "weightOf", desc := "(I)I" } : Jvm.MethodName) prog_1_method_4_code (4 : Nat) (Option.some Jvm.ClassFile.FieldType.int)) ∈ lw_all := lw_g (lw_at lw_m4 81 rfl) rfl
theorem q879 : (Jvm.Cond.instanceMethod ({ cls := "CarryUp", name := "does", desc := "(III)I" } : Jvm.MethodName)) ∈ lw_all := lw_g (lw_at lw_m4 83 rfl) rfl
theorem q880 : (Jvm.Cond.selects "CarryUp" ({ cls := "CarryUp", name := "does", desc := "(III)I" } : Jvm.MethodName) ({ cls := "CarryUp", name := "does", desc := "(III)I" } : Jvm.MethodName)) ∈ lw_all := lw_g (lw_at lw_m4 84 rfl) rfl
theorem q881 : (Jvm.Cond.code ({ cls := "CarryUp", name := "does", desc := "(III)I" } : Jvm.MethodName) prog_1_method_26_code (5 : Nat) (Option.some Jvm.ClassFile.FieldType.int)) ∈ lw_all := lw_g (lw_at lw_m4 85 rfl) rfl
theorem q882 : (Jvm.Cond.methodLink "CarryUp" (196 : Nat) ({ cls := "CarryUp$Sort", name := "isMet", desc := "(I)Z" } : Jvm.MethodName)) ∈ lw_all := lw_g (lw_at lw_m4 86 rfl) rfl
theorem q888 : (Jvm.Cond.methodLink "CarryUp" (199 : Nat) ({ cls := "CarryUp", name := "parts", desc := "()I" } : Jvm.MethodName)) ∈ lw_all := lw_g (lw_at lw_m4 92 rfl) rfl
theorem q889 : (Jvm.Cond.privateMethod ({ cls := "CarryUp", name := "parts", desc := "()I" } : Jvm.MethodName)) ∈ lw_tbl := lw_at lw_m4 93 rfl
theorem q890 : (Jvm.Cond.instanceMethod ({ cls := "CarryUp", name := "parts", desc := "()I" } : Jvm.MethodName)) ∈ lw_all := lw_g (lw_at lw_m4 94 rfl) rfl
theorem q891 : (Jvm.Cond.code ({ cls := "CarryUp", name := "parts", desc := "()I" } : Jvm.MethodName) prog_1_method_3_code (3 : Nat) (Option.some Jvm.ClassFile.FieldType.int)) ∈ lw_all := lw_g (lw_at lw_m4 95 rfl) rfl
theorem q892 : (Jvm.Cond.methodLink "CarryUp" (202 : Nat) ({ cls := "CarryUp$Sort", name := "left", desc := "(II)I" } : Jvm.MethodName)) ∈ lw_all := lw_g (lw_at lw_m4 96 rfl) rfl
theorem q902 : (Jvm.Cond.instanceMethod ({ cls := "CarryUp", name := "chance", desc := "(III)I" } : Jvm.MethodName)) ∈ lw_all := lw_g (lw_at lw_m4 106 rfl) rfl
theorem q903 : (Jvm.Cond.selects "CarryUp" ({ cls := "CarryUp", name := "chance", desc := "(III)I" } : Jvm.MethodName) ({ cls := "CarryUp", name := "chance", desc := "(III)I" } : Jvm.MethodName)) ∈ lw_all := lw_g (lw_at lw_m4 107 rfl) rfl
theorem q904 : (Jvm.Cond.code ({ cls := "CarryUp", name := "chance", desc := "(III)I" } : Jvm.MethodName) prog_1_method_27_code (6 : Nat) (Option.some Jvm.ClassFile.FieldType.int)) ∈ lw_all := lw_g (lw_at lw_m4 108 rfl) rfl
theorem q905 : (Jvm.Cond.methodLink "CarryUp" (207 : Nat) ({ cls := "CarryUp", name := "part", desc := "(JJI)J" } : Jvm.MethodName)) ∈ lw_all := lw_g (lw_at lw_m4 109 rfl) rfl
theorem q906 : (Jvm.Cond.static ({ cls := "CarryUp", name := "part", desc := "(JJI)J" } : Jvm.MethodName)) ∈ lw_all := lw_g (lw_at lw_m4 110 rfl) rfl
theorem q907 : (Jvm.Cond.code ({ cls := "CarryUp", name := "part", desc := "(JJI)J" } : Jvm.MethodName) prog_1_method_13_code (11 : Nat) (Option.some Jvm.ClassFile.FieldType.long)) ∈ lw_all := lw_g (lw_at lw_m4 111 rfl) rfl
theorem q908 : (Jvm.Cond.methodLink "CarryUp" (108 : Nat) ({ cls := "java/lang/Math", name := "abs", desc := "(J)J" } : Jvm.MethodName)) ∈ lw_all := lw_g (lw_at lw_m4 112 rfl) rfl
theorem q912 : (Jvm.Cond.instanceMethod ({ cls := "CarryUp", name := "mean", desc := "(IIII)J" } : Jvm.MethodName)) ∈ lw_all := lw_g (lw_at lw_m4 116 rfl) rfl
theorem q913 : (Jvm.Cond.selects "CarryUp" ({ cls := "CarryUp", name := "mean", desc := "(IIII)J" } : Jvm.MethodName) ({ cls := "CarryUp", name := "mean", desc := "(IIII)J" } : Jvm.MethodName)) ∈ lw_all := lw_g (lw_at lw_m4 117 rfl) rfl
theorem q914 : (Jvm.Cond.code ({ cls := "CarryUp", name := "mean", desc := "(IIII)J" } : Jvm.MethodName) prog_1_method_29_code (7 : Nat) (Option.some Jvm.ClassFile.FieldType.long)) ∈ lw_all := lw_g (lw_at lw_m4 118 rfl) rfl
theorem q915 : (Jvm.Cond.methodLink "CarryUp" (214 : Nat) ({ cls := "CarryUp", name := "faultOf", desc := "(IIII)I" } : Jvm.MethodName)) ∈ lw_all := lw_g (lw_at lw_m4 119 rfl) rfl
theorem q916 : (Jvm.Cond.privateMethod ({ cls := "CarryUp", name := "faultOf", desc := "(IIII)I" } : Jvm.MethodName)) ∈ lw_tbl := lw_at lw_m4 120 rfl
theorem q917 : (Jvm.Cond.instanceMethod ({ cls := "CarryUp", name := "faultOf", desc := "(IIII)I" } : Jvm.MethodName)) ∈ lw_all := lw_g (lw_at lw_m4 121 rfl) rfl
theorem q918 : (Jvm.Cond.code ({ cls := "CarryUp", name := "faultOf", desc := "(IIII)I" } : Jvm.MethodName) prog_1_method_28_code (6 : Nat) (Option.some Jvm.ClassFile.FieldType.int)) ∈ lw_all := lw_g (lw_at lw_m4 122 rfl) rfl
theorem q919 : (Jvm.Cond.methodLink "CarryUp" (211 : Nat) ({ cls := "CarryUp", name := "faultOf", desc := "(II)I" } : Jvm.MethodName)) ∈ lw_all := lw_g (lw_at lw_m4 123 rfl) rfl
theorem q920 : (Jvm.Cond.privateMethod ({ cls := "CarryUp", name := "faultOf", desc := "(II)I" } : Jvm.MethodName)) ∈ lw_tbl := lw_at lw_m4 124 rfl
theorem q921 : (Jvm.Cond.instanceMethod ({ cls := "CarryUp", name := "faultOf", desc := "(II)I" } : Jvm.MethodName)) ∈ lw_all := lw_g (lw_at lw_m4 125 rfl) rfl
theorem q922 : (Jvm.Cond.code ({ cls := "CarryUp", name := "faultOf", desc := "(II)I" } : Jvm.MethodName) prog_1_method_10_code (7 : Nat) (Option.some Jvm.ClassFile.FieldType.int)) ∈ lw_all := lw_g (lw_at lw_m4 126 rfl) rfl
theorem q923 : (Jvm.Cond.methodLink "CarryUp" (217 : Nat) ({ cls := "CarryUp", name := "refused", desc := "(I)J" } : Jvm.MethodName)) ∈ lw_all := lw_g (lw_at lw_m4 127 rfl) rfl
theorem q924 : (Jvm.Cond.static ({ cls := "CarryUp", name := "refused", desc := "(I)J" } : Jvm.MethodName)) ∈ lw_all := lw_g (lw_at lw_m4 128 rfl) rfl
theorem q925 : (Jvm.Cond.code ({ cls := "CarryUp", name := "refused", desc := "(I)J" } : Jvm.MethodName) prog_1_method_12_code (1 : Nat) (Option.some Jvm.ClassFile.FieldType.long)) ∈ lw_all := lw_g (lw_at lw_m4 129 rfl) rfl
theorem q926 : (Jvm.Cond.constantLong "CarryUp" (106 : Nat) (-9000000000000000000 : Int64)) ∈ lw_all := lw_g (lw_at lw_m4 130 rfl) rfl
theorem q927 : (Jvm.Cond.methodLink "CarryUp" (221 : Nat) ({ cls := "CarryUp", name := "walked", desc := "(III)LCarryUp$Walk;" } : Jvm.MethodName)) ∈ lw_all := lw_g (lw_at lw_m4 131 rfl) rfl
theorem q928 : (Jvm.Cond.privateMethod ({ cls := "CarryUp", name := "walked", desc := "(III)LCarryUp$Walk;" } : Jvm.MethodName)) ∈ lw_tbl := lw_at lw_m4 132 rfl
theorem q929 : (Jvm.Cond.instanceMethod ({ cls := "CarryUp", name := "walked", desc := "(III)LCarryUp$Walk;" } : Jvm.MethodName)) ∈ lw_all := lw_g (lw_at lw_m4 133 rfl) rfl
theorem q930 : (Jvm.Cond.code ({ cls := "CarryUp", name := "walked", desc := "(III)LCarryUp$Walk;" } : Jvm.MethodName) prog_1_method_9_code (4 : Nat) (Option.some (Jvm.ClassFile.FieldType.object "CarryUp$Walk"))) ∈ lw_all := lw_g (lw_at lw_m4 134 rfl) rfl
theorem q931 : (Jvm.Cond.methodLink "CarryUp" (89 : Nat) ({ cls := "CarryUp$Walk", name := "lay", desc := "(IIII)LCarryUp$Walk;" } : Jvm.MethodName)) ∈ lw_all := lw_g (lw_at lw_m4 135 rfl) rfl
theorem q936 : (Jvm.Cond.methodLink "CarryUp" (95 : Nat) ({ cls := "CarryUp$Walk", name := "run", desc := "(I)LCarryUp$Walk;" } : Jvm.MethodName)) ∈ lw_all := lw_g (lw_at lw_m4 140 rfl) rfl
theorem q972 : (Jvm.Cond.instanceMethod ({ cls := "CarryUp", name := "all", desc := "(IIII)J" } : Jvm.MethodName)) ∈ lw_all := lw_g (lw_at lw_m4 176 rfl) rfl
theorem q973 : (Jvm.Cond.selects "CarryUp" ({ cls := "CarryUp", name := "all", desc := "(IIII)J" } : Jvm.MethodName) ({ cls := "CarryUp", name := "all", desc := "(IIII)J" } : Jvm.MethodName)) ∈ lw_all := lw_g (lw_at lw_m4 177 rfl) rfl
theorem q974 : (Jvm.Cond.code ({ cls := "CarryUp", name := "all", desc := "(IIII)J" } : Jvm.MethodName) prog_1_method_30_code (7 : Nat) (Option.some Jvm.ClassFile.FieldType.long)) ∈ lw_all := lw_g (lw_at lw_m4 178 rfl) rfl
theorem q976 : (Jvm.Cond.instanceMethod ({ cls := "CarryUp", name := "end", desc := "(III)I" } : Jvm.MethodName)) ∈ lw_all := lw_g (lw_at lw_m4 180 rfl) rfl
theorem q977 : (Jvm.Cond.selects "CarryUp" ({ cls := "CarryUp", name := "end", desc := "(III)I" } : Jvm.MethodName) ({ cls := "CarryUp", name := "end", desc := "(III)I" } : Jvm.MethodName)) ∈ lw_all := lw_g (lw_at lw_m4 181 rfl) rfl
theorem q978 : (Jvm.Cond.code ({ cls := "CarryUp", name := "end", desc := "(III)I" } : Jvm.MethodName) prog_1_method_31_code (5 : Nat) (Option.some Jvm.ClassFile.FieldType.int)) ∈ lw_all := lw_g (lw_at lw_m4 182 rfl) rfl
theorem q980 : (Jvm.Cond.instanceMethod ({ cls := "CarryUp", name := "best", desc := "(II)I" } : Jvm.MethodName)) ∈ lw_all := lw_g (lw_at lw_m4 184 rfl) rfl
theorem q981 : (Jvm.Cond.selects "CarryUp" ({ cls := "CarryUp", name := "best", desc := "(II)I" } : Jvm.MethodName) ({ cls := "CarryUp", name := "best", desc := "(II)I" } : Jvm.MethodName)) ∈ lw_all := lw_g (lw_at lw_m4 185 rfl) rfl
theorem q982 : (Jvm.Cond.code ({ cls := "CarryUp", name := "best", desc := "(II)I" } : Jvm.MethodName) prog_1_method_33_code (4 : Nat) (Option.some Jvm.ClassFile.FieldType.int)) ∈ lw_all := lw_g (lw_at lw_m4 186 rfl) rfl
theorem q983 : (Jvm.Cond.methodLink "CarryUp" (241 : Nat) ({ cls := "CarryUp", name := "bestOf", desc := "(IIII)I" } : Jvm.MethodName)) ∈ lw_all := lw_g (lw_at lw_m4 187 rfl) rfl
theorem q984 : (Jvm.Cond.privateMethod ({ cls := "CarryUp", name := "bestOf", desc := "(IIII)I" } : Jvm.MethodName)) ∈ lw_tbl := lw_at lw_m4 188 rfl
theorem q985 : (Jvm.Cond.instanceMethod ({ cls := "CarryUp", name := "bestOf", desc := "(IIII)I" } : Jvm.MethodName)) ∈ lw_all := lw_g (lw_at lw_m4 189 rfl) rfl
theorem q986 : (Jvm.Cond.code ({ cls := "CarryUp", name := "bestOf", desc := "(IIII)I" } : Jvm.MethodName) prog_1_method_32_code (7 : Nat) (Option.some Jvm.ClassFile.FieldType.int)) ∈ lw_all := lw_g (lw_at lw_m4 190 rfl) rfl
theorem q988 : (Jvm.Cond.instanceMethod ({ cls := "CarryUp", name := "sure", desc := "(IIII)I" } : Jvm.MethodName)) ∈ lw_all := lw_g (lw_at lw_m4 192 rfl) rfl
theorem q989 : (Jvm.Cond.selects "CarryUp" ({ cls := "CarryUp", name := "sure", desc := "(IIII)I" } : Jvm.MethodName) ({ cls := "CarryUp", name := "sure", desc := "(IIII)I" } : Jvm.MethodName)) ∈ lw_all := lw_g (lw_at lw_m4 193 rfl) rfl
theorem q990 : (Jvm.Cond.code ({ cls := "CarryUp", name := "sure", desc := "(IIII)I" } : Jvm.MethodName) prog_1_method_34_code (9 : Nat) (Option.some Jvm.ClassFile.FieldType.int)) ∈ lw_all := lw_g (lw_at lw_m4 194 rfl) rfl
theorem q991 : (Jvm.Cond.constantLong "CarryUp" (244 : Nat) (99 : Int64)) ∈ lw_all := lw_g (lw_at lw_m4 195 rfl) rfl
theorem q993 : (Jvm.Cond.instanceMethod ({ cls := "CarryUp", name := "know", desc := "(IIII)J" } : Jvm.MethodName)) ∈ lw_all := lw_g (lw_at lw_m4 197 rfl) rfl
theorem q994 : (Jvm.Cond.selects "CarryUp" ({ cls := "CarryUp", name := "know", desc := "(IIII)J" } : Jvm.MethodName) ({ cls := "CarryUp", name := "know", desc := "(IIII)J" } : Jvm.MethodName)) ∈ lw_all := lw_g (lw_at lw_m4 198 rfl) rfl
theorem q995 : (Jvm.Cond.code ({ cls := "CarryUp", name := "know", desc := "(IIII)J" } : Jvm.MethodName) prog_1_method_35_code (10 : Nat) (Option.some Jvm.ClassFile.FieldType.long)) ∈ lw_all := lw_g (lw_at lw_m4 199 rfl) rfl
theorem q997 : (Jvm.Cond.instanceMethod ({ cls := "CarryUp", name := "both", desc := "(II)I" } : Jvm.MethodName)) ∈ lw_all := lw_g (lw_at lw_m4 201 rfl) rfl
theorem q998 : (Jvm.Cond.selects "CarryUp" ({ cls := "CarryUp", name := "both", desc := "(II)I" } : Jvm.MethodName) ({ cls := "CarryUp", name := "both", desc := "(II)I" } : Jvm.MethodName)) ∈ lw_all := lw_g (lw_at lw_m4 202 rfl) rfl
theorem q999 : (Jvm.Cond.code ({ cls := "CarryUp", name := "both", desc := "(II)I" } : Jvm.MethodName) prog_1_method_37_code (4 : Nat) (Option.some Jvm.ClassFile.FieldType.int)) ∈ lw_all := lw_g (lw_at lw_m4 203 rfl) rfl
theorem q1000 : (Jvm.Cond.constantLong "CarryUp" (246 : Nat) (3 : Int64)) ∈ lw_all := lw_g (lw_at lw_m4 204 rfl) rfl
theorem q1001 : (Jvm.Cond.methodLink "CarryUp" (248 : Nat) ({ cls := "CarryUp", name := "bestBoth", desc := "(I)I" } : Jvm.MethodName)) ∈ lw_all := lw_g (lw_at lw_m4 205 rfl) rfl
theorem q1002 : (Jvm.Cond.privateMethod ({ cls := "CarryUp", name := "bestBoth", desc := "(I)I" } : Jvm.MethodName)) ∈ lw_tbl := lw_at lw_m4 206 rfl
theorem q1003 : (Jvm.Cond.instanceMethod ({ cls := "CarryUp", name := "bestBoth", desc := "(I)I" } : Jvm.MethodName)) ∈ lw_all := lw_g (lw_at lw_m4 207 rfl) rfl
theorem q1004 : (Jvm.Cond.code ({ cls := "CarryUp", name := "bestBoth", desc := "(I)I" } : Jvm.MethodName) prog_1_method_36_code (12 : Nat) (Option.some Jvm.ClassFile.FieldType.int)) ∈ lw_all := lw_g (lw_at lw_m4 208 rfl) rfl
theorem q1006 : (Jvm.Cond.instanceMethod ({ cls := "CarryUp", name := "value", desc := "(IIIII)J" } : Jvm.MethodName)) ∈ lw_all := lw_g (lw_at lw_m4 210 rfl) rfl
theorem q1007 : (Jvm.Cond.selects "CarryUp" ({ cls := "CarryUp", name := "value", desc := "(IIIII)J" } : Jvm.MethodName) ({ cls := "CarryUp", name := "value", desc := "(IIIII)J" } : Jvm.MethodName)) ∈ lw_all := lw_g (lw_at lw_m4 211 rfl) rfl
theorem q1008 : (Jvm.Cond.code ({ cls := "CarryUp", name := "value", desc := "(IIIII)J" } : Jvm.MethodName) prog_1_method_42_code (7 : Nat) (Option.some Jvm.ClassFile.FieldType.long)) ∈ lw_all := lw_g (lw_at lw_m4 212 rfl) rfl
theorem q1009 : (Jvm.Cond.methodLink "CarryUp" (287 : Nat) ({ cls := "CarryUp", name := "faultOfNow", desc := "(IIII)I" } : Jvm.MethodName)) ∈ lw_all := lw_g (lw_at lw_m4 213 rfl) rfl
theorem q1010 : (Jvm.Cond.privateMethod ({ cls := "CarryUp", name := "faultOfNow", desc := "(IIII)I" } : Jvm.MethodName)) ∈ lw_tbl := lw_at lw_m4 214 rfl
theorem q1011 : (Jvm.Cond.instanceMethod ({ cls := "CarryUp", name := "faultOfNow", desc := "(IIII)I" } : Jvm.MethodName)) ∈ lw_all := lw_g (lw_at lw_m4 215 rfl) rfl
theorem q1012 : (Jvm.Cond.code ({ cls := "CarryUp", name := "faultOfNow", desc := "(IIII)I" } : Jvm.MethodName) prog_1_method_41_code (6 : Nat) (Option.some Jvm.ClassFile.FieldType.int)) ∈ lw_all := lw_g (lw_at lw_m4 216 rfl) rfl
theorem q1013 : (Jvm.Cond.constantLong "CarryUp" (278 : Nat) (63 : Int64)) ∈ lw_all := lw_g (lw_at lw_m4 217 rfl) rfl
theorem q1014 : (Jvm.Cond.methodLink "CarryUp" (280 : Nat) ({ cls := "java/lang/Integer", name := "bitCount", desc := "(I)I" } : Jvm.MethodName)) ∈ lw_all := lw_g (lw_at lw_m4 218 rfl) rfl
theorem q1020 : (Jvm.Cond.constantLong "CarryUp" (285 : Nat) (1439 : Int64)) ∈ lw_all := lw_g (lw_at lw_m4 224 rfl) rfl
theorem q1021 : (Jvm.Cond.methodLink "CarryUp" (268 : Nat) ({ cls := "CarryUp", name := "valueOf", desc := "(IIIII)J" } : Jvm.MethodName)) ∈ lw_all := lw_g (lw_at lw_m4 225 rfl) rfl
theorem q1022 : (Jvm.Cond.privateMethod ({ cls := "CarryUp", name := "valueOf", desc := "(IIIII)J" } : Jvm.MethodName)) ∈ lw_tbl := lw_at lw_m4 226 rfl
theorem q1023 : (Jvm.Cond.instanceMethod ({ cls := "CarryUp", name := "valueOf", desc := "(IIIII)J" } : Jvm.MethodName)) ∈ lw_all := lw_g (lw_at lw_m4 227 rfl) rfl
theorem q1024 : (Jvm.Cond.code ({ cls := "CarryUp", name := "valueOf", desc := "(IIIII)J" } : Jvm.MethodName) prog_1_method_39_code (9 : Nat) (Option.some Jvm.ClassFile.FieldType.long)) ∈ lw_all := lw_g (lw_at lw_m4 228 rfl) rfl
theorem q1025 : (Jvm.Cond.methodLink "CarryUp" (251 : Nat) ({ cls := "CarryUp", name := "valueBy", desc := "(IIIIII)J" } : Jvm.MethodName)) ∈ lw_all := lw_g (lw_at lw_m4 229 rfl) rfl
theorem q1026 : (Jvm.Cond.privateMethod ({ cls := "CarryUp", name := "valueBy", desc := "(IIIIII)J" } : Jvm.MethodName)) ∈ lw_tbl := lw_at lw_m4 230 rfl
theorem q1027 : (Jvm.Cond.instanceMethod ({ cls := "CarryUp", name := "valueBy", desc := "(IIIIII)J" } : Jvm.MethodName)) ∈ lw_all := lw_g (lw_at lw_m4 231 rfl) rfl
theorem q1028 : (Jvm.Cond.code ({ cls := "CarryUp", name := "valueBy", desc := "(IIIIII)J" } : Jvm.MethodName) prog_1_method_40_code (19 : Nat) (Option.some Jvm.ClassFile.FieldType.long)) ∈ lw_all := lw_g (lw_at lw_m4 232 rfl) rfl
theorem q1029 : (Jvm.Cond.methodLink "CarryUp" (259 : Nat) ({ cls := "CarryUp$Call", name := "place", desc := "()I" } : Jvm.MethodName)) ∈ lw_all := lw_g (lw_at lw_m4 233 rfl) rfl
theorem q1030 : (Jvm.Cond.methodLink "CarryUp" (262 : Nat) ({ cls := "CarryUp$Call", name := "begins", desc := "(I)I" } : Jvm.MethodName)) ∈ lw_all := lw_g (lw_at lw_m4 234 rfl) rfl
theorem q1031 : (Jvm.Cond.methodLink "CarryUp" (265 : Nat) ({ cls := "CarryUp", name := "productOf", desc := "(I)J" } : Jvm.MethodName)) ∈ lw_all := lw_g (lw_at lw_m4 235 rfl) rfl
theorem q1032 : (Jvm.Cond.privateMethod ({ cls := "CarryUp", name := "productOf", desc := "(I)J" } : Jvm.MethodName)) ∈ lw_tbl := lw_at lw_m4 236 rfl
theorem q1033 : (Jvm.Cond.instanceMethod ({ cls := "CarryUp", name := "productOf", desc := "(I)J" } : Jvm.MethodName)) ∈ lw_all := lw_g (lw_at lw_m4 237 rfl) rfl
theorem q1034 : (Jvm.Cond.code ({ cls := "CarryUp", name := "productOf", desc := "(I)J" } : Jvm.MethodName) prog_1_method_38_code (5 : Nat) (Option.some Jvm.ClassFile.FieldType.long)) ∈ lw_all := lw_g (lw_at lw_m4 238 rfl) rfl
theorem q1035 : (Jvm.Cond.methodLink "CarryUp" (272 : Nat) ({ cls := "CarryUp$Call", name := "again", desc := "()I" } : Jvm.MethodName)) ∈ lw_all := lw_g (lw_at lw_m4 239 rfl) rfl
theorem q1036 : (Jvm.Cond.methodLink "CarryUp" (275 : Nat) ({ cls := "CarryUp$Call", name := "worth", desc := "()I" } : Jvm.MethodName)) ∈ lw_all := lw_g (lw_at lw_m5 0 rfl) rfl
theorem q1037 : (Jvm.Cond.methodLink "CarryUp" (255 : Nat) ({ cls := "java/lang/Math", name := "max", desc := "(JJ)J" } : Jvm.MethodName)) ∈ lw_all := lw_g (lw_at lw_m5 1 rfl) rfl
theorem q1041 : (Jvm.Cond.instanceMethod ({ cls := "CarryUp", name := "next", desc := "(IIII)I" } : Jvm.MethodName)) ∈ lw_all := lw_g (lw_at lw_m5 5 rfl) rfl
theorem q1042 : (Jvm.Cond.selects "CarryUp" ({ cls := "CarryUp", name := "next", desc := "(IIII)I" } : Jvm.MethodName) ({ cls := "CarryUp", name := "next", desc := "(IIII)I" } : Jvm.MethodName)) ∈ lw_all := lw_g (lw_at lw_m5 6 rfl) rfl
theorem q1043 : (Jvm.Cond.code ({ cls := "CarryUp", name := "next", desc := "(IIII)I" } : Jvm.MethodName) prog_1_method_43_code (9 : Nat) (Option.some Jvm.ClassFile.FieldType.int)) ∈ lw_all := lw_g (lw_at lw_m5 7 rfl) rfl
theorem q1045 : (Jvm.Cond.instanceMethod ({ cls := "CarryUp", name := "stands", desc := "(II)I" } : Jvm.MethodName)) ∈ lw_all := lw_g (lw_at lw_m5 9 rfl) rfl
theorem q1046 : (Jvm.Cond.selects "CarryUp" ({ cls := "CarryUp", name := "stands", desc := "(II)I" } : Jvm.MethodName) ({ cls := "CarryUp", name := "stands", desc := "(II)I" } : Jvm.MethodName)) ∈ lw_all := lw_g (lw_at lw_m5 10 rfl) rfl
theorem q1047 : (Jvm.Cond.code ({ cls := "CarryUp", name := "stands", desc := "(II)I" } : Jvm.MethodName) prog_1_method_44_code (10 : Nat) (Option.some Jvm.ClassFile.FieldType.int)) ∈ lw_all := lw_g (lw_at lw_m5 11 rfl) rfl
theorem q1049 : (Jvm.Cond.instanceMethod ({ cls := "CarryUp", name := "idle", desc := "()I" } : Jvm.MethodName)) ∈ lw_all := lw_g (lw_at lw_m5 13 rfl) rfl
theorem q1050 : (Jvm.Cond.selects "CarryUp" ({ cls := "CarryUp", name := "idle", desc := "()I" } : Jvm.MethodName) ({ cls := "CarryUp", name := "idle", desc := "()I" } : Jvm.MethodName)) ∈ lw_all := lw_g (lw_at lw_m5 14 rfl) rfl
theorem q1051 : (Jvm.Cond.code ({ cls := "CarryUp", name := "idle", desc := "()I" } : Jvm.MethodName) prog_1_method_45_code (7 : Nat) (Option.some Jvm.ClassFile.FieldType.int)) ∈ lw_all := lw_g (lw_at lw_m5 15 rfl) rfl
theorem q1053 : (Jvm.Cond.instanceMethod ({ cls := "CarryUp", name := "visit", desc := "(III)I" } : Jvm.MethodName)) ∈ lw_all := lw_g (lw_at lw_m5 17 rfl) rfl
theorem q1054 : (Jvm.Cond.selects "CarryUp" ({ cls := "CarryUp", name := "visit", desc := "(III)I" } : Jvm.MethodName) ({ cls := "CarryUp", name := "visit", desc := "(III)I" } : Jvm.MethodName)) ∈ lw_all := lw_g (lw_at lw_m5 18 rfl) rfl
theorem q1055 : (Jvm.Cond.code ({ cls := "CarryUp", name := "visit", desc := "(III)I" } : Jvm.MethodName) prog_1_method_46_code (4 : Nat) (Option.some Jvm.ClassFile.FieldType.int)) ∈ lw_all := lw_g (lw_at lw_m5 19 rfl) rfl
theorem q1056 : (Jvm.Cond.classLink "CarryUp" (290 : Nat) "CarryUp$Visit") ∈ lw_all := lw_g (lw_at lw_m5 20 rfl) rfl
theorem q1058 : (Jvm.Cond.classLink "CarryUp" (292 : Nat) "CarryUp$Want") ∈ lw_all := lw_g (lw_at lw_m5 22 rfl) rfl
theorem q1059 : (Jvm.Cond.methodLink "CarryUp" (294 : Nat) ({ cls := "CarryUp$Visit", name := "<init>", desc := "(LCarryUp$Want;I)V" } : Jvm.MethodName)) ∈ lw_all := lw_g (lw_at lw_m5 23 rfl) rfl
theorem q1069 : (Jvm.Cond.methodLink "CarryUp" (297 : Nat) ({ cls := "java/util/ArrayList", name := "add", desc := "(Ljava/lang/Object;)Z" } : Jvm.MethodName)) ∈ lw_all := lw_g (lw_at lw_m5 33 rfl) rfl
theorem q1071 : (Jvm.Cond.instanceMethod ({ cls := "CarryUp", name := "saved", desc := "(I)I" } : Jvm.MethodName)) ∈ lw_all := lw_g (lw_at lw_m5 35 rfl) rfl
theorem q1072 : (Jvm.Cond.selects "CarryUp" ({ cls := "CarryUp", name := "saved", desc := "(I)I" } : Jvm.MethodName) ({ cls := "CarryUp", name := "saved", desc := "(I)I" } : Jvm.MethodName)) ∈ lw_all := lw_g (lw_at lw_m5 36 rfl) rfl
theorem q1073 : (Jvm.Cond.code ({ cls := "CarryUp", name := "saved", desc := "(I)I" } : Jvm.MethodName) prog_1_method_48_code (2 : Nat) (Option.some Jvm.ClassFile.FieldType.int)) ∈ lw_all := lw_g (lw_at lw_m5 37 rfl) rfl
theorem q1074 : (Jvm.Cond.methodLink "CarryUp" (303 : Nat) ({ cls := "CarryUp", name := "savedBy", desc := "(I)I" } : Jvm.MethodName)) ∈ lw_all := lw_g (lw_at lw_m5 38 rfl) rfl
theorem q1075 : (Jvm.Cond.privateMethod ({ cls := "CarryUp", name := "savedBy", desc := "(I)I" } : Jvm.MethodName)) ∈ lw_tbl := lw_at lw_m5 39 rfl
theorem q1076 : (Jvm.Cond.instanceMethod ({ cls := "CarryUp", name := "savedBy", desc := "(I)I" } : Jvm.MethodName)) ∈ lw_all := lw_g (lw_at lw_m5 40 rfl) rfl
theorem q1077 : (Jvm.Cond.code ({ cls := "CarryUp", name := "savedBy", desc := "(I)I" } : Jvm.MethodName) prog_1_method_47_code (4 : Nat) (Option.some Jvm.ClassFile.FieldType.int)) ∈ lw_all := lw_g (lw_at lw_m5 41 rfl) rfl
theorem q1078 : (Jvm.Cond.methodLink "CarryUp" (300 : Nat) ({ cls := "CarryUp$Visit", name := "isSavedBy", desc := "(I)Z" } : Jvm.MethodName)) ∈ lw_all := lw_g (lw_at lw_m5 42 rfl) rfl
theorem q1086 : (Jvm.Cond.instanceMethod ({ cls := "CarryUp", name := "most", desc := "(I)I" } : Jvm.MethodName)) ∈ lw_all := lw_g (lw_at lw_m5 50 rfl) rfl
theorem q1087 : (Jvm.Cond.selects "CarryUp" ({ cls := "CarryUp", name := "most", desc := "(I)I" } : Jvm.MethodName) ({ cls := "CarryUp", name := "most", desc := "(I)I" } : Jvm.MethodName)) ∈ lw_all := lw_g (lw_at lw_m5 51 rfl) rfl
theorem q1088 : (Jvm.Cond.code ({ cls := "CarryUp", name := "most", desc := "(I)I" } : Jvm.MethodName) prog_1_method_49_code (4 : Nat) (Option.some Jvm.ClassFile.FieldType.int)) ∈ lw_all := lw_g (lw_at lw_m5 52 rfl) rfl
theorem q1090 : (Jvm.Cond.instanceMethod ({ cls := "CarryUp", name := "box", desc := "(I)I" } : Jvm.MethodName)) ∈ lw_all := lw_g (lw_at lw_m5 54 rfl) rfl
theorem q1091 : (Jvm.Cond.selects "CarryUp" ({ cls := "CarryUp", name := "box", desc := "(I)I" } : Jvm.MethodName) ({ cls := "CarryUp", name := "box", desc := "(I)I" } : Jvm.MethodName)) ∈ lw_all := lw_g (lw_at lw_m5 55 rfl) rfl
theorem q1092 : (Jvm.Cond.code ({ cls := "CarryUp", name := "box", desc := "(I)I" } : Jvm.MethodName) prog_1_method_51_code (5 : Nat) (Option.some Jvm.ClassFile.FieldType.int)) ∈ lw_all := lw_g (lw_at lw_m5 56 rfl) rfl
theorem q1093 : (Jvm.Cond.methodLink "CarryUp" (307 : Nat) ({ cls := "CarryUp", name := "metBy", desc := "(I)I" } : Jvm.MethodName)) ∈ lw_all := lw_g (lw_at lw_m5 57 rfl) rfl
theorem q1094 : (Jvm.Cond.privateMethod ({ cls := "CarryUp", name := "metBy", desc := "(I)I" } : Jvm.MethodName)) ∈ lw_tbl := lw_at lw_m5 58 rfl
theorem q1095 : (Jvm.Cond.instanceMethod ({ cls := "CarryUp", name := "metBy", desc := "(I)I" } : Jvm.MethodName)) ∈ lw_all := lw_g (lw_at lw_m5 59 rfl) rfl
theorem q1096 : (Jvm.Cond.code ({ cls := "CarryUp", name := "metBy", desc := "(I)I" } : Jvm.MethodName) prog_1_method_50_code (4 : Nat) (Option.some Jvm.ClassFile.FieldType.int)) ∈ lw_all := lw_g (lw_at lw_m5 60 rfl) rfl
theorem q1097 : (Jvm.Cond.methodLink "CarryUp" (306 : Nat) ({ cls := "CarryUp$Visit", name := "isMet", desc := "(I)Z" } : Jvm.MethodName)) ∈ lw_all := lw_g (lw_at lw_m5 61 rfl) rfl
theorem q1099 : (Jvm.Cond.instanceMethod ({ cls := "CarryUp", name := "run", desc := "(IIIII)I" } : Jvm.MethodName)) ∈ lw_all := lw_g (lw_at lw_m5 63 rfl) rfl
theorem q1100 : (Jvm.Cond.selects "CarryUp" ({ cls := "CarryUp", name := "run", desc := "(IIIII)I" } : Jvm.MethodName) ({ cls := "CarryUp", name := "run", desc := "(IIIII)I" } : Jvm.MethodName)) ∈ lw_all := lw_g (lw_at lw_m5 64 rfl) rfl
theorem q1101 : (Jvm.Cond.code ({ cls := "CarryUp", name := "run", desc := "(IIIII)I" } : Jvm.MethodName) prog_1_method_52_code (20 : Nat) (Option.some Jvm.ClassFile.FieldType.int)) ∈ lw_all := lw_g (lw_at lw_m5 65 rfl) rfl
theorem q1102 : (Jvm.Cond.constantLong "CarryUp" (310 : Nat) (65535 : Int64)) ∈ lw_all := lw_g (lw_at lw_m5 66 rfl) rfl
theorem q1103 : (Jvm.Cond.constant "CarryUp" (312 : Nat) (65536 : Int32)) ∈ lw_all := lw_g (lw_at lw_m5 67 rfl) rfl
theorem q1105 : (Jvm.Cond.instanceMethod ({ cls := "CarryUp", name := "count", desc := "(I)I" } : Jvm.MethodName)) ∈ lw_all := lw_g (lw_at lw_m5 69 rfl) rfl
theorem q1106 : (Jvm.Cond.selects "CarryUp" ({ cls := "CarryUp", name := "count", desc := "(I)I" } : Jvm.MethodName) ({ cls := "CarryUp", name := "count", desc := "(I)I" } : Jvm.MethodName)) ∈ lw_all := lw_g (lw_at lw_m5 70 rfl) rfl
theorem q1107 : (Jvm.Cond.code ({ cls := "CarryUp", name := "count", desc := "(I)I" } : Jvm.MethodName) prog_1_method_53_code (7 : Nat) (Option.some Jvm.ClassFile.FieldType.int)) ∈ lw_all := lw_g (lw_at lw_m5 71 rfl) rfl
theorem q1553 : (Jvm.Cond.castable "CarryUp" "java/lang/Object") ∈ lw_tbl := lw_at lw_m7 37 rfl
theorem q1577 : (Jvm.Cond.stringRef "CarryUp" (315 : Nat) "thing") ∈ lw_tbl := lw_at lw_m7 61 rfl
theorem q1578 : (Jvm.Cond.stringRef "CarryUp" (317 : Nat) "load") ∈ lw_tbl := lw_at lw_m7 62 rfl
theorem q1579 : (Jvm.Cond.stringRef "CarryUp" (318 : Nat) "purse") ∈ lw_tbl := lw_at lw_m7 63 rfl
theorem q1580 : (Jvm.Cond.stringRef "CarryUp" (319 : Nat) "begin") ∈ lw_tbl := lw_at lw_m7 64 rfl
theorem q1581 : (Jvm.Cond.stringRef "CarryUp" (320 : Nat) "way") ∈ lw_tbl := lw_at lw_m7 65 rfl
theorem q1582 : (Jvm.Cond.stringRef "CarryUp" (322 : Nat) "call") ∈ lw_tbl := lw_at lw_m7 66 rfl
theorem q1583 : (Jvm.Cond.stringRef "CarryUp" (324 : Nat) "sort") ∈ lw_tbl := lw_at lw_m7 67 rfl
theorem in_X0 : ∀ w ∈ wsX00, w ∈ lw_all := lw_in wsX00 [226, 228, 230, 232, 234, 236, 238, 240, 242, 244, 246] (by decide +kernel) (by decide +kernel)
