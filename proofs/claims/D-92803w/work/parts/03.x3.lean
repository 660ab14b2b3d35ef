/-! CarryUpModel -/
set_option maxRecDepth 100000
def RX3 : String := "CarryUpModel"
def TX3 : u_T := fun k => match k with
  | 0 => ("CarryUpModel", "text", "[I", true)
  | 1 => ("CarryUpModel", "length", "I", false)
  | 2 => ("CarryUpModel", "read", "[I", true)
  | 3 => ("CarryUpModel", "readMany", "I", false)
  | 4 => ("CarryUpModel", "weights", "[I", true)
  | 5 => ("CarryUpModel", "prices", "[I", true)
  | 6 => ("CarryUpModel", "tools", "I", false)
  | 7 => ("CarryUpModel", "load", "I", false)
  | 8 => ("CarryUpModel", "purse", "I", false)
  | 9 => ("CarryUpModel", "begin", "I", false)
  | 10 => ("CarryUpModel", "ways", "[I", true)
  | 11 => ("CarryUpModel", "toldCalls", "I", false)
  | 12 => ("CarryUpModel", "calls", "[I", true)
  | 13 => ("CarryUpModel", "sortMany", "[I", true)
  | 14 => ("CarryUpModel", "sorts", "[I", true)
  | 15 => ("CarryUpModel", "visits", "[I", true)
  | 16 => ("CarryUpModel", "visitMany", "I", false)
  | 17 => ("CarryUpModel", "at", "I", false)
  | 18 => ("CarryUpModel", "place", "I", false)
  | 19 => ("CarryUpModel", "end", "I", false)
  | 20 => ("CarryUpModel", "entries", "[I", true)
  | 21 => ("CarryUpModel", "entryMany", "I", false)
  | 22 => ("CarryUpModel", "combos", "I", false)
  | 23 => ("CarryUpModel", "all", "J", false)
  | 24 => ("CarryUpModel", "weight", "J", false)
  | 25 => ("CarryUpModel", "gain", "I", false)
  | 26 => ("CarryUpModel", "allDone", "Z", false)
  | 27 => ("CarryUpModel", "minute", "I", false)
  | 28 => ("CarryUpModel", "doneSet", "I", false)
  | 29 => ("CarryUpModel", "bagLeft", "I", false)
  | _ => ("CarryUpModel", "chosen", "[I", true)
def tyX3 : Nat → FieldType := fun k => match k with
  | 0 => .array .int
  | 1 => .int
  | 2 => .array .int
  | 3 => .int
  | 4 => .array .int
  | 5 => .array .int
  | 6 => .int
  | 7 => .int
  | 8 => .int
  | 9 => .int
  | 10 => .array .int
  | 11 => .int
  | 12 => .array .int
  | 13 => .array .int
  | 14 => .array .int
  | 15 => .array .int
  | 16 => .int
  | 17 => .int
  | 18 => .int
  | 19 => .int
  | 20 => .array .int
  | 21 => .int
  | 22 => .int
  | 23 => .long
  | 24 => .long
  | 25 => .int
  | 26 => .boolean
  | 27 => .int
  | 28 => .int
  | 29 => .int
  | _ => .array .int
abbrev wsX30 : List Cond := u_ws RX3 TX3 31
set_option maxRecDepth 100000 in
theorem nmX3 : ∀ a, a < 31 → ∀ b, b < 31 → a ≠ b → (TX3 a).2.1 ≠ (TX3 b).2.1 := by decide +kernel
set_option maxRecDepth 100000 in
theorem tyX3_ok : ∀ k, k < 31 → parseFieldDescriptor (TX3 k).2.2.1 = some (tyX3 k) := by decide +kernel
abbrev cX3_init : ByteArray := prog_12_method_1_code
def yX3_init : MethodName := ⟨RX3, "<init>", "()V"⟩
def dkwX3_init_7 : List UInt8 := [160, 0, 7, 3, 167, 0, 5, 16, 10, 79, 132, 1, 1, 167, 255, 224, 177]
abbrev dktX3_init_7 : List UInt8 := dkwX3_init_7 ++ []
def dkwX3_init_6 : List UInt8 := [181, 0, 50, 3, 60, 27, 16, 36, 162, 0, 32, 42, 180, 0, 32, 27, 27, 16, 6, 108, 27, 16, 6, 112]
abbrev dktX3_init_6 : List UInt8 := dkwX3_init_6 ++ dktX3_init_7
def dkwX3_init_5 : List UInt8 := [181, 0, 41, 42, 16, 48, 188, 10, 181, 0, 44, 42, 16, 6, 188, 10, 181, 0, 47, 42, 16, 6, 188, 10]
abbrev dktX3_init_5 : List UInt8 := dkwX3_init_5 ++ dktX3_init_6
def dkwX3_init_4 : List UInt8 := [181, 0, 32, 42, 16, 36, 188, 10, 181, 0, 35, 42, 16, 6, 188, 10, 181, 0, 38, 42, 16, 96, 188, 10]
abbrev dktX3_init_4 : List UInt8 := dkwX3_init_4 ++ dktX3_init_5
def dkwX3_init_3 : List UInt8 := [16, 40, 181, 0, 22, 42, 17, 3, 231, 181, 0, 26, 42, 17, 1, 224, 181, 0, 29, 42, 16, 36, 188, 10]
abbrev dktX3_init_3 : List UInt8 := dkwX3_init_3 ++ dktX3_init_4
def dkwX3_init_2 : List UInt8 := [4, 79, 89, 16, 6, 4, 79, 89, 16, 7, 4, 79, 181, 0, 16, 42, 16, 8, 188, 10, 181, 0, 19, 42]
abbrev dktX3_init_2 : List UInt8 := dkwX3_init_2 ++ dktX3_init_3
def dkwX3_init_1 : List UInt8 := [188, 10, 89, 3, 4, 79, 89, 4, 4, 79, 89, 5, 4, 79, 89, 6, 4, 79, 89, 7, 4, 79, 89, 8]
abbrev dktX3_init_1 : List UInt8 := dkwX3_init_1 ++ dktX3_init_2
def dkwX3_init_0 : List UInt8 := [42, 183, 0, 1, 42, 17, 0, 200, 188, 10, 181, 0, 7, 42, 16, 80, 188, 10, 181, 0, 13, 42, 16, 8]
abbrev dktX3_init_0 : List UInt8 := dkwX3_init_0 ++ dktX3_init_1
theorem dksX3_init_0 : cX3_init.data.toList.drop 0 = dktX3_init_0 := by decide +kernel
theorem dksX3_init_1 : cX3_init.data.toList.drop 24 = dktX3_init_1 := dk_seg dksX3_init_0 24 rfl rfl
theorem dksX3_init_2 : cX3_init.data.toList.drop 48 = dktX3_init_2 := dk_seg dksX3_init_1 24 rfl rfl
theorem dksX3_init_3 : cX3_init.data.toList.drop 72 = dktX3_init_3 := dk_seg dksX3_init_2 24 rfl rfl
theorem dksX3_init_4 : cX3_init.data.toList.drop 96 = dktX3_init_4 := dk_seg dksX3_init_3 24 rfl rfl
theorem dksX3_init_5 : cX3_init.data.toList.drop 120 = dktX3_init_5 := dk_seg dksX3_init_4 24 rfl rfl
theorem dksX3_init_6 : cX3_init.data.toList.drop 144 = dktX3_init_6 := dk_seg dksX3_init_5 24 rfl rfl
theorem dksX3_init_7 : cX3_init.data.toList.drop 168 = dktX3_init_7 := dk_seg dksX3_init_6 24 rfl rfl
theorem dX3_init_0 : decode cX3_init 0 = .ok (.aload_n 0, 1) := dk_42 (dk_at dksX3_init_0 0 rfl rfl)
theorem dX3_init_1 : decode cX3_init 1 = .ok (.invokespecial 1, 3) := dk_183 0 1 (dk_at dksX3_init_0 1 rfl rfl)
theorem dX3_init_4 : decode cX3_init 4 = .ok (.aload_n 0, 1) := dk_42 (dk_at dksX3_init_0 4 rfl rfl)
theorem dX3_init_5 : decode cX3_init 5 = .ok (.sipush 200, 3) := dk_17 0 200 (dk_at dksX3_init_0 5 rfl rfl)
theorem dX3_init_8 : decode cX3_init 8 = .ok (.newarray .int, 2) := dk_188_10 (dk_at dksX3_init_0 8 rfl rfl)
theorem dX3_init_10 : decode cX3_init 10 = .ok (.putfield 7, 3) := dk_181 0 7 (dk_at dksX3_init_0 10 rfl rfl)
theorem dX3_init_13 : decode cX3_init 13 = .ok (.aload_n 0, 1) := dk_42 (dk_at dksX3_init_0 13 rfl rfl)
theorem dX3_init_14 : decode cX3_init 14 = .ok (.bipush 80, 2) := dk_16 80 (dk_at dksX3_init_0 14 rfl rfl)
theorem dX3_init_16 : decode cX3_init 16 = .ok (.newarray .int, 2) := dk_188_10 (dk_at dksX3_init_0 16 rfl rfl)
theorem dX3_init_18 : decode cX3_init 18 = .ok (.putfield 13, 3) := dk_181 0 13 (dk_at dksX3_init_0 18 rfl rfl)
theorem dX3_init_21 : decode cX3_init 21 = .ok (.aload_n 0, 1) := dk_42 (dk_at dksX3_init_0 21 rfl rfl)
theorem dX3_init_22 : decode cX3_init 22 = .ok (.bipush 8, 2) := dk_16 8 (dk_at dksX3_init_0 22 rfl rfl)
theorem dX3_init_24 : decode cX3_init 24 = .ok (.newarray .int, 2) := dk_188_10 (dk_at dksX3_init_1 0 rfl rfl)
theorem dX3_init_26 : decode cX3_init 26 = .ok (.dup, 1) := dk_89 (dk_at dksX3_init_1 2 rfl rfl)
theorem dX3_init_27 : decode cX3_init 27 = .ok (.iconst 0, 1) := dk_3 (dk_at dksX3_init_1 3 rfl rfl)
theorem dX3_init_28 : decode cX3_init 28 = .ok (.iconst 1, 1) := dk_4 (dk_at dksX3_init_1 4 rfl rfl)
theorem dX3_init_29 : decode cX3_init 29 = .ok (.iastore, 1) := dk_79 (dk_at dksX3_init_1 5 rfl rfl)
theorem dX3_init_30 : decode cX3_init 30 = .ok (.dup, 1) := dk_89 (dk_at dksX3_init_1 6 rfl rfl)
theorem dX3_init_31 : decode cX3_init 31 = .ok (.iconst 1, 1) := dk_4 (dk_at dksX3_init_1 7 rfl rfl)
theorem dX3_init_32 : decode cX3_init 32 = .ok (.iconst 1, 1) := dk_4 (dk_at dksX3_init_1 8 rfl rfl)
theorem dX3_init_33 : decode cX3_init 33 = .ok (.iastore, 1) := dk_79 (dk_at dksX3_init_1 9 rfl rfl)
theorem dX3_init_34 : decode cX3_init 34 = .ok (.dup, 1) := dk_89 (dk_at dksX3_init_1 10 rfl rfl)
theorem dX3_init_35 : decode cX3_init 35 = .ok (.iconst 2, 1) := dk_5 (dk_at dksX3_init_1 11 rfl rfl)
theorem dX3_init_36 : decode cX3_init 36 = .ok (.iconst 1, 1) := dk_4 (dk_at dksX3_init_1 12 rfl rfl)
theorem dX3_init_37 : decode cX3_init 37 = .ok (.iastore, 1) := dk_79 (dk_at dksX3_init_1 13 rfl rfl)
theorem dX3_init_38 : decode cX3_init 38 = .ok (.dup, 1) := dk_89 (dk_at dksX3_init_1 14 rfl rfl)
theorem dX3_init_39 : decode cX3_init 39 = .ok (.iconst 3, 1) := dk_6 (dk_at dksX3_init_1 15 rfl rfl)
theorem dX3_init_40 : decode cX3_init 40 = .ok (.iconst 1, 1) := dk_4 (dk_at dksX3_init_1 16 rfl rfl)
theorem dX3_init_41 : decode cX3_init 41 = .ok (.iastore, 1) := dk_79 (dk_at dksX3_init_1 17 rfl rfl)
theorem dX3_init_42 : decode cX3_init 42 = .ok (.dup, 1) := dk_89 (dk_at dksX3_init_1 18 rfl rfl)
theorem dX3_init_43 : decode cX3_init 43 = .ok (.iconst 4, 1) := dk_7 (dk_at dksX3_init_1 19 rfl rfl)
theorem dX3_init_44 : decode cX3_init 44 = .ok (.iconst 1, 1) := dk_4 (dk_at dksX3_init_1 20 rfl rfl)
theorem dX3_init_45 : decode cX3_init 45 = .ok (.iastore, 1) := dk_79 (dk_at dksX3_init_1 21 rfl rfl)
theorem dX3_init_46 : decode cX3_init 46 = .ok (.dup, 1) := dk_89 (dk_at dksX3_init_1 22 rfl rfl)
theorem dX3_init_47 : decode cX3_init 47 = .ok (.iconst 5, 1) := dk_8 (dk_at dksX3_init_1 23 rfl rfl)
theorem dX3_init_48 : decode cX3_init 48 = .ok (.iconst 1, 1) := dk_4 (dk_at dksX3_init_2 0 rfl rfl)
theorem dX3_init_49 : decode cX3_init 49 = .ok (.iastore, 1) := dk_79 (dk_at dksX3_init_2 1 rfl rfl)
theorem dX3_init_50 : decode cX3_init 50 = .ok (.dup, 1) := dk_89 (dk_at dksX3_init_2 2 rfl rfl)
theorem dX3_init_51 : decode cX3_init 51 = .ok (.bipush 6, 2) := dk_16 6 (dk_at dksX3_init_2 3 rfl rfl)
theorem dX3_init_53 : decode cX3_init 53 = .ok (.iconst 1, 1) := dk_4 (dk_at dksX3_init_2 5 rfl rfl)
theorem dX3_init_54 : decode cX3_init 54 = .ok (.iastore, 1) := dk_79 (dk_at dksX3_init_2 6 rfl rfl)
theorem dX3_init_55 : decode cX3_init 55 = .ok (.dup, 1) := dk_89 (dk_at dksX3_init_2 7 rfl rfl)
theorem dX3_init_56 : decode cX3_init 56 = .ok (.bipush 7, 2) := dk_16 7 (dk_at dksX3_init_2 8 rfl rfl)
theorem dX3_init_58 : decode cX3_init 58 = .ok (.iconst 1, 1) := dk_4 (dk_at dksX3_init_2 10 rfl rfl)
theorem dX3_init_59 : decode cX3_init 59 = .ok (.iastore, 1) := dk_79 (dk_at dksX3_init_2 11 rfl rfl)
theorem dX3_init_60 : decode cX3_init 60 = .ok (.putfield 16, 3) := dk_181 0 16 (dk_at dksX3_init_2 12 rfl rfl)
theorem dX3_init_63 : decode cX3_init 63 = .ok (.aload_n 0, 1) := dk_42 (dk_at dksX3_init_2 15 rfl rfl)
theorem dX3_init_64 : decode cX3_init 64 = .ok (.bipush 8, 2) := dk_16 8 (dk_at dksX3_init_2 16 rfl rfl)
theorem dX3_init_66 : decode cX3_init 66 = .ok (.newarray .int, 2) := dk_188_10 (dk_at dksX3_init_2 18 rfl rfl)
theorem dX3_init_68 : decode cX3_init 68 = .ok (.putfield 19, 3) := dk_181 0 19 (dk_at dksX3_init_2 20 rfl rfl)
theorem dX3_init_71 : decode cX3_init 71 = .ok (.aload_n 0, 1) := dk_42 (dk_at dksX3_init_2 23 rfl rfl)
theorem dX3_init_72 : decode cX3_init 72 = .ok (.bipush 40, 2) := dk_16 40 (dk_at dksX3_init_3 0 rfl rfl)
theorem dX3_init_74 : decode cX3_init 74 = .ok (.putfield 22, 3) := dk_181 0 22 (dk_at dksX3_init_3 2 rfl rfl)
theorem dX3_init_77 : decode cX3_init 77 = .ok (.aload_n 0, 1) := dk_42 (dk_at dksX3_init_3 5 rfl rfl)
theorem dX3_init_78 : decode cX3_init 78 = .ok (.sipush 999, 3) := dk_17 3 231 (dk_at dksX3_init_3 6 rfl rfl)
theorem dX3_init_81 : decode cX3_init 81 = .ok (.putfield 26, 3) := dk_181 0 26 (dk_at dksX3_init_3 9 rfl rfl)
theorem dX3_init_84 : decode cX3_init 84 = .ok (.aload_n 0, 1) := dk_42 (dk_at dksX3_init_3 12 rfl rfl)
theorem dX3_init_85 : decode cX3_init 85 = .ok (.sipush 480, 3) := dk_17 1 224 (dk_at dksX3_init_3 13 rfl rfl)
theorem dX3_init_88 : decode cX3_init 88 = .ok (.putfield 29, 3) := dk_181 0 29 (dk_at dksX3_init_3 16 rfl rfl)
theorem dX3_init_91 : decode cX3_init 91 = .ok (.aload_n 0, 1) := dk_42 (dk_at dksX3_init_3 19 rfl rfl)
theorem dX3_init_92 : decode cX3_init 92 = .ok (.bipush 36, 2) := dk_16 36 (dk_at dksX3_init_3 20 rfl rfl)
theorem dX3_init_94 : decode cX3_init 94 = .ok (.newarray .int, 2) := dk_188_10 (dk_at dksX3_init_3 22 rfl rfl)
theorem dX3_init_96 : decode cX3_init 96 = .ok (.putfield 32, 3) := dk_181 0 32 (dk_at dksX3_init_4 0 rfl rfl)
theorem dX3_init_99 : decode cX3_init 99 = .ok (.aload_n 0, 1) := dk_42 (dk_at dksX3_init_4 3 rfl rfl)
theorem dX3_init_100 : decode cX3_init 100 = .ok (.bipush 36, 2) := dk_16 36 (dk_at dksX3_init_4 4 rfl rfl)
theorem dX3_init_102 : decode cX3_init 102 = .ok (.newarray .int, 2) := dk_188_10 (dk_at dksX3_init_4 6 rfl rfl)
theorem dX3_init_104 : decode cX3_init 104 = .ok (.putfield 35, 3) := dk_181 0 35 (dk_at dksX3_init_4 8 rfl rfl)
theorem dX3_init_107 : decode cX3_init 107 = .ok (.aload_n 0, 1) := dk_42 (dk_at dksX3_init_4 11 rfl rfl)
theorem dX3_init_108 : decode cX3_init 108 = .ok (.bipush 6, 2) := dk_16 6 (dk_at dksX3_init_4 12 rfl rfl)
theorem dX3_init_110 : decode cX3_init 110 = .ok (.newarray .int, 2) := dk_188_10 (dk_at dksX3_init_4 14 rfl rfl)
theorem dX3_init_112 : decode cX3_init 112 = .ok (.putfield 38, 3) := dk_181 0 38 (dk_at dksX3_init_4 16 rfl rfl)
theorem dX3_init_115 : decode cX3_init 115 = .ok (.aload_n 0, 1) := dk_42 (dk_at dksX3_init_4 19 rfl rfl)
theorem dX3_init_116 : decode cX3_init 116 = .ok (.bipush 96, 2) := dk_16 96 (dk_at dksX3_init_4 20 rfl rfl)
theorem dX3_init_118 : decode cX3_init 118 = .ok (.newarray .int, 2) := dk_188_10 (dk_at dksX3_init_4 22 rfl rfl)
theorem dX3_init_120 : decode cX3_init 120 = .ok (.putfield 41, 3) := dk_181 0 41 (dk_at dksX3_init_5 0 rfl rfl)
theorem dX3_init_123 : decode cX3_init 123 = .ok (.aload_n 0, 1) := dk_42 (dk_at dksX3_init_5 3 rfl rfl)
theorem dX3_init_124 : decode cX3_init 124 = .ok (.bipush 48, 2) := dk_16 48 (dk_at dksX3_init_5 4 rfl rfl)
theorem dX3_init_126 : decode cX3_init 126 = .ok (.newarray .int, 2) := dk_188_10 (dk_at dksX3_init_5 6 rfl rfl)
theorem dX3_init_128 : decode cX3_init 128 = .ok (.putfield 44, 3) := dk_181 0 44 (dk_at dksX3_init_5 8 rfl rfl)
theorem dX3_init_131 : decode cX3_init 131 = .ok (.aload_n 0, 1) := dk_42 (dk_at dksX3_init_5 11 rfl rfl)
theorem dX3_init_132 : decode cX3_init 132 = .ok (.bipush 6, 2) := dk_16 6 (dk_at dksX3_init_5 12 rfl rfl)
theorem dX3_init_134 : decode cX3_init 134 = .ok (.newarray .int, 2) := dk_188_10 (dk_at dksX3_init_5 14 rfl rfl)
theorem dX3_init_136 : decode cX3_init 136 = .ok (.putfield 47, 3) := dk_181 0 47 (dk_at dksX3_init_5 16 rfl rfl)
theorem dX3_init_139 : decode cX3_init 139 = .ok (.aload_n 0, 1) := dk_42 (dk_at dksX3_init_5 19 rfl rfl)
theorem dX3_init_140 : decode cX3_init 140 = .ok (.bipush 6, 2) := dk_16 6 (dk_at dksX3_init_5 20 rfl rfl)
theorem dX3_init_142 : decode cX3_init 142 = .ok (.newarray .int, 2) := dk_188_10 (dk_at dksX3_init_5 22 rfl rfl)
theorem dX3_init_144 : decode cX3_init 144 = .ok (.putfield 50, 3) := dk_181 0 50 (dk_at dksX3_init_6 0 rfl rfl)
theorem dX3_init_147 : decode cX3_init 147 = .ok (.iconst 0, 1) := dk_3 (dk_at dksX3_init_6 3 rfl rfl)
theorem dX3_init_148 : decode cX3_init 148 = .ok (.istore_n 1, 1) := dk_60 (dk_at dksX3_init_6 4 rfl rfl)
theorem dX3_init_149 : decode cX3_init 149 = .ok (.iload_n 1, 1) := dk_27 (dk_at dksX3_init_6 5 rfl rfl)
theorem dX3_init_150 : decode cX3_init 150 = .ok (.bipush 36, 2) := dk_16 36 (dk_at dksX3_init_6 6 rfl rfl)
theorem dX3_init_152 : decode cX3_init 152 = .ok (.if_icmp .ge 32, 3) := dk_162 0 32 (dk_at dksX3_init_6 8 rfl rfl)
theorem dX3_init_155 : decode cX3_init 155 = .ok (.aload_n 0, 1) := dk_42 (dk_at dksX3_init_6 11 rfl rfl)
theorem dX3_init_156 : decode cX3_init 156 = .ok (.getfield 32, 3) := dk_180 0 32 (dk_at dksX3_init_6 12 rfl rfl)
theorem dX3_init_159 : decode cX3_init 159 = .ok (.iload_n 1, 1) := dk_27 (dk_at dksX3_init_6 15 rfl rfl)
theorem dX3_init_160 : decode cX3_init 160 = .ok (.iload_n 1, 1) := dk_27 (dk_at dksX3_init_6 16 rfl rfl)
theorem dX3_init_161 : decode cX3_init 161 = .ok (.bipush 6, 2) := dk_16 6 (dk_at dksX3_init_6 17 rfl rfl)
theorem dX3_init_163 : decode cX3_init 163 = .ok (.idiv, 1) := dk_108 (dk_at dksX3_init_6 19 rfl rfl)
theorem dX3_init_164 : decode cX3_init 164 = .ok (.iload_n 1, 1) := dk_27 (dk_at dksX3_init_6 20 rfl rfl)
theorem dX3_init_165 : decode cX3_init 165 = .ok (.bipush 6, 2) := dk_16 6 (dk_at dksX3_init_6 21 rfl rfl)
theorem dX3_init_167 : decode cX3_init 167 = .ok (.irem, 1) := dk_112 (dk_at dksX3_init_6 23 rfl rfl)
theorem dX3_init_168 : decode cX3_init 168 = .ok (.if_icmp .ne 7, 3) := dk_160 0 7 (dk_at dksX3_init_7 0 rfl rfl)
theorem dX3_init_171 : decode cX3_init 171 = .ok (.iconst 0, 1) := dk_3 (dk_at dksX3_init_7 3 rfl rfl)
theorem dX3_init_172 : decode cX3_init 172 = .ok (.goto 5, 3) := dk_167 0 5 (dk_at dksX3_init_7 4 rfl rfl)
theorem dX3_init_175 : decode cX3_init 175 = .ok (.bipush 10, 2) := dk_16 10 (dk_at dksX3_init_7 7 rfl rfl)
theorem dX3_init_177 : decode cX3_init 177 = .ok (.iastore, 1) := dk_79 (dk_at dksX3_init_7 9 rfl rfl)
theorem dX3_init_178 : decode cX3_init 178 = .ok (.iinc 1 1, 3) := dk_132 1 1 (dk_at dksX3_init_7 10 rfl rfl)
theorem dX3_init_181 : decode cX3_init 181 = .ok (.goto (-32), 3) := dk_167 255 224 (dk_at dksX3_init_7 13 rfl rfl)
theorem dX3_init_184 : decode cX3_init 184 = .ok (.return_, 1) := dk_177 (dk_at dksX3_init_7 16 rfl rfl)
abbrev cX3_write : ByteArray := prog_12_method_4_code
def yX3_write : MethodName := ⟨RX3, "write", "(JI)I"⟩
def dkwX3_write_3 : List UInt8 := [132, 4, 1, 167, 255, 216, 42, 180, 0, 59, 172]
abbrev dktX3_write_3 : List UInt8 := dkwX3_write_3 ++ []
def dkwX3_write_2 : List UInt8 := [16, 8, 21, 4, 104, 123, 20, 0, 62, 127, 136, 79, 42, 89, 180, 0, 59, 4, 96, 181, 0, 59]
abbrev dktX3_write_2 : List UInt8 := dkwX3_write_2 ++ dktX3_write_3
def dkwX3_write_1 : List UInt8 := [164, 0, 6, 16, 251, 172, 3, 54, 4, 21, 4, 29, 162, 0, 40, 42, 180, 0, 7, 42, 180, 0, 59, 31]
abbrev dktX3_write_1 : List UInt8 := dkwX3_write_1 ++ dktX3_write_2
def dkwX3_write_0 : List UInt8 := [29, 133, 10, 20, 0, 53, 184, 0, 55, 154, 0, 6, 16, 253, 172, 42, 180, 0, 59, 29, 96, 17, 0, 200]
abbrev dktX3_write_0 : List UInt8 := dkwX3_write_0 ++ dktX3_write_1
theorem dksX3_write_0 : cX3_write.data.toList.drop 0 = dktX3_write_0 := by decide +kernel
theorem dksX3_write_1 : cX3_write.data.toList.drop 24 = dktX3_write_1 := dk_seg dksX3_write_0 24 rfl rfl
theorem dksX3_write_2 : cX3_write.data.toList.drop 48 = dktX3_write_2 := dk_seg dksX3_write_1 24 rfl rfl
theorem dksX3_write_3 : cX3_write.data.toList.drop 70 = dktX3_write_3 := dk_seg dksX3_write_2 22 rfl rfl
theorem dX3_write_0 : decode cX3_write 0 = .ok (.iload_n 3, 1) := dk_29 (dk_at dksX3_write_0 0 rfl rfl)
theorem dX3_write_1 : decode cX3_write 1 = .ok (.i2l, 1) := dk_133 (dk_at dksX3_write_0 1 rfl rfl)
theorem dX3_write_2 : decode cX3_write 2 = .ok (.lconst 1, 1) := dk_10 (dk_at dksX3_write_0 2 rfl rfl)
theorem dX3_write_3 : decode cX3_write 3 = .ok (.ldc2_w 53, 3) := dk_20 0 53 (dk_at dksX3_write_0 3 rfl rfl)
theorem dX3_write_6 : decode cX3_write 6 = .ok (.invokestatic 55, 3) := dk_184 0 55 (dk_at dksX3_write_0 6 rfl rfl)
theorem dX3_write_9 : decode cX3_write 9 = .ok (.ifCond .ne 6, 3) := dk_154 0 6 (dk_at dksX3_write_0 9 rfl rfl)
theorem dX3_write_12 : decode cX3_write 12 = .ok (.bipush (-3), 2) := dk_16 253 (dk_at dksX3_write_0 12 rfl rfl)
theorem dX3_write_14 : decode cX3_write 14 = .ok (.ireturn, 1) := dk_172 (dk_at dksX3_write_0 14 rfl rfl)
theorem dX3_write_15 : decode cX3_write 15 = .ok (.aload_n 0, 1) := dk_42 (dk_at dksX3_write_0 15 rfl rfl)
theorem dX3_write_16 : decode cX3_write 16 = .ok (.getfield 59, 3) := dk_180 0 59 (dk_at dksX3_write_0 16 rfl rfl)
theorem dX3_write_19 : decode cX3_write 19 = .ok (.iload_n 3, 1) := dk_29 (dk_at dksX3_write_0 19 rfl rfl)
theorem dX3_write_20 : decode cX3_write 20 = .ok (.iadd, 1) := dk_96 (dk_at dksX3_write_0 20 rfl rfl)
theorem dX3_write_21 : decode cX3_write 21 = .ok (.sipush 200, 3) := dk_17 0 200 (dk_at dksX3_write_0 21 rfl rfl)
theorem dX3_write_24 : decode cX3_write 24 = .ok (.if_icmp .le 6, 3) := dk_164 0 6 (dk_at dksX3_write_1 0 rfl rfl)
theorem dX3_write_27 : decode cX3_write 27 = .ok (.bipush (-5), 2) := dk_16 251 (dk_at dksX3_write_1 3 rfl rfl)
theorem dX3_write_29 : decode cX3_write 29 = .ok (.ireturn, 1) := dk_172 (dk_at dksX3_write_1 5 rfl rfl)
theorem dX3_write_30 : decode cX3_write 30 = .ok (.iconst 0, 1) := dk_3 (dk_at dksX3_write_1 6 rfl rfl)
theorem dX3_write_31 : decode cX3_write 31 = .ok (.istore 4, 2) := dk_54 4 (dk_at dksX3_write_1 7 rfl rfl)
theorem dX3_write_33 : decode cX3_write 33 = .ok (.iload 4, 2) := dk_21 4 (dk_at dksX3_write_1 9 rfl rfl)
theorem dX3_write_35 : decode cX3_write 35 = .ok (.iload_n 3, 1) := dk_29 (dk_at dksX3_write_1 11 rfl rfl)
theorem dX3_write_36 : decode cX3_write 36 = .ok (.if_icmp .ge 40, 3) := dk_162 0 40 (dk_at dksX3_write_1 12 rfl rfl)
theorem dX3_write_39 : decode cX3_write 39 = .ok (.aload_n 0, 1) := dk_42 (dk_at dksX3_write_1 15 rfl rfl)
theorem dX3_write_40 : decode cX3_write 40 = .ok (.getfield 7, 3) := dk_180 0 7 (dk_at dksX3_write_1 16 rfl rfl)
theorem dX3_write_43 : decode cX3_write 43 = .ok (.aload_n 0, 1) := dk_42 (dk_at dksX3_write_1 19 rfl rfl)
theorem dX3_write_44 : decode cX3_write 44 = .ok (.getfield 59, 3) := dk_180 0 59 (dk_at dksX3_write_1 20 rfl rfl)
theorem dX3_write_47 : decode cX3_write 47 = .ok (.lload_n 1, 1) := dk_31 (dk_at dksX3_write_1 23 rfl rfl)
theorem dX3_write_48 : decode cX3_write 48 = .ok (.bipush 8, 2) := dk_16 8 (dk_at dksX3_write_2 0 rfl rfl)
theorem dX3_write_50 : decode cX3_write 50 = .ok (.iload 4, 2) := dk_21 4 (dk_at dksX3_write_2 2 rfl rfl)
theorem dX3_write_52 : decode cX3_write 52 = .ok (.imul, 1) := dk_104 (dk_at dksX3_write_2 4 rfl rfl)
theorem dX3_write_53 : decode cX3_write 53 = .ok (.lshr, 1) := dk_123 (dk_at dksX3_write_2 5 rfl rfl)
theorem dX3_write_54 : decode cX3_write 54 = .ok (.ldc2_w 62, 3) := dk_20 0 62 (dk_at dksX3_write_2 6 rfl rfl)
theorem dX3_write_57 : decode cX3_write 57 = .ok (.land, 1) := dk_127 (dk_at dksX3_write_2 9 rfl rfl)
theorem dX3_write_58 : decode cX3_write 58 = .ok (.l2i, 1) := dk_136 (dk_at dksX3_write_2 10 rfl rfl)
theorem dX3_write_59 : decode cX3_write 59 = .ok (.iastore, 1) := dk_79 (dk_at dksX3_write_2 11 rfl rfl)
theorem dX3_write_60 : decode cX3_write 60 = .ok (.aload_n 0, 1) := dk_42 (dk_at dksX3_write_2 12 rfl rfl)
theorem dX3_write_61 : decode cX3_write 61 = .ok (.dup, 1) := dk_89 (dk_at dksX3_write_2 13 rfl rfl)
theorem dX3_write_62 : decode cX3_write 62 = .ok (.getfield 59, 3) := dk_180 0 59 (dk_at dksX3_write_2 14 rfl rfl)
theorem dX3_write_65 : decode cX3_write 65 = .ok (.iconst 1, 1) := dk_4 (dk_at dksX3_write_2 17 rfl rfl)
theorem dX3_write_66 : decode cX3_write 66 = .ok (.iadd, 1) := dk_96 (dk_at dksX3_write_2 18 rfl rfl)
theorem dX3_write_67 : decode cX3_write 67 = .ok (.putfield 59, 3) := dk_181 0 59 (dk_at dksX3_write_2 19 rfl rfl)
theorem dX3_write_70 : decode cX3_write 70 = .ok (.iinc 4 1, 3) := dk_132 4 1 (dk_at dksX3_write_3 0 rfl rfl)
theorem dX3_write_73 : decode cX3_write 73 = .ok (.goto (-40), 3) := dk_167 255 216 (dk_at dksX3_write_3 3 rfl rfl)
theorem dX3_write_76 : decode cX3_write 76 = .ok (.aload_n 0, 1) := dk_42 (dk_at dksX3_write_3 6 rfl rfl)
theorem dX3_write_77 : decode cX3_write 77 = .ok (.getfield 59, 3) := dk_180 0 59 (dk_at dksX3_write_3 7 rfl rfl)
theorem dX3_write_80 : decode cX3_write 80 = .ok (.ireturn, 1) := dk_172 (dk_at dksX3_write_3 10 rfl rfl)
abbrev cX3_in : ByteArray := prog_12_method_2_code
def yX3_in : MethodName := ⟨RX3, "in", "(JJJ)Z"⟩
def dkwX3_in_0 : List UInt8 := [30, 32, 148, 155, 0, 14, 30, 22, 4, 148, 157, 0, 7, 4, 167, 0, 4, 3, 172]
abbrev dktX3_in_0 : List UInt8 := dkwX3_in_0 ++ []
theorem dksX3_in_0 : cX3_in.data.toList.drop 0 = dktX3_in_0 := by decide +kernel
theorem dX3_in_0 : decode cX3_in 0 = .ok (.lload_n 0, 1) := dk_30 (dk_at dksX3_in_0 0 rfl rfl)
theorem dX3_in_1 : decode cX3_in 1 = .ok (.lload_n 2, 1) := dk_32 (dk_at dksX3_in_0 1 rfl rfl)
theorem dX3_in_2 : decode cX3_in 2 = .ok (.lcmp, 1) := dk_148 (dk_at dksX3_in_0 2 rfl rfl)
theorem dX3_in_3 : decode cX3_in 3 = .ok (.ifCond .lt 14, 3) := dk_155 0 14 (dk_at dksX3_in_0 3 rfl rfl)
theorem dX3_in_6 : decode cX3_in 6 = .ok (.lload_n 0, 1) := dk_30 (dk_at dksX3_in_0 6 rfl rfl)
theorem dX3_in_7 : decode cX3_in 7 = .ok (.lload 4, 2) := dk_22 4 (dk_at dksX3_in_0 7 rfl rfl)
theorem dX3_in_9 : decode cX3_in 9 = .ok (.lcmp, 1) := dk_148 (dk_at dksX3_in_0 9 rfl rfl)
theorem dX3_in_10 : decode cX3_in 10 = .ok (.ifCond .gt 7, 3) := dk_157 0 7 (dk_at dksX3_in_0 10 rfl rfl)
theorem dX3_in_13 : decode cX3_in 13 = .ok (.iconst 1, 1) := dk_4 (dk_at dksX3_in_0 13 rfl rfl)
theorem dX3_in_14 : decode cX3_in 14 = .ok (.goto 4, 3) := dk_167 0 4 (dk_at dksX3_in_0 14 rfl rfl)
theorem dX3_in_17 : decode cX3_in 17 = .ok (.iconst 0, 1) := dk_3 (dk_at dksX3_in_0 17 rfl rfl)
theorem dX3_in_18 : decode cX3_in 18 = .ok (.ireturn, 1) := dk_172 (dk_at dksX3_in_0 18 rfl rfl)
abbrev cX3_erase : ByteArray := prog_12_method_5_code
def yX3_erase : MethodName := ⟨RX3, "erase", "()I"⟩
def dkwX3_erase_0 : List UInt8 := [42, 180, 0, 59, 60, 42, 3, 181, 0, 59, 27, 172]
abbrev dktX3_erase_0 : List UInt8 := dkwX3_erase_0 ++ []
theorem dksX3_erase_0 : cX3_erase.data.toList.drop 0 = dktX3_erase_0 := by decide +kernel
theorem dX3_erase_0 : decode cX3_erase 0 = .ok (.aload_n 0, 1) := dk_42 (dk_at dksX3_erase_0 0 rfl rfl)
theorem dX3_erase_1 : decode cX3_erase 1 = .ok (.getfield 59, 3) := dk_180 0 59 (dk_at dksX3_erase_0 1 rfl rfl)
theorem dX3_erase_4 : decode cX3_erase 4 = .ok (.istore_n 1, 1) := dk_60 (dk_at dksX3_erase_0 4 rfl rfl)
theorem dX3_erase_5 : decode cX3_erase 5 = .ok (.aload_n 0, 1) := dk_42 (dk_at dksX3_erase_0 5 rfl rfl)
theorem dX3_erase_6 : decode cX3_erase 6 = .ok (.iconst 0, 1) := dk_3 (dk_at dksX3_erase_0 6 rfl rfl)
theorem dX3_erase_7 : decode cX3_erase 7 = .ok (.putfield 59, 3) := dk_181 0 59 (dk_at dksX3_erase_0 7 rfl rfl)
theorem dX3_erase_10 : decode cX3_erase 10 = .ok (.iload_n 1, 1) := dk_27 (dk_at dksX3_erase_0 10 rfl rfl)
theorem dX3_erase_11 : decode cX3_erase 11 = .ok (.ireturn, 1) := dk_172 (dk_at dksX3_erase_0 11 rfl rfl)
abbrev cX3_fault : ByteArray := prog_12_method_16_code
def yX3_fault : MethodName := ⟨RX3, "fault", "()I"⟩
def dkwX3_fault_4 : List UInt8 := [154, 0, 8, 42, 180, 0, 67, 172, 167, 255, 181, 2, 172]
abbrev dktX3_fault_4 : List UInt8 := dkwX3_fault_4 ++ []
def dkwX3_fault_3 : List UInt8 := [162, 0, 7, 4, 167, 0, 4, 3, 60, 27, 153, 0, 12, 42, 182, 0, 80, 42, 182, 0, 127, 60, 27]
abbrev dktX3_fault_3 : List UInt8 := dkwX3_fault_3 ++ dktX3_fault_4
def dkwX3_fault_2 : List UInt8 := [4, 160, 0, 30, 42, 180, 0, 7, 42, 180, 0, 67, 46, 16, 59, 160, 0, 16, 42, 180, 0, 77, 16, 10]
abbrev dktX3_fault_2 : List UInt8 := dkwX3_fault_2 ++ dktX3_fault_3
def dkwX3_fault_1 : List UInt8 := [180, 0, 67, 172, 42, 180, 0, 67, 42, 180, 0, 59, 162, 0, 70, 42, 180, 0, 74, 42, 180, 0, 67, 100]
abbrev dktX3_fault_1 : List UInt8 := dkwX3_fault_1 ++ dktX3_fault_2
def dkwX3_fault_0 : List UInt8 := [42, 3, 181, 0, 64, 42, 3, 181, 0, 77, 42, 182, 0, 80, 42, 182, 0, 127, 154, 0, 8, 42]
abbrev dktX3_fault_0 : List UInt8 := dkwX3_fault_0 ++ dktX3_fault_1
theorem dksX3_fault_0 : cX3_fault.data.toList.drop 0 = dktX3_fault_0 := by decide +kernel
theorem dksX3_fault_1 : cX3_fault.data.toList.drop 22 = dktX3_fault_1 := dk_seg dksX3_fault_0 22 rfl rfl
theorem dksX3_fault_2 : cX3_fault.data.toList.drop 46 = dktX3_fault_2 := dk_seg dksX3_fault_1 24 rfl rfl
theorem dksX3_fault_3 : cX3_fault.data.toList.drop 70 = dktX3_fault_3 := dk_seg dksX3_fault_2 24 rfl rfl
theorem dksX3_fault_4 : cX3_fault.data.toList.drop 93 = dktX3_fault_4 := dk_seg dksX3_fault_3 23 rfl rfl
theorem dX3_fault_0 : decode cX3_fault 0 = .ok (.aload_n 0, 1) := dk_42 (dk_at dksX3_fault_0 0 rfl rfl)
theorem dX3_fault_1 : decode cX3_fault 1 = .ok (.iconst 0, 1) := dk_3 (dk_at dksX3_fault_0 1 rfl rfl)
theorem dX3_fault_2 : decode cX3_fault 2 = .ok (.putfield 64, 3) := dk_181 0 64 (dk_at dksX3_fault_0 2 rfl rfl)
theorem dX3_fault_5 : decode cX3_fault 5 = .ok (.aload_n 0, 1) := dk_42 (dk_at dksX3_fault_0 5 rfl rfl)
theorem dX3_fault_6 : decode cX3_fault 6 = .ok (.iconst 0, 1) := dk_3 (dk_at dksX3_fault_0 6 rfl rfl)
theorem dX3_fault_7 : decode cX3_fault 7 = .ok (.putfield 77, 3) := dk_181 0 77 (dk_at dksX3_fault_0 7 rfl rfl)
theorem dX3_fault_10 : decode cX3_fault 10 = .ok (.aload_n 0, 1) := dk_42 (dk_at dksX3_fault_0 10 rfl rfl)
theorem dX3_fault_11 : decode cX3_fault 11 = .ok (.invokevirtual 80, 3) := dk_182 0 80 (dk_at dksX3_fault_0 11 rfl rfl)
theorem dX3_fault_14 : decode cX3_fault 14 = .ok (.aload_n 0, 1) := dk_42 (dk_at dksX3_fault_0 14 rfl rfl)
theorem dX3_fault_15 : decode cX3_fault 15 = .ok (.invokevirtual 127, 3) := dk_182 0 127 (dk_at dksX3_fault_0 15 rfl rfl)
theorem dX3_fault_18 : decode cX3_fault 18 = .ok (.ifCond .ne 8, 3) := dk_154 0 8 (dk_at dksX3_fault_0 18 rfl rfl)
theorem dX3_fault_21 : decode cX3_fault 21 = .ok (.aload_n 0, 1) := dk_42 (dk_at dksX3_fault_0 21 rfl rfl)
theorem dX3_fault_22 : decode cX3_fault 22 = .ok (.getfield 67, 3) := dk_180 0 67 (dk_at dksX3_fault_1 0 rfl rfl)
theorem dX3_fault_25 : decode cX3_fault 25 = .ok (.ireturn, 1) := dk_172 (dk_at dksX3_fault_1 3 rfl rfl)
theorem dX3_fault_26 : decode cX3_fault 26 = .ok (.aload_n 0, 1) := dk_42 (dk_at dksX3_fault_1 4 rfl rfl)
theorem dX3_fault_27 : decode cX3_fault 27 = .ok (.getfield 67, 3) := dk_180 0 67 (dk_at dksX3_fault_1 5 rfl rfl)
theorem dX3_fault_30 : decode cX3_fault 30 = .ok (.aload_n 0, 1) := dk_42 (dk_at dksX3_fault_1 8 rfl rfl)
theorem dX3_fault_31 : decode cX3_fault 31 = .ok (.getfield 59, 3) := dk_180 0 59 (dk_at dksX3_fault_1 9 rfl rfl)
theorem dX3_fault_34 : decode cX3_fault 34 = .ok (.if_icmp .ge 70, 3) := dk_162 0 70 (dk_at dksX3_fault_1 12 rfl rfl)
theorem dX3_fault_37 : decode cX3_fault 37 = .ok (.aload_n 0, 1) := dk_42 (dk_at dksX3_fault_1 15 rfl rfl)
theorem dX3_fault_38 : decode cX3_fault 38 = .ok (.getfield 74, 3) := dk_180 0 74 (dk_at dksX3_fault_1 16 rfl rfl)
theorem dX3_fault_41 : decode cX3_fault 41 = .ok (.aload_n 0, 1) := dk_42 (dk_at dksX3_fault_1 19 rfl rfl)
theorem dX3_fault_42 : decode cX3_fault 42 = .ok (.getfield 67, 3) := dk_180 0 67 (dk_at dksX3_fault_1 20 rfl rfl)
theorem dX3_fault_45 : decode cX3_fault 45 = .ok (.isub, 1) := dk_100 (dk_at dksX3_fault_1 23 rfl rfl)
theorem dX3_fault_46 : decode cX3_fault 46 = .ok (.iconst 1, 1) := dk_4 (dk_at dksX3_fault_2 0 rfl rfl)
theorem dX3_fault_47 : decode cX3_fault 47 = .ok (.if_icmp .ne 30, 3) := dk_160 0 30 (dk_at dksX3_fault_2 1 rfl rfl)
theorem dX3_fault_50 : decode cX3_fault 50 = .ok (.aload_n 0, 1) := dk_42 (dk_at dksX3_fault_2 4 rfl rfl)
theorem dX3_fault_51 : decode cX3_fault 51 = .ok (.getfield 7, 3) := dk_180 0 7 (dk_at dksX3_fault_2 5 rfl rfl)
theorem dX3_fault_54 : decode cX3_fault 54 = .ok (.aload_n 0, 1) := dk_42 (dk_at dksX3_fault_2 8 rfl rfl)
theorem dX3_fault_55 : decode cX3_fault 55 = .ok (.getfield 67, 3) := dk_180 0 67 (dk_at dksX3_fault_2 9 rfl rfl)
theorem dX3_fault_58 : decode cX3_fault 58 = .ok (.iaload, 1) := dk_46 (dk_at dksX3_fault_2 12 rfl rfl)
theorem dX3_fault_59 : decode cX3_fault 59 = .ok (.bipush 59, 2) := dk_16 59 (dk_at dksX3_fault_2 13 rfl rfl)
theorem dX3_fault_61 : decode cX3_fault 61 = .ok (.if_icmp .ne 16, 3) := dk_160 0 16 (dk_at dksX3_fault_2 15 rfl rfl)
theorem dX3_fault_64 : decode cX3_fault 64 = .ok (.aload_n 0, 1) := dk_42 (dk_at dksX3_fault_2 18 rfl rfl)
theorem dX3_fault_65 : decode cX3_fault 65 = .ok (.getfield 77, 3) := dk_180 0 77 (dk_at dksX3_fault_2 19 rfl rfl)
theorem dX3_fault_68 : decode cX3_fault 68 = .ok (.bipush 10, 2) := dk_16 10 (dk_at dksX3_fault_2 22 rfl rfl)
theorem dX3_fault_70 : decode cX3_fault 70 = .ok (.if_icmp .ge 7, 3) := dk_162 0 7 (dk_at dksX3_fault_3 0 rfl rfl)
theorem dX3_fault_73 : decode cX3_fault 73 = .ok (.iconst 1, 1) := dk_4 (dk_at dksX3_fault_3 3 rfl rfl)
theorem dX3_fault_74 : decode cX3_fault 74 = .ok (.goto 4, 3) := dk_167 0 4 (dk_at dksX3_fault_3 4 rfl rfl)
theorem dX3_fault_77 : decode cX3_fault 77 = .ok (.iconst 0, 1) := dk_3 (dk_at dksX3_fault_3 7 rfl rfl)
theorem dX3_fault_78 : decode cX3_fault 78 = .ok (.istore_n 1, 1) := dk_60 (dk_at dksX3_fault_3 8 rfl rfl)
theorem dX3_fault_79 : decode cX3_fault 79 = .ok (.iload_n 1, 1) := dk_27 (dk_at dksX3_fault_3 9 rfl rfl)
theorem dX3_fault_80 : decode cX3_fault 80 = .ok (.ifCond .eq 12, 3) := dk_153 0 12 (dk_at dksX3_fault_3 10 rfl rfl)
theorem dX3_fault_83 : decode cX3_fault 83 = .ok (.aload_n 0, 1) := dk_42 (dk_at dksX3_fault_3 13 rfl rfl)
theorem dX3_fault_84 : decode cX3_fault 84 = .ok (.invokevirtual 80, 3) := dk_182 0 80 (dk_at dksX3_fault_3 14 rfl rfl)
theorem dX3_fault_87 : decode cX3_fault 87 = .ok (.aload_n 0, 1) := dk_42 (dk_at dksX3_fault_3 17 rfl rfl)
theorem dX3_fault_88 : decode cX3_fault 88 = .ok (.invokevirtual 127, 3) := dk_182 0 127 (dk_at dksX3_fault_3 18 rfl rfl)
theorem dX3_fault_91 : decode cX3_fault 91 = .ok (.istore_n 1, 1) := dk_60 (dk_at dksX3_fault_3 21 rfl rfl)
theorem dX3_fault_92 : decode cX3_fault 92 = .ok (.iload_n 1, 1) := dk_27 (dk_at dksX3_fault_3 22 rfl rfl)
theorem dX3_fault_93 : decode cX3_fault 93 = .ok (.ifCond .ne 8, 3) := dk_154 0 8 (dk_at dksX3_fault_4 0 rfl rfl)
theorem dX3_fault_96 : decode cX3_fault 96 = .ok (.aload_n 0, 1) := dk_42 (dk_at dksX3_fault_4 3 rfl rfl)
theorem dX3_fault_97 : decode cX3_fault 97 = .ok (.getfield 67, 3) := dk_180 0 67 (dk_at dksX3_fault_4 4 rfl rfl)
theorem dX3_fault_100 : decode cX3_fault 100 = .ok (.ireturn, 1) := dk_172 (dk_at dksX3_fault_4 7 rfl rfl)
theorem dX3_fault_101 : decode cX3_fault 101 = .ok (.goto (-75), 3) := dk_167 255 181 (dk_at dksX3_fault_4 8 rfl rfl)
theorem dX3_fault_104 : decode cX3_fault 104 = .ok (.iconst (-1), 1) := dk_2 (dk_at dksX3_fault_4 11 rfl rfl)
theorem dX3_fault_105 : decode cX3_fault 105 = .ok (.ireturn, 1) := dk_172 (dk_at dksX3_fault_4 12 rfl rfl)
abbrev cX3_token : ByteArray := prog_12_method_7_code
def yX3_token : MethodName := ⟨RX3, "token", "()V"⟩
def dkwX3_token_6 : List UInt8 := [42, 180, 0, 64, 181, 0, 74, 177]
abbrev dktX3_token_6 : List UInt8 := dkwX3_token_6 ++ []
def dkwX3_token_5 : List UInt8 := [180, 0, 67, 46, 184, 0, 70, 160, 0, 16, 42, 89, 180, 0, 64, 4, 96, 181, 0, 64, 167, 255, 193, 42]
abbrev dktX3_token_5 : List UInt8 := dkwX3_token_5 ++ dktX3_token_6
def dkwX3_token_4 : List UInt8 := [184, 0, 70, 158, 0, 43, 42, 180, 0, 7, 42, 180, 0, 64, 46, 184, 0, 70, 42, 180, 0, 7, 42]
abbrev dktX3_token_4 : List UInt8 := dkwX3_token_4 ++ dktX3_token_5
def dkwX3_token_3 : List UInt8 := [181, 0, 64, 42, 180, 0, 64, 42, 180, 0, 59, 162, 0, 58, 42, 180, 0, 7, 42, 180, 0, 67, 46]
abbrev dktX3_token_3 : List UInt8 := dkwX3_token_3 ++ dktX3_token_4
def dkwX3_token_2 : List UInt8 := [42, 89, 180, 0, 64, 42, 180, 0, 64, 42, 180, 0, 59, 162, 0, 7, 4, 167, 0, 4, 3, 96]
abbrev dktX3_token_2 : List UInt8 := dkwX3_token_2 ++ dktX3_token_3
def dkwX3_token_1 : List UInt8 := [160, 0, 16, 42, 89, 180, 0, 64, 4, 96, 181, 0, 64, 167, 255, 221, 42, 42, 180, 0, 64, 181, 0, 67]
abbrev dktX3_token_1 : List UInt8 := dkwX3_token_1 ++ dktX3_token_2
def dkwX3_token_0 : List UInt8 := [42, 180, 0, 64, 42, 180, 0, 59, 162, 0, 30, 42, 180, 0, 7, 42, 180, 0, 64, 46, 16, 32]
abbrev dktX3_token_0 : List UInt8 := dkwX3_token_0 ++ dktX3_token_1
theorem dksX3_token_0 : cX3_token.data.toList.drop 0 = dktX3_token_0 := by decide +kernel
theorem dksX3_token_1 : cX3_token.data.toList.drop 22 = dktX3_token_1 := dk_seg dksX3_token_0 22 rfl rfl
theorem dksX3_token_2 : cX3_token.data.toList.drop 46 = dktX3_token_2 := dk_seg dksX3_token_1 24 rfl rfl
theorem dksX3_token_3 : cX3_token.data.toList.drop 68 = dktX3_token_3 := dk_seg dksX3_token_2 22 rfl rfl
theorem dksX3_token_4 : cX3_token.data.toList.drop 91 = dktX3_token_4 := dk_seg dksX3_token_3 23 rfl rfl
theorem dksX3_token_5 : cX3_token.data.toList.drop 114 = dktX3_token_5 := dk_seg dksX3_token_4 23 rfl rfl
theorem dksX3_token_6 : cX3_token.data.toList.drop 138 = dktX3_token_6 := dk_seg dksX3_token_5 24 rfl rfl
theorem dX3_token_0 : decode cX3_token 0 = .ok (.aload_n 0, 1) := dk_42 (dk_at dksX3_token_0 0 rfl rfl)
theorem dX3_token_1 : decode cX3_token 1 = .ok (.getfield 64, 3) := dk_180 0 64 (dk_at dksX3_token_0 1 rfl rfl)
theorem dX3_token_4 : decode cX3_token 4 = .ok (.aload_n 0, 1) := dk_42 (dk_at dksX3_token_0 4 rfl rfl)
theorem dX3_token_5 : decode cX3_token 5 = .ok (.getfield 59, 3) := dk_180 0 59 (dk_at dksX3_token_0 5 rfl rfl)
theorem dX3_token_8 : decode cX3_token 8 = .ok (.if_icmp .ge 30, 3) := dk_162 0 30 (dk_at dksX3_token_0 8 rfl rfl)
theorem dX3_token_11 : decode cX3_token 11 = .ok (.aload_n 0, 1) := dk_42 (dk_at dksX3_token_0 11 rfl rfl)
theorem dX3_token_12 : decode cX3_token 12 = .ok (.getfield 7, 3) := dk_180 0 7 (dk_at dksX3_token_0 12 rfl rfl)
theorem dX3_token_15 : decode cX3_token 15 = .ok (.aload_n 0, 1) := dk_42 (dk_at dksX3_token_0 15 rfl rfl)
theorem dX3_token_16 : decode cX3_token 16 = .ok (.getfield 64, 3) := dk_180 0 64 (dk_at dksX3_token_0 16 rfl rfl)
theorem dX3_token_19 : decode cX3_token 19 = .ok (.iaload, 1) := dk_46 (dk_at dksX3_token_0 19 rfl rfl)
theorem dX3_token_20 : decode cX3_token 20 = .ok (.bipush 32, 2) := dk_16 32 (dk_at dksX3_token_0 20 rfl rfl)
theorem dX3_token_22 : decode cX3_token 22 = .ok (.if_icmp .ne 16, 3) := dk_160 0 16 (dk_at dksX3_token_1 0 rfl rfl)
theorem dX3_token_25 : decode cX3_token 25 = .ok (.aload_n 0, 1) := dk_42 (dk_at dksX3_token_1 3 rfl rfl)
theorem dX3_token_26 : decode cX3_token 26 = .ok (.dup, 1) := dk_89 (dk_at dksX3_token_1 4 rfl rfl)
theorem dX3_token_27 : decode cX3_token 27 = .ok (.getfield 64, 3) := dk_180 0 64 (dk_at dksX3_token_1 5 rfl rfl)
theorem dX3_token_30 : decode cX3_token 30 = .ok (.iconst 1, 1) := dk_4 (dk_at dksX3_token_1 8 rfl rfl)
theorem dX3_token_31 : decode cX3_token 31 = .ok (.iadd, 1) := dk_96 (dk_at dksX3_token_1 9 rfl rfl)
theorem dX3_token_32 : decode cX3_token 32 = .ok (.putfield 64, 3) := dk_181 0 64 (dk_at dksX3_token_1 10 rfl rfl)
theorem dX3_token_35 : decode cX3_token 35 = .ok (.goto (-35), 3) := dk_167 255 221 (dk_at dksX3_token_1 13 rfl rfl)
theorem dX3_token_38 : decode cX3_token 38 = .ok (.aload_n 0, 1) := dk_42 (dk_at dksX3_token_1 16 rfl rfl)
theorem dX3_token_39 : decode cX3_token 39 = .ok (.aload_n 0, 1) := dk_42 (dk_at dksX3_token_1 17 rfl rfl)
theorem dX3_token_40 : decode cX3_token 40 = .ok (.getfield 64, 3) := dk_180 0 64 (dk_at dksX3_token_1 18 rfl rfl)
theorem dX3_token_43 : decode cX3_token 43 = .ok (.putfield 67, 3) := dk_181 0 67 (dk_at dksX3_token_1 21 rfl rfl)
theorem dX3_token_46 : decode cX3_token 46 = .ok (.aload_n 0, 1) := dk_42 (dk_at dksX3_token_2 0 rfl rfl)
theorem dX3_token_47 : decode cX3_token 47 = .ok (.dup, 1) := dk_89 (dk_at dksX3_token_2 1 rfl rfl)
theorem dX3_token_48 : decode cX3_token 48 = .ok (.getfield 64, 3) := dk_180 0 64 (dk_at dksX3_token_2 2 rfl rfl)
theorem dX3_token_51 : decode cX3_token 51 = .ok (.aload_n 0, 1) := dk_42 (dk_at dksX3_token_2 5 rfl rfl)
theorem dX3_token_52 : decode cX3_token 52 = .ok (.getfield 64, 3) := dk_180 0 64 (dk_at dksX3_token_2 6 rfl rfl)
theorem dX3_token_55 : decode cX3_token 55 = .ok (.aload_n 0, 1) := dk_42 (dk_at dksX3_token_2 9 rfl rfl)
theorem dX3_token_56 : decode cX3_token 56 = .ok (.getfield 59, 3) := dk_180 0 59 (dk_at dksX3_token_2 10 rfl rfl)
theorem dX3_token_59 : decode cX3_token 59 = .ok (.if_icmp .ge 7, 3) := dk_162 0 7 (dk_at dksX3_token_2 13 rfl rfl)
theorem dX3_token_62 : decode cX3_token 62 = .ok (.iconst 1, 1) := dk_4 (dk_at dksX3_token_2 16 rfl rfl)
theorem dX3_token_63 : decode cX3_token 63 = .ok (.goto 4, 3) := dk_167 0 4 (dk_at dksX3_token_2 17 rfl rfl)
theorem dX3_token_66 : decode cX3_token 66 = .ok (.iconst 0, 1) := dk_3 (dk_at dksX3_token_2 20 rfl rfl)
theorem dX3_token_67 : decode cX3_token 67 = .ok (.iadd, 1) := dk_96 (dk_at dksX3_token_2 21 rfl rfl)
theorem dX3_token_68 : decode cX3_token 68 = .ok (.putfield 64, 3) := dk_181 0 64 (dk_at dksX3_token_3 0 rfl rfl)
theorem dX3_token_71 : decode cX3_token 71 = .ok (.aload_n 0, 1) := dk_42 (dk_at dksX3_token_3 3 rfl rfl)
theorem dX3_token_72 : decode cX3_token 72 = .ok (.getfield 64, 3) := dk_180 0 64 (dk_at dksX3_token_3 4 rfl rfl)
theorem dX3_token_75 : decode cX3_token 75 = .ok (.aload_n 0, 1) := dk_42 (dk_at dksX3_token_3 7 rfl rfl)
theorem dX3_token_76 : decode cX3_token 76 = .ok (.getfield 59, 3) := dk_180 0 59 (dk_at dksX3_token_3 8 rfl rfl)
theorem dX3_token_79 : decode cX3_token 79 = .ok (.if_icmp .ge 58, 3) := dk_162 0 58 (dk_at dksX3_token_3 11 rfl rfl)
theorem dX3_token_82 : decode cX3_token 82 = .ok (.aload_n 0, 1) := dk_42 (dk_at dksX3_token_3 14 rfl rfl)
theorem dX3_token_83 : decode cX3_token 83 = .ok (.getfield 7, 3) := dk_180 0 7 (dk_at dksX3_token_3 15 rfl rfl)
theorem dX3_token_86 : decode cX3_token 86 = .ok (.aload_n 0, 1) := dk_42 (dk_at dksX3_token_3 18 rfl rfl)
theorem dX3_token_87 : decode cX3_token 87 = .ok (.getfield 67, 3) := dk_180 0 67 (dk_at dksX3_token_3 19 rfl rfl)
theorem dX3_token_90 : decode cX3_token 90 = .ok (.iaload, 1) := dk_46 (dk_at dksX3_token_3 22 rfl rfl)
theorem dX3_token_91 : decode cX3_token 91 = .ok (.invokestatic 70, 3) := dk_184 0 70 (dk_at dksX3_token_4 0 rfl rfl)
theorem dX3_token_94 : decode cX3_token 94 = .ok (.ifCond .le 43, 3) := dk_158 0 43 (dk_at dksX3_token_4 3 rfl rfl)
theorem dX3_token_97 : decode cX3_token 97 = .ok (.aload_n 0, 1) := dk_42 (dk_at dksX3_token_4 6 rfl rfl)
theorem dX3_token_98 : decode cX3_token 98 = .ok (.getfield 7, 3) := dk_180 0 7 (dk_at dksX3_token_4 7 rfl rfl)
theorem dX3_token_101 : decode cX3_token 101 = .ok (.aload_n 0, 1) := dk_42 (dk_at dksX3_token_4 10 rfl rfl)
theorem dX3_token_102 : decode cX3_token 102 = .ok (.getfield 64, 3) := dk_180 0 64 (dk_at dksX3_token_4 11 rfl rfl)
theorem dX3_token_105 : decode cX3_token 105 = .ok (.iaload, 1) := dk_46 (dk_at dksX3_token_4 14 rfl rfl)
theorem dX3_token_106 : decode cX3_token 106 = .ok (.invokestatic 70, 3) := dk_184 0 70 (dk_at dksX3_token_4 15 rfl rfl)
theorem dX3_token_109 : decode cX3_token 109 = .ok (.aload_n 0, 1) := dk_42 (dk_at dksX3_token_4 18 rfl rfl)
theorem dX3_token_110 : decode cX3_token 110 = .ok (.getfield 7, 3) := dk_180 0 7 (dk_at dksX3_token_4 19 rfl rfl)
theorem dX3_token_113 : decode cX3_token 113 = .ok (.aload_n 0, 1) := dk_42 (dk_at dksX3_token_4 22 rfl rfl)
theorem dX3_token_114 : decode cX3_token 114 = .ok (.getfield 67, 3) := dk_180 0 67 (dk_at dksX3_token_5 0 rfl rfl)
theorem dX3_token_117 : decode cX3_token 117 = .ok (.iaload, 1) := dk_46 (dk_at dksX3_token_5 3 rfl rfl)
theorem dX3_token_118 : decode cX3_token 118 = .ok (.invokestatic 70, 3) := dk_184 0 70 (dk_at dksX3_token_5 4 rfl rfl)
theorem dX3_token_121 : decode cX3_token 121 = .ok (.if_icmp .ne 16, 3) := dk_160 0 16 (dk_at dksX3_token_5 7 rfl rfl)
theorem dX3_token_124 : decode cX3_token 124 = .ok (.aload_n 0, 1) := dk_42 (dk_at dksX3_token_5 10 rfl rfl)
theorem dX3_token_125 : decode cX3_token 125 = .ok (.dup, 1) := dk_89 (dk_at dksX3_token_5 11 rfl rfl)
theorem dX3_token_126 : decode cX3_token 126 = .ok (.getfield 64, 3) := dk_180 0 64 (dk_at dksX3_token_5 12 rfl rfl)
theorem dX3_token_129 : decode cX3_token 129 = .ok (.iconst 1, 1) := dk_4 (dk_at dksX3_token_5 15 rfl rfl)
theorem dX3_token_130 : decode cX3_token 130 = .ok (.iadd, 1) := dk_96 (dk_at dksX3_token_5 16 rfl rfl)
theorem dX3_token_131 : decode cX3_token 131 = .ok (.putfield 64, 3) := dk_181 0 64 (dk_at dksX3_token_5 17 rfl rfl)
theorem dX3_token_134 : decode cX3_token 134 = .ok (.goto (-63), 3) := dk_167 255 193 (dk_at dksX3_token_5 20 rfl rfl)
theorem dX3_token_137 : decode cX3_token 137 = .ok (.aload_n 0, 1) := dk_42 (dk_at dksX3_token_5 23 rfl rfl)
theorem dX3_token_138 : decode cX3_token 138 = .ok (.aload_n 0, 1) := dk_42 (dk_at dksX3_token_6 0 rfl rfl)
theorem dX3_token_139 : decode cX3_token 139 = .ok (.getfield 64, 3) := dk_180 0 64 (dk_at dksX3_token_6 1 rfl rfl)
theorem dX3_token_142 : decode cX3_token 142 = .ok (.putfield 74, 3) := dk_181 0 74 (dk_at dksX3_token_6 4 rfl rfl)
theorem dX3_token_145 : decode cX3_token 145 = .ok (.return_, 1) := dk_177 (dk_at dksX3_token_6 7 rfl rfl)
abbrev cX3_kind : ByteArray := prog_12_method_6_code
def yX3_kind : MethodName := ⟨RX3, "kind", "(I)I"⟩
def dkwX3_kind_1 : List UInt8 := [16, 57, 163, 0, 7, 5, 167, 0, 4, 3, 172]
abbrev dktX3_kind_1 : List UInt8 := dkwX3_kind_1 ++ []
def dkwX3_kind_0 : List UInt8 := [26, 16, 97, 161, 0, 13, 26, 16, 122, 163, 0, 7, 4, 167, 0, 20, 26, 16, 48, 161, 0, 13, 26]
abbrev dktX3_kind_0 : List UInt8 := dkwX3_kind_0 ++ dktX3_kind_1
theorem dksX3_kind_0 : cX3_kind.data.toList.drop 0 = dktX3_kind_0 := by decide +kernel
theorem dksX3_kind_1 : cX3_kind.data.toList.drop 23 = dktX3_kind_1 := dk_seg dksX3_kind_0 23 rfl rfl
theorem dX3_kind_0 : decode cX3_kind 0 = .ok (.iload_n 0, 1) := dk_26 (dk_at dksX3_kind_0 0 rfl rfl)
theorem dX3_kind_1 : decode cX3_kind 1 = .ok (.bipush 97, 2) := dk_16 97 (dk_at dksX3_kind_0 1 rfl rfl)
theorem dX3_kind_3 : decode cX3_kind 3 = .ok (.if_icmp .lt 13, 3) := dk_161 0 13 (dk_at dksX3_kind_0 3 rfl rfl)
theorem dX3_kind_6 : decode cX3_kind 6 = .ok (.iload_n 0, 1) := dk_26 (dk_at dksX3_kind_0 6 rfl rfl)
theorem dX3_kind_7 : decode cX3_kind 7 = .ok (.bipush 122, 2) := dk_16 122 (dk_at dksX3_kind_0 7 rfl rfl)
theorem dX3_kind_9 : decode cX3_kind 9 = .ok (.if_icmp .gt 7, 3) := dk_163 0 7 (dk_at dksX3_kind_0 9 rfl rfl)
theorem dX3_kind_12 : decode cX3_kind 12 = .ok (.iconst 1, 1) := dk_4 (dk_at dksX3_kind_0 12 rfl rfl)
theorem dX3_kind_13 : decode cX3_kind 13 = .ok (.goto 20, 3) := dk_167 0 20 (dk_at dksX3_kind_0 13 rfl rfl)
theorem dX3_kind_16 : decode cX3_kind 16 = .ok (.iload_n 0, 1) := dk_26 (dk_at dksX3_kind_0 16 rfl rfl)
theorem dX3_kind_17 : decode cX3_kind 17 = .ok (.bipush 48, 2) := dk_16 48 (dk_at dksX3_kind_0 17 rfl rfl)
theorem dX3_kind_19 : decode cX3_kind 19 = .ok (.if_icmp .lt 13, 3) := dk_161 0 13 (dk_at dksX3_kind_0 19 rfl rfl)
theorem dX3_kind_22 : decode cX3_kind 22 = .ok (.iload_n 0, 1) := dk_26 (dk_at dksX3_kind_0 22 rfl rfl)
theorem dX3_kind_23 : decode cX3_kind 23 = .ok (.bipush 57, 2) := dk_16 57 (dk_at dksX3_kind_1 0 rfl rfl)
theorem dX3_kind_25 : decode cX3_kind 25 = .ok (.if_icmp .gt 7, 3) := dk_163 0 7 (dk_at dksX3_kind_1 2 rfl rfl)
theorem dX3_kind_28 : decode cX3_kind 28 = .ok (.iconst 2, 1) := dk_5 (dk_at dksX3_kind_1 5 rfl rfl)
theorem dX3_kind_29 : decode cX3_kind 29 = .ok (.goto 4, 3) := dk_167 0 4 (dk_at dksX3_kind_1 6 rfl rfl)
theorem dX3_kind_32 : decode cX3_kind 32 = .ok (.iconst 0, 1) := dk_3 (dk_at dksX3_kind_1 9 rfl rfl)
theorem dX3_kind_33 : decode cX3_kind 33 = .ok (.ireturn, 1) := dk_172 (dk_at dksX3_kind_1 10 rfl rfl)
abbrev cX3_readsLine : ByteArray := prog_12_method_15_code
def yX3_readsLine : MethodName := ⟨RX3, "readsLine", "()Z"⟩
def dkwX3_readsLine_14 : List UInt8 := [96, 181, 0, 77, 29, 172]
abbrev dktX3_readsLine_14 : List UInt8 := dkwX3_readsLine_14 ++ []
def dkwX3_readsLine_13 : List UInt8 := [3, 62, 167, 0, 8, 42, 182, 0, 124, 62, 42, 89, 180, 0, 77, 29, 153, 0, 7, 4, 167, 0, 4, 3]
abbrev dktX3_readsLine_13 : List UInt8 := dkwX3_readsLine_13 ++ dktX3_readsLine_14
def dkwX3_readsLine_12 : List UInt8 := [16, 99, 182, 0, 93, 153, 0, 19, 42, 16, 6, 3, 16, 99, 182, 0, 93, 153, 0, 7, 4, 167, 0, 4]
abbrev dktX3_readsLine_12 : List UInt8 := dkwX3_readsLine_12 ++ dktX3_readsLine_13
def dkwX3_readsLine_11 : List UInt8 := [46, 17, 5, 159, 182, 0, 93, 153, 0, 41, 42, 7, 3, 16, 99, 182, 0, 93, 153, 0, 30, 42, 8, 3]
abbrev dktX3_readsLine_11 : List UInt8 := dkwX3_readsLine_11 ++ dktX3_readsLine_12
def dkwX3_readsLine_10 : List UInt8 := [153, 0, 72, 42, 5, 3, 17, 5, 159, 182, 0, 93, 153, 0, 60, 42, 6, 42, 180, 0, 13, 27, 6, 96]
abbrev dktX3_readsLine_10 : List UInt8 := dkwX3_readsLine_10 ++ dktX3_readsLine_11
def dkwX3_readsLine_9 : List UInt8 := [182, 0, 121, 62, 167, 0, 102, 42, 3, 3, 8, 182, 0, 93, 153, 0, 82, 42, 4, 4, 8, 182, 0, 93]
abbrev dktX3_readsLine_9 : List UInt8 := dkwX3_readsLine_9 ++ dktX3_readsLine_10
def dkwX3_readsLine_8 : List UInt8 := [17, 3, 231, 182, 0, 93, 62, 167, 0, 123, 42, 3, 3, 17, 5, 159, 182, 0, 93, 62, 167, 0, 110, 42]
abbrev dktX3_readsLine_8 : List UInt8 := dkwX3_readsLine_8 ++ dktX3_readsLine_9
def dkwX3_readsLine_7 : List UInt8 := [42, 182, 0, 117, 62, 167, 0, 149, 42, 3, 3, 17, 1, 144, 182, 0, 93, 62, 167, 0, 136, 42, 3, 3]
abbrev dktX3_readsLine_7 : List UInt8 := dkwX3_readsLine_7 ++ dktX3_readsLine_8
def dkwX3_readsLine_6 : List UInt8 := [170, 0, 0, 0, 186, 0, 0, 0, 0, 0, 0, 0, 5, 0, 0, 0, 37, 0, 0, 0, 45, 0, 0, 0, 58, 0, 0, 0, 71, 0, 0, 0, 84, 0, 0, 0, 92]
abbrev dktX3_readsLine_6 : List UInt8 := dkwX3_readsLine_6 ++ dktX3_readsLine_7
def dkwX3_readsLine_5 : List UInt8 := [42, 182, 0, 80, 42, 180, 0, 13, 27, 28, 79, 3, 62, 28]
abbrev dktX3_readsLine_5 : List UInt8 := dkwX3_readsLine_5 ++ dktX3_readsLine_6
def dkwX3_readsLine_4 : List UInt8 := [42, 18, 116, 7, 182, 0, 98, 153, 0, 8, 16, 6, 167, 0, 4, 2, 61, 28, 2, 160, 0, 5, 3, 172]
abbrev dktX3_readsLine_4 : List UInt8 := dkwX3_readsLine_4 ++ dktX3_readsLine_5
def dkwX3_readsLine_3 : List UInt8 := [182, 0, 98, 153, 0, 7, 7, 167, 0, 33, 42, 18, 115, 7, 182, 0, 98, 153, 0, 7, 8, 167, 0, 19]
abbrev dktX3_readsLine_3 : List UInt8 := dkwX3_readsLine_3 ++ dktX3_readsLine_4
def dkwX3_readsLine_2 : List UInt8 := [167, 0, 62, 42, 18, 114, 8, 182, 0, 98, 153, 0, 7, 6, 167, 0, 48, 42, 17, 100, 55, 6]
abbrev dktX3_readsLine_2 : List UInt8 := dkwX3_readsLine_2 ++ dktX3_readsLine_3
def dkwX3_readsLine_1 : List UInt8 := [18, 112, 7, 182, 0, 98, 153, 0, 7, 4, 167, 0, 76, 42, 18, 113, 8, 182, 0, 98, 153, 0, 7, 5]
abbrev dktX3_readsLine_1 : List UInt8 := dkwX3_readsLine_1 ++ dktX3_readsLine_2
def dkwX3_readsLine_0 : List UInt8 := [16, 8, 42, 180, 0, 77, 104, 60, 42, 18, 111, 8, 182, 0, 98, 153, 0, 7, 3, 167, 0, 90, 42]
abbrev dktX3_readsLine_0 : List UInt8 := dkwX3_readsLine_0 ++ dktX3_readsLine_1
theorem dksX3_readsLine_0 : cX3_readsLine.data.toList.drop 0 = dktX3_readsLine_0 := by decide +kernel
theorem dksX3_readsLine_1 : cX3_readsLine.data.toList.drop 23 = dktX3_readsLine_1 := dk_seg dksX3_readsLine_0 23 rfl rfl
theorem dksX3_readsLine_2 : cX3_readsLine.data.toList.drop 47 = dktX3_readsLine_2 := dk_seg dksX3_readsLine_1 24 rfl rfl
theorem dksX3_readsLine_3 : cX3_readsLine.data.toList.drop 69 = dktX3_readsLine_3 := dk_seg dksX3_readsLine_2 22 rfl rfl
theorem dksX3_readsLine_4 : cX3_readsLine.data.toList.drop 93 = dktX3_readsLine_4 := dk_seg dksX3_readsLine_3 24 rfl rfl
theorem dksX3_readsLine_5 : cX3_readsLine.data.toList.drop 117 = dktX3_readsLine_5 := dk_seg dksX3_readsLine_4 24 rfl rfl
theorem dksX3_readsLine_6 : cX3_readsLine.data.toList.drop 131 = dktX3_readsLine_6 := dk_seg dksX3_readsLine_5 14 rfl rfl
theorem dksX3_readsLine_7 : cX3_readsLine.data.toList.drop 168 = dktX3_readsLine_7 := dk_seg dksX3_readsLine_6 37 rfl rfl
theorem dksX3_readsLine_8 : cX3_readsLine.data.toList.drop 192 = dktX3_readsLine_8 := dk_seg dksX3_readsLine_7 24 rfl rfl
theorem dksX3_readsLine_9 : cX3_readsLine.data.toList.drop 216 = dktX3_readsLine_9 := dk_seg dksX3_readsLine_8 24 rfl rfl
theorem dksX3_readsLine_10 : cX3_readsLine.data.toList.drop 240 = dktX3_readsLine_10 := dk_seg dksX3_readsLine_9 24 rfl rfl
theorem dksX3_readsLine_11 : cX3_readsLine.data.toList.drop 264 = dktX3_readsLine_11 := dk_seg dksX3_readsLine_10 24 rfl rfl
theorem dksX3_readsLine_12 : cX3_readsLine.data.toList.drop 288 = dktX3_readsLine_12 := dk_seg dksX3_readsLine_11 24 rfl rfl
theorem dksX3_readsLine_13 : cX3_readsLine.data.toList.drop 312 = dktX3_readsLine_13 := dk_seg dksX3_readsLine_12 24 rfl rfl
theorem dksX3_readsLine_14 : cX3_readsLine.data.toList.drop 336 = dktX3_readsLine_14 := dk_seg dksX3_readsLine_13 24 rfl rfl
theorem dX3_readsLine_0 : decode cX3_readsLine 0 = .ok (.bipush 8, 2) := dk_16 8 (dk_at dksX3_readsLine_0 0 rfl rfl)
theorem dX3_readsLine_2 : decode cX3_readsLine 2 = .ok (.aload_n 0, 1) := dk_42 (dk_at dksX3_readsLine_0 2 rfl rfl)
theorem dX3_readsLine_3 : decode cX3_readsLine 3 = .ok (.getfield 77, 3) := dk_180 0 77 (dk_at dksX3_readsLine_0 3 rfl rfl)
theorem dX3_readsLine_6 : decode cX3_readsLine 6 = .ok (.imul, 1) := dk_104 (dk_at dksX3_readsLine_0 6 rfl rfl)
theorem dX3_readsLine_7 : decode cX3_readsLine 7 = .ok (.istore_n 1, 1) := dk_60 (dk_at dksX3_readsLine_0 7 rfl rfl)
theorem dX3_readsLine_8 : decode cX3_readsLine 8 = .ok (.aload_n 0, 1) := dk_42 (dk_at dksX3_readsLine_0 8 rfl rfl)
theorem dX3_readsLine_9 : decode cX3_readsLine 9 = .ok (.ldc 111, 2) := dk_18 111 (dk_at dksX3_readsLine_0 9 rfl rfl)
theorem dX3_readsLine_11 : decode cX3_readsLine 11 = .ok (.iconst 5, 1) := dk_8 (dk_at dksX3_readsLine_0 11 rfl rfl)
theorem dX3_readsLine_12 : decode cX3_readsLine 12 = .ok (.invokevirtual 98, 3) := dk_182 0 98 (dk_at dksX3_readsLine_0 12 rfl rfl)
theorem dX3_readsLine_15 : decode cX3_readsLine 15 = .ok (.ifCond .eq 7, 3) := dk_153 0 7 (dk_at dksX3_readsLine_0 15 rfl rfl)
theorem dX3_readsLine_18 : decode cX3_readsLine 18 = .ok (.iconst 0, 1) := dk_3 (dk_at dksX3_readsLine_0 18 rfl rfl)
theorem dX3_readsLine_19 : decode cX3_readsLine 19 = .ok (.goto 90, 3) := dk_167 0 90 (dk_at dksX3_readsLine_0 19 rfl rfl)
theorem dX3_readsLine_22 : decode cX3_readsLine 22 = .ok (.aload_n 0, 1) := dk_42 (dk_at dksX3_readsLine_0 22 rfl rfl)
theorem dX3_readsLine_23 : decode cX3_readsLine 23 = .ok (.ldc 112, 2) := dk_18 112 (dk_at dksX3_readsLine_1 0 rfl rfl)
theorem dX3_readsLine_25 : decode cX3_readsLine 25 = .ok (.iconst 4, 1) := dk_7 (dk_at dksX3_readsLine_1 2 rfl rfl)
theorem dX3_readsLine_26 : decode cX3_readsLine 26 = .ok (.invokevirtual 98, 3) := dk_182 0 98 (dk_at dksX3_readsLine_1 3 rfl rfl)
theorem dX3_readsLine_29 : decode cX3_readsLine 29 = .ok (.ifCond .eq 7, 3) := dk_153 0 7 (dk_at dksX3_readsLine_1 6 rfl rfl)
theorem dX3_readsLine_32 : decode cX3_readsLine 32 = .ok (.iconst 1, 1) := dk_4 (dk_at dksX3_readsLine_1 9 rfl rfl)
theorem dX3_readsLine_33 : decode cX3_readsLine 33 = .ok (.goto 76, 3) := dk_167 0 76 (dk_at dksX3_readsLine_1 10 rfl rfl)
theorem dX3_readsLine_36 : decode cX3_readsLine 36 = .ok (.aload_n 0, 1) := dk_42 (dk_at dksX3_readsLine_1 13 rfl rfl)
theorem dX3_readsLine_37 : decode cX3_readsLine 37 = .ok (.ldc 113, 2) := dk_18 113 (dk_at dksX3_readsLine_1 14 rfl rfl)
theorem dX3_readsLine_39 : decode cX3_readsLine 39 = .ok (.iconst 5, 1) := dk_8 (dk_at dksX3_readsLine_1 16 rfl rfl)
theorem dX3_readsLine_40 : decode cX3_readsLine 40 = .ok (.invokevirtual 98, 3) := dk_182 0 98 (dk_at dksX3_readsLine_1 17 rfl rfl)
theorem dX3_readsLine_43 : decode cX3_readsLine 43 = .ok (.ifCond .eq 7, 3) := dk_153 0 7 (dk_at dksX3_readsLine_1 20 rfl rfl)
theorem dX3_readsLine_46 : decode cX3_readsLine 46 = .ok (.iconst 2, 1) := dk_5 (dk_at dksX3_readsLine_1 23 rfl rfl)
theorem dX3_readsLine_47 : decode cX3_readsLine 47 = .ok (.goto 62, 3) := dk_167 0 62 (dk_at dksX3_readsLine_2 0 rfl rfl)
theorem dX3_readsLine_50 : decode cX3_readsLine 50 = .ok (.aload_n 0, 1) := dk_42 (dk_at dksX3_readsLine_2 3 rfl rfl)
theorem dX3_readsLine_51 : decode cX3_readsLine 51 = .ok (.ldc 114, 2) := dk_18 114 (dk_at dksX3_readsLine_2 4 rfl rfl)
theorem dX3_readsLine_53 : decode cX3_readsLine 53 = .ok (.iconst 5, 1) := dk_8 (dk_at dksX3_readsLine_2 6 rfl rfl)
theorem dX3_readsLine_54 : decode cX3_readsLine 54 = .ok (.invokevirtual 98, 3) := dk_182 0 98 (dk_at dksX3_readsLine_2 7 rfl rfl)
theorem dX3_readsLine_57 : decode cX3_readsLine 57 = .ok (.ifCond .eq 7, 3) := dk_153 0 7 (dk_at dksX3_readsLine_2 10 rfl rfl)
theorem dX3_readsLine_60 : decode cX3_readsLine 60 = .ok (.iconst 3, 1) := dk_6 (dk_at dksX3_readsLine_2 13 rfl rfl)
theorem dX3_readsLine_61 : decode cX3_readsLine 61 = .ok (.goto 48, 3) := dk_167 0 48 (dk_at dksX3_readsLine_2 14 rfl rfl)
theorem dX3_readsLine_64 : decode cX3_readsLine 64 = .ok (.aload_n 0, 1) := dk_42 (dk_at dksX3_readsLine_2 17 rfl rfl)
theorem dX3_readsLine_65 : decode cX3_readsLine 65 = .ok (.sipush 25655, 3) := dk_17 100 55 (dk_at dksX3_readsLine_2 18 rfl rfl)
theorem dX3_readsLine_68 : decode cX3_readsLine 68 = .ok (.iconst 3, 1) := dk_6 (dk_at dksX3_readsLine_2 21 rfl rfl)
theorem dX3_readsLine_69 : decode cX3_readsLine 69 = .ok (.invokevirtual 98, 3) := dk_182 0 98 (dk_at dksX3_readsLine_3 0 rfl rfl)
theorem dX3_readsLine_72 : decode cX3_readsLine 72 = .ok (.ifCond .eq 7, 3) := dk_153 0 7 (dk_at dksX3_readsLine_3 3 rfl rfl)
theorem dX3_readsLine_75 : decode cX3_readsLine 75 = .ok (.iconst 4, 1) := dk_7 (dk_at dksX3_readsLine_3 6 rfl rfl)
theorem dX3_readsLine_76 : decode cX3_readsLine 76 = .ok (.goto 33, 3) := dk_167 0 33 (dk_at dksX3_readsLine_3 7 rfl rfl)
theorem dX3_readsLine_79 : decode cX3_readsLine 79 = .ok (.aload_n 0, 1) := dk_42 (dk_at dksX3_readsLine_3 10 rfl rfl)
theorem dX3_readsLine_80 : decode cX3_readsLine 80 = .ok (.ldc 115, 2) := dk_18 115 (dk_at dksX3_readsLine_3 11 rfl rfl)
theorem dX3_readsLine_82 : decode cX3_readsLine 82 = .ok (.iconst 4, 1) := dk_7 (dk_at dksX3_readsLine_3 13 rfl rfl)
theorem dX3_readsLine_83 : decode cX3_readsLine 83 = .ok (.invokevirtual 98, 3) := dk_182 0 98 (dk_at dksX3_readsLine_3 14 rfl rfl)
theorem dX3_readsLine_86 : decode cX3_readsLine 86 = .ok (.ifCond .eq 7, 3) := dk_153 0 7 (dk_at dksX3_readsLine_3 17 rfl rfl)
theorem dX3_readsLine_89 : decode cX3_readsLine 89 = .ok (.iconst 5, 1) := dk_8 (dk_at dksX3_readsLine_3 20 rfl rfl)
theorem dX3_readsLine_90 : decode cX3_readsLine 90 = .ok (.goto 19, 3) := dk_167 0 19 (dk_at dksX3_readsLine_3 21 rfl rfl)
theorem dX3_readsLine_93 : decode cX3_readsLine 93 = .ok (.aload_n 0, 1) := dk_42 (dk_at dksX3_readsLine_4 0 rfl rfl)
theorem dX3_readsLine_94 : decode cX3_readsLine 94 = .ok (.ldc 116, 2) := dk_18 116 (dk_at dksX3_readsLine_4 1 rfl rfl)
theorem dX3_readsLine_96 : decode cX3_readsLine 96 = .ok (.iconst 4, 1) := dk_7 (dk_at dksX3_readsLine_4 3 rfl rfl)
theorem dX3_readsLine_97 : decode cX3_readsLine 97 = .ok (.invokevirtual 98, 3) := dk_182 0 98 (dk_at dksX3_readsLine_4 4 rfl rfl)
theorem dX3_readsLine_100 : decode cX3_readsLine 100 = .ok (.ifCond .eq 8, 3) := dk_153 0 8 (dk_at dksX3_readsLine_4 7 rfl rfl)
theorem dX3_readsLine_103 : decode cX3_readsLine 103 = .ok (.bipush 6, 2) := dk_16 6 (dk_at dksX3_readsLine_4 10 rfl rfl)
theorem dX3_readsLine_105 : decode cX3_readsLine 105 = .ok (.goto 4, 3) := dk_167 0 4 (dk_at dksX3_readsLine_4 12 rfl rfl)
theorem dX3_readsLine_108 : decode cX3_readsLine 108 = .ok (.iconst (-1), 1) := dk_2 (dk_at dksX3_readsLine_4 15 rfl rfl)
theorem dX3_readsLine_109 : decode cX3_readsLine 109 = .ok (.istore_n 2, 1) := dk_61 (dk_at dksX3_readsLine_4 16 rfl rfl)
theorem dX3_readsLine_110 : decode cX3_readsLine 110 = .ok (.iload_n 2, 1) := dk_28 (dk_at dksX3_readsLine_4 17 rfl rfl)
theorem dX3_readsLine_111 : decode cX3_readsLine 111 = .ok (.iconst (-1), 1) := dk_2 (dk_at dksX3_readsLine_4 18 rfl rfl)
theorem dX3_readsLine_112 : decode cX3_readsLine 112 = .ok (.if_icmp .ne 5, 3) := dk_160 0 5 (dk_at dksX3_readsLine_4 19 rfl rfl)
theorem dX3_readsLine_115 : decode cX3_readsLine 115 = .ok (.iconst 0, 1) := dk_3 (dk_at dksX3_readsLine_4 22 rfl rfl)
theorem dX3_readsLine_116 : decode cX3_readsLine 116 = .ok (.ireturn, 1) := dk_172 (dk_at dksX3_readsLine_4 23 rfl rfl)
theorem dX3_readsLine_117 : decode cX3_readsLine 117 = .ok (.aload_n 0, 1) := dk_42 (dk_at dksX3_readsLine_5 0 rfl rfl)
theorem dX3_readsLine_118 : decode cX3_readsLine 118 = .ok (.invokevirtual 80, 3) := dk_182 0 80 (dk_at dksX3_readsLine_5 1 rfl rfl)
theorem dX3_readsLine_121 : decode cX3_readsLine 121 = .ok (.aload_n 0, 1) := dk_42 (dk_at dksX3_readsLine_5 4 rfl rfl)
theorem dX3_readsLine_122 : decode cX3_readsLine 122 = .ok (.getfield 13, 3) := dk_180 0 13 (dk_at dksX3_readsLine_5 5 rfl rfl)
theorem dX3_readsLine_125 : decode cX3_readsLine 125 = .ok (.iload_n 1, 1) := dk_27 (dk_at dksX3_readsLine_5 8 rfl rfl)
theorem dX3_readsLine_126 : decode cX3_readsLine 126 = .ok (.iload_n 2, 1) := dk_28 (dk_at dksX3_readsLine_5 9 rfl rfl)
theorem dX3_readsLine_127 : decode cX3_readsLine 127 = .ok (.iastore, 1) := dk_79 (dk_at dksX3_readsLine_5 10 rfl rfl)
theorem dX3_readsLine_128 : decode cX3_readsLine 128 = .ok (.iconst 0, 1) := dk_3 (dk_at dksX3_readsLine_5 11 rfl rfl)
theorem dX3_readsLine_129 : decode cX3_readsLine 129 = .ok (.istore_n 3, 1) := dk_62 (dk_at dksX3_readsLine_5 12 rfl rfl)
theorem dX3_readsLine_130 : decode cX3_readsLine 130 = .ok (.iload_n 2, 1) := dk_28 (dk_at dksX3_readsLine_5 13 rfl rfl)
theorem dX3_readsLine_131 : decode cX3_readsLine 131 = .ok (.tableswitch 186 0 5 #[37, 45, 58, 71, 84, 92], 37) := by decide +kernel
theorem dX3_readsLine_168 : decode cX3_readsLine 168 = .ok (.aload_n 0, 1) := dk_42 (dk_at dksX3_readsLine_7 0 rfl rfl)
theorem dX3_readsLine_169 : decode cX3_readsLine 169 = .ok (.invokevirtual 117, 3) := dk_182 0 117 (dk_at dksX3_readsLine_7 1 rfl rfl)
theorem dX3_readsLine_172 : decode cX3_readsLine 172 = .ok (.istore_n 3, 1) := dk_62 (dk_at dksX3_readsLine_7 4 rfl rfl)
theorem dX3_readsLine_173 : decode cX3_readsLine 173 = .ok (.goto 149, 3) := dk_167 0 149 (dk_at dksX3_readsLine_7 5 rfl rfl)
theorem dX3_readsLine_176 : decode cX3_readsLine 176 = .ok (.aload_n 0, 1) := dk_42 (dk_at dksX3_readsLine_7 8 rfl rfl)
theorem dX3_readsLine_177 : decode cX3_readsLine 177 = .ok (.iconst 0, 1) := dk_3 (dk_at dksX3_readsLine_7 9 rfl rfl)
theorem dX3_readsLine_178 : decode cX3_readsLine 178 = .ok (.iconst 0, 1) := dk_3 (dk_at dksX3_readsLine_7 10 rfl rfl)
theorem dX3_readsLine_179 : decode cX3_readsLine 179 = .ok (.sipush 400, 3) := dk_17 1 144 (dk_at dksX3_readsLine_7 11 rfl rfl)
theorem dX3_readsLine_182 : decode cX3_readsLine 182 = .ok (.invokevirtual 93, 3) := dk_182 0 93 (dk_at dksX3_readsLine_7 14 rfl rfl)
theorem dX3_readsLine_185 : decode cX3_readsLine 185 = .ok (.istore_n 3, 1) := dk_62 (dk_at dksX3_readsLine_7 17 rfl rfl)
theorem dX3_readsLine_186 : decode cX3_readsLine 186 = .ok (.goto 136, 3) := dk_167 0 136 (dk_at dksX3_readsLine_7 18 rfl rfl)
theorem dX3_readsLine_189 : decode cX3_readsLine 189 = .ok (.aload_n 0, 1) := dk_42 (dk_at dksX3_readsLine_7 21 rfl rfl)
theorem dX3_readsLine_190 : decode cX3_readsLine 190 = .ok (.iconst 0, 1) := dk_3 (dk_at dksX3_readsLine_7 22 rfl rfl)
theorem dX3_readsLine_191 : decode cX3_readsLine 191 = .ok (.iconst 0, 1) := dk_3 (dk_at dksX3_readsLine_7 23 rfl rfl)
theorem dX3_readsLine_192 : decode cX3_readsLine 192 = .ok (.sipush 999, 3) := dk_17 3 231 (dk_at dksX3_readsLine_8 0 rfl rfl)
theorem dX3_readsLine_195 : decode cX3_readsLine 195 = .ok (.invokevirtual 93, 3) := dk_182 0 93 (dk_at dksX3_readsLine_8 3 rfl rfl)
theorem dX3_readsLine_198 : decode cX3_readsLine 198 = .ok (.istore_n 3, 1) := dk_62 (dk_at dksX3_readsLine_8 6 rfl rfl)
theorem dX3_readsLine_199 : decode cX3_readsLine 199 = .ok (.goto 123, 3) := dk_167 0 123 (dk_at dksX3_readsLine_8 7 rfl rfl)
theorem dX3_readsLine_202 : decode cX3_readsLine 202 = .ok (.aload_n 0, 1) := dk_42 (dk_at dksX3_readsLine_8 10 rfl rfl)
theorem dX3_readsLine_203 : decode cX3_readsLine 203 = .ok (.iconst 0, 1) := dk_3 (dk_at dksX3_readsLine_8 11 rfl rfl)
theorem dX3_readsLine_204 : decode cX3_readsLine 204 = .ok (.iconst 0, 1) := dk_3 (dk_at dksX3_readsLine_8 12 rfl rfl)
theorem dX3_readsLine_205 : decode cX3_readsLine 205 = .ok (.sipush 1439, 3) := dk_17 5 159 (dk_at dksX3_readsLine_8 13 rfl rfl)
theorem dX3_readsLine_208 : decode cX3_readsLine 208 = .ok (.invokevirtual 93, 3) := dk_182 0 93 (dk_at dksX3_readsLine_8 16 rfl rfl)
theorem dX3_readsLine_211 : decode cX3_readsLine 211 = .ok (.istore_n 3, 1) := dk_62 (dk_at dksX3_readsLine_8 19 rfl rfl)
theorem dX3_readsLine_212 : decode cX3_readsLine 212 = .ok (.goto 110, 3) := dk_167 0 110 (dk_at dksX3_readsLine_8 20 rfl rfl)
theorem dX3_readsLine_215 : decode cX3_readsLine 215 = .ok (.aload_n 0, 1) := dk_42 (dk_at dksX3_readsLine_8 23 rfl rfl)
theorem dX3_readsLine_216 : decode cX3_readsLine 216 = .ok (.invokevirtual 121, 3) := dk_182 0 121 (dk_at dksX3_readsLine_9 0 rfl rfl)
theorem dX3_readsLine_219 : decode cX3_readsLine 219 = .ok (.istore_n 3, 1) := dk_62 (dk_at dksX3_readsLine_9 3 rfl rfl)
theorem dX3_readsLine_220 : decode cX3_readsLine 220 = .ok (.goto 102, 3) := dk_167 0 102 (dk_at dksX3_readsLine_9 4 rfl rfl)
theorem dX3_readsLine_223 : decode cX3_readsLine 223 = .ok (.aload_n 0, 1) := dk_42 (dk_at dksX3_readsLine_9 7 rfl rfl)
theorem dX3_readsLine_224 : decode cX3_readsLine 224 = .ok (.iconst 0, 1) := dk_3 (dk_at dksX3_readsLine_9 8 rfl rfl)
theorem dX3_readsLine_225 : decode cX3_readsLine 225 = .ok (.iconst 0, 1) := dk_3 (dk_at dksX3_readsLine_9 9 rfl rfl)
theorem dX3_readsLine_226 : decode cX3_readsLine 226 = .ok (.iconst 5, 1) := dk_8 (dk_at dksX3_readsLine_9 10 rfl rfl)
theorem dX3_readsLine_227 : decode cX3_readsLine 227 = .ok (.invokevirtual 93, 3) := dk_182 0 93 (dk_at dksX3_readsLine_9 11 rfl rfl)
theorem dX3_readsLine_230 : decode cX3_readsLine 230 = .ok (.ifCond .eq 82, 3) := dk_153 0 82 (dk_at dksX3_readsLine_9 14 rfl rfl)
theorem dX3_readsLine_233 : decode cX3_readsLine 233 = .ok (.aload_n 0, 1) := dk_42 (dk_at dksX3_readsLine_9 17 rfl rfl)
theorem dX3_readsLine_234 : decode cX3_readsLine 234 = .ok (.iconst 1, 1) := dk_4 (dk_at dksX3_readsLine_9 18 rfl rfl)
theorem dX3_readsLine_235 : decode cX3_readsLine 235 = .ok (.iconst 1, 1) := dk_4 (dk_at dksX3_readsLine_9 19 rfl rfl)
theorem dX3_readsLine_236 : decode cX3_readsLine 236 = .ok (.iconst 5, 1) := dk_8 (dk_at dksX3_readsLine_9 20 rfl rfl)
theorem dX3_readsLine_237 : decode cX3_readsLine 237 = .ok (.invokevirtual 93, 3) := dk_182 0 93 (dk_at dksX3_readsLine_9 21 rfl rfl)
theorem dX3_readsLine_240 : decode cX3_readsLine 240 = .ok (.ifCond .eq 72, 3) := dk_153 0 72 (dk_at dksX3_readsLine_10 0 rfl rfl)
theorem dX3_readsLine_243 : decode cX3_readsLine 243 = .ok (.aload_n 0, 1) := dk_42 (dk_at dksX3_readsLine_10 3 rfl rfl)
theorem dX3_readsLine_244 : decode cX3_readsLine 244 = .ok (.iconst 2, 1) := dk_5 (dk_at dksX3_readsLine_10 4 rfl rfl)
theorem dX3_readsLine_245 : decode cX3_readsLine 245 = .ok (.iconst 0, 1) := dk_3 (dk_at dksX3_readsLine_10 5 rfl rfl)
theorem dX3_readsLine_246 : decode cX3_readsLine 246 = .ok (.sipush 1439, 3) := dk_17 5 159 (dk_at dksX3_readsLine_10 6 rfl rfl)
theorem dX3_readsLine_249 : decode cX3_readsLine 249 = .ok (.invokevirtual 93, 3) := dk_182 0 93 (dk_at dksX3_readsLine_10 9 rfl rfl)
theorem dX3_readsLine_252 : decode cX3_readsLine 252 = .ok (.ifCond .eq 60, 3) := dk_153 0 60 (dk_at dksX3_readsLine_10 12 rfl rfl)
theorem dX3_readsLine_255 : decode cX3_readsLine 255 = .ok (.aload_n 0, 1) := dk_42 (dk_at dksX3_readsLine_10 15 rfl rfl)
theorem dX3_readsLine_256 : decode cX3_readsLine 256 = .ok (.iconst 3, 1) := dk_6 (dk_at dksX3_readsLine_10 16 rfl rfl)
theorem dX3_readsLine_257 : decode cX3_readsLine 257 = .ok (.aload_n 0, 1) := dk_42 (dk_at dksX3_readsLine_10 17 rfl rfl)
theorem dX3_readsLine_258 : decode cX3_readsLine 258 = .ok (.getfield 13, 3) := dk_180 0 13 (dk_at dksX3_readsLine_10 18 rfl rfl)
theorem dX3_readsLine_261 : decode cX3_readsLine 261 = .ok (.iload_n 1, 1) := dk_27 (dk_at dksX3_readsLine_10 21 rfl rfl)
theorem dX3_readsLine_262 : decode cX3_readsLine 262 = .ok (.iconst 3, 1) := dk_6 (dk_at dksX3_readsLine_10 22 rfl rfl)
theorem dX3_readsLine_263 : decode cX3_readsLine 263 = .ok (.iadd, 1) := dk_96 (dk_at dksX3_readsLine_10 23 rfl rfl)
theorem dX3_readsLine_264 : decode cX3_readsLine 264 = .ok (.iaload, 1) := dk_46 (dk_at dksX3_readsLine_11 0 rfl rfl)
theorem dX3_readsLine_265 : decode cX3_readsLine 265 = .ok (.sipush 1439, 3) := dk_17 5 159 (dk_at dksX3_readsLine_11 1 rfl rfl)
theorem dX3_readsLine_268 : decode cX3_readsLine 268 = .ok (.invokevirtual 93, 3) := dk_182 0 93 (dk_at dksX3_readsLine_11 4 rfl rfl)
theorem dX3_readsLine_271 : decode cX3_readsLine 271 = .ok (.ifCond .eq 41, 3) := dk_153 0 41 (dk_at dksX3_readsLine_11 7 rfl rfl)
theorem dX3_readsLine_274 : decode cX3_readsLine 274 = .ok (.aload_n 0, 1) := dk_42 (dk_at dksX3_readsLine_11 10 rfl rfl)
theorem dX3_readsLine_275 : decode cX3_readsLine 275 = .ok (.iconst 4, 1) := dk_7 (dk_at dksX3_readsLine_11 11 rfl rfl)
theorem dX3_readsLine_276 : decode cX3_readsLine 276 = .ok (.iconst 0, 1) := dk_3 (dk_at dksX3_readsLine_11 12 rfl rfl)
theorem dX3_readsLine_277 : decode cX3_readsLine 277 = .ok (.bipush 99, 2) := dk_16 99 (dk_at dksX3_readsLine_11 13 rfl rfl)
theorem dX3_readsLine_279 : decode cX3_readsLine 279 = .ok (.invokevirtual 93, 3) := dk_182 0 93 (dk_at dksX3_readsLine_11 15 rfl rfl)
theorem dX3_readsLine_282 : decode cX3_readsLine 282 = .ok (.ifCond .eq 30, 3) := dk_153 0 30 (dk_at dksX3_readsLine_11 18 rfl rfl)
theorem dX3_readsLine_285 : decode cX3_readsLine 285 = .ok (.aload_n 0, 1) := dk_42 (dk_at dksX3_readsLine_11 21 rfl rfl)
theorem dX3_readsLine_286 : decode cX3_readsLine 286 = .ok (.iconst 5, 1) := dk_8 (dk_at dksX3_readsLine_11 22 rfl rfl)
theorem dX3_readsLine_287 : decode cX3_readsLine 287 = .ok (.iconst 0, 1) := dk_3 (dk_at dksX3_readsLine_11 23 rfl rfl)
theorem dX3_readsLine_288 : decode cX3_readsLine 288 = .ok (.bipush 99, 2) := dk_16 99 (dk_at dksX3_readsLine_12 0 rfl rfl)
theorem dX3_readsLine_290 : decode cX3_readsLine 290 = .ok (.invokevirtual 93, 3) := dk_182 0 93 (dk_at dksX3_readsLine_12 2 rfl rfl)
theorem dX3_readsLine_293 : decode cX3_readsLine 293 = .ok (.ifCond .eq 19, 3) := dk_153 0 19 (dk_at dksX3_readsLine_12 5 rfl rfl)
theorem dX3_readsLine_296 : decode cX3_readsLine 296 = .ok (.aload_n 0, 1) := dk_42 (dk_at dksX3_readsLine_12 8 rfl rfl)
theorem dX3_readsLine_297 : decode cX3_readsLine 297 = .ok (.bipush 6, 2) := dk_16 6 (dk_at dksX3_readsLine_12 9 rfl rfl)
theorem dX3_readsLine_299 : decode cX3_readsLine 299 = .ok (.iconst 0, 1) := dk_3 (dk_at dksX3_readsLine_12 11 rfl rfl)
theorem dX3_readsLine_300 : decode cX3_readsLine 300 = .ok (.bipush 99, 2) := dk_16 99 (dk_at dksX3_readsLine_12 12 rfl rfl)
theorem dX3_readsLine_302 : decode cX3_readsLine 302 = .ok (.invokevirtual 93, 3) := dk_182 0 93 (dk_at dksX3_readsLine_12 14 rfl rfl)
theorem dX3_readsLine_305 : decode cX3_readsLine 305 = .ok (.ifCond .eq 7, 3) := dk_153 0 7 (dk_at dksX3_readsLine_12 17 rfl rfl)
theorem dX3_readsLine_308 : decode cX3_readsLine 308 = .ok (.iconst 1, 1) := dk_4 (dk_at dksX3_readsLine_12 20 rfl rfl)
theorem dX3_readsLine_309 : decode cX3_readsLine 309 = .ok (.goto 4, 3) := dk_167 0 4 (dk_at dksX3_readsLine_12 21 rfl rfl)
theorem dX3_readsLine_312 : decode cX3_readsLine 312 = .ok (.iconst 0, 1) := dk_3 (dk_at dksX3_readsLine_13 0 rfl rfl)
theorem dX3_readsLine_313 : decode cX3_readsLine 313 = .ok (.istore_n 3, 1) := dk_62 (dk_at dksX3_readsLine_13 1 rfl rfl)
theorem dX3_readsLine_314 : decode cX3_readsLine 314 = .ok (.goto 8, 3) := dk_167 0 8 (dk_at dksX3_readsLine_13 2 rfl rfl)
theorem dX3_readsLine_317 : decode cX3_readsLine 317 = .ok (.aload_n 0, 1) := dk_42 (dk_at dksX3_readsLine_13 5 rfl rfl)
theorem dX3_readsLine_318 : decode cX3_readsLine 318 = .ok (.invokevirtual 124, 3) := dk_182 0 124 (dk_at dksX3_readsLine_13 6 rfl rfl)
theorem dX3_readsLine_321 : decode cX3_readsLine 321 = .ok (.istore_n 3, 1) := dk_62 (dk_at dksX3_readsLine_13 9 rfl rfl)
theorem dX3_readsLine_322 : decode cX3_readsLine 322 = .ok (.aload_n 0, 1) := dk_42 (dk_at dksX3_readsLine_13 10 rfl rfl)
theorem dX3_readsLine_323 : decode cX3_readsLine 323 = .ok (.dup, 1) := dk_89 (dk_at dksX3_readsLine_13 11 rfl rfl)
theorem dX3_readsLine_324 : decode cX3_readsLine 324 = .ok (.getfield 77, 3) := dk_180 0 77 (dk_at dksX3_readsLine_13 12 rfl rfl)
theorem dX3_readsLine_327 : decode cX3_readsLine 327 = .ok (.iload_n 3, 1) := dk_29 (dk_at dksX3_readsLine_13 15 rfl rfl)
theorem dX3_readsLine_328 : decode cX3_readsLine 328 = .ok (.ifCond .eq 7, 3) := dk_153 0 7 (dk_at dksX3_readsLine_13 16 rfl rfl)
theorem dX3_readsLine_331 : decode cX3_readsLine 331 = .ok (.iconst 1, 1) := dk_4 (dk_at dksX3_readsLine_13 19 rfl rfl)
theorem dX3_readsLine_332 : decode cX3_readsLine 332 = .ok (.goto 4, 3) := dk_167 0 4 (dk_at dksX3_readsLine_13 20 rfl rfl)
theorem dX3_readsLine_335 : decode cX3_readsLine 335 = .ok (.iconst 0, 1) := dk_3 (dk_at dksX3_readsLine_13 23 rfl rfl)
theorem dX3_readsLine_336 : decode cX3_readsLine 336 = .ok (.iadd, 1) := dk_96 (dk_at dksX3_readsLine_14 0 rfl rfl)
theorem dX3_readsLine_337 : decode cX3_readsLine 337 = .ok (.putfield 77, 3) := dk_181 0 77 (dk_at dksX3_readsLine_14 1 rfl rfl)
theorem dX3_readsLine_340 : decode cX3_readsLine 340 = .ok (.iload_n 3, 1) := dk_29 (dk_at dksX3_readsLine_14 4 rfl rfl)
theorem dX3_readsLine_341 : decode cX3_readsLine 341 = .ok (.ireturn, 1) := dk_172 (dk_at dksX3_readsLine_14 5 rfl rfl)
abbrev cX3_isWord : ByteArray := prog_12_method_8_code
def yX3_isWord : MethodName := ⟨RX3, "isWord", "(II)Z"⟩
def dkwX3_isWord_3 : List UInt8 := [29, 172]
abbrev dktX3_isWord_3 : List UInt8 := dkwX3_isWord_3 ++ []
def dkwX3_isWord_2 : List UInt8 := [8, 21, 4, 104, 122, 16, 31, 126, 96, 160, 0, 7, 4, 167, 0, 4, 3, 62, 132, 4, 1, 167, 255, 210]
abbrev dktX3_isWord_2 : List UInt8 := dkwX3_isWord_2 ++ dktX3_isWord_3
def dkwX3_isWord_1 : List UInt8 := [153, 0, 48, 21, 4, 28, 162, 0, 42, 42, 180, 0, 7, 42, 180, 0, 67, 21, 4, 96, 46, 16, 96, 27]
abbrev dktX3_isWord_1 : List UInt8 := dkwX3_isWord_1 ++ dktX3_isWord_2
def dkwX3_isWord_0 : List UInt8 := [42, 180, 0, 74, 42, 180, 0, 67, 100, 28, 160, 0, 7, 4, 167, 0, 4, 3, 62, 3, 54, 4, 29]
abbrev dktX3_isWord_0 : List UInt8 := dkwX3_isWord_0 ++ dktX3_isWord_1
theorem dksX3_isWord_0 : cX3_isWord.data.toList.drop 0 = dktX3_isWord_0 := by decide +kernel
theorem dksX3_isWord_1 : cX3_isWord.data.toList.drop 23 = dktX3_isWord_1 := dk_seg dksX3_isWord_0 23 rfl rfl
theorem dksX3_isWord_2 : cX3_isWord.data.toList.drop 47 = dktX3_isWord_2 := dk_seg dksX3_isWord_1 24 rfl rfl
theorem dksX3_isWord_3 : cX3_isWord.data.toList.drop 71 = dktX3_isWord_3 := dk_seg dksX3_isWord_2 24 rfl rfl
theorem dX3_isWord_0 : decode cX3_isWord 0 = .ok (.aload_n 0, 1) := dk_42 (dk_at dksX3_isWord_0 0 rfl rfl)
theorem dX3_isWord_1 : decode cX3_isWord 1 = .ok (.getfield 74, 3) := dk_180 0 74 (dk_at dksX3_isWord_0 1 rfl rfl)
theorem dX3_isWord_4 : decode cX3_isWord 4 = .ok (.aload_n 0, 1) := dk_42 (dk_at dksX3_isWord_0 4 rfl rfl)
theorem dX3_isWord_5 : decode cX3_isWord 5 = .ok (.getfield 67, 3) := dk_180 0 67 (dk_at dksX3_isWord_0 5 rfl rfl)
theorem dX3_isWord_8 : decode cX3_isWord 8 = .ok (.isub, 1) := dk_100 (dk_at dksX3_isWord_0 8 rfl rfl)
theorem dX3_isWord_9 : decode cX3_isWord 9 = .ok (.iload_n 2, 1) := dk_28 (dk_at dksX3_isWord_0 9 rfl rfl)
theorem dX3_isWord_10 : decode cX3_isWord 10 = .ok (.if_icmp .ne 7, 3) := dk_160 0 7 (dk_at dksX3_isWord_0 10 rfl rfl)
theorem dX3_isWord_13 : decode cX3_isWord 13 = .ok (.iconst 1, 1) := dk_4 (dk_at dksX3_isWord_0 13 rfl rfl)
theorem dX3_isWord_14 : decode cX3_isWord 14 = .ok (.goto 4, 3) := dk_167 0 4 (dk_at dksX3_isWord_0 14 rfl rfl)
theorem dX3_isWord_17 : decode cX3_isWord 17 = .ok (.iconst 0, 1) := dk_3 (dk_at dksX3_isWord_0 17 rfl rfl)
theorem dX3_isWord_18 : decode cX3_isWord 18 = .ok (.istore_n 3, 1) := dk_62 (dk_at dksX3_isWord_0 18 rfl rfl)
theorem dX3_isWord_19 : decode cX3_isWord 19 = .ok (.iconst 0, 1) := dk_3 (dk_at dksX3_isWord_0 19 rfl rfl)
theorem dX3_isWord_20 : decode cX3_isWord 20 = .ok (.istore 4, 2) := dk_54 4 (dk_at dksX3_isWord_0 20 rfl rfl)
theorem dX3_isWord_22 : decode cX3_isWord 22 = .ok (.iload_n 3, 1) := dk_29 (dk_at dksX3_isWord_0 22 rfl rfl)
theorem dX3_isWord_23 : decode cX3_isWord 23 = .ok (.ifCond .eq 48, 3) := dk_153 0 48 (dk_at dksX3_isWord_1 0 rfl rfl)
theorem dX3_isWord_26 : decode cX3_isWord 26 = .ok (.iload 4, 2) := dk_21 4 (dk_at dksX3_isWord_1 3 rfl rfl)
theorem dX3_isWord_28 : decode cX3_isWord 28 = .ok (.iload_n 2, 1) := dk_28 (dk_at dksX3_isWord_1 5 rfl rfl)
theorem dX3_isWord_29 : decode cX3_isWord 29 = .ok (.if_icmp .ge 42, 3) := dk_162 0 42 (dk_at dksX3_isWord_1 6 rfl rfl)
theorem dX3_isWord_32 : decode cX3_isWord 32 = .ok (.aload_n 0, 1) := dk_42 (dk_at dksX3_isWord_1 9 rfl rfl)
theorem dX3_isWord_33 : decode cX3_isWord 33 = .ok (.getfield 7, 3) := dk_180 0 7 (dk_at dksX3_isWord_1 10 rfl rfl)
theorem dX3_isWord_36 : decode cX3_isWord 36 = .ok (.aload_n 0, 1) := dk_42 (dk_at dksX3_isWord_1 13 rfl rfl)
theorem dX3_isWord_37 : decode cX3_isWord 37 = .ok (.getfield 67, 3) := dk_180 0 67 (dk_at dksX3_isWord_1 14 rfl rfl)
theorem dX3_isWord_40 : decode cX3_isWord 40 = .ok (.iload 4, 2) := dk_21 4 (dk_at dksX3_isWord_1 17 rfl rfl)
theorem dX3_isWord_42 : decode cX3_isWord 42 = .ok (.iadd, 1) := dk_96 (dk_at dksX3_isWord_1 19 rfl rfl)
theorem dX3_isWord_43 : decode cX3_isWord 43 = .ok (.iaload, 1) := dk_46 (dk_at dksX3_isWord_1 20 rfl rfl)
theorem dX3_isWord_44 : decode cX3_isWord 44 = .ok (.bipush 96, 2) := dk_16 96 (dk_at dksX3_isWord_1 21 rfl rfl)
theorem dX3_isWord_46 : decode cX3_isWord 46 = .ok (.iload_n 1, 1) := dk_27 (dk_at dksX3_isWord_1 23 rfl rfl)
theorem dX3_isWord_47 : decode cX3_isWord 47 = .ok (.iconst 5, 1) := dk_8 (dk_at dksX3_isWord_2 0 rfl rfl)
theorem dX3_isWord_48 : decode cX3_isWord 48 = .ok (.iload 4, 2) := dk_21 4 (dk_at dksX3_isWord_2 1 rfl rfl)
theorem dX3_isWord_50 : decode cX3_isWord 50 = .ok (.imul, 1) := dk_104 (dk_at dksX3_isWord_2 3 rfl rfl)
theorem dX3_isWord_51 : decode cX3_isWord 51 = .ok (.ishr, 1) := dk_122 (dk_at dksX3_isWord_2 4 rfl rfl)
theorem dX3_isWord_52 : decode cX3_isWord 52 = .ok (.bipush 31, 2) := dk_16 31 (dk_at dksX3_isWord_2 5 rfl rfl)
theorem dX3_isWord_54 : decode cX3_isWord 54 = .ok (.iand, 1) := dk_126 (dk_at dksX3_isWord_2 7 rfl rfl)
theorem dX3_isWord_55 : decode cX3_isWord 55 = .ok (.iadd, 1) := dk_96 (dk_at dksX3_isWord_2 8 rfl rfl)
theorem dX3_isWord_56 : decode cX3_isWord 56 = .ok (.if_icmp .ne 7, 3) := dk_160 0 7 (dk_at dksX3_isWord_2 9 rfl rfl)
theorem dX3_isWord_59 : decode cX3_isWord 59 = .ok (.iconst 1, 1) := dk_4 (dk_at dksX3_isWord_2 12 rfl rfl)
theorem dX3_isWord_60 : decode cX3_isWord 60 = .ok (.goto 4, 3) := dk_167 0 4 (dk_at dksX3_isWord_2 13 rfl rfl)
theorem dX3_isWord_63 : decode cX3_isWord 63 = .ok (.iconst 0, 1) := dk_3 (dk_at dksX3_isWord_2 16 rfl rfl)
theorem dX3_isWord_64 : decode cX3_isWord 64 = .ok (.istore_n 3, 1) := dk_62 (dk_at dksX3_isWord_2 17 rfl rfl)
theorem dX3_isWord_65 : decode cX3_isWord 65 = .ok (.iinc 4 1, 3) := dk_132 4 1 (dk_at dksX3_isWord_2 18 rfl rfl)
theorem dX3_isWord_68 : decode cX3_isWord 68 = .ok (.goto (-46), 3) := dk_167 255 210 (dk_at dksX3_isWord_2 21 rfl rfl)
theorem dX3_isWord_71 : decode cX3_isWord 71 = .ok (.iload_n 3, 1) := dk_29 (dk_at dksX3_isWord_3 0 rfl rfl)
theorem dX3_isWord_72 : decode cX3_isWord 72 = .ok (.ireturn, 1) := dk_172 (dk_at dksX3_isWord_3 1 rfl rfl)
abbrev cX3_readsThing : ByteArray := prog_12_method_11_code
def yX3_readsThing : MethodName := ⟨RX3, "readsThing", "()Z"⟩
def dkwX3_readsThing_6 : List UInt8 := [182, 0, 80, 4, 172]
abbrev dktX3_readsThing_6 : List UInt8 := dkwX3_readsThing_6 ++ []
def dkwX3_readsThing_5 : List UInt8 := [180, 0, 13, 16, 8, 42, 180, 0, 77, 104, 7, 96, 27, 153, 0, 7, 4, 167, 0, 4, 3, 79, 42]
abbrev dktX3_readsThing_5 : List UInt8 := dkwX3_readsThing_5 ++ dktX3_readsThing_6
def dkwX3_readsThing_4 : List UInt8 := [7, 182, 0, 98, 60, 27, 154, 0, 15, 42, 18, 101, 7, 182, 0, 98, 154, 0, 5, 3, 172, 42]
abbrev dktX3_readsThing_4 : List UInt8 := dkwX3_readsThing_4 ++ dktX3_readsThing_5
def dkwX3_readsThing_3 : List UInt8 := [16, 99, 182, 0, 93, 153, 0, 14, 42, 5, 3, 16, 99, 182, 0, 93, 154, 0, 5, 3, 172, 42, 18, 97]
abbrev dktX3_readsThing_3 : List UInt8 := dkwX3_readsThing_3 ++ dktX3_readsThing_4
def dkwX3_readsThing_2 : List UInt8 := [104, 4, 96, 42, 180, 0, 7, 42, 180, 0, 67, 46, 16, 97, 100, 79, 42, 182, 0, 80, 42, 4, 4]
abbrev dktX3_readsThing_2 : List UInt8 := dkwX3_readsThing_2 ++ dktX3_readsThing_3
def dkwX3_readsThing_1 : List UInt8 := [20, 0, 89, 20, 0, 91, 184, 0, 55, 154, 0, 5, 3, 172, 42, 180, 0, 13, 16, 8, 42, 180, 0, 77]
abbrev dktX3_readsThing_1 : List UInt8 := dkwX3_readsThing_1 ++ dktX3_readsThing_2
def dkwX3_readsThing_0 : List UInt8 := [42, 180, 0, 74, 42, 180, 0, 67, 100, 4, 160, 0, 25, 42, 180, 0, 7, 42, 180, 0, 67, 46, 133]
abbrev dktX3_readsThing_0 : List UInt8 := dkwX3_readsThing_0 ++ dktX3_readsThing_1
theorem dksX3_readsThing_0 : cX3_readsThing.data.toList.drop 0 = dktX3_readsThing_0 := by decide +kernel
theorem dksX3_readsThing_1 : cX3_readsThing.data.toList.drop 23 = dktX3_readsThing_1 := dk_seg dksX3_readsThing_0 23 rfl rfl
theorem dksX3_readsThing_2 : cX3_readsThing.data.toList.drop 47 = dktX3_readsThing_2 := dk_seg dksX3_readsThing_1 24 rfl rfl
theorem dksX3_readsThing_3 : cX3_readsThing.data.toList.drop 70 = dktX3_readsThing_3 := dk_seg dksX3_readsThing_2 23 rfl rfl
theorem dksX3_readsThing_4 : cX3_readsThing.data.toList.drop 94 = dktX3_readsThing_4 := dk_seg dksX3_readsThing_3 24 rfl rfl
theorem dksX3_readsThing_5 : cX3_readsThing.data.toList.drop 116 = dktX3_readsThing_5 := dk_seg dksX3_readsThing_4 22 rfl rfl
theorem dksX3_readsThing_6 : cX3_readsThing.data.toList.drop 139 = dktX3_readsThing_6 := dk_seg dksX3_readsThing_5 23 rfl rfl
theorem dX3_readsThing_0 : decode cX3_readsThing 0 = .ok (.aload_n 0, 1) := dk_42 (dk_at dksX3_readsThing_0 0 rfl rfl)
theorem dX3_readsThing_1 : decode cX3_readsThing 1 = .ok (.getfield 74, 3) := dk_180 0 74 (dk_at dksX3_readsThing_0 1 rfl rfl)
theorem dX3_readsThing_4 : decode cX3_readsThing 4 = .ok (.aload_n 0, 1) := dk_42 (dk_at dksX3_readsThing_0 4 rfl rfl)
theorem dX3_readsThing_5 : decode cX3_readsThing 5 = .ok (.getfield 67, 3) := dk_180 0 67 (dk_at dksX3_readsThing_0 5 rfl rfl)
theorem dX3_readsThing_8 : decode cX3_readsThing 8 = .ok (.isub, 1) := dk_100 (dk_at dksX3_readsThing_0 8 rfl rfl)
theorem dX3_readsThing_9 : decode cX3_readsThing 9 = .ok (.iconst 1, 1) := dk_4 (dk_at dksX3_readsThing_0 9 rfl rfl)
theorem dX3_readsThing_10 : decode cX3_readsThing 10 = .ok (.if_icmp .ne 25, 3) := dk_160 0 25 (dk_at dksX3_readsThing_0 10 rfl rfl)
theorem dX3_readsThing_13 : decode cX3_readsThing 13 = .ok (.aload_n 0, 1) := dk_42 (dk_at dksX3_readsThing_0 13 rfl rfl)
theorem dX3_readsThing_14 : decode cX3_readsThing 14 = .ok (.getfield 7, 3) := dk_180 0 7 (dk_at dksX3_readsThing_0 14 rfl rfl)
theorem dX3_readsThing_17 : decode cX3_readsThing 17 = .ok (.aload_n 0, 1) := dk_42 (dk_at dksX3_readsThing_0 17 rfl rfl)
theorem dX3_readsThing_18 : decode cX3_readsThing 18 = .ok (.getfield 67, 3) := dk_180 0 67 (dk_at dksX3_readsThing_0 18 rfl rfl)
theorem dX3_readsThing_21 : decode cX3_readsThing 21 = .ok (.iaload, 1) := dk_46 (dk_at dksX3_readsThing_0 21 rfl rfl)
theorem dX3_readsThing_22 : decode cX3_readsThing 22 = .ok (.i2l, 1) := dk_133 (dk_at dksX3_readsThing_0 22 rfl rfl)
theorem dX3_readsThing_23 : decode cX3_readsThing 23 = .ok (.ldc2_w 89, 3) := dk_20 0 89 (dk_at dksX3_readsThing_1 0 rfl rfl)
theorem dX3_readsThing_26 : decode cX3_readsThing 26 = .ok (.ldc2_w 91, 3) := dk_20 0 91 (dk_at dksX3_readsThing_1 3 rfl rfl)
theorem dX3_readsThing_29 : decode cX3_readsThing 29 = .ok (.invokestatic 55, 3) := dk_184 0 55 (dk_at dksX3_readsThing_1 6 rfl rfl)
theorem dX3_readsThing_32 : decode cX3_readsThing 32 = .ok (.ifCond .ne 5, 3) := dk_154 0 5 (dk_at dksX3_readsThing_1 9 rfl rfl)
theorem dX3_readsThing_35 : decode cX3_readsThing 35 = .ok (.iconst 0, 1) := dk_3 (dk_at dksX3_readsThing_1 12 rfl rfl)
theorem dX3_readsThing_36 : decode cX3_readsThing 36 = .ok (.ireturn, 1) := dk_172 (dk_at dksX3_readsThing_1 13 rfl rfl)
theorem dX3_readsThing_37 : decode cX3_readsThing 37 = .ok (.aload_n 0, 1) := dk_42 (dk_at dksX3_readsThing_1 14 rfl rfl)
theorem dX3_readsThing_38 : decode cX3_readsThing 38 = .ok (.getfield 13, 3) := dk_180 0 13 (dk_at dksX3_readsThing_1 15 rfl rfl)
theorem dX3_readsThing_41 : decode cX3_readsThing 41 = .ok (.bipush 8, 2) := dk_16 8 (dk_at dksX3_readsThing_1 18 rfl rfl)
theorem dX3_readsThing_43 : decode cX3_readsThing 43 = .ok (.aload_n 0, 1) := dk_42 (dk_at dksX3_readsThing_1 20 rfl rfl)
theorem dX3_readsThing_44 : decode cX3_readsThing 44 = .ok (.getfield 77, 3) := dk_180 0 77 (dk_at dksX3_readsThing_1 21 rfl rfl)
theorem dX3_readsThing_47 : decode cX3_readsThing 47 = .ok (.imul, 1) := dk_104 (dk_at dksX3_readsThing_2 0 rfl rfl)
theorem dX3_readsThing_48 : decode cX3_readsThing 48 = .ok (.iconst 1, 1) := dk_4 (dk_at dksX3_readsThing_2 1 rfl rfl)
theorem dX3_readsThing_49 : decode cX3_readsThing 49 = .ok (.iadd, 1) := dk_96 (dk_at dksX3_readsThing_2 2 rfl rfl)
theorem dX3_readsThing_50 : decode cX3_readsThing 50 = .ok (.aload_n 0, 1) := dk_42 (dk_at dksX3_readsThing_2 3 rfl rfl)
theorem dX3_readsThing_51 : decode cX3_readsThing 51 = .ok (.getfield 7, 3) := dk_180 0 7 (dk_at dksX3_readsThing_2 4 rfl rfl)
theorem dX3_readsThing_54 : decode cX3_readsThing 54 = .ok (.aload_n 0, 1) := dk_42 (dk_at dksX3_readsThing_2 7 rfl rfl)
theorem dX3_readsThing_55 : decode cX3_readsThing 55 = .ok (.getfield 67, 3) := dk_180 0 67 (dk_at dksX3_readsThing_2 8 rfl rfl)
theorem dX3_readsThing_58 : decode cX3_readsThing 58 = .ok (.iaload, 1) := dk_46 (dk_at dksX3_readsThing_2 11 rfl rfl)
theorem dX3_readsThing_59 : decode cX3_readsThing 59 = .ok (.bipush 97, 2) := dk_16 97 (dk_at dksX3_readsThing_2 12 rfl rfl)
theorem dX3_readsThing_61 : decode cX3_readsThing 61 = .ok (.isub, 1) := dk_100 (dk_at dksX3_readsThing_2 14 rfl rfl)
theorem dX3_readsThing_62 : decode cX3_readsThing 62 = .ok (.iastore, 1) := dk_79 (dk_at dksX3_readsThing_2 15 rfl rfl)
theorem dX3_readsThing_63 : decode cX3_readsThing 63 = .ok (.aload_n 0, 1) := dk_42 (dk_at dksX3_readsThing_2 16 rfl rfl)
theorem dX3_readsThing_64 : decode cX3_readsThing 64 = .ok (.invokevirtual 80, 3) := dk_182 0 80 (dk_at dksX3_readsThing_2 17 rfl rfl)
theorem dX3_readsThing_67 : decode cX3_readsThing 67 = .ok (.aload_n 0, 1) := dk_42 (dk_at dksX3_readsThing_2 20 rfl rfl)
theorem dX3_readsThing_68 : decode cX3_readsThing 68 = .ok (.iconst 1, 1) := dk_4 (dk_at dksX3_readsThing_2 21 rfl rfl)
theorem dX3_readsThing_69 : decode cX3_readsThing 69 = .ok (.iconst 1, 1) := dk_4 (dk_at dksX3_readsThing_2 22 rfl rfl)
theorem dX3_readsThing_70 : decode cX3_readsThing 70 = .ok (.bipush 99, 2) := dk_16 99 (dk_at dksX3_readsThing_3 0 rfl rfl)
theorem dX3_readsThing_72 : decode cX3_readsThing 72 = .ok (.invokevirtual 93, 3) := dk_182 0 93 (dk_at dksX3_readsThing_3 2 rfl rfl)
theorem dX3_readsThing_75 : decode cX3_readsThing 75 = .ok (.ifCond .eq 14, 3) := dk_153 0 14 (dk_at dksX3_readsThing_3 5 rfl rfl)
theorem dX3_readsThing_78 : decode cX3_readsThing 78 = .ok (.aload_n 0, 1) := dk_42 (dk_at dksX3_readsThing_3 8 rfl rfl)
theorem dX3_readsThing_79 : decode cX3_readsThing 79 = .ok (.iconst 2, 1) := dk_5 (dk_at dksX3_readsThing_3 9 rfl rfl)
theorem dX3_readsThing_80 : decode cX3_readsThing 80 = .ok (.iconst 0, 1) := dk_3 (dk_at dksX3_readsThing_3 10 rfl rfl)
theorem dX3_readsThing_81 : decode cX3_readsThing 81 = .ok (.bipush 99, 2) := dk_16 99 (dk_at dksX3_readsThing_3 11 rfl rfl)
theorem dX3_readsThing_83 : decode cX3_readsThing 83 = .ok (.invokevirtual 93, 3) := dk_182 0 93 (dk_at dksX3_readsThing_3 13 rfl rfl)
theorem dX3_readsThing_86 : decode cX3_readsThing 86 = .ok (.ifCond .ne 5, 3) := dk_154 0 5 (dk_at dksX3_readsThing_3 16 rfl rfl)
theorem dX3_readsThing_89 : decode cX3_readsThing 89 = .ok (.iconst 0, 1) := dk_3 (dk_at dksX3_readsThing_3 19 rfl rfl)
theorem dX3_readsThing_90 : decode cX3_readsThing 90 = .ok (.ireturn, 1) := dk_172 (dk_at dksX3_readsThing_3 20 rfl rfl)
theorem dX3_readsThing_91 : decode cX3_readsThing 91 = .ok (.aload_n 0, 1) := dk_42 (dk_at dksX3_readsThing_3 21 rfl rfl)
theorem dX3_readsThing_92 : decode cX3_readsThing 92 = .ok (.ldc 97, 2) := dk_18 97 (dk_at dksX3_readsThing_3 22 rfl rfl)
theorem dX3_readsThing_94 : decode cX3_readsThing 94 = .ok (.iconst 4, 1) := dk_7 (dk_at dksX3_readsThing_4 0 rfl rfl)
theorem dX3_readsThing_95 : decode cX3_readsThing 95 = .ok (.invokevirtual 98, 3) := dk_182 0 98 (dk_at dksX3_readsThing_4 1 rfl rfl)
theorem dX3_readsThing_98 : decode cX3_readsThing 98 = .ok (.istore_n 1, 1) := dk_60 (dk_at dksX3_readsThing_4 4 rfl rfl)
theorem dX3_readsThing_99 : decode cX3_readsThing 99 = .ok (.iload_n 1, 1) := dk_27 (dk_at dksX3_readsThing_4 5 rfl rfl)
theorem dX3_readsThing_100 : decode cX3_readsThing 100 = .ok (.ifCond .ne 15, 3) := dk_154 0 15 (dk_at dksX3_readsThing_4 6 rfl rfl)
theorem dX3_readsThing_103 : decode cX3_readsThing 103 = .ok (.aload_n 0, 1) := dk_42 (dk_at dksX3_readsThing_4 9 rfl rfl)
theorem dX3_readsThing_104 : decode cX3_readsThing 104 = .ok (.ldc 101, 2) := dk_18 101 (dk_at dksX3_readsThing_4 10 rfl rfl)
theorem dX3_readsThing_106 : decode cX3_readsThing 106 = .ok (.iconst 4, 1) := dk_7 (dk_at dksX3_readsThing_4 12 rfl rfl)
theorem dX3_readsThing_107 : decode cX3_readsThing 107 = .ok (.invokevirtual 98, 3) := dk_182 0 98 (dk_at dksX3_readsThing_4 13 rfl rfl)
theorem dX3_readsThing_110 : decode cX3_readsThing 110 = .ok (.ifCond .ne 5, 3) := dk_154 0 5 (dk_at dksX3_readsThing_4 16 rfl rfl)
theorem dX3_readsThing_113 : decode cX3_readsThing 113 = .ok (.iconst 0, 1) := dk_3 (dk_at dksX3_readsThing_4 19 rfl rfl)
theorem dX3_readsThing_114 : decode cX3_readsThing 114 = .ok (.ireturn, 1) := dk_172 (dk_at dksX3_readsThing_4 20 rfl rfl)
theorem dX3_readsThing_115 : decode cX3_readsThing 115 = .ok (.aload_n 0, 1) := dk_42 (dk_at dksX3_readsThing_4 21 rfl rfl)
theorem dX3_readsThing_116 : decode cX3_readsThing 116 = .ok (.getfield 13, 3) := dk_180 0 13 (dk_at dksX3_readsThing_5 0 rfl rfl)
theorem dX3_readsThing_119 : decode cX3_readsThing 119 = .ok (.bipush 8, 2) := dk_16 8 (dk_at dksX3_readsThing_5 3 rfl rfl)
theorem dX3_readsThing_121 : decode cX3_readsThing 121 = .ok (.aload_n 0, 1) := dk_42 (dk_at dksX3_readsThing_5 5 rfl rfl)
theorem dX3_readsThing_122 : decode cX3_readsThing 122 = .ok (.getfield 77, 3) := dk_180 0 77 (dk_at dksX3_readsThing_5 6 rfl rfl)
theorem dX3_readsThing_125 : decode cX3_readsThing 125 = .ok (.imul, 1) := dk_104 (dk_at dksX3_readsThing_5 9 rfl rfl)
theorem dX3_readsThing_126 : decode cX3_readsThing 126 = .ok (.iconst 4, 1) := dk_7 (dk_at dksX3_readsThing_5 10 rfl rfl)
theorem dX3_readsThing_127 : decode cX3_readsThing 127 = .ok (.iadd, 1) := dk_96 (dk_at dksX3_readsThing_5 11 rfl rfl)
theorem dX3_readsThing_128 : decode cX3_readsThing 128 = .ok (.iload_n 1, 1) := dk_27 (dk_at dksX3_readsThing_5 12 rfl rfl)
theorem dX3_readsThing_129 : decode cX3_readsThing 129 = .ok (.ifCond .eq 7, 3) := dk_153 0 7 (dk_at dksX3_readsThing_5 13 rfl rfl)
theorem dX3_readsThing_132 : decode cX3_readsThing 132 = .ok (.iconst 1, 1) := dk_4 (dk_at dksX3_readsThing_5 16 rfl rfl)
theorem dX3_readsThing_133 : decode cX3_readsThing 133 = .ok (.goto 4, 3) := dk_167 0 4 (dk_at dksX3_readsThing_5 17 rfl rfl)
theorem dX3_readsThing_136 : decode cX3_readsThing 136 = .ok (.iconst 0, 1) := dk_3 (dk_at dksX3_readsThing_5 20 rfl rfl)
theorem dX3_readsThing_137 : decode cX3_readsThing 137 = .ok (.iastore, 1) := dk_79 (dk_at dksX3_readsThing_5 21 rfl rfl)
theorem dX3_readsThing_138 : decode cX3_readsThing 138 = .ok (.aload_n 0, 1) := dk_42 (dk_at dksX3_readsThing_5 22 rfl rfl)
theorem dX3_readsThing_139 : decode cX3_readsThing 139 = .ok (.invokevirtual 80, 3) := dk_182 0 80 (dk_at dksX3_readsThing_6 0 rfl rfl)
theorem dX3_readsThing_142 : decode cX3_readsThing 142 = .ok (.iconst 1, 1) := dk_4 (dk_at dksX3_readsThing_6 3 rfl rfl)
theorem dX3_readsThing_143 : decode cX3_readsThing 143 = .ok (.ireturn, 1) := dk_172 (dk_at dksX3_readsThing_6 4 rfl rfl)
abbrev cX3_reads : ByteArray := prog_12_method_9_code
def yX3_reads : MethodName := ⟨RX3, "reads", "(III)Z"⟩
def dkwX3_reads_5 : List UInt8 := [21, 4, 79, 42, 182, 0, 80, 4, 172]
abbrev dktX3_reads_5 : List UInt8 := dkwX3_reads_5 ++ []
def dkwX3_reads_4 : List UInt8 := [184, 0, 55, 154, 0, 5, 3, 172, 42, 180, 0, 13, 16, 8, 42, 180, 0, 77, 104, 4, 96, 27, 96]
abbrev dktX3_reads_4 : List UInt8 := dkwX3_reads_4 ++ dktX3_reads_5
def dkwX3_reads_3 : List UInt8 := [21, 5, 46, 96, 16, 48, 100, 54, 4, 132, 5, 1, 167, 255, 226, 21, 4, 133, 28, 133, 29, 133]
abbrev dktX3_reads_3 : List UInt8 := dkwX3_reads_3 ++ dktX3_reads_4
def dkwX3_reads_2 : List UInt8 := [180, 0, 67, 54, 5, 21, 5, 42, 180, 0, 74, 162, 0, 27, 16, 10, 21, 4, 104, 42, 180, 0, 7]
abbrev dktX3_reads_2 : List UInt8 := dkwX3_reads_2 ++ dktX3_reads_3
def dkwX3_reads_1 : List UInt8 := [160, 0, 16, 42, 180, 0, 74, 42, 180, 0, 67, 100, 7, 164, 0, 5, 3, 172, 3, 54, 4, 42]
abbrev dktX3_reads_1 : List UInt8 := dkwX3_reads_1 ++ dktX3_reads_2
def dkwX3_reads_0 : List UInt8 := [42, 180, 0, 67, 42, 180, 0, 59, 159, 0, 32, 42, 180, 0, 7, 42, 180, 0, 67, 46, 184, 0, 70, 5]
abbrev dktX3_reads_0 : List UInt8 := dkwX3_reads_0 ++ dktX3_reads_1
theorem dksX3_reads_0 : cX3_reads.data.toList.drop 0 = dktX3_reads_0 := by decide +kernel
theorem dksX3_reads_1 : cX3_reads.data.toList.drop 24 = dktX3_reads_1 := dk_seg dksX3_reads_0 24 rfl rfl
theorem dksX3_reads_2 : cX3_reads.data.toList.drop 46 = dktX3_reads_2 := dk_seg dksX3_reads_1 22 rfl rfl
theorem dksX3_reads_3 : cX3_reads.data.toList.drop 69 = dktX3_reads_3 := dk_seg dksX3_reads_2 23 rfl rfl
theorem dksX3_reads_4 : cX3_reads.data.toList.drop 91 = dktX3_reads_4 := dk_seg dksX3_reads_3 22 rfl rfl
theorem dksX3_reads_5 : cX3_reads.data.toList.drop 114 = dktX3_reads_5 := dk_seg dksX3_reads_4 23 rfl rfl
theorem dX3_reads_0 : decode cX3_reads 0 = .ok (.aload_n 0, 1) := dk_42 (dk_at dksX3_reads_0 0 rfl rfl)
theorem dX3_reads_1 : decode cX3_reads 1 = .ok (.getfield 67, 3) := dk_180 0 67 (dk_at dksX3_reads_0 1 rfl rfl)
theorem dX3_reads_4 : decode cX3_reads 4 = .ok (.aload_n 0, 1) := dk_42 (dk_at dksX3_reads_0 4 rfl rfl)
theorem dX3_reads_5 : decode cX3_reads 5 = .ok (.getfield 59, 3) := dk_180 0 59 (dk_at dksX3_reads_0 5 rfl rfl)
theorem dX3_reads_8 : decode cX3_reads 8 = .ok (.if_icmp .eq 32, 3) := dk_159 0 32 (dk_at dksX3_reads_0 8 rfl rfl)
theorem dX3_reads_11 : decode cX3_reads 11 = .ok (.aload_n 0, 1) := dk_42 (dk_at dksX3_reads_0 11 rfl rfl)
theorem dX3_reads_12 : decode cX3_reads 12 = .ok (.getfield 7, 3) := dk_180 0 7 (dk_at dksX3_reads_0 12 rfl rfl)
theorem dX3_reads_15 : decode cX3_reads 15 = .ok (.aload_n 0, 1) := dk_42 (dk_at dksX3_reads_0 15 rfl rfl)
theorem dX3_reads_16 : decode cX3_reads 16 = .ok (.getfield 67, 3) := dk_180 0 67 (dk_at dksX3_reads_0 16 rfl rfl)
theorem dX3_reads_19 : decode cX3_reads 19 = .ok (.iaload, 1) := dk_46 (dk_at dksX3_reads_0 19 rfl rfl)
theorem dX3_reads_20 : decode cX3_reads 20 = .ok (.invokestatic 70, 3) := dk_184 0 70 (dk_at dksX3_reads_0 20 rfl rfl)
theorem dX3_reads_23 : decode cX3_reads 23 = .ok (.iconst 2, 1) := dk_5 (dk_at dksX3_reads_0 23 rfl rfl)
theorem dX3_reads_24 : decode cX3_reads 24 = .ok (.if_icmp .ne 16, 3) := dk_160 0 16 (dk_at dksX3_reads_1 0 rfl rfl)
theorem dX3_reads_27 : decode cX3_reads 27 = .ok (.aload_n 0, 1) := dk_42 (dk_at dksX3_reads_1 3 rfl rfl)
theorem dX3_reads_28 : decode cX3_reads 28 = .ok (.getfield 74, 3) := dk_180 0 74 (dk_at dksX3_reads_1 4 rfl rfl)
theorem dX3_reads_31 : decode cX3_reads 31 = .ok (.aload_n 0, 1) := dk_42 (dk_at dksX3_reads_1 7 rfl rfl)
theorem dX3_reads_32 : decode cX3_reads 32 = .ok (.getfield 67, 3) := dk_180 0 67 (dk_at dksX3_reads_1 8 rfl rfl)
theorem dX3_reads_35 : decode cX3_reads 35 = .ok (.isub, 1) := dk_100 (dk_at dksX3_reads_1 11 rfl rfl)
theorem dX3_reads_36 : decode cX3_reads 36 = .ok (.iconst 4, 1) := dk_7 (dk_at dksX3_reads_1 12 rfl rfl)
theorem dX3_reads_37 : decode cX3_reads 37 = .ok (.if_icmp .le 5, 3) := dk_164 0 5 (dk_at dksX3_reads_1 13 rfl rfl)
theorem dX3_reads_40 : decode cX3_reads 40 = .ok (.iconst 0, 1) := dk_3 (dk_at dksX3_reads_1 16 rfl rfl)
theorem dX3_reads_41 : decode cX3_reads 41 = .ok (.ireturn, 1) := dk_172 (dk_at dksX3_reads_1 17 rfl rfl)
theorem dX3_reads_42 : decode cX3_reads 42 = .ok (.iconst 0, 1) := dk_3 (dk_at dksX3_reads_1 18 rfl rfl)
theorem dX3_reads_43 : decode cX3_reads 43 = .ok (.istore 4, 2) := dk_54 4 (dk_at dksX3_reads_1 19 rfl rfl)
theorem dX3_reads_45 : decode cX3_reads 45 = .ok (.aload_n 0, 1) := dk_42 (dk_at dksX3_reads_1 21 rfl rfl)
theorem dX3_reads_46 : decode cX3_reads 46 = .ok (.getfield 67, 3) := dk_180 0 67 (dk_at dksX3_reads_2 0 rfl rfl)
theorem dX3_reads_49 : decode cX3_reads 49 = .ok (.istore 5, 2) := dk_54 5 (dk_at dksX3_reads_2 3 rfl rfl)
theorem dX3_reads_51 : decode cX3_reads 51 = .ok (.iload 5, 2) := dk_21 5 (dk_at dksX3_reads_2 5 rfl rfl)
theorem dX3_reads_53 : decode cX3_reads 53 = .ok (.aload_n 0, 1) := dk_42 (dk_at dksX3_reads_2 7 rfl rfl)
theorem dX3_reads_54 : decode cX3_reads 54 = .ok (.getfield 74, 3) := dk_180 0 74 (dk_at dksX3_reads_2 8 rfl rfl)
theorem dX3_reads_57 : decode cX3_reads 57 = .ok (.if_icmp .ge 27, 3) := dk_162 0 27 (dk_at dksX3_reads_2 11 rfl rfl)
theorem dX3_reads_60 : decode cX3_reads 60 = .ok (.bipush 10, 2) := dk_16 10 (dk_at dksX3_reads_2 14 rfl rfl)
theorem dX3_reads_62 : decode cX3_reads 62 = .ok (.iload 4, 2) := dk_21 4 (dk_at dksX3_reads_2 16 rfl rfl)
theorem dX3_reads_64 : decode cX3_reads 64 = .ok (.imul, 1) := dk_104 (dk_at dksX3_reads_2 18 rfl rfl)
theorem dX3_reads_65 : decode cX3_reads 65 = .ok (.aload_n 0, 1) := dk_42 (dk_at dksX3_reads_2 19 rfl rfl)
theorem dX3_reads_66 : decode cX3_reads 66 = .ok (.getfield 7, 3) := dk_180 0 7 (dk_at dksX3_reads_2 20 rfl rfl)
theorem dX3_reads_69 : decode cX3_reads 69 = .ok (.iload 5, 2) := dk_21 5 (dk_at dksX3_reads_3 0 rfl rfl)
theorem dX3_reads_71 : decode cX3_reads 71 = .ok (.iaload, 1) := dk_46 (dk_at dksX3_reads_3 2 rfl rfl)
theorem dX3_reads_72 : decode cX3_reads 72 = .ok (.iadd, 1) := dk_96 (dk_at dksX3_reads_3 3 rfl rfl)
theorem dX3_reads_73 : decode cX3_reads 73 = .ok (.bipush 48, 2) := dk_16 48 (dk_at dksX3_reads_3 4 rfl rfl)
theorem dX3_reads_75 : decode cX3_reads 75 = .ok (.isub, 1) := dk_100 (dk_at dksX3_reads_3 6 rfl rfl)
theorem dX3_reads_76 : decode cX3_reads 76 = .ok (.istore 4, 2) := dk_54 4 (dk_at dksX3_reads_3 7 rfl rfl)
theorem dX3_reads_78 : decode cX3_reads 78 = .ok (.iinc 5 1, 3) := dk_132 5 1 (dk_at dksX3_reads_3 9 rfl rfl)
theorem dX3_reads_81 : decode cX3_reads 81 = .ok (.goto (-30), 3) := dk_167 255 226 (dk_at dksX3_reads_3 12 rfl rfl)
theorem dX3_reads_84 : decode cX3_reads 84 = .ok (.iload 4, 2) := dk_21 4 (dk_at dksX3_reads_3 15 rfl rfl)
theorem dX3_reads_86 : decode cX3_reads 86 = .ok (.i2l, 1) := dk_133 (dk_at dksX3_reads_3 17 rfl rfl)
theorem dX3_reads_87 : decode cX3_reads 87 = .ok (.iload_n 2, 1) := dk_28 (dk_at dksX3_reads_3 18 rfl rfl)
theorem dX3_reads_88 : decode cX3_reads 88 = .ok (.i2l, 1) := dk_133 (dk_at dksX3_reads_3 19 rfl rfl)
theorem dX3_reads_89 : decode cX3_reads 89 = .ok (.iload_n 3, 1) := dk_29 (dk_at dksX3_reads_3 20 rfl rfl)
theorem dX3_reads_90 : decode cX3_reads 90 = .ok (.i2l, 1) := dk_133 (dk_at dksX3_reads_3 21 rfl rfl)
theorem dX3_reads_91 : decode cX3_reads 91 = .ok (.invokestatic 55, 3) := dk_184 0 55 (dk_at dksX3_reads_4 0 rfl rfl)
theorem dX3_reads_94 : decode cX3_reads 94 = .ok (.ifCond .ne 5, 3) := dk_154 0 5 (dk_at dksX3_reads_4 3 rfl rfl)
theorem dX3_reads_97 : decode cX3_reads 97 = .ok (.iconst 0, 1) := dk_3 (dk_at dksX3_reads_4 6 rfl rfl)
theorem dX3_reads_98 : decode cX3_reads 98 = .ok (.ireturn, 1) := dk_172 (dk_at dksX3_reads_4 7 rfl rfl)
theorem dX3_reads_99 : decode cX3_reads 99 = .ok (.aload_n 0, 1) := dk_42 (dk_at dksX3_reads_4 8 rfl rfl)
theorem dX3_reads_100 : decode cX3_reads 100 = .ok (.getfield 13, 3) := dk_180 0 13 (dk_at dksX3_reads_4 9 rfl rfl)
theorem dX3_reads_103 : decode cX3_reads 103 = .ok (.bipush 8, 2) := dk_16 8 (dk_at dksX3_reads_4 12 rfl rfl)
theorem dX3_reads_105 : decode cX3_reads 105 = .ok (.aload_n 0, 1) := dk_42 (dk_at dksX3_reads_4 14 rfl rfl)
theorem dX3_reads_106 : decode cX3_reads 106 = .ok (.getfield 77, 3) := dk_180 0 77 (dk_at dksX3_reads_4 15 rfl rfl)
theorem dX3_reads_109 : decode cX3_reads 109 = .ok (.imul, 1) := dk_104 (dk_at dksX3_reads_4 18 rfl rfl)
theorem dX3_reads_110 : decode cX3_reads 110 = .ok (.iconst 1, 1) := dk_4 (dk_at dksX3_reads_4 19 rfl rfl)
theorem dX3_reads_111 : decode cX3_reads 111 = .ok (.iadd, 1) := dk_96 (dk_at dksX3_reads_4 20 rfl rfl)
theorem dX3_reads_112 : decode cX3_reads 112 = .ok (.iload_n 1, 1) := dk_27 (dk_at dksX3_reads_4 21 rfl rfl)
theorem dX3_reads_113 : decode cX3_reads 113 = .ok (.iadd, 1) := dk_96 (dk_at dksX3_reads_4 22 rfl rfl)
theorem dX3_reads_114 : decode cX3_reads 114 = .ok (.iload 4, 2) := dk_21 4 (dk_at dksX3_reads_5 0 rfl rfl)
theorem dX3_reads_116 : decode cX3_reads 116 = .ok (.iastore, 1) := dk_79 (dk_at dksX3_reads_5 2 rfl rfl)
theorem dX3_reads_117 : decode cX3_reads 117 = .ok (.aload_n 0, 1) := dk_42 (dk_at dksX3_reads_5 3 rfl rfl)
theorem dX3_reads_118 : decode cX3_reads 118 = .ok (.invokevirtual 80, 3) := dk_182 0 80 (dk_at dksX3_reads_5 4 rfl rfl)
theorem dX3_reads_121 : decode cX3_reads 121 = .ok (.iconst 1, 1) := dk_4 (dk_at dksX3_reads_5 7 rfl rfl)
theorem dX3_reads_122 : decode cX3_reads 122 = .ok (.ireturn, 1) := dk_172 (dk_at dksX3_reads_5 8 rfl rfl)
abbrev cX3_readsWay : ByteArray := prog_12_method_12_code
def yX3_readsWay : MethodName := ⟨RX3, "readsWay", "()Z"⟩
def dkwX3_readsWay_4 : List UInt8 := [5, 3, 17, 0, 200, 182, 0, 93, 153, 0, 7, 4, 167, 0, 4, 3, 172]
abbrev dktX3_readsWay_4 : List UInt8 := dkwX3_readsWay_4 ++ []
def dkwX3_readsWay_3 : List UInt8 := [160, 0, 7, 4, 167, 0, 4, 3, 60, 27, 154, 0, 29, 42, 4, 3, 8, 182, 0, 93, 153, 0, 19, 42]
abbrev dktX3_readsWay_3 : List UInt8 := dkwX3_readsWay_3 ++ dktX3_readsWay_4
def dkwX3_readsWay_2 : List UInt8 := [5, 160, 0, 28, 42, 182, 0, 102, 42, 180, 0, 13, 16, 8, 42, 180, 0, 77, 104, 4, 96, 46]
abbrev dktX3_readsWay_2 : List UInt8 := dkwX3_readsWay_2 ++ dktX3_readsWay_3
def dkwX3_readsWay_1 : List UInt8 := [180, 0, 74, 42, 180, 0, 67, 100, 7, 163, 0, 44, 42, 180, 0, 7, 42, 180, 0, 67, 46, 184, 0, 70]
abbrev dktX3_readsWay_1 : List UInt8 := dkwX3_readsWay_1 ++ dktX3_readsWay_2
def dkwX3_readsWay_0 : List UInt8 := [42, 3, 3, 8, 182, 0, 93, 154, 0, 5, 3, 172, 42, 180, 0, 67, 42, 180, 0, 59, 162, 0, 57, 42]
abbrev dktX3_readsWay_0 : List UInt8 := dkwX3_readsWay_0 ++ dktX3_readsWay_1
theorem dksX3_readsWay_0 : cX3_readsWay.data.toList.drop 0 = dktX3_readsWay_0 := by decide +kernel
theorem dksX3_readsWay_1 : cX3_readsWay.data.toList.drop 24 = dktX3_readsWay_1 := dk_seg dksX3_readsWay_0 24 rfl rfl
theorem dksX3_readsWay_2 : cX3_readsWay.data.toList.drop 48 = dktX3_readsWay_2 := dk_seg dksX3_readsWay_1 24 rfl rfl
theorem dksX3_readsWay_3 : cX3_readsWay.data.toList.drop 70 = dktX3_readsWay_3 := dk_seg dksX3_readsWay_2 22 rfl rfl
theorem dksX3_readsWay_4 : cX3_readsWay.data.toList.drop 94 = dktX3_readsWay_4 := dk_seg dksX3_readsWay_3 24 rfl rfl
theorem dX3_readsWay_0 : decode cX3_readsWay 0 = .ok (.aload_n 0, 1) := dk_42 (dk_at dksX3_readsWay_0 0 rfl rfl)
theorem dX3_readsWay_1 : decode cX3_readsWay 1 = .ok (.iconst 0, 1) := dk_3 (dk_at dksX3_readsWay_0 1 rfl rfl)
theorem dX3_readsWay_2 : decode cX3_readsWay 2 = .ok (.iconst 0, 1) := dk_3 (dk_at dksX3_readsWay_0 2 rfl rfl)
theorem dX3_readsWay_3 : decode cX3_readsWay 3 = .ok (.iconst 5, 1) := dk_8 (dk_at dksX3_readsWay_0 3 rfl rfl)
theorem dX3_readsWay_4 : decode cX3_readsWay 4 = .ok (.invokevirtual 93, 3) := dk_182 0 93 (dk_at dksX3_readsWay_0 4 rfl rfl)
theorem dX3_readsWay_7 : decode cX3_readsWay 7 = .ok (.ifCond .ne 5, 3) := dk_154 0 5 (dk_at dksX3_readsWay_0 7 rfl rfl)
theorem dX3_readsWay_10 : decode cX3_readsWay 10 = .ok (.iconst 0, 1) := dk_3 (dk_at dksX3_readsWay_0 10 rfl rfl)
theorem dX3_readsWay_11 : decode cX3_readsWay 11 = .ok (.ireturn, 1) := dk_172 (dk_at dksX3_readsWay_0 11 rfl rfl)
theorem dX3_readsWay_12 : decode cX3_readsWay 12 = .ok (.aload_n 0, 1) := dk_42 (dk_at dksX3_readsWay_0 12 rfl rfl)
theorem dX3_readsWay_13 : decode cX3_readsWay 13 = .ok (.getfield 67, 3) := dk_180 0 67 (dk_at dksX3_readsWay_0 13 rfl rfl)
theorem dX3_readsWay_16 : decode cX3_readsWay 16 = .ok (.aload_n 0, 1) := dk_42 (dk_at dksX3_readsWay_0 16 rfl rfl)
theorem dX3_readsWay_17 : decode cX3_readsWay 17 = .ok (.getfield 59, 3) := dk_180 0 59 (dk_at dksX3_readsWay_0 17 rfl rfl)
theorem dX3_readsWay_20 : decode cX3_readsWay 20 = .ok (.if_icmp .ge 57, 3) := dk_162 0 57 (dk_at dksX3_readsWay_0 20 rfl rfl)
theorem dX3_readsWay_23 : decode cX3_readsWay 23 = .ok (.aload_n 0, 1) := dk_42 (dk_at dksX3_readsWay_0 23 rfl rfl)
theorem dX3_readsWay_24 : decode cX3_readsWay 24 = .ok (.getfield 74, 3) := dk_180 0 74 (dk_at dksX3_readsWay_1 0 rfl rfl)
theorem dX3_readsWay_27 : decode cX3_readsWay 27 = .ok (.aload_n 0, 1) := dk_42 (dk_at dksX3_readsWay_1 3 rfl rfl)
theorem dX3_readsWay_28 : decode cX3_readsWay 28 = .ok (.getfield 67, 3) := dk_180 0 67 (dk_at dksX3_readsWay_1 4 rfl rfl)
theorem dX3_readsWay_31 : decode cX3_readsWay 31 = .ok (.isub, 1) := dk_100 (dk_at dksX3_readsWay_1 7 rfl rfl)
theorem dX3_readsWay_32 : decode cX3_readsWay 32 = .ok (.iconst 4, 1) := dk_7 (dk_at dksX3_readsWay_1 8 rfl rfl)
theorem dX3_readsWay_33 : decode cX3_readsWay 33 = .ok (.if_icmp .gt 44, 3) := dk_163 0 44 (dk_at dksX3_readsWay_1 9 rfl rfl)
theorem dX3_readsWay_36 : decode cX3_readsWay 36 = .ok (.aload_n 0, 1) := dk_42 (dk_at dksX3_readsWay_1 12 rfl rfl)
theorem dX3_readsWay_37 : decode cX3_readsWay 37 = .ok (.getfield 7, 3) := dk_180 0 7 (dk_at dksX3_readsWay_1 13 rfl rfl)
theorem dX3_readsWay_40 : decode cX3_readsWay 40 = .ok (.aload_n 0, 1) := dk_42 (dk_at dksX3_readsWay_1 16 rfl rfl)
theorem dX3_readsWay_41 : decode cX3_readsWay 41 = .ok (.getfield 67, 3) := dk_180 0 67 (dk_at dksX3_readsWay_1 17 rfl rfl)
theorem dX3_readsWay_44 : decode cX3_readsWay 44 = .ok (.iaload, 1) := dk_46 (dk_at dksX3_readsWay_1 20 rfl rfl)
theorem dX3_readsWay_45 : decode cX3_readsWay 45 = .ok (.invokestatic 70, 3) := dk_184 0 70 (dk_at dksX3_readsWay_1 21 rfl rfl)
theorem dX3_readsWay_48 : decode cX3_readsWay 48 = .ok (.iconst 2, 1) := dk_5 (dk_at dksX3_readsWay_2 0 rfl rfl)
theorem dX3_readsWay_49 : decode cX3_readsWay 49 = .ok (.if_icmp .ne 28, 3) := dk_160 0 28 (dk_at dksX3_readsWay_2 1 rfl rfl)
theorem dX3_readsWay_52 : decode cX3_readsWay 52 = .ok (.aload_n 0, 1) := dk_42 (dk_at dksX3_readsWay_2 4 rfl rfl)
theorem dX3_readsWay_53 : decode cX3_readsWay 53 = .ok (.invokevirtual 102, 3) := dk_182 0 102 (dk_at dksX3_readsWay_2 5 rfl rfl)
theorem dX3_readsWay_56 : decode cX3_readsWay 56 = .ok (.aload_n 0, 1) := dk_42 (dk_at dksX3_readsWay_2 8 rfl rfl)
theorem dX3_readsWay_57 : decode cX3_readsWay 57 = .ok (.getfield 13, 3) := dk_180 0 13 (dk_at dksX3_readsWay_2 9 rfl rfl)
theorem dX3_readsWay_60 : decode cX3_readsWay 60 = .ok (.bipush 8, 2) := dk_16 8 (dk_at dksX3_readsWay_2 12 rfl rfl)
theorem dX3_readsWay_62 : decode cX3_readsWay 62 = .ok (.aload_n 0, 1) := dk_42 (dk_at dksX3_readsWay_2 14 rfl rfl)
theorem dX3_readsWay_63 : decode cX3_readsWay 63 = .ok (.getfield 77, 3) := dk_180 0 77 (dk_at dksX3_readsWay_2 15 rfl rfl)
theorem dX3_readsWay_66 : decode cX3_readsWay 66 = .ok (.imul, 1) := dk_104 (dk_at dksX3_readsWay_2 18 rfl rfl)
theorem dX3_readsWay_67 : decode cX3_readsWay 67 = .ok (.iconst 1, 1) := dk_4 (dk_at dksX3_readsWay_2 19 rfl rfl)
theorem dX3_readsWay_68 : decode cX3_readsWay 68 = .ok (.iadd, 1) := dk_96 (dk_at dksX3_readsWay_2 20 rfl rfl)
theorem dX3_readsWay_69 : decode cX3_readsWay 69 = .ok (.iaload, 1) := dk_46 (dk_at dksX3_readsWay_2 21 rfl rfl)
theorem dX3_readsWay_70 : decode cX3_readsWay 70 = .ok (.if_icmp .ne 7, 3) := dk_160 0 7 (dk_at dksX3_readsWay_3 0 rfl rfl)
theorem dX3_readsWay_73 : decode cX3_readsWay 73 = .ok (.iconst 1, 1) := dk_4 (dk_at dksX3_readsWay_3 3 rfl rfl)
theorem dX3_readsWay_74 : decode cX3_readsWay 74 = .ok (.goto 4, 3) := dk_167 0 4 (dk_at dksX3_readsWay_3 4 rfl rfl)
theorem dX3_readsWay_77 : decode cX3_readsWay 77 = .ok (.iconst 0, 1) := dk_3 (dk_at dksX3_readsWay_3 7 rfl rfl)
theorem dX3_readsWay_78 : decode cX3_readsWay 78 = .ok (.istore_n 1, 1) := dk_60 (dk_at dksX3_readsWay_3 8 rfl rfl)
theorem dX3_readsWay_79 : decode cX3_readsWay 79 = .ok (.iload_n 1, 1) := dk_27 (dk_at dksX3_readsWay_3 9 rfl rfl)
theorem dX3_readsWay_80 : decode cX3_readsWay 80 = .ok (.ifCond .ne 29, 3) := dk_154 0 29 (dk_at dksX3_readsWay_3 10 rfl rfl)
theorem dX3_readsWay_83 : decode cX3_readsWay 83 = .ok (.aload_n 0, 1) := dk_42 (dk_at dksX3_readsWay_3 13 rfl rfl)
theorem dX3_readsWay_84 : decode cX3_readsWay 84 = .ok (.iconst 1, 1) := dk_4 (dk_at dksX3_readsWay_3 14 rfl rfl)
theorem dX3_readsWay_85 : decode cX3_readsWay 85 = .ok (.iconst 0, 1) := dk_3 (dk_at dksX3_readsWay_3 15 rfl rfl)
theorem dX3_readsWay_86 : decode cX3_readsWay 86 = .ok (.iconst 5, 1) := dk_8 (dk_at dksX3_readsWay_3 16 rfl rfl)
theorem dX3_readsWay_87 : decode cX3_readsWay 87 = .ok (.invokevirtual 93, 3) := dk_182 0 93 (dk_at dksX3_readsWay_3 17 rfl rfl)
theorem dX3_readsWay_90 : decode cX3_readsWay 90 = .ok (.ifCond .eq 19, 3) := dk_153 0 19 (dk_at dksX3_readsWay_3 20 rfl rfl)
theorem dX3_readsWay_93 : decode cX3_readsWay 93 = .ok (.aload_n 0, 1) := dk_42 (dk_at dksX3_readsWay_3 23 rfl rfl)
theorem dX3_readsWay_94 : decode cX3_readsWay 94 = .ok (.iconst 2, 1) := dk_5 (dk_at dksX3_readsWay_4 0 rfl rfl)
theorem dX3_readsWay_95 : decode cX3_readsWay 95 = .ok (.iconst 0, 1) := dk_3 (dk_at dksX3_readsWay_4 1 rfl rfl)
theorem dX3_readsWay_96 : decode cX3_readsWay 96 = .ok (.sipush 200, 3) := dk_17 0 200 (dk_at dksX3_readsWay_4 2 rfl rfl)
theorem dX3_readsWay_99 : decode cX3_readsWay 99 = .ok (.invokevirtual 93, 3) := dk_182 0 93 (dk_at dksX3_readsWay_4 5 rfl rfl)
theorem dX3_readsWay_102 : decode cX3_readsWay 102 = .ok (.ifCond .eq 7, 3) := dk_153 0 7 (dk_at dksX3_readsWay_4 8 rfl rfl)
theorem dX3_readsWay_105 : decode cX3_readsWay 105 = .ok (.iconst 1, 1) := dk_4 (dk_at dksX3_readsWay_4 11 rfl rfl)
theorem dX3_readsWay_106 : decode cX3_readsWay 106 = .ok (.goto 4, 3) := dk_167 0 4 (dk_at dksX3_readsWay_4 12 rfl rfl)
theorem dX3_readsWay_109 : decode cX3_readsWay 109 = .ok (.iconst 0, 1) := dk_3 (dk_at dksX3_readsWay_4 15 rfl rfl)
theorem dX3_readsWay_110 : decode cX3_readsWay 110 = .ok (.ireturn, 1) := dk_172 (dk_at dksX3_readsWay_4 16 rfl rfl)
abbrev cX3_number : ByteArray := prog_12_method_13_code
def yX3_number : MethodName := ⟨RX3, "number", "()I"⟩
def dkwX3_number_1 : List UInt8 := [46, 96, 16, 48, 100, 60, 132, 2, 1, 167, 255, 230, 27, 172]
abbrev dktX3_number_1 : List UInt8 := dkwX3_number_1 ++ []
def dkwX3_number_0 : List UInt8 := [3, 60, 42, 180, 0, 67, 61, 28, 42, 180, 0, 74, 162, 0, 24, 16, 10, 27, 104, 42, 180, 0, 7, 28]
abbrev dktX3_number_0 : List UInt8 := dkwX3_number_0 ++ dktX3_number_1
theorem dksX3_number_0 : cX3_number.data.toList.drop 0 = dktX3_number_0 := by decide +kernel
theorem dksX3_number_1 : cX3_number.data.toList.drop 24 = dktX3_number_1 := dk_seg dksX3_number_0 24 rfl rfl
theorem dX3_number_0 : decode cX3_number 0 = .ok (.iconst 0, 1) := dk_3 (dk_at dksX3_number_0 0 rfl rfl)
theorem dX3_number_1 : decode cX3_number 1 = .ok (.istore_n 1, 1) := dk_60 (dk_at dksX3_number_0 1 rfl rfl)
theorem dX3_number_2 : decode cX3_number 2 = .ok (.aload_n 0, 1) := dk_42 (dk_at dksX3_number_0 2 rfl rfl)
theorem dX3_number_3 : decode cX3_number 3 = .ok (.getfield 67, 3) := dk_180 0 67 (dk_at dksX3_number_0 3 rfl rfl)
theorem dX3_number_6 : decode cX3_number 6 = .ok (.istore_n 2, 1) := dk_61 (dk_at dksX3_number_0 6 rfl rfl)
theorem dX3_number_7 : decode cX3_number 7 = .ok (.iload_n 2, 1) := dk_28 (dk_at dksX3_number_0 7 rfl rfl)
theorem dX3_number_8 : decode cX3_number 8 = .ok (.aload_n 0, 1) := dk_42 (dk_at dksX3_number_0 8 rfl rfl)
theorem dX3_number_9 : decode cX3_number 9 = .ok (.getfield 74, 3) := dk_180 0 74 (dk_at dksX3_number_0 9 rfl rfl)
theorem dX3_number_12 : decode cX3_number 12 = .ok (.if_icmp .ge 24, 3) := dk_162 0 24 (dk_at dksX3_number_0 12 rfl rfl)
theorem dX3_number_15 : decode cX3_number 15 = .ok (.bipush 10, 2) := dk_16 10 (dk_at dksX3_number_0 15 rfl rfl)
theorem dX3_number_17 : decode cX3_number 17 = .ok (.iload_n 1, 1) := dk_27 (dk_at dksX3_number_0 17 rfl rfl)
theorem dX3_number_18 : decode cX3_number 18 = .ok (.imul, 1) := dk_104 (dk_at dksX3_number_0 18 rfl rfl)
theorem dX3_number_19 : decode cX3_number 19 = .ok (.aload_n 0, 1) := dk_42 (dk_at dksX3_number_0 19 rfl rfl)
theorem dX3_number_20 : decode cX3_number 20 = .ok (.getfield 7, 3) := dk_180 0 7 (dk_at dksX3_number_0 20 rfl rfl)
theorem dX3_number_23 : decode cX3_number 23 = .ok (.iload_n 2, 1) := dk_28 (dk_at dksX3_number_0 23 rfl rfl)
theorem dX3_number_24 : decode cX3_number 24 = .ok (.iaload, 1) := dk_46 (dk_at dksX3_number_1 0 rfl rfl)
theorem dX3_number_25 : decode cX3_number 25 = .ok (.iadd, 1) := dk_96 (dk_at dksX3_number_1 1 rfl rfl)
theorem dX3_number_26 : decode cX3_number 26 = .ok (.bipush 48, 2) := dk_16 48 (dk_at dksX3_number_1 2 rfl rfl)
theorem dX3_number_28 : decode cX3_number 28 = .ok (.isub, 1) := dk_100 (dk_at dksX3_number_1 4 rfl rfl)
theorem dX3_number_29 : decode cX3_number 29 = .ok (.istore_n 1, 1) := dk_60 (dk_at dksX3_number_1 5 rfl rfl)
theorem dX3_number_30 : decode cX3_number 30 = .ok (.iinc 2 1, 3) := dk_132 2 1 (dk_at dksX3_number_1 6 rfl rfl)
theorem dX3_number_33 : decode cX3_number 33 = .ok (.goto (-26), 3) := dk_167 255 230 (dk_at dksX3_number_1 9 rfl rfl)
theorem dX3_number_36 : decode cX3_number 36 = .ok (.iload_n 1, 1) := dk_27 (dk_at dksX3_number_1 12 rfl rfl)
theorem dX3_number_37 : decode cX3_number 37 = .ok (.ireturn, 1) := dk_172 (dk_at dksX3_number_1 13 rfl rfl)
abbrev cX3_readsSort : ByteArray := prog_12_method_14_code
def yX3_readsSort : MethodName := ⟨RX3, "readsSort", "()Z"⟩
def dkwX3_readsSort_4 : List UInt8 := [17, 2, 79, 5, 182, 0, 98, 154, 0, 5, 4, 172, 42, 182, 0, 80, 42, 7, 182, 0, 107, 172]
abbrev dktX3_readsSort_4 : List UInt8 := dkwX3_readsSort_4 ++ []
def dkwX3_readsSort_3 : List UInt8 := [153, 0, 7, 42, 182, 0, 80, 28, 154, 0, 13, 42, 6, 182, 0, 107, 154, 0, 5, 3, 172, 42]
abbrev dktX3_readsSort_3 : List UInt8 := dkwX3_readsSort_3 ++ dktX3_readsSort_4
def dkwX3_readsSort_2 : List UInt8 := [27, 7, 96, 3, 79, 42, 180, 0, 13, 27, 8, 96, 3, 79, 42, 18, 106, 7, 182, 0, 98, 61, 28]
abbrev dktX3_readsSort_2 : List UInt8 := dkwX3_readsSort_2 ++ dktX3_readsSort_3
def dkwX3_readsSort_1 : List UInt8 := [182, 0, 93, 153, 0, 15, 42, 5, 3, 17, 0, 200, 182, 0, 93, 154, 0, 5, 3, 172, 42, 180, 0, 13]
abbrev dktX3_readsSort_1 : List UInt8 := dkwX3_readsSort_1 ++ dktX3_readsSort_2
def dkwX3_readsSort_0 : List UInt8 := [16, 8, 42, 180, 0, 77, 104, 60, 42, 3, 3, 8, 182, 0, 93, 153, 0, 26, 42, 4, 4, 16, 20]
abbrev dktX3_readsSort_0 : List UInt8 := dkwX3_readsSort_0 ++ dktX3_readsSort_1
theorem dksX3_readsSort_0 : cX3_readsSort.data.toList.drop 0 = dktX3_readsSort_0 := by decide +kernel
theorem dksX3_readsSort_1 : cX3_readsSort.data.toList.drop 23 = dktX3_readsSort_1 := dk_seg dksX3_readsSort_0 23 rfl rfl
theorem dksX3_readsSort_2 : cX3_readsSort.data.toList.drop 47 = dktX3_readsSort_2 := dk_seg dksX3_readsSort_1 24 rfl rfl
theorem dksX3_readsSort_3 : cX3_readsSort.data.toList.drop 70 = dktX3_readsSort_3 := dk_seg dksX3_readsSort_2 23 rfl rfl
theorem dksX3_readsSort_4 : cX3_readsSort.data.toList.drop 92 = dktX3_readsSort_4 := dk_seg dksX3_readsSort_3 22 rfl rfl
theorem dX3_readsSort_0 : decode cX3_readsSort 0 = .ok (.bipush 8, 2) := dk_16 8 (dk_at dksX3_readsSort_0 0 rfl rfl)
theorem dX3_readsSort_2 : decode cX3_readsSort 2 = .ok (.aload_n 0, 1) := dk_42 (dk_at dksX3_readsSort_0 2 rfl rfl)
theorem dX3_readsSort_3 : decode cX3_readsSort 3 = .ok (.getfield 77, 3) := dk_180 0 77 (dk_at dksX3_readsSort_0 3 rfl rfl)
theorem dX3_readsSort_6 : decode cX3_readsSort 6 = .ok (.imul, 1) := dk_104 (dk_at dksX3_readsSort_0 6 rfl rfl)
theorem dX3_readsSort_7 : decode cX3_readsSort 7 = .ok (.istore_n 1, 1) := dk_60 (dk_at dksX3_readsSort_0 7 rfl rfl)
theorem dX3_readsSort_8 : decode cX3_readsSort 8 = .ok (.aload_n 0, 1) := dk_42 (dk_at dksX3_readsSort_0 8 rfl rfl)
theorem dX3_readsSort_9 : decode cX3_readsSort 9 = .ok (.iconst 0, 1) := dk_3 (dk_at dksX3_readsSort_0 9 rfl rfl)
theorem dX3_readsSort_10 : decode cX3_readsSort 10 = .ok (.iconst 0, 1) := dk_3 (dk_at dksX3_readsSort_0 10 rfl rfl)
theorem dX3_readsSort_11 : decode cX3_readsSort 11 = .ok (.iconst 5, 1) := dk_8 (dk_at dksX3_readsSort_0 11 rfl rfl)
theorem dX3_readsSort_12 : decode cX3_readsSort 12 = .ok (.invokevirtual 93, 3) := dk_182 0 93 (dk_at dksX3_readsSort_0 12 rfl rfl)
theorem dX3_readsSort_15 : decode cX3_readsSort 15 = .ok (.ifCond .eq 26, 3) := dk_153 0 26 (dk_at dksX3_readsSort_0 15 rfl rfl)
theorem dX3_readsSort_18 : decode cX3_readsSort 18 = .ok (.aload_n 0, 1) := dk_42 (dk_at dksX3_readsSort_0 18 rfl rfl)
theorem dX3_readsSort_19 : decode cX3_readsSort 19 = .ok (.iconst 1, 1) := dk_4 (dk_at dksX3_readsSort_0 19 rfl rfl)
theorem dX3_readsSort_20 : decode cX3_readsSort 20 = .ok (.iconst 1, 1) := dk_4 (dk_at dksX3_readsSort_0 20 rfl rfl)
theorem dX3_readsSort_21 : decode cX3_readsSort 21 = .ok (.bipush 20, 2) := dk_16 20 (dk_at dksX3_readsSort_0 21 rfl rfl)
theorem dX3_readsSort_23 : decode cX3_readsSort 23 = .ok (.invokevirtual 93, 3) := dk_182 0 93 (dk_at dksX3_readsSort_1 0 rfl rfl)
theorem dX3_readsSort_26 : decode cX3_readsSort 26 = .ok (.ifCond .eq 15, 3) := dk_153 0 15 (dk_at dksX3_readsSort_1 3 rfl rfl)
theorem dX3_readsSort_29 : decode cX3_readsSort 29 = .ok (.aload_n 0, 1) := dk_42 (dk_at dksX3_readsSort_1 6 rfl rfl)
theorem dX3_readsSort_30 : decode cX3_readsSort 30 = .ok (.iconst 2, 1) := dk_5 (dk_at dksX3_readsSort_1 7 rfl rfl)
theorem dX3_readsSort_31 : decode cX3_readsSort 31 = .ok (.iconst 0, 1) := dk_3 (dk_at dksX3_readsSort_1 8 rfl rfl)
theorem dX3_readsSort_32 : decode cX3_readsSort 32 = .ok (.sipush 200, 3) := dk_17 0 200 (dk_at dksX3_readsSort_1 9 rfl rfl)
theorem dX3_readsSort_35 : decode cX3_readsSort 35 = .ok (.invokevirtual 93, 3) := dk_182 0 93 (dk_at dksX3_readsSort_1 12 rfl rfl)
theorem dX3_readsSort_38 : decode cX3_readsSort 38 = .ok (.ifCond .ne 5, 3) := dk_154 0 5 (dk_at dksX3_readsSort_1 15 rfl rfl)
theorem dX3_readsSort_41 : decode cX3_readsSort 41 = .ok (.iconst 0, 1) := dk_3 (dk_at dksX3_readsSort_1 18 rfl rfl)
theorem dX3_readsSort_42 : decode cX3_readsSort 42 = .ok (.ireturn, 1) := dk_172 (dk_at dksX3_readsSort_1 19 rfl rfl)
theorem dX3_readsSort_43 : decode cX3_readsSort 43 = .ok (.aload_n 0, 1) := dk_42 (dk_at dksX3_readsSort_1 20 rfl rfl)
theorem dX3_readsSort_44 : decode cX3_readsSort 44 = .ok (.getfield 13, 3) := dk_180 0 13 (dk_at dksX3_readsSort_1 21 rfl rfl)
theorem dX3_readsSort_47 : decode cX3_readsSort 47 = .ok (.iload_n 1, 1) := dk_27 (dk_at dksX3_readsSort_2 0 rfl rfl)
theorem dX3_readsSort_48 : decode cX3_readsSort 48 = .ok (.iconst 4, 1) := dk_7 (dk_at dksX3_readsSort_2 1 rfl rfl)
theorem dX3_readsSort_49 : decode cX3_readsSort 49 = .ok (.iadd, 1) := dk_96 (dk_at dksX3_readsSort_2 2 rfl rfl)
theorem dX3_readsSort_50 : decode cX3_readsSort 50 = .ok (.iconst 0, 1) := dk_3 (dk_at dksX3_readsSort_2 3 rfl rfl)
theorem dX3_readsSort_51 : decode cX3_readsSort 51 = .ok (.iastore, 1) := dk_79 (dk_at dksX3_readsSort_2 4 rfl rfl)
theorem dX3_readsSort_52 : decode cX3_readsSort 52 = .ok (.aload_n 0, 1) := dk_42 (dk_at dksX3_readsSort_2 5 rfl rfl)
theorem dX3_readsSort_53 : decode cX3_readsSort 53 = .ok (.getfield 13, 3) := dk_180 0 13 (dk_at dksX3_readsSort_2 6 rfl rfl)
theorem dX3_readsSort_56 : decode cX3_readsSort 56 = .ok (.iload_n 1, 1) := dk_27 (dk_at dksX3_readsSort_2 9 rfl rfl)
theorem dX3_readsSort_57 : decode cX3_readsSort 57 = .ok (.iconst 5, 1) := dk_8 (dk_at dksX3_readsSort_2 10 rfl rfl)
theorem dX3_readsSort_58 : decode cX3_readsSort 58 = .ok (.iadd, 1) := dk_96 (dk_at dksX3_readsSort_2 11 rfl rfl)
theorem dX3_readsSort_59 : decode cX3_readsSort 59 = .ok (.iconst 0, 1) := dk_3 (dk_at dksX3_readsSort_2 12 rfl rfl)
theorem dX3_readsSort_60 : decode cX3_readsSort 60 = .ok (.iastore, 1) := dk_79 (dk_at dksX3_readsSort_2 13 rfl rfl)
theorem dX3_readsSort_61 : decode cX3_readsSort 61 = .ok (.aload_n 0, 1) := dk_42 (dk_at dksX3_readsSort_2 14 rfl rfl)
theorem dX3_readsSort_62 : decode cX3_readsSort 62 = .ok (.ldc 106, 2) := dk_18 106 (dk_at dksX3_readsSort_2 15 rfl rfl)
theorem dX3_readsSort_64 : decode cX3_readsSort 64 = .ok (.iconst 4, 1) := dk_7 (dk_at dksX3_readsSort_2 17 rfl rfl)
theorem dX3_readsSort_65 : decode cX3_readsSort 65 = .ok (.invokevirtual 98, 3) := dk_182 0 98 (dk_at dksX3_readsSort_2 18 rfl rfl)
theorem dX3_readsSort_68 : decode cX3_readsSort 68 = .ok (.istore_n 2, 1) := dk_61 (dk_at dksX3_readsSort_2 21 rfl rfl)
theorem dX3_readsSort_69 : decode cX3_readsSort 69 = .ok (.iload_n 2, 1) := dk_28 (dk_at dksX3_readsSort_2 22 rfl rfl)
theorem dX3_readsSort_70 : decode cX3_readsSort 70 = .ok (.ifCond .eq 7, 3) := dk_153 0 7 (dk_at dksX3_readsSort_3 0 rfl rfl)
theorem dX3_readsSort_73 : decode cX3_readsSort 73 = .ok (.aload_n 0, 1) := dk_42 (dk_at dksX3_readsSort_3 3 rfl rfl)
theorem dX3_readsSort_74 : decode cX3_readsSort 74 = .ok (.invokevirtual 80, 3) := dk_182 0 80 (dk_at dksX3_readsSort_3 4 rfl rfl)
theorem dX3_readsSort_77 : decode cX3_readsSort 77 = .ok (.iload_n 2, 1) := dk_28 (dk_at dksX3_readsSort_3 7 rfl rfl)
theorem dX3_readsSort_78 : decode cX3_readsSort 78 = .ok (.ifCond .ne 13, 3) := dk_154 0 13 (dk_at dksX3_readsSort_3 8 rfl rfl)
theorem dX3_readsSort_81 : decode cX3_readsSort 81 = .ok (.aload_n 0, 1) := dk_42 (dk_at dksX3_readsSort_3 11 rfl rfl)
theorem dX3_readsSort_82 : decode cX3_readsSort 82 = .ok (.iconst 3, 1) := dk_6 (dk_at dksX3_readsSort_3 12 rfl rfl)
theorem dX3_readsSort_83 : decode cX3_readsSort 83 = .ok (.invokevirtual 107, 3) := dk_182 0 107 (dk_at dksX3_readsSort_3 13 rfl rfl)
theorem dX3_readsSort_86 : decode cX3_readsSort 86 = .ok (.ifCond .ne 5, 3) := dk_154 0 5 (dk_at dksX3_readsSort_3 16 rfl rfl)
theorem dX3_readsSort_89 : decode cX3_readsSort 89 = .ok (.iconst 0, 1) := dk_3 (dk_at dksX3_readsSort_3 19 rfl rfl)
theorem dX3_readsSort_90 : decode cX3_readsSort 90 = .ok (.ireturn, 1) := dk_172 (dk_at dksX3_readsSort_3 20 rfl rfl)
theorem dX3_readsSort_91 : decode cX3_readsSort 91 = .ok (.aload_n 0, 1) := dk_42 (dk_at dksX3_readsSort_3 21 rfl rfl)
theorem dX3_readsSort_92 : decode cX3_readsSort 92 = .ok (.sipush 591, 3) := dk_17 2 79 (dk_at dksX3_readsSort_4 0 rfl rfl)
theorem dX3_readsSort_95 : decode cX3_readsSort 95 = .ok (.iconst 2, 1) := dk_5 (dk_at dksX3_readsSort_4 3 rfl rfl)
theorem dX3_readsSort_96 : decode cX3_readsSort 96 = .ok (.invokevirtual 98, 3) := dk_182 0 98 (dk_at dksX3_readsSort_4 4 rfl rfl)
theorem dX3_readsSort_99 : decode cX3_readsSort 99 = .ok (.ifCond .ne 5, 3) := dk_154 0 5 (dk_at dksX3_readsSort_4 7 rfl rfl)
theorem dX3_readsSort_102 : decode cX3_readsSort 102 = .ok (.iconst 1, 1) := dk_4 (dk_at dksX3_readsSort_4 10 rfl rfl)
theorem dX3_readsSort_103 : decode cX3_readsSort 103 = .ok (.ireturn, 1) := dk_172 (dk_at dksX3_readsSort_4 11 rfl rfl)
theorem dX3_readsSort_104 : decode cX3_readsSort 104 = .ok (.aload_n 0, 1) := dk_42 (dk_at dksX3_readsSort_4 12 rfl rfl)
theorem dX3_readsSort_105 : decode cX3_readsSort 105 = .ok (.invokevirtual 80, 3) := dk_182 0 80 (dk_at dksX3_readsSort_4 13 rfl rfl)
theorem dX3_readsSort_108 : decode cX3_readsSort 108 = .ok (.aload_n 0, 1) := dk_42 (dk_at dksX3_readsSort_4 16 rfl rfl)
theorem dX3_readsSort_109 : decode cX3_readsSort 109 = .ok (.iconst 4, 1) := dk_7 (dk_at dksX3_readsSort_4 17 rfl rfl)
theorem dX3_readsSort_110 : decode cX3_readsSort 110 = .ok (.invokevirtual 107, 3) := dk_182 0 107 (dk_at dksX3_readsSort_4 18 rfl rfl)
theorem dX3_readsSort_113 : decode cX3_readsSort 113 = .ok (.ireturn, 1) := dk_172 (dk_at dksX3_readsSort_4 21 rfl rfl)
abbrev cX3_readsThings : ByteArray := prog_12_method_10_code
def yX3_readsThings : MethodName := ⟨RX3, "readsThings", "(I)Z"⟩
def dkwX3_readsThings_4 : List UInt8 := [167, 0, 4, 3, 172]
abbrev dktX3_readsThings_4 : List UInt8 := dkwX3_readsThings_4 ++ []
def dkwX3_readsThings_3 : List UInt8 := [180, 0, 77, 104, 4, 96, 27, 96, 28, 79, 28, 158, 0, 7, 42, 182, 0, 80, 28, 158, 0, 7, 4]
abbrev dktX3_readsThings_3 : List UInt8 := dkwX3_readsThings_3 ++ dktX3_readsThings_4
def dkwX3_readsThings_2 : List UInt8 := [3, 172, 28, 4, 21, 4, 120, 128, 61, 132, 3, 1, 167, 255, 203, 42, 180, 0, 13, 16, 8, 42]
abbrev dktX3_readsThings_2 : List UInt8 := dkwX3_readsThings_2 ++ dktX3_readsThings_3
def dkwX3_readsThings_1 : List UInt8 := [54, 4, 21, 4, 133, 9, 20, 0, 83, 184, 0, 55, 153, 0, 12, 28, 21, 4, 184, 0, 85, 153, 0, 5]
abbrev dktX3_readsThings_1 : List UInt8 := dkwX3_readsThings_1 ++ dktX3_readsThings_2
def dkwX3_readsThings_0 : List UInt8 := [3, 61, 42, 180, 0, 67, 62, 29, 42, 180, 0, 74, 162, 0, 51, 42, 180, 0, 7, 29, 46, 16, 97, 100]
abbrev dktX3_readsThings_0 : List UInt8 := dkwX3_readsThings_0 ++ dktX3_readsThings_1
theorem dksX3_readsThings_0 : cX3_readsThings.data.toList.drop 0 = dktX3_readsThings_0 := by decide +kernel
theorem dksX3_readsThings_1 : cX3_readsThings.data.toList.drop 24 = dktX3_readsThings_1 := dk_seg dksX3_readsThings_0 24 rfl rfl
theorem dksX3_readsThings_2 : cX3_readsThings.data.toList.drop 48 = dktX3_readsThings_2 := dk_seg dksX3_readsThings_1 24 rfl rfl
theorem dksX3_readsThings_3 : cX3_readsThings.data.toList.drop 70 = dktX3_readsThings_3 := dk_seg dksX3_readsThings_2 22 rfl rfl
theorem dksX3_readsThings_4 : cX3_readsThings.data.toList.drop 93 = dktX3_readsThings_4 := dk_seg dksX3_readsThings_3 23 rfl rfl
theorem dX3_readsThings_0 : decode cX3_readsThings 0 = .ok (.iconst 0, 1) := dk_3 (dk_at dksX3_readsThings_0 0 rfl rfl)
theorem dX3_readsThings_1 : decode cX3_readsThings 1 = .ok (.istore_n 2, 1) := dk_61 (dk_at dksX3_readsThings_0 1 rfl rfl)
theorem dX3_readsThings_2 : decode cX3_readsThings 2 = .ok (.aload_n 0, 1) := dk_42 (dk_at dksX3_readsThings_0 2 rfl rfl)
theorem dX3_readsThings_3 : decode cX3_readsThings 3 = .ok (.getfield 67, 3) := dk_180 0 67 (dk_at dksX3_readsThings_0 3 rfl rfl)
theorem dX3_readsThings_6 : decode cX3_readsThings 6 = .ok (.istore_n 3, 1) := dk_62 (dk_at dksX3_readsThings_0 6 rfl rfl)
theorem dX3_readsThings_7 : decode cX3_readsThings 7 = .ok (.iload_n 3, 1) := dk_29 (dk_at dksX3_readsThings_0 7 rfl rfl)
theorem dX3_readsThings_8 : decode cX3_readsThings 8 = .ok (.aload_n 0, 1) := dk_42 (dk_at dksX3_readsThings_0 8 rfl rfl)
theorem dX3_readsThings_9 : decode cX3_readsThings 9 = .ok (.getfield 74, 3) := dk_180 0 74 (dk_at dksX3_readsThings_0 9 rfl rfl)
theorem dX3_readsThings_12 : decode cX3_readsThings 12 = .ok (.if_icmp .ge 51, 3) := dk_162 0 51 (dk_at dksX3_readsThings_0 12 rfl rfl)
theorem dX3_readsThings_15 : decode cX3_readsThings 15 = .ok (.aload_n 0, 1) := dk_42 (dk_at dksX3_readsThings_0 15 rfl rfl)
theorem dX3_readsThings_16 : decode cX3_readsThings 16 = .ok (.getfield 7, 3) := dk_180 0 7 (dk_at dksX3_readsThings_0 16 rfl rfl)
theorem dX3_readsThings_19 : decode cX3_readsThings 19 = .ok (.iload_n 3, 1) := dk_29 (dk_at dksX3_readsThings_0 19 rfl rfl)
theorem dX3_readsThings_20 : decode cX3_readsThings 20 = .ok (.iaload, 1) := dk_46 (dk_at dksX3_readsThings_0 20 rfl rfl)
theorem dX3_readsThings_21 : decode cX3_readsThings 21 = .ok (.bipush 97, 2) := dk_16 97 (dk_at dksX3_readsThings_0 21 rfl rfl)
theorem dX3_readsThings_23 : decode cX3_readsThings 23 = .ok (.isub, 1) := dk_100 (dk_at dksX3_readsThings_0 23 rfl rfl)
theorem dX3_readsThings_24 : decode cX3_readsThings 24 = .ok (.istore 4, 2) := dk_54 4 (dk_at dksX3_readsThings_1 0 rfl rfl)
theorem dX3_readsThings_26 : decode cX3_readsThings 26 = .ok (.iload 4, 2) := dk_21 4 (dk_at dksX3_readsThings_1 2 rfl rfl)
theorem dX3_readsThings_28 : decode cX3_readsThings 28 = .ok (.i2l, 1) := dk_133 (dk_at dksX3_readsThings_1 4 rfl rfl)
theorem dX3_readsThings_29 : decode cX3_readsThings 29 = .ok (.lconst 0, 1) := dk_9 (dk_at dksX3_readsThings_1 5 rfl rfl)
theorem dX3_readsThings_30 : decode cX3_readsThings 30 = .ok (.ldc2_w 83, 3) := dk_20 0 83 (dk_at dksX3_readsThings_1 6 rfl rfl)
theorem dX3_readsThings_33 : decode cX3_readsThings 33 = .ok (.invokestatic 55, 3) := dk_184 0 55 (dk_at dksX3_readsThings_1 9 rfl rfl)
theorem dX3_readsThings_36 : decode cX3_readsThings 36 = .ok (.ifCond .eq 12, 3) := dk_153 0 12 (dk_at dksX3_readsThings_1 12 rfl rfl)
theorem dX3_readsThings_39 : decode cX3_readsThings 39 = .ok (.iload_n 2, 1) := dk_28 (dk_at dksX3_readsThings_1 15 rfl rfl)
theorem dX3_readsThings_40 : decode cX3_readsThings 40 = .ok (.iload 4, 2) := dk_21 4 (dk_at dksX3_readsThings_1 16 rfl rfl)
theorem dX3_readsThings_42 : decode cX3_readsThings 42 = .ok (.invokestatic 85, 3) := dk_184 0 85 (dk_at dksX3_readsThings_1 18 rfl rfl)
theorem dX3_readsThings_45 : decode cX3_readsThings 45 = .ok (.ifCond .eq 5, 3) := dk_153 0 5 (dk_at dksX3_readsThings_1 21 rfl rfl)
theorem dX3_readsThings_48 : decode cX3_readsThings 48 = .ok (.iconst 0, 1) := dk_3 (dk_at dksX3_readsThings_2 0 rfl rfl)
theorem dX3_readsThings_49 : decode cX3_readsThings 49 = .ok (.ireturn, 1) := dk_172 (dk_at dksX3_readsThings_2 1 rfl rfl)
theorem dX3_readsThings_50 : decode cX3_readsThings 50 = .ok (.iload_n 2, 1) := dk_28 (dk_at dksX3_readsThings_2 2 rfl rfl)
theorem dX3_readsThings_51 : decode cX3_readsThings 51 = .ok (.iconst 1, 1) := dk_4 (dk_at dksX3_readsThings_2 3 rfl rfl)
theorem dX3_readsThings_52 : decode cX3_readsThings 52 = .ok (.iload 4, 2) := dk_21 4 (dk_at dksX3_readsThings_2 4 rfl rfl)
theorem dX3_readsThings_54 : decode cX3_readsThings 54 = .ok (.ishl, 1) := dk_120 (dk_at dksX3_readsThings_2 6 rfl rfl)
theorem dX3_readsThings_55 : decode cX3_readsThings 55 = .ok (.ior, 1) := dk_128 (dk_at dksX3_readsThings_2 7 rfl rfl)
theorem dX3_readsThings_56 : decode cX3_readsThings 56 = .ok (.istore_n 2, 1) := dk_61 (dk_at dksX3_readsThings_2 8 rfl rfl)
theorem dX3_readsThings_57 : decode cX3_readsThings 57 = .ok (.iinc 3 1, 3) := dk_132 3 1 (dk_at dksX3_readsThings_2 9 rfl rfl)
theorem dX3_readsThings_60 : decode cX3_readsThings 60 = .ok (.goto (-53), 3) := dk_167 255 203 (dk_at dksX3_readsThings_2 12 rfl rfl)
theorem dX3_readsThings_63 : decode cX3_readsThings 63 = .ok (.aload_n 0, 1) := dk_42 (dk_at dksX3_readsThings_2 15 rfl rfl)
theorem dX3_readsThings_64 : decode cX3_readsThings 64 = .ok (.getfield 13, 3) := dk_180 0 13 (dk_at dksX3_readsThings_2 16 rfl rfl)
theorem dX3_readsThings_67 : decode cX3_readsThings 67 = .ok (.bipush 8, 2) := dk_16 8 (dk_at dksX3_readsThings_2 19 rfl rfl)
theorem dX3_readsThings_69 : decode cX3_readsThings 69 = .ok (.aload_n 0, 1) := dk_42 (dk_at dksX3_readsThings_2 21 rfl rfl)
theorem dX3_readsThings_70 : decode cX3_readsThings 70 = .ok (.getfield 77, 3) := dk_180 0 77 (dk_at dksX3_readsThings_3 0 rfl rfl)
theorem dX3_readsThings_73 : decode cX3_readsThings 73 = .ok (.imul, 1) := dk_104 (dk_at dksX3_readsThings_3 3 rfl rfl)
theorem dX3_readsThings_74 : decode cX3_readsThings 74 = .ok (.iconst 1, 1) := dk_4 (dk_at dksX3_readsThings_3 4 rfl rfl)
theorem dX3_readsThings_75 : decode cX3_readsThings 75 = .ok (.iadd, 1) := dk_96 (dk_at dksX3_readsThings_3 5 rfl rfl)
theorem dX3_readsThings_76 : decode cX3_readsThings 76 = .ok (.iload_n 1, 1) := dk_27 (dk_at dksX3_readsThings_3 6 rfl rfl)
theorem dX3_readsThings_77 : decode cX3_readsThings 77 = .ok (.iadd, 1) := dk_96 (dk_at dksX3_readsThings_3 7 rfl rfl)
theorem dX3_readsThings_78 : decode cX3_readsThings 78 = .ok (.iload_n 2, 1) := dk_28 (dk_at dksX3_readsThings_3 8 rfl rfl)
theorem dX3_readsThings_79 : decode cX3_readsThings 79 = .ok (.iastore, 1) := dk_79 (dk_at dksX3_readsThings_3 9 rfl rfl)
theorem dX3_readsThings_80 : decode cX3_readsThings 80 = .ok (.iload_n 2, 1) := dk_28 (dk_at dksX3_readsThings_3 10 rfl rfl)
theorem dX3_readsThings_81 : decode cX3_readsThings 81 = .ok (.ifCond .le 7, 3) := dk_158 0 7 (dk_at dksX3_readsThings_3 11 rfl rfl)
theorem dX3_readsThings_84 : decode cX3_readsThings 84 = .ok (.aload_n 0, 1) := dk_42 (dk_at dksX3_readsThings_3 14 rfl rfl)
theorem dX3_readsThings_85 : decode cX3_readsThings 85 = .ok (.invokevirtual 80, 3) := dk_182 0 80 (dk_at dksX3_readsThings_3 15 rfl rfl)
theorem dX3_readsThings_88 : decode cX3_readsThings 88 = .ok (.iload_n 2, 1) := dk_28 (dk_at dksX3_readsThings_3 18 rfl rfl)
theorem dX3_readsThings_89 : decode cX3_readsThings 89 = .ok (.ifCond .le 7, 3) := dk_158 0 7 (dk_at dksX3_readsThings_3 19 rfl rfl)
theorem dX3_readsThings_92 : decode cX3_readsThings 92 = .ok (.iconst 1, 1) := dk_4 (dk_at dksX3_readsThings_3 22 rfl rfl)
theorem dX3_readsThings_93 : decode cX3_readsThings 93 = .ok (.goto 4, 3) := dk_167 0 4 (dk_at dksX3_readsThings_4 0 rfl rfl)
theorem dX3_readsThings_96 : decode cX3_readsThings 96 = .ok (.iconst 0, 1) := dk_3 (dk_at dksX3_readsThings_4 3 rfl rfl)
theorem dX3_readsThings_97 : decode cX3_readsThings 97 = .ok (.ireturn, 1) := dk_172 (dk_at dksX3_readsThings_4 4 rfl rfl)
abbrev cX3_has : ByteArray := prog_12_method_3_code
def yX3_has : MethodName := ⟨RX3, "has", "(II)Z"⟩
def dkwX3_has_0 : List UInt8 := [26, 27, 122, 4, 126, 4, 160, 0, 7, 4, 167, 0, 4, 3, 172]
abbrev dktX3_has_0 : List UInt8 := dkwX3_has_0 ++ []
theorem dksX3_has_0 : cX3_has.data.toList.drop 0 = dktX3_has_0 := by decide +kernel
theorem dX3_has_0 : decode cX3_has 0 = .ok (.iload_n 0, 1) := dk_26 (dk_at dksX3_has_0 0 rfl rfl)
theorem dX3_has_1 : decode cX3_has 1 = .ok (.iload_n 1, 1) := dk_27 (dk_at dksX3_has_0 1 rfl rfl)
theorem dX3_has_2 : decode cX3_has 2 = .ok (.ishr, 1) := dk_122 (dk_at dksX3_has_0 2 rfl rfl)
theorem dX3_has_3 : decode cX3_has 3 = .ok (.iconst 1, 1) := dk_4 (dk_at dksX3_has_0 3 rfl rfl)
theorem dX3_has_4 : decode cX3_has 4 = .ok (.iand, 1) := dk_126 (dk_at dksX3_has_0 4 rfl rfl)
theorem dX3_has_5 : decode cX3_has 5 = .ok (.iconst 1, 1) := dk_4 (dk_at dksX3_has_0 5 rfl rfl)
theorem dX3_has_6 : decode cX3_has 6 = .ok (.if_icmp .ne 7, 3) := dk_160 0 7 (dk_at dksX3_has_0 6 rfl rfl)
theorem dX3_has_9 : decode cX3_has 9 = .ok (.iconst 1, 1) := dk_4 (dk_at dksX3_has_0 9 rfl rfl)
theorem dX3_has_10 : decode cX3_has 10 = .ok (.goto 4, 3) := dk_167 0 4 (dk_at dksX3_has_0 10 rfl rfl)
theorem dX3_has_13 : decode cX3_has 13 = .ok (.iconst 0, 1) := dk_3 (dk_at dksX3_has_0 13 rfl rfl)
theorem dX3_has_14 : decode cX3_has 14 = .ok (.ireturn, 1) := dk_172 (dk_at dksX3_has_0 14 rfl rfl)
abbrev cX3_day : ByteArray := prog_12_method_18_code
def yX3_day : MethodName := ⟨RX3, "day", "()I"⟩
def dkwX3_day_1 : List UInt8 := [27, 104, 182, 0, 139, 132, 1, 1, 167, 255, 237, 42, 3, 181, 0, 59, 42, 180, 0, 77, 172]
abbrev dktX3_day_1 : List UInt8 := dkwX3_day_1 ++ []
def dkwX3_day_0 : List UInt8 := [42, 182, 0, 136, 2, 159, 0, 6, 16, 252, 172, 3, 60, 27, 42, 180, 0, 77, 162, 0, 17, 42, 16, 8]
abbrev dktX3_day_0 : List UInt8 := dkwX3_day_0 ++ dktX3_day_1
theorem dksX3_day_0 : cX3_day.data.toList.drop 0 = dktX3_day_0 := by decide +kernel
theorem dksX3_day_1 : cX3_day.data.toList.drop 24 = dktX3_day_1 := dk_seg dksX3_day_0 24 rfl rfl
theorem dX3_day_0 : decode cX3_day 0 = .ok (.aload_n 0, 1) := dk_42 (dk_at dksX3_day_0 0 rfl rfl)
theorem dX3_day_1 : decode cX3_day 1 = .ok (.invokevirtual 136, 3) := dk_182 0 136 (dk_at dksX3_day_0 1 rfl rfl)
theorem dX3_day_4 : decode cX3_day 4 = .ok (.iconst (-1), 1) := dk_2 (dk_at dksX3_day_0 4 rfl rfl)
theorem dX3_day_5 : decode cX3_day 5 = .ok (.if_icmp .eq 6, 3) := dk_159 0 6 (dk_at dksX3_day_0 5 rfl rfl)
theorem dX3_day_8 : decode cX3_day 8 = .ok (.bipush (-4), 2) := dk_16 252 (dk_at dksX3_day_0 8 rfl rfl)
theorem dX3_day_10 : decode cX3_day 10 = .ok (.ireturn, 1) := dk_172 (dk_at dksX3_day_0 10 rfl rfl)
theorem dX3_day_11 : decode cX3_day 11 = .ok (.iconst 0, 1) := dk_3 (dk_at dksX3_day_0 11 rfl rfl)
theorem dX3_day_12 : decode cX3_day 12 = .ok (.istore_n 1, 1) := dk_60 (dk_at dksX3_day_0 12 rfl rfl)
theorem dX3_day_13 : decode cX3_day 13 = .ok (.iload_n 1, 1) := dk_27 (dk_at dksX3_day_0 13 rfl rfl)
theorem dX3_day_14 : decode cX3_day 14 = .ok (.aload_n 0, 1) := dk_42 (dk_at dksX3_day_0 14 rfl rfl)
theorem dX3_day_15 : decode cX3_day 15 = .ok (.getfield 77, 3) := dk_180 0 77 (dk_at dksX3_day_0 15 rfl rfl)
theorem dX3_day_18 : decode cX3_day 18 = .ok (.if_icmp .ge 17, 3) := dk_162 0 17 (dk_at dksX3_day_0 18 rfl rfl)
theorem dX3_day_21 : decode cX3_day 21 = .ok (.aload_n 0, 1) := dk_42 (dk_at dksX3_day_0 21 rfl rfl)
theorem dX3_day_22 : decode cX3_day 22 = .ok (.bipush 8, 2) := dk_16 8 (dk_at dksX3_day_0 22 rfl rfl)
theorem dX3_day_24 : decode cX3_day 24 = .ok (.iload_n 1, 1) := dk_27 (dk_at dksX3_day_1 0 rfl rfl)
theorem dX3_day_25 : decode cX3_day 25 = .ok (.imul, 1) := dk_104 (dk_at dksX3_day_1 1 rfl rfl)
theorem dX3_day_26 : decode cX3_day 26 = .ok (.invokevirtual 139, 3) := dk_182 0 139 (dk_at dksX3_day_1 2 rfl rfl)
theorem dX3_day_29 : decode cX3_day 29 = .ok (.iinc 1 1, 3) := dk_132 1 1 (dk_at dksX3_day_1 5 rfl rfl)
theorem dX3_day_32 : decode cX3_day 32 = .ok (.goto (-19), 3) := dk_167 255 237 (dk_at dksX3_day_1 8 rfl rfl)
theorem dX3_day_35 : decode cX3_day 35 = .ok (.aload_n 0, 1) := dk_42 (dk_at dksX3_day_1 11 rfl rfl)
theorem dX3_day_36 : decode cX3_day 36 = .ok (.iconst 0, 1) := dk_3 (dk_at dksX3_day_1 12 rfl rfl)
theorem dX3_day_37 : decode cX3_day 37 = .ok (.putfield 59, 3) := dk_181 0 59 (dk_at dksX3_day_1 13 rfl rfl)
theorem dX3_day_40 : decode cX3_day 40 = .ok (.aload_n 0, 1) := dk_42 (dk_at dksX3_day_1 16 rfl rfl)
theorem dX3_day_41 : decode cX3_day 41 = .ok (.getfield 77, 3) := dk_180 0 77 (dk_at dksX3_day_1 17 rfl rfl)
theorem dX3_day_44 : decode cX3_day 44 = .ok (.ireturn, 1) := dk_172 (dk_at dksX3_day_1 20 rfl rfl)
abbrev cX3_lay : ByteArray := prog_12_method_17_code
def yX3_lay : MethodName := ⟨RX3, "lay", "(I)V"⟩
def dkwX3_lay_12 : List UInt8 := [132, 4, 1, 167, 255, 215, 42, 180, 0, 38, 28, 92, 46, 4, 96, 79, 177]
abbrev dktX3_lay_12 : List UInt8 := dkwX3_lay_12 ++ []
def dkwX3_lay_11 : List UInt8 := [42, 180, 0, 38, 28, 46, 104, 96, 21, 4, 96, 42, 180, 0, 13, 27, 5, 96, 21, 4, 96, 46, 79]
abbrev dktX3_lay_11 : List UInt8 := dkwX3_lay_11 ++ dktX3_lay_12
def dkwX3_lay_10 : List UInt8 := [28, 46, 7, 162, 0, 60, 3, 54, 4, 21, 4, 7, 162, 0, 41, 42, 180, 0, 41, 16, 16, 28, 104, 7]
abbrev dktX3_lay_10 : List UInt8 := dkwX3_lay_10 ++ dktX3_lay_11
def dkwX3_lay_9 : List UInt8 := [46, 79, 132, 4, 1, 167, 255, 223, 177, 42, 180, 0, 133, 28, 184, 0, 85, 153, 0, 70, 42, 180, 0, 38]
abbrev dktX3_lay_9 : List UInt8 := dkwX3_lay_9 ++ dktX3_lay_10
def dkwX3_lay_8 : List UInt8 := [162, 0, 32, 42, 180, 0, 35, 16, 6, 28, 104, 21, 4, 96, 42, 180, 0, 13, 27, 5, 96, 21, 4, 96]
abbrev dktX3_lay_8 : List UInt8 := dkwX3_lay_8 ++ dktX3_lay_9
def dkwX3_lay_7 : List UInt8 := [180, 0, 133, 4, 28, 120, 128, 181, 0, 133, 42, 180, 0, 38, 28, 3, 79, 3, 54, 4, 21, 4, 16, 6]
abbrev dktX3_lay_7 : List UInt8 := dkwX3_lay_7 ++ dktX3_lay_8
def dkwX3_lay_6 : List UInt8 := [46, 79, 42, 180, 0, 32, 16, 6, 29, 104, 28, 96, 42, 180, 0, 13, 27, 6, 96, 46, 79, 177, 42, 89]
abbrev dktX3_lay_6 : List UInt8 := dkwX3_lay_6 ++ dktX3_lay_7
def dkwX3_lay_5 : List UInt8 := [177, 42, 28, 181, 0, 29, 177, 42, 180, 0, 32, 16, 6, 28, 104, 29, 96, 42, 180, 0, 13, 27, 6, 96]
abbrev dktX3_lay_5 : List UInt8 := dkwX3_lay_5 ++ dktX3_lay_6
def dkwX3_lay_4 : List UInt8 := [180, 0, 130, 4, 28, 120, 2, 130, 126, 181, 0, 130, 177, 42, 28, 181, 0, 22, 177, 42, 28, 181, 0, 26]
abbrev dktX3_lay_4 : List UInt8 := dkwX3_lay_4 ++ dktX3_lay_5
def dkwX3_lay_3 : List UInt8 := [180, 0, 13, 27, 7, 96, 46, 4, 160, 0, 14, 42, 180, 0, 130, 4, 28, 120, 128, 167, 0, 13, 42]
abbrev dktX3_lay_3 : List UInt8 := dkwX3_lay_3 ++ dktX3_lay_4
def dkwX3_lay_2 : List UInt8 := [42, 180, 0, 16, 28, 29, 79, 42, 180, 0, 19, 28, 42, 180, 0, 13, 27, 6, 96, 46, 79, 42, 42]
abbrev dktX3_lay_2 : List UInt8 := dkwX3_lay_2 ++ dktX3_lay_3
def dkwX3_lay_1 : List UInt8 := [170, 0, 0, 0, 0, 0, 0, 215, 0, 0, 0, 0, 0, 0, 0, 5, 0, 0, 0, 40, 0, 0, 0, 99, 0, 0, 0, 105, 0, 0, 0, 111, 0, 0, 0, 117, 0, 0, 0, 156]
abbrev dktX3_lay_1 : List UInt8 := dkwX3_lay_1 ++ dktX3_lay_2
def dkwX3_lay_0 : List UInt8 := [42, 180, 0, 13, 27, 4, 96, 46, 61, 42, 180, 0, 13, 27, 5, 96, 46, 62, 42, 180, 0, 13, 27, 46]
abbrev dktX3_lay_0 : List UInt8 := dkwX3_lay_0 ++ dktX3_lay_1
theorem dksX3_lay_0 : cX3_lay.data.toList.drop 0 = dktX3_lay_0 := by decide +kernel
theorem dksX3_lay_1 : cX3_lay.data.toList.drop 24 = dktX3_lay_1 := dk_seg dksX3_lay_0 24 rfl rfl
theorem dksX3_lay_2 : cX3_lay.data.toList.drop 64 = dktX3_lay_2 := dk_seg dksX3_lay_1 40 rfl rfl
theorem dksX3_lay_3 : cX3_lay.data.toList.drop 87 = dktX3_lay_3 := dk_seg dksX3_lay_2 23 rfl rfl
theorem dksX3_lay_4 : cX3_lay.data.toList.drop 110 = dktX3_lay_4 := dk_seg dksX3_lay_3 23 rfl rfl
theorem dksX3_lay_5 : cX3_lay.data.toList.drop 134 = dktX3_lay_5 := dk_seg dksX3_lay_4 24 rfl rfl
theorem dksX3_lay_6 : cX3_lay.data.toList.drop 158 = dktX3_lay_6 := dk_seg dksX3_lay_5 24 rfl rfl
theorem dksX3_lay_7 : cX3_lay.data.toList.drop 182 = dktX3_lay_7 := dk_seg dksX3_lay_6 24 rfl rfl
theorem dksX3_lay_8 : cX3_lay.data.toList.drop 206 = dktX3_lay_8 := dk_seg dksX3_lay_7 24 rfl rfl
theorem dksX3_lay_9 : cX3_lay.data.toList.drop 230 = dktX3_lay_9 := dk_seg dksX3_lay_8 24 rfl rfl
theorem dksX3_lay_10 : cX3_lay.data.toList.drop 254 = dktX3_lay_10 := dk_seg dksX3_lay_9 24 rfl rfl
theorem dksX3_lay_11 : cX3_lay.data.toList.drop 278 = dktX3_lay_11 := dk_seg dksX3_lay_10 24 rfl rfl
theorem dksX3_lay_12 : cX3_lay.data.toList.drop 301 = dktX3_lay_12 := dk_seg dksX3_lay_11 23 rfl rfl
theorem dX3_lay_0 : decode cX3_lay 0 = .ok (.aload_n 0, 1) := dk_42 (dk_at dksX3_lay_0 0 rfl rfl)
theorem dX3_lay_1 : decode cX3_lay 1 = .ok (.getfield 13, 3) := dk_180 0 13 (dk_at dksX3_lay_0 1 rfl rfl)
theorem dX3_lay_4 : decode cX3_lay 4 = .ok (.iload_n 1, 1) := dk_27 (dk_at dksX3_lay_0 4 rfl rfl)
theorem dX3_lay_5 : decode cX3_lay 5 = .ok (.iconst 1, 1) := dk_4 (dk_at dksX3_lay_0 5 rfl rfl)
theorem dX3_lay_6 : decode cX3_lay 6 = .ok (.iadd, 1) := dk_96 (dk_at dksX3_lay_0 6 rfl rfl)
theorem dX3_lay_7 : decode cX3_lay 7 = .ok (.iaload, 1) := dk_46 (dk_at dksX3_lay_0 7 rfl rfl)
theorem dX3_lay_8 : decode cX3_lay 8 = .ok (.istore_n 2, 1) := dk_61 (dk_at dksX3_lay_0 8 rfl rfl)
theorem dX3_lay_9 : decode cX3_lay 9 = .ok (.aload_n 0, 1) := dk_42 (dk_at dksX3_lay_0 9 rfl rfl)
theorem dX3_lay_10 : decode cX3_lay 10 = .ok (.getfield 13, 3) := dk_180 0 13 (dk_at dksX3_lay_0 10 rfl rfl)
theorem dX3_lay_13 : decode cX3_lay 13 = .ok (.iload_n 1, 1) := dk_27 (dk_at dksX3_lay_0 13 rfl rfl)
theorem dX3_lay_14 : decode cX3_lay 14 = .ok (.iconst 2, 1) := dk_5 (dk_at dksX3_lay_0 14 rfl rfl)
theorem dX3_lay_15 : decode cX3_lay 15 = .ok (.iadd, 1) := dk_96 (dk_at dksX3_lay_0 15 rfl rfl)
theorem dX3_lay_16 : decode cX3_lay 16 = .ok (.iaload, 1) := dk_46 (dk_at dksX3_lay_0 16 rfl rfl)
theorem dX3_lay_17 : decode cX3_lay 17 = .ok (.istore_n 3, 1) := dk_62 (dk_at dksX3_lay_0 17 rfl rfl)
theorem dX3_lay_18 : decode cX3_lay 18 = .ok (.aload_n 0, 1) := dk_42 (dk_at dksX3_lay_0 18 rfl rfl)
theorem dX3_lay_19 : decode cX3_lay 19 = .ok (.getfield 13, 3) := dk_180 0 13 (dk_at dksX3_lay_0 19 rfl rfl)
theorem dX3_lay_22 : decode cX3_lay 22 = .ok (.iload_n 1, 1) := dk_27 (dk_at dksX3_lay_0 22 rfl rfl)
theorem dX3_lay_23 : decode cX3_lay 23 = .ok (.iaload, 1) := dk_46 (dk_at dksX3_lay_0 23 rfl rfl)
theorem dX3_lay_24 : decode cX3_lay 24 = .ok (.tableswitch 215 0 5 #[40, 99, 105, 111, 117, 156], 40) := by decide +kernel
theorem dX3_lay_64 : decode cX3_lay 64 = .ok (.aload_n 0, 1) := dk_42 (dk_at dksX3_lay_2 0 rfl rfl)
theorem dX3_lay_65 : decode cX3_lay 65 = .ok (.getfield 16, 3) := dk_180 0 16 (dk_at dksX3_lay_2 1 rfl rfl)
theorem dX3_lay_68 : decode cX3_lay 68 = .ok (.iload_n 2, 1) := dk_28 (dk_at dksX3_lay_2 4 rfl rfl)
theorem dX3_lay_69 : decode cX3_lay 69 = .ok (.iload_n 3, 1) := dk_29 (dk_at dksX3_lay_2 5 rfl rfl)
theorem dX3_lay_70 : decode cX3_lay 70 = .ok (.iastore, 1) := dk_79 (dk_at dksX3_lay_2 6 rfl rfl)
theorem dX3_lay_71 : decode cX3_lay 71 = .ok (.aload_n 0, 1) := dk_42 (dk_at dksX3_lay_2 7 rfl rfl)
theorem dX3_lay_72 : decode cX3_lay 72 = .ok (.getfield 19, 3) := dk_180 0 19 (dk_at dksX3_lay_2 8 rfl rfl)
theorem dX3_lay_75 : decode cX3_lay 75 = .ok (.iload_n 2, 1) := dk_28 (dk_at dksX3_lay_2 11 rfl rfl)
theorem dX3_lay_76 : decode cX3_lay 76 = .ok (.aload_n 0, 1) := dk_42 (dk_at dksX3_lay_2 12 rfl rfl)
theorem dX3_lay_77 : decode cX3_lay 77 = .ok (.getfield 13, 3) := dk_180 0 13 (dk_at dksX3_lay_2 13 rfl rfl)
theorem dX3_lay_80 : decode cX3_lay 80 = .ok (.iload_n 1, 1) := dk_27 (dk_at dksX3_lay_2 16 rfl rfl)
theorem dX3_lay_81 : decode cX3_lay 81 = .ok (.iconst 3, 1) := dk_6 (dk_at dksX3_lay_2 17 rfl rfl)
theorem dX3_lay_82 : decode cX3_lay 82 = .ok (.iadd, 1) := dk_96 (dk_at dksX3_lay_2 18 rfl rfl)
theorem dX3_lay_83 : decode cX3_lay 83 = .ok (.iaload, 1) := dk_46 (dk_at dksX3_lay_2 19 rfl rfl)
theorem dX3_lay_84 : decode cX3_lay 84 = .ok (.iastore, 1) := dk_79 (dk_at dksX3_lay_2 20 rfl rfl)
theorem dX3_lay_85 : decode cX3_lay 85 = .ok (.aload_n 0, 1) := dk_42 (dk_at dksX3_lay_2 21 rfl rfl)
theorem dX3_lay_86 : decode cX3_lay 86 = .ok (.aload_n 0, 1) := dk_42 (dk_at dksX3_lay_2 22 rfl rfl)
theorem dX3_lay_87 : decode cX3_lay 87 = .ok (.getfield 13, 3) := dk_180 0 13 (dk_at dksX3_lay_3 0 rfl rfl)
theorem dX3_lay_90 : decode cX3_lay 90 = .ok (.iload_n 1, 1) := dk_27 (dk_at dksX3_lay_3 3 rfl rfl)
theorem dX3_lay_91 : decode cX3_lay 91 = .ok (.iconst 4, 1) := dk_7 (dk_at dksX3_lay_3 4 rfl rfl)
theorem dX3_lay_92 : decode cX3_lay 92 = .ok (.iadd, 1) := dk_96 (dk_at dksX3_lay_3 5 rfl rfl)
theorem dX3_lay_93 : decode cX3_lay 93 = .ok (.iaload, 1) := dk_46 (dk_at dksX3_lay_3 6 rfl rfl)
theorem dX3_lay_94 : decode cX3_lay 94 = .ok (.iconst 1, 1) := dk_4 (dk_at dksX3_lay_3 7 rfl rfl)
theorem dX3_lay_95 : decode cX3_lay 95 = .ok (.if_icmp .ne 14, 3) := dk_160 0 14 (dk_at dksX3_lay_3 8 rfl rfl)
theorem dX3_lay_98 : decode cX3_lay 98 = .ok (.aload_n 0, 1) := dk_42 (dk_at dksX3_lay_3 11 rfl rfl)
theorem dX3_lay_99 : decode cX3_lay 99 = .ok (.getfield 130, 3) := dk_180 0 130 (dk_at dksX3_lay_3 12 rfl rfl)
theorem dX3_lay_102 : decode cX3_lay 102 = .ok (.iconst 1, 1) := dk_4 (dk_at dksX3_lay_3 15 rfl rfl)
theorem dX3_lay_103 : decode cX3_lay 103 = .ok (.iload_n 2, 1) := dk_28 (dk_at dksX3_lay_3 16 rfl rfl)
theorem dX3_lay_104 : decode cX3_lay 104 = .ok (.ishl, 1) := dk_120 (dk_at dksX3_lay_3 17 rfl rfl)
theorem dX3_lay_105 : decode cX3_lay 105 = .ok (.ior, 1) := dk_128 (dk_at dksX3_lay_3 18 rfl rfl)
theorem dX3_lay_106 : decode cX3_lay 106 = .ok (.goto 13, 3) := dk_167 0 13 (dk_at dksX3_lay_3 19 rfl rfl)
theorem dX3_lay_109 : decode cX3_lay 109 = .ok (.aload_n 0, 1) := dk_42 (dk_at dksX3_lay_3 22 rfl rfl)
theorem dX3_lay_110 : decode cX3_lay 110 = .ok (.getfield 130, 3) := dk_180 0 130 (dk_at dksX3_lay_4 0 rfl rfl)
theorem dX3_lay_113 : decode cX3_lay 113 = .ok (.iconst 1, 1) := dk_4 (dk_at dksX3_lay_4 3 rfl rfl)
theorem dX3_lay_114 : decode cX3_lay 114 = .ok (.iload_n 2, 1) := dk_28 (dk_at dksX3_lay_4 4 rfl rfl)
theorem dX3_lay_115 : decode cX3_lay 115 = .ok (.ishl, 1) := dk_120 (dk_at dksX3_lay_4 5 rfl rfl)
theorem dX3_lay_116 : decode cX3_lay 116 = .ok (.iconst (-1), 1) := dk_2 (dk_at dksX3_lay_4 6 rfl rfl)
theorem dX3_lay_117 : decode cX3_lay 117 = .ok (.ixor, 1) := dk_130 (dk_at dksX3_lay_4 7 rfl rfl)
theorem dX3_lay_118 : decode cX3_lay 118 = .ok (.iand, 1) := dk_126 (dk_at dksX3_lay_4 8 rfl rfl)
theorem dX3_lay_119 : decode cX3_lay 119 = .ok (.putfield 130, 3) := dk_181 0 130 (dk_at dksX3_lay_4 9 rfl rfl)
theorem dX3_lay_122 : decode cX3_lay 122 = .ok (.return_, 1) := dk_177 (dk_at dksX3_lay_4 12 rfl rfl)
theorem dX3_lay_123 : decode cX3_lay 123 = .ok (.aload_n 0, 1) := dk_42 (dk_at dksX3_lay_4 13 rfl rfl)
theorem dX3_lay_124 : decode cX3_lay 124 = .ok (.iload_n 2, 1) := dk_28 (dk_at dksX3_lay_4 14 rfl rfl)
theorem dX3_lay_125 : decode cX3_lay 125 = .ok (.putfield 22, 3) := dk_181 0 22 (dk_at dksX3_lay_4 15 rfl rfl)
theorem dX3_lay_128 : decode cX3_lay 128 = .ok (.return_, 1) := dk_177 (dk_at dksX3_lay_4 18 rfl rfl)
theorem dX3_lay_129 : decode cX3_lay 129 = .ok (.aload_n 0, 1) := dk_42 (dk_at dksX3_lay_4 19 rfl rfl)
theorem dX3_lay_130 : decode cX3_lay 130 = .ok (.iload_n 2, 1) := dk_28 (dk_at dksX3_lay_4 20 rfl rfl)
theorem dX3_lay_131 : decode cX3_lay 131 = .ok (.putfield 26, 3) := dk_181 0 26 (dk_at dksX3_lay_4 21 rfl rfl)
theorem dX3_lay_134 : decode cX3_lay 134 = .ok (.return_, 1) := dk_177 (dk_at dksX3_lay_5 0 rfl rfl)
theorem dX3_lay_135 : decode cX3_lay 135 = .ok (.aload_n 0, 1) := dk_42 (dk_at dksX3_lay_5 1 rfl rfl)
theorem dX3_lay_136 : decode cX3_lay 136 = .ok (.iload_n 2, 1) := dk_28 (dk_at dksX3_lay_5 2 rfl rfl)
theorem dX3_lay_137 : decode cX3_lay 137 = .ok (.putfield 29, 3) := dk_181 0 29 (dk_at dksX3_lay_5 3 rfl rfl)
theorem dX3_lay_140 : decode cX3_lay 140 = .ok (.return_, 1) := dk_177 (dk_at dksX3_lay_5 6 rfl rfl)
theorem dX3_lay_141 : decode cX3_lay 141 = .ok (.aload_n 0, 1) := dk_42 (dk_at dksX3_lay_5 7 rfl rfl)
theorem dX3_lay_142 : decode cX3_lay 142 = .ok (.getfield 32, 3) := dk_180 0 32 (dk_at dksX3_lay_5 8 rfl rfl)
theorem dX3_lay_145 : decode cX3_lay 145 = .ok (.bipush 6, 2) := dk_16 6 (dk_at dksX3_lay_5 11 rfl rfl)
theorem dX3_lay_147 : decode cX3_lay 147 = .ok (.iload_n 2, 1) := dk_28 (dk_at dksX3_lay_5 13 rfl rfl)
theorem dX3_lay_148 : decode cX3_lay 148 = .ok (.imul, 1) := dk_104 (dk_at dksX3_lay_5 14 rfl rfl)
theorem dX3_lay_149 : decode cX3_lay 149 = .ok (.iload_n 3, 1) := dk_29 (dk_at dksX3_lay_5 15 rfl rfl)
theorem dX3_lay_150 : decode cX3_lay 150 = .ok (.iadd, 1) := dk_96 (dk_at dksX3_lay_5 16 rfl rfl)
theorem dX3_lay_151 : decode cX3_lay 151 = .ok (.aload_n 0, 1) := dk_42 (dk_at dksX3_lay_5 17 rfl rfl)
theorem dX3_lay_152 : decode cX3_lay 152 = .ok (.getfield 13, 3) := dk_180 0 13 (dk_at dksX3_lay_5 18 rfl rfl)
theorem dX3_lay_155 : decode cX3_lay 155 = .ok (.iload_n 1, 1) := dk_27 (dk_at dksX3_lay_5 21 rfl rfl)
theorem dX3_lay_156 : decode cX3_lay 156 = .ok (.iconst 3, 1) := dk_6 (dk_at dksX3_lay_5 22 rfl rfl)
theorem dX3_lay_157 : decode cX3_lay 157 = .ok (.iadd, 1) := dk_96 (dk_at dksX3_lay_5 23 rfl rfl)
theorem dX3_lay_158 : decode cX3_lay 158 = .ok (.iaload, 1) := dk_46 (dk_at dksX3_lay_6 0 rfl rfl)
theorem dX3_lay_159 : decode cX3_lay 159 = .ok (.iastore, 1) := dk_79 (dk_at dksX3_lay_6 1 rfl rfl)
theorem dX3_lay_160 : decode cX3_lay 160 = .ok (.aload_n 0, 1) := dk_42 (dk_at dksX3_lay_6 2 rfl rfl)
theorem dX3_lay_161 : decode cX3_lay 161 = .ok (.getfield 32, 3) := dk_180 0 32 (dk_at dksX3_lay_6 3 rfl rfl)
theorem dX3_lay_164 : decode cX3_lay 164 = .ok (.bipush 6, 2) := dk_16 6 (dk_at dksX3_lay_6 6 rfl rfl)
theorem dX3_lay_166 : decode cX3_lay 166 = .ok (.iload_n 3, 1) := dk_29 (dk_at dksX3_lay_6 8 rfl rfl)
theorem dX3_lay_167 : decode cX3_lay 167 = .ok (.imul, 1) := dk_104 (dk_at dksX3_lay_6 9 rfl rfl)
theorem dX3_lay_168 : decode cX3_lay 168 = .ok (.iload_n 2, 1) := dk_28 (dk_at dksX3_lay_6 10 rfl rfl)
theorem dX3_lay_169 : decode cX3_lay 169 = .ok (.iadd, 1) := dk_96 (dk_at dksX3_lay_6 11 rfl rfl)
theorem dX3_lay_170 : decode cX3_lay 170 = .ok (.aload_n 0, 1) := dk_42 (dk_at dksX3_lay_6 12 rfl rfl)
theorem dX3_lay_171 : decode cX3_lay 171 = .ok (.getfield 13, 3) := dk_180 0 13 (dk_at dksX3_lay_6 13 rfl rfl)
theorem dX3_lay_174 : decode cX3_lay 174 = .ok (.iload_n 1, 1) := dk_27 (dk_at dksX3_lay_6 16 rfl rfl)
theorem dX3_lay_175 : decode cX3_lay 175 = .ok (.iconst 3, 1) := dk_6 (dk_at dksX3_lay_6 17 rfl rfl)
theorem dX3_lay_176 : decode cX3_lay 176 = .ok (.iadd, 1) := dk_96 (dk_at dksX3_lay_6 18 rfl rfl)
theorem dX3_lay_177 : decode cX3_lay 177 = .ok (.iaload, 1) := dk_46 (dk_at dksX3_lay_6 19 rfl rfl)
theorem dX3_lay_178 : decode cX3_lay 178 = .ok (.iastore, 1) := dk_79 (dk_at dksX3_lay_6 20 rfl rfl)
theorem dX3_lay_179 : decode cX3_lay 179 = .ok (.return_, 1) := dk_177 (dk_at dksX3_lay_6 21 rfl rfl)
theorem dX3_lay_180 : decode cX3_lay 180 = .ok (.aload_n 0, 1) := dk_42 (dk_at dksX3_lay_6 22 rfl rfl)
theorem dX3_lay_181 : decode cX3_lay 181 = .ok (.dup, 1) := dk_89 (dk_at dksX3_lay_6 23 rfl rfl)
theorem dX3_lay_182 : decode cX3_lay 182 = .ok (.getfield 133, 3) := dk_180 0 133 (dk_at dksX3_lay_7 0 rfl rfl)
theorem dX3_lay_185 : decode cX3_lay 185 = .ok (.iconst 1, 1) := dk_4 (dk_at dksX3_lay_7 3 rfl rfl)
theorem dX3_lay_186 : decode cX3_lay 186 = .ok (.iload_n 2, 1) := dk_28 (dk_at dksX3_lay_7 4 rfl rfl)
theorem dX3_lay_187 : decode cX3_lay 187 = .ok (.ishl, 1) := dk_120 (dk_at dksX3_lay_7 5 rfl rfl)
theorem dX3_lay_188 : decode cX3_lay 188 = .ok (.ior, 1) := dk_128 (dk_at dksX3_lay_7 6 rfl rfl)
theorem dX3_lay_189 : decode cX3_lay 189 = .ok (.putfield 133, 3) := dk_181 0 133 (dk_at dksX3_lay_7 7 rfl rfl)
theorem dX3_lay_192 : decode cX3_lay 192 = .ok (.aload_n 0, 1) := dk_42 (dk_at dksX3_lay_7 10 rfl rfl)
theorem dX3_lay_193 : decode cX3_lay 193 = .ok (.getfield 38, 3) := dk_180 0 38 (dk_at dksX3_lay_7 11 rfl rfl)
theorem dX3_lay_196 : decode cX3_lay 196 = .ok (.iload_n 2, 1) := dk_28 (dk_at dksX3_lay_7 14 rfl rfl)
theorem dX3_lay_197 : decode cX3_lay 197 = .ok (.iconst 0, 1) := dk_3 (dk_at dksX3_lay_7 15 rfl rfl)
theorem dX3_lay_198 : decode cX3_lay 198 = .ok (.iastore, 1) := dk_79 (dk_at dksX3_lay_7 16 rfl rfl)
theorem dX3_lay_199 : decode cX3_lay 199 = .ok (.iconst 0, 1) := dk_3 (dk_at dksX3_lay_7 17 rfl rfl)
theorem dX3_lay_200 : decode cX3_lay 200 = .ok (.istore 4, 2) := dk_54 4 (dk_at dksX3_lay_7 18 rfl rfl)
theorem dX3_lay_202 : decode cX3_lay 202 = .ok (.iload 4, 2) := dk_21 4 (dk_at dksX3_lay_7 20 rfl rfl)
theorem dX3_lay_204 : decode cX3_lay 204 = .ok (.bipush 6, 2) := dk_16 6 (dk_at dksX3_lay_7 22 rfl rfl)
theorem dX3_lay_206 : decode cX3_lay 206 = .ok (.if_icmp .ge 32, 3) := dk_162 0 32 (dk_at dksX3_lay_8 0 rfl rfl)
theorem dX3_lay_209 : decode cX3_lay 209 = .ok (.aload_n 0, 1) := dk_42 (dk_at dksX3_lay_8 3 rfl rfl)
theorem dX3_lay_210 : decode cX3_lay 210 = .ok (.getfield 35, 3) := dk_180 0 35 (dk_at dksX3_lay_8 4 rfl rfl)
theorem dX3_lay_213 : decode cX3_lay 213 = .ok (.bipush 6, 2) := dk_16 6 (dk_at dksX3_lay_8 7 rfl rfl)
theorem dX3_lay_215 : decode cX3_lay 215 = .ok (.iload_n 2, 1) := dk_28 (dk_at dksX3_lay_8 9 rfl rfl)
theorem dX3_lay_216 : decode cX3_lay 216 = .ok (.imul, 1) := dk_104 (dk_at dksX3_lay_8 10 rfl rfl)
theorem dX3_lay_217 : decode cX3_lay 217 = .ok (.iload 4, 2) := dk_21 4 (dk_at dksX3_lay_8 11 rfl rfl)
theorem dX3_lay_219 : decode cX3_lay 219 = .ok (.iadd, 1) := dk_96 (dk_at dksX3_lay_8 13 rfl rfl)
theorem dX3_lay_220 : decode cX3_lay 220 = .ok (.aload_n 0, 1) := dk_42 (dk_at dksX3_lay_8 14 rfl rfl)
theorem dX3_lay_221 : decode cX3_lay 221 = .ok (.getfield 13, 3) := dk_180 0 13 (dk_at dksX3_lay_8 15 rfl rfl)
theorem dX3_lay_224 : decode cX3_lay 224 = .ok (.iload_n 1, 1) := dk_27 (dk_at dksX3_lay_8 18 rfl rfl)
theorem dX3_lay_225 : decode cX3_lay 225 = .ok (.iconst 2, 1) := dk_5 (dk_at dksX3_lay_8 19 rfl rfl)
theorem dX3_lay_226 : decode cX3_lay 226 = .ok (.iadd, 1) := dk_96 (dk_at dksX3_lay_8 20 rfl rfl)
theorem dX3_lay_227 : decode cX3_lay 227 = .ok (.iload 4, 2) := dk_21 4 (dk_at dksX3_lay_8 21 rfl rfl)
theorem dX3_lay_229 : decode cX3_lay 229 = .ok (.iadd, 1) := dk_96 (dk_at dksX3_lay_8 23 rfl rfl)
theorem dX3_lay_230 : decode cX3_lay 230 = .ok (.iaload, 1) := dk_46 (dk_at dksX3_lay_9 0 rfl rfl)
theorem dX3_lay_231 : decode cX3_lay 231 = .ok (.iastore, 1) := dk_79 (dk_at dksX3_lay_9 1 rfl rfl)
theorem dX3_lay_232 : decode cX3_lay 232 = .ok (.iinc 4 1, 3) := dk_132 4 1 (dk_at dksX3_lay_9 2 rfl rfl)
theorem dX3_lay_235 : decode cX3_lay 235 = .ok (.goto (-33), 3) := dk_167 255 223 (dk_at dksX3_lay_9 5 rfl rfl)
theorem dX3_lay_238 : decode cX3_lay 238 = .ok (.return_, 1) := dk_177 (dk_at dksX3_lay_9 8 rfl rfl)
theorem dX3_lay_239 : decode cX3_lay 239 = .ok (.aload_n 0, 1) := dk_42 (dk_at dksX3_lay_9 9 rfl rfl)
theorem dX3_lay_240 : decode cX3_lay 240 = .ok (.getfield 133, 3) := dk_180 0 133 (dk_at dksX3_lay_9 10 rfl rfl)
theorem dX3_lay_243 : decode cX3_lay 243 = .ok (.iload_n 2, 1) := dk_28 (dk_at dksX3_lay_9 13 rfl rfl)
theorem dX3_lay_244 : decode cX3_lay 244 = .ok (.invokestatic 85, 3) := dk_184 0 85 (dk_at dksX3_lay_9 14 rfl rfl)
theorem dX3_lay_247 : decode cX3_lay 247 = .ok (.ifCond .eq 70, 3) := dk_153 0 70 (dk_at dksX3_lay_9 17 rfl rfl)
theorem dX3_lay_250 : decode cX3_lay 250 = .ok (.aload_n 0, 1) := dk_42 (dk_at dksX3_lay_9 20 rfl rfl)
theorem dX3_lay_251 : decode cX3_lay 251 = .ok (.getfield 38, 3) := dk_180 0 38 (dk_at dksX3_lay_9 21 rfl rfl)
theorem dX3_lay_254 : decode cX3_lay 254 = .ok (.iload_n 2, 1) := dk_28 (dk_at dksX3_lay_10 0 rfl rfl)
theorem dX3_lay_255 : decode cX3_lay 255 = .ok (.iaload, 1) := dk_46 (dk_at dksX3_lay_10 1 rfl rfl)
theorem dX3_lay_256 : decode cX3_lay 256 = .ok (.iconst 4, 1) := dk_7 (dk_at dksX3_lay_10 2 rfl rfl)
theorem dX3_lay_257 : decode cX3_lay 257 = .ok (.if_icmp .ge 60, 3) := dk_162 0 60 (dk_at dksX3_lay_10 3 rfl rfl)
theorem dX3_lay_260 : decode cX3_lay 260 = .ok (.iconst 0, 1) := dk_3 (dk_at dksX3_lay_10 6 rfl rfl)
theorem dX3_lay_261 : decode cX3_lay 261 = .ok (.istore 4, 2) := dk_54 4 (dk_at dksX3_lay_10 7 rfl rfl)
theorem dX3_lay_263 : decode cX3_lay 263 = .ok (.iload 4, 2) := dk_21 4 (dk_at dksX3_lay_10 9 rfl rfl)
theorem dX3_lay_265 : decode cX3_lay 265 = .ok (.iconst 4, 1) := dk_7 (dk_at dksX3_lay_10 11 rfl rfl)
theorem dX3_lay_266 : decode cX3_lay 266 = .ok (.if_icmp .ge 41, 3) := dk_162 0 41 (dk_at dksX3_lay_10 12 rfl rfl)
theorem dX3_lay_269 : decode cX3_lay 269 = .ok (.aload_n 0, 1) := dk_42 (dk_at dksX3_lay_10 15 rfl rfl)
theorem dX3_lay_270 : decode cX3_lay 270 = .ok (.getfield 41, 3) := dk_180 0 41 (dk_at dksX3_lay_10 16 rfl rfl)
theorem dX3_lay_273 : decode cX3_lay 273 = .ok (.bipush 16, 2) := dk_16 16 (dk_at dksX3_lay_10 19 rfl rfl)
theorem dX3_lay_275 : decode cX3_lay 275 = .ok (.iload_n 2, 1) := dk_28 (dk_at dksX3_lay_10 21 rfl rfl)
theorem dX3_lay_276 : decode cX3_lay 276 = .ok (.imul, 1) := dk_104 (dk_at dksX3_lay_10 22 rfl rfl)
theorem dX3_lay_277 : decode cX3_lay 277 = .ok (.iconst 4, 1) := dk_7 (dk_at dksX3_lay_10 23 rfl rfl)
theorem dX3_lay_278 : decode cX3_lay 278 = .ok (.aload_n 0, 1) := dk_42 (dk_at dksX3_lay_11 0 rfl rfl)
theorem dX3_lay_279 : decode cX3_lay 279 = .ok (.getfield 38, 3) := dk_180 0 38 (dk_at dksX3_lay_11 1 rfl rfl)
theorem dX3_lay_282 : decode cX3_lay 282 = .ok (.iload_n 2, 1) := dk_28 (dk_at dksX3_lay_11 4 rfl rfl)
theorem dX3_lay_283 : decode cX3_lay 283 = .ok (.iaload, 1) := dk_46 (dk_at dksX3_lay_11 5 rfl rfl)
theorem dX3_lay_284 : decode cX3_lay 284 = .ok (.imul, 1) := dk_104 (dk_at dksX3_lay_11 6 rfl rfl)
theorem dX3_lay_285 : decode cX3_lay 285 = .ok (.iadd, 1) := dk_96 (dk_at dksX3_lay_11 7 rfl rfl)
theorem dX3_lay_286 : decode cX3_lay 286 = .ok (.iload 4, 2) := dk_21 4 (dk_at dksX3_lay_11 8 rfl rfl)
theorem dX3_lay_288 : decode cX3_lay 288 = .ok (.iadd, 1) := dk_96 (dk_at dksX3_lay_11 10 rfl rfl)
theorem dX3_lay_289 : decode cX3_lay 289 = .ok (.aload_n 0, 1) := dk_42 (dk_at dksX3_lay_11 11 rfl rfl)
theorem dX3_lay_290 : decode cX3_lay 290 = .ok (.getfield 13, 3) := dk_180 0 13 (dk_at dksX3_lay_11 12 rfl rfl)
theorem dX3_lay_293 : decode cX3_lay 293 = .ok (.iload_n 1, 1) := dk_27 (dk_at dksX3_lay_11 15 rfl rfl)
theorem dX3_lay_294 : decode cX3_lay 294 = .ok (.iconst 2, 1) := dk_5 (dk_at dksX3_lay_11 16 rfl rfl)
theorem dX3_lay_295 : decode cX3_lay 295 = .ok (.iadd, 1) := dk_96 (dk_at dksX3_lay_11 17 rfl rfl)
theorem dX3_lay_296 : decode cX3_lay 296 = .ok (.iload 4, 2) := dk_21 4 (dk_at dksX3_lay_11 18 rfl rfl)
theorem dX3_lay_298 : decode cX3_lay 298 = .ok (.iadd, 1) := dk_96 (dk_at dksX3_lay_11 20 rfl rfl)
theorem dX3_lay_299 : decode cX3_lay 299 = .ok (.iaload, 1) := dk_46 (dk_at dksX3_lay_11 21 rfl rfl)
theorem dX3_lay_300 : decode cX3_lay 300 = .ok (.iastore, 1) := dk_79 (dk_at dksX3_lay_11 22 rfl rfl)
theorem dX3_lay_301 : decode cX3_lay 301 = .ok (.iinc 4 1, 3) := dk_132 4 1 (dk_at dksX3_lay_12 0 rfl rfl)
theorem dX3_lay_304 : decode cX3_lay 304 = .ok (.goto (-41), 3) := dk_167 255 215 (dk_at dksX3_lay_12 3 rfl rfl)
theorem dX3_lay_307 : decode cX3_lay 307 = .ok (.aload_n 0, 1) := dk_42 (dk_at dksX3_lay_12 6 rfl rfl)
theorem dX3_lay_308 : decode cX3_lay 308 = .ok (.getfield 38, 3) := dk_180 0 38 (dk_at dksX3_lay_12 7 rfl rfl)
theorem dX3_lay_311 : decode cX3_lay 311 = .ok (.iload_n 2, 1) := dk_28 (dk_at dksX3_lay_12 10 rfl rfl)
theorem dX3_lay_312 : decode cX3_lay 312 = .ok (.dup2, 1) := dk_92 (dk_at dksX3_lay_12 11 rfl rfl)
theorem dX3_lay_313 : decode cX3_lay 313 = .ok (.iaload, 1) := dk_46 (dk_at dksX3_lay_12 12 rfl rfl)
theorem dX3_lay_314 : decode cX3_lay 314 = .ok (.iconst 1, 1) := dk_4 (dk_at dksX3_lay_12 13 rfl rfl)
theorem dX3_lay_315 : decode cX3_lay 315 = .ok (.iadd, 1) := dk_96 (dk_at dksX3_lay_12 14 rfl rfl)
theorem dX3_lay_316 : decode cX3_lay 316 = .ok (.iastore, 1) := dk_79 (dk_at dksX3_lay_12 15 rfl rfl)
theorem dX3_lay_317 : decode cX3_lay 317 = .ok (.return_, 1) := dk_177 (dk_at dksX3_lay_12 16 rfl rfl)
abbrev cX3_thing : ByteArray := prog_12_method_21_code
def yX3_thing : MethodName := ⟨RX3, "thing", "(II)I"⟩
def dkwX3_thing_2 : List UInt8 := [4, 126, 167, 0, 5, 16, 253, 172]
abbrev dktX3_thing_2 : List UInt8 := dkwX3_thing_2 ++ []
def dkwX3_thing_1 : List UInt8 := [4, 160, 0, 12, 42, 180, 0, 19, 27, 46, 167, 0, 21, 28, 5, 160, 0, 14, 42, 180, 0, 130, 27, 122]
abbrev dktX3_thing_1 : List UInt8 := dkwX3_thing_1 ++ dktX3_thing_2
def dkwX3_thing_0 : List UInt8 := [27, 184, 0, 145, 154, 0, 6, 16, 254, 172, 28, 154, 0, 12, 42, 180, 0, 16, 27, 46, 167, 0, 35, 28]
abbrev dktX3_thing_0 : List UInt8 := dkwX3_thing_0 ++ dktX3_thing_1
theorem dksX3_thing_0 : cX3_thing.data.toList.drop 0 = dktX3_thing_0 := by decide +kernel
theorem dksX3_thing_1 : cX3_thing.data.toList.drop 24 = dktX3_thing_1 := dk_seg dksX3_thing_0 24 rfl rfl
theorem dksX3_thing_2 : cX3_thing.data.toList.drop 48 = dktX3_thing_2 := dk_seg dksX3_thing_1 24 rfl rfl
theorem dX3_thing_0 : decode cX3_thing 0 = .ok (.iload_n 1, 1) := dk_27 (dk_at dksX3_thing_0 0 rfl rfl)
theorem dX3_thing_1 : decode cX3_thing 1 = .ok (.invokestatic 145, 3) := dk_184 0 145 (dk_at dksX3_thing_0 1 rfl rfl)
theorem dX3_thing_4 : decode cX3_thing 4 = .ok (.ifCond .ne 6, 3) := dk_154 0 6 (dk_at dksX3_thing_0 4 rfl rfl)
theorem dX3_thing_7 : decode cX3_thing 7 = .ok (.bipush (-2), 2) := dk_16 254 (dk_at dksX3_thing_0 7 rfl rfl)
theorem dX3_thing_9 : decode cX3_thing 9 = .ok (.ireturn, 1) := dk_172 (dk_at dksX3_thing_0 9 rfl rfl)
theorem dX3_thing_10 : decode cX3_thing 10 = .ok (.iload_n 2, 1) := dk_28 (dk_at dksX3_thing_0 10 rfl rfl)
theorem dX3_thing_11 : decode cX3_thing 11 = .ok (.ifCond .ne 12, 3) := dk_154 0 12 (dk_at dksX3_thing_0 11 rfl rfl)
theorem dX3_thing_14 : decode cX3_thing 14 = .ok (.aload_n 0, 1) := dk_42 (dk_at dksX3_thing_0 14 rfl rfl)
theorem dX3_thing_15 : decode cX3_thing 15 = .ok (.getfield 16, 3) := dk_180 0 16 (dk_at dksX3_thing_0 15 rfl rfl)
theorem dX3_thing_18 : decode cX3_thing 18 = .ok (.iload_n 1, 1) := dk_27 (dk_at dksX3_thing_0 18 rfl rfl)
theorem dX3_thing_19 : decode cX3_thing 19 = .ok (.iaload, 1) := dk_46 (dk_at dksX3_thing_0 19 rfl rfl)
theorem dX3_thing_20 : decode cX3_thing 20 = .ok (.goto 35, 3) := dk_167 0 35 (dk_at dksX3_thing_0 20 rfl rfl)
theorem dX3_thing_23 : decode cX3_thing 23 = .ok (.iload_n 2, 1) := dk_28 (dk_at dksX3_thing_0 23 rfl rfl)
theorem dX3_thing_24 : decode cX3_thing 24 = .ok (.iconst 1, 1) := dk_4 (dk_at dksX3_thing_1 0 rfl rfl)
theorem dX3_thing_25 : decode cX3_thing 25 = .ok (.if_icmp .ne 12, 3) := dk_160 0 12 (dk_at dksX3_thing_1 1 rfl rfl)
theorem dX3_thing_28 : decode cX3_thing 28 = .ok (.aload_n 0, 1) := dk_42 (dk_at dksX3_thing_1 4 rfl rfl)
theorem dX3_thing_29 : decode cX3_thing 29 = .ok (.getfield 19, 3) := dk_180 0 19 (dk_at dksX3_thing_1 5 rfl rfl)
theorem dX3_thing_32 : decode cX3_thing 32 = .ok (.iload_n 1, 1) := dk_27 (dk_at dksX3_thing_1 8 rfl rfl)
theorem dX3_thing_33 : decode cX3_thing 33 = .ok (.iaload, 1) := dk_46 (dk_at dksX3_thing_1 9 rfl rfl)
theorem dX3_thing_34 : decode cX3_thing 34 = .ok (.goto 21, 3) := dk_167 0 21 (dk_at dksX3_thing_1 10 rfl rfl)
theorem dX3_thing_37 : decode cX3_thing 37 = .ok (.iload_n 2, 1) := dk_28 (dk_at dksX3_thing_1 13 rfl rfl)
theorem dX3_thing_38 : decode cX3_thing 38 = .ok (.iconst 2, 1) := dk_5 (dk_at dksX3_thing_1 14 rfl rfl)
theorem dX3_thing_39 : decode cX3_thing 39 = .ok (.if_icmp .ne 14, 3) := dk_160 0 14 (dk_at dksX3_thing_1 15 rfl rfl)
theorem dX3_thing_42 : decode cX3_thing 42 = .ok (.aload_n 0, 1) := dk_42 (dk_at dksX3_thing_1 18 rfl rfl)
theorem dX3_thing_43 : decode cX3_thing 43 = .ok (.getfield 130, 3) := dk_180 0 130 (dk_at dksX3_thing_1 19 rfl rfl)
theorem dX3_thing_46 : decode cX3_thing 46 = .ok (.iload_n 1, 1) := dk_27 (dk_at dksX3_thing_1 22 rfl rfl)
theorem dX3_thing_47 : decode cX3_thing 47 = .ok (.ishr, 1) := dk_122 (dk_at dksX3_thing_1 23 rfl rfl)
theorem dX3_thing_48 : decode cX3_thing 48 = .ok (.iconst 1, 1) := dk_4 (dk_at dksX3_thing_2 0 rfl rfl)
theorem dX3_thing_49 : decode cX3_thing 49 = .ok (.iand, 1) := dk_126 (dk_at dksX3_thing_2 1 rfl rfl)
theorem dX3_thing_50 : decode cX3_thing 50 = .ok (.goto 5, 3) := dk_167 0 5 (dk_at dksX3_thing_2 2 rfl rfl)
theorem dX3_thing_53 : decode cX3_thing 53 = .ok (.bipush (-3), 2) := dk_16 253 (dk_at dksX3_thing_2 5 rfl rfl)
theorem dX3_thing_55 : decode cX3_thing 55 = .ok (.ireturn, 1) := dk_172 (dk_at dksX3_thing_2 7 rfl rfl)
abbrev cX3_isThing : ByteArray := prog_12_method_19_code
def yX3_isThing : MethodName := ⟨RX3, "isThing", "(I)Z"⟩
def dkwX3_isThing_0 : List UInt8 := [26, 133, 9, 20, 0, 83, 184, 0, 55, 172]
abbrev dktX3_isThing_0 : List UInt8 := dkwX3_isThing_0 ++ []
theorem dksX3_isThing_0 : cX3_isThing.data.toList.drop 0 = dktX3_isThing_0 := by decide +kernel
theorem dX3_isThing_0 : decode cX3_isThing 0 = .ok (.iload_n 0, 1) := dk_26 (dk_at dksX3_isThing_0 0 rfl rfl)
theorem dX3_isThing_1 : decode cX3_isThing 1 = .ok (.i2l, 1) := dk_133 (dk_at dksX3_isThing_0 1 rfl rfl)
theorem dX3_isThing_2 : decode cX3_isThing 2 = .ok (.lconst 0, 1) := dk_9 (dk_at dksX3_isThing_0 2 rfl rfl)
theorem dX3_isThing_3 : decode cX3_isThing 3 = .ok (.ldc2_w 83, 3) := dk_20 0 83 (dk_at dksX3_isThing_0 3 rfl rfl)
theorem dX3_isThing_6 : decode cX3_isThing 6 = .ok (.invokestatic 55, 3) := dk_184 0 55 (dk_at dksX3_isThing_0 6 rfl rfl)
theorem dX3_isThing_9 : decode cX3_isThing 9 = .ok (.ireturn, 1) := dk_172 (dk_at dksX3_isThing_0 9 rfl rfl)
abbrev cX3_call : ByteArray := prog_12_method_22_code
def yX3_call : MethodName := ⟨RX3, "call", "(II)I"⟩
def dkwX3_call_2 : List UInt8 := [46, 167, 0, 5, 16, 253, 172]
abbrev dktX3_call_2 : List UInt8 := dkwX3_call_2 ++ []
def dkwX3_call_1 : List UInt8 := [180, 0, 35, 16, 6, 27, 104, 28, 96, 46, 167, 0, 20, 28, 16, 6, 160, 0, 12, 42, 180, 0, 38, 27]
abbrev dktX3_call_1 : List UInt8 := dkwX3_call_1 ++ dktX3_call_2
def dkwX3_call_0 : List UInt8 := [42, 27, 182, 0, 148, 154, 0, 6, 16, 254, 172, 28, 133, 9, 20, 0, 143, 184, 0, 55, 153, 0, 17, 42]
abbrev dktX3_call_0 : List UInt8 := dkwX3_call_0 ++ dktX3_call_1
theorem dksX3_call_0 : cX3_call.data.toList.drop 0 = dktX3_call_0 := by decide +kernel
theorem dksX3_call_1 : cX3_call.data.toList.drop 24 = dktX3_call_1 := dk_seg dksX3_call_0 24 rfl rfl
theorem dksX3_call_2 : cX3_call.data.toList.drop 48 = dktX3_call_2 := dk_seg dksX3_call_1 24 rfl rfl
theorem dX3_call_0 : decode cX3_call 0 = .ok (.aload_n 0, 1) := dk_42 (dk_at dksX3_call_0 0 rfl rfl)
theorem dX3_call_1 : decode cX3_call 1 = .ok (.iload_n 1, 1) := dk_27 (dk_at dksX3_call_0 1 rfl rfl)
theorem dX3_call_2 : decode cX3_call 2 = .ok (.invokevirtual 148, 3) := dk_182 0 148 (dk_at dksX3_call_0 2 rfl rfl)
theorem dX3_call_5 : decode cX3_call 5 = .ok (.ifCond .ne 6, 3) := dk_154 0 6 (dk_at dksX3_call_0 5 rfl rfl)
theorem dX3_call_8 : decode cX3_call 8 = .ok (.bipush (-2), 2) := dk_16 254 (dk_at dksX3_call_0 8 rfl rfl)
theorem dX3_call_10 : decode cX3_call 10 = .ok (.ireturn, 1) := dk_172 (dk_at dksX3_call_0 10 rfl rfl)
theorem dX3_call_11 : decode cX3_call 11 = .ok (.iload_n 2, 1) := dk_28 (dk_at dksX3_call_0 11 rfl rfl)
theorem dX3_call_12 : decode cX3_call 12 = .ok (.i2l, 1) := dk_133 (dk_at dksX3_call_0 12 rfl rfl)
theorem dX3_call_13 : decode cX3_call 13 = .ok (.lconst 0, 1) := dk_9 (dk_at dksX3_call_0 13 rfl rfl)
theorem dX3_call_14 : decode cX3_call 14 = .ok (.ldc2_w 143, 3) := dk_20 0 143 (dk_at dksX3_call_0 14 rfl rfl)
theorem dX3_call_17 : decode cX3_call 17 = .ok (.invokestatic 55, 3) := dk_184 0 55 (dk_at dksX3_call_0 17 rfl rfl)
theorem dX3_call_20 : decode cX3_call 20 = .ok (.ifCond .eq 17, 3) := dk_153 0 17 (dk_at dksX3_call_0 20 rfl rfl)
theorem dX3_call_23 : decode cX3_call 23 = .ok (.aload_n 0, 1) := dk_42 (dk_at dksX3_call_0 23 rfl rfl)
theorem dX3_call_24 : decode cX3_call 24 = .ok (.getfield 35, 3) := dk_180 0 35 (dk_at dksX3_call_1 0 rfl rfl)
theorem dX3_call_27 : decode cX3_call 27 = .ok (.bipush 6, 2) := dk_16 6 (dk_at dksX3_call_1 3 rfl rfl)
theorem dX3_call_29 : decode cX3_call 29 = .ok (.iload_n 1, 1) := dk_27 (dk_at dksX3_call_1 5 rfl rfl)
theorem dX3_call_30 : decode cX3_call 30 = .ok (.imul, 1) := dk_104 (dk_at dksX3_call_1 6 rfl rfl)
theorem dX3_call_31 : decode cX3_call 31 = .ok (.iload_n 2, 1) := dk_28 (dk_at dksX3_call_1 7 rfl rfl)
theorem dX3_call_32 : decode cX3_call 32 = .ok (.iadd, 1) := dk_96 (dk_at dksX3_call_1 8 rfl rfl)
theorem dX3_call_33 : decode cX3_call 33 = .ok (.iaload, 1) := dk_46 (dk_at dksX3_call_1 9 rfl rfl)
theorem dX3_call_34 : decode cX3_call 34 = .ok (.goto 20, 3) := dk_167 0 20 (dk_at dksX3_call_1 10 rfl rfl)
theorem dX3_call_37 : decode cX3_call 37 = .ok (.iload_n 2, 1) := dk_28 (dk_at dksX3_call_1 13 rfl rfl)
theorem dX3_call_38 : decode cX3_call 38 = .ok (.bipush 6, 2) := dk_16 6 (dk_at dksX3_call_1 14 rfl rfl)
theorem dX3_call_40 : decode cX3_call 40 = .ok (.if_icmp .ne 12, 3) := dk_160 0 12 (dk_at dksX3_call_1 16 rfl rfl)
theorem dX3_call_43 : decode cX3_call 43 = .ok (.aload_n 0, 1) := dk_42 (dk_at dksX3_call_1 19 rfl rfl)
theorem dX3_call_44 : decode cX3_call 44 = .ok (.getfield 38, 3) := dk_180 0 38 (dk_at dksX3_call_1 20 rfl rfl)
theorem dX3_call_47 : decode cX3_call 47 = .ok (.iload_n 1, 1) := dk_27 (dk_at dksX3_call_1 23 rfl rfl)
theorem dX3_call_48 : decode cX3_call 48 = .ok (.iaload, 1) := dk_46 (dk_at dksX3_call_2 0 rfl rfl)
theorem dX3_call_49 : decode cX3_call 49 = .ok (.goto 5, 3) := dk_167 0 5 (dk_at dksX3_call_2 1 rfl rfl)
theorem dX3_call_52 : decode cX3_call 52 = .ok (.bipush (-3), 2) := dk_16 253 (dk_at dksX3_call_2 4 rfl rfl)
theorem dX3_call_54 : decode cX3_call 54 = .ok (.ireturn, 1) := dk_172 (dk_at dksX3_call_2 6 rfl rfl)
abbrev cX3_isCall : ByteArray := prog_12_method_20_code
def yX3_isCall : MethodName := ⟨RX3, "isCall", "(I)Z"⟩
def dkwX3_isCall_1 : List UInt8 := [167, 0, 4, 3, 172]
abbrev dktX3_isCall_1 : List UInt8 := dkwX3_isCall_1 ++ []
def dkwX3_isCall_0 : List UInt8 := [27, 133, 9, 20, 0, 143, 184, 0, 55, 153, 0, 18, 42, 180, 0, 133, 27, 184, 0, 85, 153, 0, 7, 4]
abbrev dktX3_isCall_0 : List UInt8 := dkwX3_isCall_0 ++ dktX3_isCall_1
theorem dksX3_isCall_0 : cX3_isCall.data.toList.drop 0 = dktX3_isCall_0 := by decide +kernel
theorem dksX3_isCall_1 : cX3_isCall.data.toList.drop 24 = dktX3_isCall_1 := dk_seg dksX3_isCall_0 24 rfl rfl
theorem dX3_isCall_0 : decode cX3_isCall 0 = .ok (.iload_n 1, 1) := dk_27 (dk_at dksX3_isCall_0 0 rfl rfl)
theorem dX3_isCall_1 : decode cX3_isCall 1 = .ok (.i2l, 1) := dk_133 (dk_at dksX3_isCall_0 1 rfl rfl)
theorem dX3_isCall_2 : decode cX3_isCall 2 = .ok (.lconst 0, 1) := dk_9 (dk_at dksX3_isCall_0 2 rfl rfl)
theorem dX3_isCall_3 : decode cX3_isCall 3 = .ok (.ldc2_w 143, 3) := dk_20 0 143 (dk_at dksX3_isCall_0 3 rfl rfl)
theorem dX3_isCall_6 : decode cX3_isCall 6 = .ok (.invokestatic 55, 3) := dk_184 0 55 (dk_at dksX3_isCall_0 6 rfl rfl)
theorem dX3_isCall_9 : decode cX3_isCall 9 = .ok (.ifCond .eq 18, 3) := dk_153 0 18 (dk_at dksX3_isCall_0 9 rfl rfl)
theorem dX3_isCall_12 : decode cX3_isCall 12 = .ok (.aload_n 0, 1) := dk_42 (dk_at dksX3_isCall_0 12 rfl rfl)
theorem dX3_isCall_13 : decode cX3_isCall 13 = .ok (.getfield 133, 3) := dk_180 0 133 (dk_at dksX3_isCall_0 13 rfl rfl)
theorem dX3_isCall_16 : decode cX3_isCall 16 = .ok (.iload_n 1, 1) := dk_27 (dk_at dksX3_isCall_0 16 rfl rfl)
theorem dX3_isCall_17 : decode cX3_isCall 17 = .ok (.invokestatic 85, 3) := dk_184 0 85 (dk_at dksX3_isCall_0 17 rfl rfl)
theorem dX3_isCall_20 : decode cX3_isCall 20 = .ok (.ifCond .eq 7, 3) := dk_153 0 7 (dk_at dksX3_isCall_0 20 rfl rfl)
theorem dX3_isCall_23 : decode cX3_isCall 23 = .ok (.iconst 1, 1) := dk_4 (dk_at dksX3_isCall_0 23 rfl rfl)
theorem dX3_isCall_24 : decode cX3_isCall 24 = .ok (.goto 4, 3) := dk_167 0 4 (dk_at dksX3_isCall_1 0 rfl rfl)
theorem dX3_isCall_27 : decode cX3_isCall 27 = .ok (.iconst 0, 1) := dk_3 (dk_at dksX3_isCall_1 3 rfl rfl)
theorem dX3_isCall_28 : decode cX3_isCall 28 = .ok (.ireturn, 1) := dk_172 (dk_at dksX3_isCall_1 4 rfl rfl)
abbrev cX3_sort : ByteArray := prog_12_method_24_code
def yX3_sort : MethodName := ⟨RX3, "sort", "(III)I"⟩
def dkwX3_sort_1 : List UInt8 := [42, 180, 0, 41, 16, 16, 27, 104, 7, 28, 104, 96, 29, 96, 46, 167, 0, 5, 16, 253, 172]
abbrev dktX3_sort_1 : List UInt8 := dkwX3_sort_1 ++ []
def dkwX3_sort_0 : List UInt8 := [42, 27, 28, 182, 0, 151, 154, 0, 6, 16, 254, 172, 29, 133, 9, 20, 0, 154, 184, 0, 55, 153, 0, 21]
abbrev dktX3_sort_0 : List UInt8 := dkwX3_sort_0 ++ dktX3_sort_1
theorem dksX3_sort_0 : cX3_sort.data.toList.drop 0 = dktX3_sort_0 := by decide +kernel
theorem dksX3_sort_1 : cX3_sort.data.toList.drop 24 = dktX3_sort_1 := dk_seg dksX3_sort_0 24 rfl rfl
theorem dX3_sort_0 : decode cX3_sort 0 = .ok (.aload_n 0, 1) := dk_42 (dk_at dksX3_sort_0 0 rfl rfl)
theorem dX3_sort_1 : decode cX3_sort 1 = .ok (.iload_n 1, 1) := dk_27 (dk_at dksX3_sort_0 1 rfl rfl)
theorem dX3_sort_2 : decode cX3_sort 2 = .ok (.iload_n 2, 1) := dk_28 (dk_at dksX3_sort_0 2 rfl rfl)
theorem dX3_sort_3 : decode cX3_sort 3 = .ok (.invokevirtual 151, 3) := dk_182 0 151 (dk_at dksX3_sort_0 3 rfl rfl)
theorem dX3_sort_6 : decode cX3_sort 6 = .ok (.ifCond .ne 6, 3) := dk_154 0 6 (dk_at dksX3_sort_0 6 rfl rfl)
theorem dX3_sort_9 : decode cX3_sort 9 = .ok (.bipush (-2), 2) := dk_16 254 (dk_at dksX3_sort_0 9 rfl rfl)
theorem dX3_sort_11 : decode cX3_sort 11 = .ok (.ireturn, 1) := dk_172 (dk_at dksX3_sort_0 11 rfl rfl)
theorem dX3_sort_12 : decode cX3_sort 12 = .ok (.iload_n 3, 1) := dk_29 (dk_at dksX3_sort_0 12 rfl rfl)
theorem dX3_sort_13 : decode cX3_sort 13 = .ok (.i2l, 1) := dk_133 (dk_at dksX3_sort_0 13 rfl rfl)
theorem dX3_sort_14 : decode cX3_sort 14 = .ok (.lconst 0, 1) := dk_9 (dk_at dksX3_sort_0 14 rfl rfl)
theorem dX3_sort_15 : decode cX3_sort 15 = .ok (.ldc2_w 154, 3) := dk_20 0 154 (dk_at dksX3_sort_0 15 rfl rfl)
theorem dX3_sort_18 : decode cX3_sort 18 = .ok (.invokestatic 55, 3) := dk_184 0 55 (dk_at dksX3_sort_0 18 rfl rfl)
theorem dX3_sort_21 : decode cX3_sort 21 = .ok (.ifCond .eq 21, 3) := dk_153 0 21 (dk_at dksX3_sort_0 21 rfl rfl)
theorem dX3_sort_24 : decode cX3_sort 24 = .ok (.aload_n 0, 1) := dk_42 (dk_at dksX3_sort_1 0 rfl rfl)
theorem dX3_sort_25 : decode cX3_sort 25 = .ok (.getfield 41, 3) := dk_180 0 41 (dk_at dksX3_sort_1 1 rfl rfl)
theorem dX3_sort_28 : decode cX3_sort 28 = .ok (.bipush 16, 2) := dk_16 16 (dk_at dksX3_sort_1 4 rfl rfl)
theorem dX3_sort_30 : decode cX3_sort 30 = .ok (.iload_n 1, 1) := dk_27 (dk_at dksX3_sort_1 6 rfl rfl)
theorem dX3_sort_31 : decode cX3_sort 31 = .ok (.imul, 1) := dk_104 (dk_at dksX3_sort_1 7 rfl rfl)
theorem dX3_sort_32 : decode cX3_sort 32 = .ok (.iconst 4, 1) := dk_7 (dk_at dksX3_sort_1 8 rfl rfl)
theorem dX3_sort_33 : decode cX3_sort 33 = .ok (.iload_n 2, 1) := dk_28 (dk_at dksX3_sort_1 9 rfl rfl)
theorem dX3_sort_34 : decode cX3_sort 34 = .ok (.imul, 1) := dk_104 (dk_at dksX3_sort_1 10 rfl rfl)
theorem dX3_sort_35 : decode cX3_sort 35 = .ok (.iadd, 1) := dk_96 (dk_at dksX3_sort_1 11 rfl rfl)
theorem dX3_sort_36 : decode cX3_sort 36 = .ok (.iload_n 3, 1) := dk_29 (dk_at dksX3_sort_1 12 rfl rfl)
theorem dX3_sort_37 : decode cX3_sort 37 = .ok (.iadd, 1) := dk_96 (dk_at dksX3_sort_1 13 rfl rfl)
theorem dX3_sort_38 : decode cX3_sort 38 = .ok (.iaload, 1) := dk_46 (dk_at dksX3_sort_1 14 rfl rfl)
theorem dX3_sort_39 : decode cX3_sort 39 = .ok (.goto 5, 3) := dk_167 0 5 (dk_at dksX3_sort_1 15 rfl rfl)
theorem dX3_sort_42 : decode cX3_sort 42 = .ok (.bipush (-3), 2) := dk_16 253 (dk_at dksX3_sort_1 18 rfl rfl)
theorem dX3_sort_44 : decode cX3_sort 44 = .ok (.ireturn, 1) := dk_172 (dk_at dksX3_sort_1 20 rfl rfl)
abbrev cX3_isSort : ByteArray := prog_12_method_23_code
def yX3_isSort : MethodName := ⟨RX3, "isSort", "(II)Z"⟩
def dkwX3_isSort_1 : List UInt8 := [153, 0, 7, 4, 167, 0, 4, 3, 172]
abbrev dktX3_isSort_1 : List UInt8 := dkwX3_isSort_1 ++ []
def dkwX3_isSort_0 : List UInt8 := [42, 27, 182, 0, 148, 153, 0, 25, 28, 133, 9, 42, 180, 0, 38, 27, 46, 4, 100, 133, 184, 0, 55]
abbrev dktX3_isSort_0 : List UInt8 := dkwX3_isSort_0 ++ dktX3_isSort_1
theorem dksX3_isSort_0 : cX3_isSort.data.toList.drop 0 = dktX3_isSort_0 := by decide +kernel
theorem dksX3_isSort_1 : cX3_isSort.data.toList.drop 23 = dktX3_isSort_1 := dk_seg dksX3_isSort_0 23 rfl rfl
theorem dX3_isSort_0 : decode cX3_isSort 0 = .ok (.aload_n 0, 1) := dk_42 (dk_at dksX3_isSort_0 0 rfl rfl)
theorem dX3_isSort_1 : decode cX3_isSort 1 = .ok (.iload_n 1, 1) := dk_27 (dk_at dksX3_isSort_0 1 rfl rfl)
theorem dX3_isSort_2 : decode cX3_isSort 2 = .ok (.invokevirtual 148, 3) := dk_182 0 148 (dk_at dksX3_isSort_0 2 rfl rfl)
theorem dX3_isSort_5 : decode cX3_isSort 5 = .ok (.ifCond .eq 25, 3) := dk_153 0 25 (dk_at dksX3_isSort_0 5 rfl rfl)
theorem dX3_isSort_8 : decode cX3_isSort 8 = .ok (.iload_n 2, 1) := dk_28 (dk_at dksX3_isSort_0 8 rfl rfl)
theorem dX3_isSort_9 : decode cX3_isSort 9 = .ok (.i2l, 1) := dk_133 (dk_at dksX3_isSort_0 9 rfl rfl)
theorem dX3_isSort_10 : decode cX3_isSort 10 = .ok (.lconst 0, 1) := dk_9 (dk_at dksX3_isSort_0 10 rfl rfl)
theorem dX3_isSort_11 : decode cX3_isSort 11 = .ok (.aload_n 0, 1) := dk_42 (dk_at dksX3_isSort_0 11 rfl rfl)
theorem dX3_isSort_12 : decode cX3_isSort 12 = .ok (.getfield 38, 3) := dk_180 0 38 (dk_at dksX3_isSort_0 12 rfl rfl)
theorem dX3_isSort_15 : decode cX3_isSort 15 = .ok (.iload_n 1, 1) := dk_27 (dk_at dksX3_isSort_0 15 rfl rfl)
theorem dX3_isSort_16 : decode cX3_isSort 16 = .ok (.iaload, 1) := dk_46 (dk_at dksX3_isSort_0 16 rfl rfl)
theorem dX3_isSort_17 : decode cX3_isSort 17 = .ok (.iconst 1, 1) := dk_4 (dk_at dksX3_isSort_0 17 rfl rfl)
theorem dX3_isSort_18 : decode cX3_isSort 18 = .ok (.isub, 1) := dk_100 (dk_at dksX3_isSort_0 18 rfl rfl)
theorem dX3_isSort_19 : decode cX3_isSort 19 = .ok (.i2l, 1) := dk_133 (dk_at dksX3_isSort_0 19 rfl rfl)
theorem dX3_isSort_20 : decode cX3_isSort 20 = .ok (.invokestatic 55, 3) := dk_184 0 55 (dk_at dksX3_isSort_0 20 rfl rfl)
theorem dX3_isSort_23 : decode cX3_isSort 23 = .ok (.ifCond .eq 7, 3) := dk_153 0 7 (dk_at dksX3_isSort_1 0 rfl rfl)
theorem dX3_isSort_26 : decode cX3_isSort 26 = .ok (.iconst 1, 1) := dk_4 (dk_at dksX3_isSort_1 3 rfl rfl)
theorem dX3_isSort_27 : decode cX3_isSort 27 = .ok (.goto 4, 3) := dk_167 0 4 (dk_at dksX3_isSort_1 4 rfl rfl)
theorem dX3_isSort_30 : decode cX3_isSort 30 = .ok (.iconst 0, 1) := dk_3 (dk_at dksX3_isSort_1 7 rfl rfl)
theorem dX3_isSort_31 : decode cX3_isSort 31 = .ok (.ireturn, 1) := dk_172 (dk_at dksX3_isSort_1 8 rfl rfl)
abbrev cX3_way : ByteArray := prog_12_method_25_code
def yX3_way : MethodName := ⟨RX3, "way", "(II)I"⟩
def dkwX3_way_1 : List UInt8 := [42, 180, 0, 32, 16, 6, 27, 104, 28, 96, 46, 167, 0, 5, 16, 254, 172]
abbrev dktX3_way_1 : List UInt8 := dkwX3_way_1 ++ []
def dkwX3_way_0 : List UInt8 := [27, 133, 9, 20, 0, 143, 184, 0, 55, 153, 0, 29, 28, 133, 9, 20, 0, 143, 184, 0, 55, 153, 0, 17]
abbrev dktX3_way_0 : List UInt8 := dkwX3_way_0 ++ dktX3_way_1
theorem dksX3_way_0 : cX3_way.data.toList.drop 0 = dktX3_way_0 := by decide +kernel
theorem dksX3_way_1 : cX3_way.data.toList.drop 24 = dktX3_way_1 := dk_seg dksX3_way_0 24 rfl rfl
theorem dX3_way_0 : decode cX3_way 0 = .ok (.iload_n 1, 1) := dk_27 (dk_at dksX3_way_0 0 rfl rfl)
theorem dX3_way_1 : decode cX3_way 1 = .ok (.i2l, 1) := dk_133 (dk_at dksX3_way_0 1 rfl rfl)
theorem dX3_way_2 : decode cX3_way 2 = .ok (.lconst 0, 1) := dk_9 (dk_at dksX3_way_0 2 rfl rfl)
theorem dX3_way_3 : decode cX3_way 3 = .ok (.ldc2_w 143, 3) := dk_20 0 143 (dk_at dksX3_way_0 3 rfl rfl)
theorem dX3_way_6 : decode cX3_way 6 = .ok (.invokestatic 55, 3) := dk_184 0 55 (dk_at dksX3_way_0 6 rfl rfl)
theorem dX3_way_9 : decode cX3_way 9 = .ok (.ifCond .eq 29, 3) := dk_153 0 29 (dk_at dksX3_way_0 9 rfl rfl)
theorem dX3_way_12 : decode cX3_way 12 = .ok (.iload_n 2, 1) := dk_28 (dk_at dksX3_way_0 12 rfl rfl)
theorem dX3_way_13 : decode cX3_way 13 = .ok (.i2l, 1) := dk_133 (dk_at dksX3_way_0 13 rfl rfl)
theorem dX3_way_14 : decode cX3_way 14 = .ok (.lconst 0, 1) := dk_9 (dk_at dksX3_way_0 14 rfl rfl)
theorem dX3_way_15 : decode cX3_way 15 = .ok (.ldc2_w 143, 3) := dk_20 0 143 (dk_at dksX3_way_0 15 rfl rfl)
theorem dX3_way_18 : decode cX3_way 18 = .ok (.invokestatic 55, 3) := dk_184 0 55 (dk_at dksX3_way_0 18 rfl rfl)
theorem dX3_way_21 : decode cX3_way 21 = .ok (.ifCond .eq 17, 3) := dk_153 0 17 (dk_at dksX3_way_0 21 rfl rfl)
theorem dX3_way_24 : decode cX3_way 24 = .ok (.aload_n 0, 1) := dk_42 (dk_at dksX3_way_1 0 rfl rfl)
theorem dX3_way_25 : decode cX3_way 25 = .ok (.getfield 32, 3) := dk_180 0 32 (dk_at dksX3_way_1 1 rfl rfl)
theorem dX3_way_28 : decode cX3_way 28 = .ok (.bipush 6, 2) := dk_16 6 (dk_at dksX3_way_1 4 rfl rfl)
theorem dX3_way_30 : decode cX3_way 30 = .ok (.iload_n 1, 1) := dk_27 (dk_at dksX3_way_1 6 rfl rfl)
theorem dX3_way_31 : decode cX3_way 31 = .ok (.imul, 1) := dk_104 (dk_at dksX3_way_1 7 rfl rfl)
theorem dX3_way_32 : decode cX3_way 32 = .ok (.iload_n 2, 1) := dk_28 (dk_at dksX3_way_1 8 rfl rfl)
theorem dX3_way_33 : decode cX3_way 33 = .ok (.iadd, 1) := dk_96 (dk_at dksX3_way_1 9 rfl rfl)
theorem dX3_way_34 : decode cX3_way 34 = .ok (.iaload, 1) := dk_46 (dk_at dksX3_way_1 10 rfl rfl)
theorem dX3_way_35 : decode cX3_way 35 = .ok (.goto 5, 3) := dk_167 0 5 (dk_at dksX3_way_1 11 rfl rfl)
theorem dX3_way_38 : decode cX3_way 38 = .ok (.bipush (-2), 2) := dk_16 254 (dk_at dksX3_way_1 14 rfl rfl)
theorem dX3_way_40 : decode cX3_way 40 = .ok (.ireturn, 1) := dk_172 (dk_at dksX3_way_1 16 rfl rfl)
abbrev cX3_may : ByteArray := prog_12_method_29_code
def yX3_may : MethodName := ⟨RX3, "may", "(I)I"⟩
def dkwX3_may_1 : List UInt8 := [3, 172]
abbrev dktX3_may_1 : List UInt8 := dkwX3_may_1 ++ []
def dkwX3_may_0 : List UInt8 := [27, 184, 0, 159, 154, 0, 8, 16, 253, 167, 0, 16, 42, 27, 182, 0, 162, 153, 0, 7, 4, 167, 0, 4]
abbrev dktX3_may_0 : List UInt8 := dkwX3_may_0 ++ dktX3_may_1
theorem dksX3_may_0 : cX3_may.data.toList.drop 0 = dktX3_may_0 := by decide +kernel
theorem dksX3_may_1 : cX3_may.data.toList.drop 24 = dktX3_may_1 := dk_seg dksX3_may_0 24 rfl rfl
theorem dX3_may_0 : decode cX3_may 0 = .ok (.iload_n 1, 1) := dk_27 (dk_at dksX3_may_0 0 rfl rfl)
theorem dX3_may_1 : decode cX3_may 1 = .ok (.invokestatic 159, 3) := dk_184 0 159 (dk_at dksX3_may_0 1 rfl rfl)
theorem dX3_may_4 : decode cX3_may 4 = .ok (.ifCond .ne 8, 3) := dk_154 0 8 (dk_at dksX3_may_0 4 rfl rfl)
theorem dX3_may_7 : decode cX3_may 7 = .ok (.bipush (-3), 2) := dk_16 253 (dk_at dksX3_may_0 7 rfl rfl)
theorem dX3_may_9 : decode cX3_may 9 = .ok (.goto 16, 3) := dk_167 0 16 (dk_at dksX3_may_0 9 rfl rfl)
theorem dX3_may_12 : decode cX3_may 12 = .ok (.aload_n 0, 1) := dk_42 (dk_at dksX3_may_0 12 rfl rfl)
theorem dX3_may_13 : decode cX3_may 13 = .ok (.iload_n 1, 1) := dk_27 (dk_at dksX3_may_0 13 rfl rfl)
theorem dX3_may_14 : decode cX3_may 14 = .ok (.invokevirtual 162, 3) := dk_182 0 162 (dk_at dksX3_may_0 14 rfl rfl)
theorem dX3_may_17 : decode cX3_may 17 = .ok (.ifCond .eq 7, 3) := dk_153 0 7 (dk_at dksX3_may_0 17 rfl rfl)
theorem dX3_may_20 : decode cX3_may 20 = .ok (.iconst 1, 1) := dk_4 (dk_at dksX3_may_0 20 rfl rfl)
theorem dX3_may_21 : decode cX3_may 21 = .ok (.goto 4, 3) := dk_167 0 4 (dk_at dksX3_may_0 21 rfl rfl)
theorem dX3_may_24 : decode cX3_may 24 = .ok (.iconst 0, 1) := dk_3 (dk_at dksX3_may_1 0 rfl rfl)
theorem dX3_may_25 : decode cX3_may 25 = .ok (.ireturn, 1) := dk_172 (dk_at dksX3_may_1 1 rfl rfl)
abbrev cX3_isBag : ByteArray := prog_12_method_26_code
def yX3_isBag : MethodName := ⟨RX3, "isBag", "(I)Z"⟩
def dkwX3_isBag_0 : List UInt8 := [26, 133, 9, 20, 0, 62, 184, 0, 55, 172]
abbrev dktX3_isBag_0 : List UInt8 := dkwX3_isBag_0 ++ []
theorem dksX3_isBag_0 : cX3_isBag.data.toList.drop 0 = dktX3_isBag_0 := by decide +kernel
theorem dX3_isBag_0 : decode cX3_isBag 0 = .ok (.iload_n 0, 1) := dk_26 (dk_at dksX3_isBag_0 0 rfl rfl)
theorem dX3_isBag_1 : decode cX3_isBag 1 = .ok (.i2l, 1) := dk_133 (dk_at dksX3_isBag_0 1 rfl rfl)
theorem dX3_isBag_2 : decode cX3_isBag 2 = .ok (.lconst 0, 1) := dk_9 (dk_at dksX3_isBag_0 2 rfl rfl)
theorem dX3_isBag_3 : decode cX3_isBag 3 = .ok (.ldc2_w 62, 3) := dk_20 0 62 (dk_at dksX3_isBag_0 3 rfl rfl)
theorem dX3_isBag_6 : decode cX3_isBag 6 = .ok (.invokestatic 55, 3) := dk_184 0 55 (dk_at dksX3_isBag_0 6 rfl rfl)
theorem dX3_isBag_9 : decode cX3_isBag 9 = .ok (.ireturn, 1) := dk_172 (dk_at dksX3_isBag_0 9 rfl rfl)
abbrev cX3_mayBe : ByteArray := prog_12_method_28_code
def yX3_mayBe : MethodName := ⟨RX3, "mayBe", "(I)Z"⟩
def dkwX3_mayBe_2 : List UInt8 := [163, 0, 15, 28, 42, 180, 0, 26, 163, 0, 7, 4, 167, 0, 4, 3, 172]
abbrev dktX3_mayBe_2 : List UInt8 := dkwX3_mayBe_2 ++ []
def dkwX3_mayBe_1 : List UInt8 := [46, 167, 0, 4, 3, 96, 61, 132, 3, 1, 167, 255, 226, 42, 27, 182, 0, 156, 42, 180, 0, 22]
abbrev dktX3_mayBe_1 : List UInt8 := dkwX3_mayBe_1 ++ dktX3_mayBe_2
def dkwX3_mayBe_0 : List UInt8 := [3, 61, 3, 62, 29, 16, 8, 162, 0, 30, 28, 27, 29, 184, 0, 85, 153, 0, 12, 42, 180, 0, 19, 29]
abbrev dktX3_mayBe_0 : List UInt8 := dkwX3_mayBe_0 ++ dktX3_mayBe_1
theorem dksX3_mayBe_0 : cX3_mayBe.data.toList.drop 0 = dktX3_mayBe_0 := by decide +kernel
theorem dksX3_mayBe_1 : cX3_mayBe.data.toList.drop 24 = dktX3_mayBe_1 := dk_seg dksX3_mayBe_0 24 rfl rfl
theorem dksX3_mayBe_2 : cX3_mayBe.data.toList.drop 46 = dktX3_mayBe_2 := dk_seg dksX3_mayBe_1 22 rfl rfl
theorem dX3_mayBe_0 : decode cX3_mayBe 0 = .ok (.iconst 0, 1) := dk_3 (dk_at dksX3_mayBe_0 0 rfl rfl)
theorem dX3_mayBe_1 : decode cX3_mayBe 1 = .ok (.istore_n 2, 1) := dk_61 (dk_at dksX3_mayBe_0 1 rfl rfl)
theorem dX3_mayBe_2 : decode cX3_mayBe 2 = .ok (.iconst 0, 1) := dk_3 (dk_at dksX3_mayBe_0 2 rfl rfl)
theorem dX3_mayBe_3 : decode cX3_mayBe 3 = .ok (.istore_n 3, 1) := dk_62 (dk_at dksX3_mayBe_0 3 rfl rfl)
theorem dX3_mayBe_4 : decode cX3_mayBe 4 = .ok (.iload_n 3, 1) := dk_29 (dk_at dksX3_mayBe_0 4 rfl rfl)
theorem dX3_mayBe_5 : decode cX3_mayBe 5 = .ok (.bipush 8, 2) := dk_16 8 (dk_at dksX3_mayBe_0 5 rfl rfl)
theorem dX3_mayBe_7 : decode cX3_mayBe 7 = .ok (.if_icmp .ge 30, 3) := dk_162 0 30 (dk_at dksX3_mayBe_0 7 rfl rfl)
theorem dX3_mayBe_10 : decode cX3_mayBe 10 = .ok (.iload_n 2, 1) := dk_28 (dk_at dksX3_mayBe_0 10 rfl rfl)
theorem dX3_mayBe_11 : decode cX3_mayBe 11 = .ok (.iload_n 1, 1) := dk_27 (dk_at dksX3_mayBe_0 11 rfl rfl)
theorem dX3_mayBe_12 : decode cX3_mayBe 12 = .ok (.iload_n 3, 1) := dk_29 (dk_at dksX3_mayBe_0 12 rfl rfl)
theorem dX3_mayBe_13 : decode cX3_mayBe 13 = .ok (.invokestatic 85, 3) := dk_184 0 85 (dk_at dksX3_mayBe_0 13 rfl rfl)
theorem dX3_mayBe_16 : decode cX3_mayBe 16 = .ok (.ifCond .eq 12, 3) := dk_153 0 12 (dk_at dksX3_mayBe_0 16 rfl rfl)
theorem dX3_mayBe_19 : decode cX3_mayBe 19 = .ok (.aload_n 0, 1) := dk_42 (dk_at dksX3_mayBe_0 19 rfl rfl)
theorem dX3_mayBe_20 : decode cX3_mayBe 20 = .ok (.getfield 19, 3) := dk_180 0 19 (dk_at dksX3_mayBe_0 20 rfl rfl)
theorem dX3_mayBe_23 : decode cX3_mayBe 23 = .ok (.iload_n 3, 1) := dk_29 (dk_at dksX3_mayBe_0 23 rfl rfl)
theorem dX3_mayBe_24 : decode cX3_mayBe 24 = .ok (.iaload, 1) := dk_46 (dk_at dksX3_mayBe_1 0 rfl rfl)
theorem dX3_mayBe_25 : decode cX3_mayBe 25 = .ok (.goto 4, 3) := dk_167 0 4 (dk_at dksX3_mayBe_1 1 rfl rfl)
theorem dX3_mayBe_28 : decode cX3_mayBe 28 = .ok (.iconst 0, 1) := dk_3 (dk_at dksX3_mayBe_1 4 rfl rfl)
theorem dX3_mayBe_29 : decode cX3_mayBe 29 = .ok (.iadd, 1) := dk_96 (dk_at dksX3_mayBe_1 5 rfl rfl)
theorem dX3_mayBe_30 : decode cX3_mayBe 30 = .ok (.istore_n 2, 1) := dk_61 (dk_at dksX3_mayBe_1 6 rfl rfl)
theorem dX3_mayBe_31 : decode cX3_mayBe 31 = .ok (.iinc 3 1, 3) := dk_132 3 1 (dk_at dksX3_mayBe_1 7 rfl rfl)
theorem dX3_mayBe_34 : decode cX3_mayBe 34 = .ok (.goto (-30), 3) := dk_167 255 226 (dk_at dksX3_mayBe_1 10 rfl rfl)
theorem dX3_mayBe_37 : decode cX3_mayBe 37 = .ok (.aload_n 0, 1) := dk_42 (dk_at dksX3_mayBe_1 13 rfl rfl)
theorem dX3_mayBe_38 : decode cX3_mayBe 38 = .ok (.iload_n 1, 1) := dk_27 (dk_at dksX3_mayBe_1 14 rfl rfl)
theorem dX3_mayBe_39 : decode cX3_mayBe 39 = .ok (.invokevirtual 156, 3) := dk_182 0 156 (dk_at dksX3_mayBe_1 15 rfl rfl)
theorem dX3_mayBe_42 : decode cX3_mayBe 42 = .ok (.aload_n 0, 1) := dk_42 (dk_at dksX3_mayBe_1 18 rfl rfl)
theorem dX3_mayBe_43 : decode cX3_mayBe 43 = .ok (.getfield 22, 3) := dk_180 0 22 (dk_at dksX3_mayBe_1 19 rfl rfl)
theorem dX3_mayBe_46 : decode cX3_mayBe 46 = .ok (.if_icmp .gt 15, 3) := dk_163 0 15 (dk_at dksX3_mayBe_2 0 rfl rfl)
theorem dX3_mayBe_49 : decode cX3_mayBe 49 = .ok (.iload_n 2, 1) := dk_28 (dk_at dksX3_mayBe_2 3 rfl rfl)
theorem dX3_mayBe_50 : decode cX3_mayBe 50 = .ok (.aload_n 0, 1) := dk_42 (dk_at dksX3_mayBe_2 4 rfl rfl)
theorem dX3_mayBe_51 : decode cX3_mayBe 51 = .ok (.getfield 26, 3) := dk_180 0 26 (dk_at dksX3_mayBe_2 5 rfl rfl)
theorem dX3_mayBe_54 : decode cX3_mayBe 54 = .ok (.if_icmp .gt 7, 3) := dk_163 0 7 (dk_at dksX3_mayBe_2 8 rfl rfl)
theorem dX3_mayBe_57 : decode cX3_mayBe 57 = .ok (.iconst 1, 1) := dk_4 (dk_at dksX3_mayBe_2 11 rfl rfl)
theorem dX3_mayBe_58 : decode cX3_mayBe 58 = .ok (.goto 4, 3) := dk_167 0 4 (dk_at dksX3_mayBe_2 12 rfl rfl)
theorem dX3_mayBe_61 : decode cX3_mayBe 61 = .ok (.iconst 0, 1) := dk_3 (dk_at dksX3_mayBe_2 15 rfl rfl)
theorem dX3_mayBe_62 : decode cX3_mayBe 62 = .ok (.ireturn, 1) := dk_172 (dk_at dksX3_mayBe_2 16 rfl rfl)
abbrev cX3_weight : ByteArray := prog_12_method_27_code
def yX3_weight : MethodName := ⟨RX3, "weight", "(I)I"⟩
def dkwX3_weight_1 : List UInt8 := [46, 167, 0, 4, 3, 96, 61, 132, 3, 1, 167, 255, 226, 28, 172]
abbrev dktX3_weight_1 : List UInt8 := dkwX3_weight_1 ++ []
def dkwX3_weight_0 : List UInt8 := [3, 61, 3, 62, 29, 16, 8, 162, 0, 30, 28, 27, 29, 184, 0, 85, 153, 0, 12, 42, 180, 0, 16, 29]
abbrev dktX3_weight_0 : List UInt8 := dkwX3_weight_0 ++ dktX3_weight_1
theorem dksX3_weight_0 : cX3_weight.data.toList.drop 0 = dktX3_weight_0 := by decide +kernel
theorem dksX3_weight_1 : cX3_weight.data.toList.drop 24 = dktX3_weight_1 := dk_seg dksX3_weight_0 24 rfl rfl
theorem dX3_weight_0 : decode cX3_weight 0 = .ok (.iconst 0, 1) := dk_3 (dk_at dksX3_weight_0 0 rfl rfl)
theorem dX3_weight_1 : decode cX3_weight 1 = .ok (.istore_n 2, 1) := dk_61 (dk_at dksX3_weight_0 1 rfl rfl)
theorem dX3_weight_2 : decode cX3_weight 2 = .ok (.iconst 0, 1) := dk_3 (dk_at dksX3_weight_0 2 rfl rfl)
theorem dX3_weight_3 : decode cX3_weight 3 = .ok (.istore_n 3, 1) := dk_62 (dk_at dksX3_weight_0 3 rfl rfl)
theorem dX3_weight_4 : decode cX3_weight 4 = .ok (.iload_n 3, 1) := dk_29 (dk_at dksX3_weight_0 4 rfl rfl)
theorem dX3_weight_5 : decode cX3_weight 5 = .ok (.bipush 8, 2) := dk_16 8 (dk_at dksX3_weight_0 5 rfl rfl)
theorem dX3_weight_7 : decode cX3_weight 7 = .ok (.if_icmp .ge 30, 3) := dk_162 0 30 (dk_at dksX3_weight_0 7 rfl rfl)
theorem dX3_weight_10 : decode cX3_weight 10 = .ok (.iload_n 2, 1) := dk_28 (dk_at dksX3_weight_0 10 rfl rfl)
theorem dX3_weight_11 : decode cX3_weight 11 = .ok (.iload_n 1, 1) := dk_27 (dk_at dksX3_weight_0 11 rfl rfl)
theorem dX3_weight_12 : decode cX3_weight 12 = .ok (.iload_n 3, 1) := dk_29 (dk_at dksX3_weight_0 12 rfl rfl)
theorem dX3_weight_13 : decode cX3_weight 13 = .ok (.invokestatic 85, 3) := dk_184 0 85 (dk_at dksX3_weight_0 13 rfl rfl)
theorem dX3_weight_16 : decode cX3_weight 16 = .ok (.ifCond .eq 12, 3) := dk_153 0 12 (dk_at dksX3_weight_0 16 rfl rfl)
theorem dX3_weight_19 : decode cX3_weight 19 = .ok (.aload_n 0, 1) := dk_42 (dk_at dksX3_weight_0 19 rfl rfl)
theorem dX3_weight_20 : decode cX3_weight 20 = .ok (.getfield 16, 3) := dk_180 0 16 (dk_at dksX3_weight_0 20 rfl rfl)
theorem dX3_weight_23 : decode cX3_weight 23 = .ok (.iload_n 3, 1) := dk_29 (dk_at dksX3_weight_0 23 rfl rfl)
theorem dX3_weight_24 : decode cX3_weight 24 = .ok (.iaload, 1) := dk_46 (dk_at dksX3_weight_1 0 rfl rfl)
theorem dX3_weight_25 : decode cX3_weight 25 = .ok (.goto 4, 3) := dk_167 0 4 (dk_at dksX3_weight_1 1 rfl rfl)
theorem dX3_weight_28 : decode cX3_weight 28 = .ok (.iconst 0, 1) := dk_3 (dk_at dksX3_weight_1 4 rfl rfl)
theorem dX3_weight_29 : decode cX3_weight 29 = .ok (.iadd, 1) := dk_96 (dk_at dksX3_weight_1 5 rfl rfl)
theorem dX3_weight_30 : decode cX3_weight 30 = .ok (.istore_n 2, 1) := dk_61 (dk_at dksX3_weight_1 6 rfl rfl)
theorem dX3_weight_31 : decode cX3_weight 31 = .ok (.iinc 3 1, 3) := dk_132 3 1 (dk_at dksX3_weight_1 7 rfl rfl)
theorem dX3_weight_34 : decode cX3_weight 34 = .ok (.goto (-30), 3) := dk_167 255 226 (dk_at dksX3_weight_1 10 rfl rfl)
theorem dX3_weight_37 : decode cX3_weight 37 = .ok (.iload_n 2, 1) := dk_28 (dk_at dksX3_weight_1 13 rfl rfl)
theorem dX3_weight_38 : decode cX3_weight 38 = .ok (.ireturn, 1) := dk_172 (dk_at dksX3_weight_1 14 rfl rfl)
abbrev cX3_does : ByteArray := prog_12_method_32_code
def yX3_does : MethodName := ⟨RX3, "does", "(III)I"⟩
def dkwX3_does_1 : List UInt8 := [182, 0, 168, 167, 0, 5, 16, 253, 172]
abbrev dktX3_does_1 : List UInt8 := dkwX3_does_1 ++ []
def dkwX3_does_0 : List UInt8 := [42, 28, 29, 182, 0, 151, 154, 0, 6, 16, 254, 172, 27, 184, 0, 159, 153, 0, 13, 42, 27, 28, 29]
abbrev dktX3_does_0 : List UInt8 := dkwX3_does_0 ++ dktX3_does_1
theorem dksX3_does_0 : cX3_does.data.toList.drop 0 = dktX3_does_0 := by decide +kernel
theorem dksX3_does_1 : cX3_does.data.toList.drop 23 = dktX3_does_1 := dk_seg dksX3_does_0 23 rfl rfl
theorem dX3_does_0 : decode cX3_does 0 = .ok (.aload_n 0, 1) := dk_42 (dk_at dksX3_does_0 0 rfl rfl)
theorem dX3_does_1 : decode cX3_does 1 = .ok (.iload_n 2, 1) := dk_28 (dk_at dksX3_does_0 1 rfl rfl)
theorem dX3_does_2 : decode cX3_does 2 = .ok (.iload_n 3, 1) := dk_29 (dk_at dksX3_does_0 2 rfl rfl)
theorem dX3_does_3 : decode cX3_does 3 = .ok (.invokevirtual 151, 3) := dk_182 0 151 (dk_at dksX3_does_0 3 rfl rfl)
theorem dX3_does_6 : decode cX3_does 6 = .ok (.ifCond .ne 6, 3) := dk_154 0 6 (dk_at dksX3_does_0 6 rfl rfl)
theorem dX3_does_9 : decode cX3_does 9 = .ok (.bipush (-2), 2) := dk_16 254 (dk_at dksX3_does_0 9 rfl rfl)
theorem dX3_does_11 : decode cX3_does 11 = .ok (.ireturn, 1) := dk_172 (dk_at dksX3_does_0 11 rfl rfl)
theorem dX3_does_12 : decode cX3_does 12 = .ok (.iload_n 1, 1) := dk_27 (dk_at dksX3_does_0 12 rfl rfl)
theorem dX3_does_13 : decode cX3_does 13 = .ok (.invokestatic 159, 3) := dk_184 0 159 (dk_at dksX3_does_0 13 rfl rfl)
theorem dX3_does_16 : decode cX3_does 16 = .ok (.ifCond .eq 13, 3) := dk_153 0 13 (dk_at dksX3_does_0 16 rfl rfl)
theorem dX3_does_19 : decode cX3_does 19 = .ok (.aload_n 0, 1) := dk_42 (dk_at dksX3_does_0 19 rfl rfl)
theorem dX3_does_20 : decode cX3_does 20 = .ok (.iload_n 1, 1) := dk_27 (dk_at dksX3_does_0 20 rfl rfl)
theorem dX3_does_21 : decode cX3_does 21 = .ok (.iload_n 2, 1) := dk_28 (dk_at dksX3_does_0 21 rfl rfl)
theorem dX3_does_22 : decode cX3_does 22 = .ok (.iload_n 3, 1) := dk_29 (dk_at dksX3_does_0 22 rfl rfl)
theorem dX3_does_23 : decode cX3_does 23 = .ok (.invokevirtual 168, 3) := dk_182 0 168 (dk_at dksX3_does_1 0 rfl rfl)
theorem dX3_does_26 : decode cX3_does 26 = .ok (.goto 5, 3) := dk_167 0 5 (dk_at dksX3_does_1 3 rfl rfl)
theorem dX3_does_29 : decode cX3_does 29 = .ok (.bipush (-3), 2) := dk_16 253 (dk_at dksX3_does_1 6 rfl rfl)
theorem dX3_does_31 : decode cX3_does 31 = .ok (.ireturn, 1) := dk_172 (dk_at dksX3_does_1 8 rfl rfl)
abbrev cX3_leftOf : ByteArray := prog_12_method_31_code
def yX3_leftOf : MethodName := ⟨RX3, "leftOf", "(III)I"⟩
def dkwX3_leftOf_4 : List UInt8 := [27, 21, 6, 42, 180, 0, 130, 2, 130, 126, 2, 130, 126, 172]
abbrev dktX3_leftOf_4 : List UInt8 := dkwX3_leftOf_4 ++ []
def dkwX3_leftOf_3 : List UInt8 := [184, 0, 85, 153, 0, 15, 21, 6, 4, 21, 8, 120, 128, 54, 6, 3, 54, 7, 132, 8, 1, 167, 255, 224]
abbrev dktX3_leftOf_3 : List UInt8 := dkwX3_leftOf_3 ++ dktX3_leftOf_4
def dkwX3_leftOf_2 : List UInt8 := [21, 4, 54, 6, 21, 5, 27, 126, 54, 7, 3, 54, 8, 21, 8, 16, 8, 162, 0, 31, 21, 7, 21, 8]
abbrev dktX3_leftOf_2 : List UInt8 := dkwX3_leftOf_2 ++ dktX3_leftOf_3
def dkwX3_leftOf_1 : List UInt8 := [104, 7, 29, 104, 96, 6, 96, 46, 54, 5, 27, 21, 4, 21, 5, 184, 0, 165, 154, 0, 5, 2, 172]
abbrev dktX3_leftOf_1 : List UInt8 := dkwX3_leftOf_1 ++ dktX3_leftOf_2
def dkwX3_leftOf_0 : List UInt8 := [42, 180, 0, 41, 16, 16, 28, 104, 7, 29, 104, 96, 5, 96, 46, 54, 4, 42, 180, 0, 41, 16, 16, 28]
abbrev dktX3_leftOf_0 : List UInt8 := dkwX3_leftOf_0 ++ dktX3_leftOf_1
theorem dksX3_leftOf_0 : cX3_leftOf.data.toList.drop 0 = dktX3_leftOf_0 := by decide +kernel
theorem dksX3_leftOf_1 : cX3_leftOf.data.toList.drop 24 = dktX3_leftOf_1 := dk_seg dksX3_leftOf_0 24 rfl rfl
theorem dksX3_leftOf_2 : cX3_leftOf.data.toList.drop 47 = dktX3_leftOf_2 := dk_seg dksX3_leftOf_1 23 rfl rfl
theorem dksX3_leftOf_3 : cX3_leftOf.data.toList.drop 71 = dktX3_leftOf_3 := dk_seg dksX3_leftOf_2 24 rfl rfl
theorem dksX3_leftOf_4 : cX3_leftOf.data.toList.drop 95 = dktX3_leftOf_4 := dk_seg dksX3_leftOf_3 24 rfl rfl
theorem dX3_leftOf_0 : decode cX3_leftOf 0 = .ok (.aload_n 0, 1) := dk_42 (dk_at dksX3_leftOf_0 0 rfl rfl)
theorem dX3_leftOf_1 : decode cX3_leftOf 1 = .ok (.getfield 41, 3) := dk_180 0 41 (dk_at dksX3_leftOf_0 1 rfl rfl)
theorem dX3_leftOf_4 : decode cX3_leftOf 4 = .ok (.bipush 16, 2) := dk_16 16 (dk_at dksX3_leftOf_0 4 rfl rfl)
theorem dX3_leftOf_6 : decode cX3_leftOf 6 = .ok (.iload_n 2, 1) := dk_28 (dk_at dksX3_leftOf_0 6 rfl rfl)
theorem dX3_leftOf_7 : decode cX3_leftOf 7 = .ok (.imul, 1) := dk_104 (dk_at dksX3_leftOf_0 7 rfl rfl)
theorem dX3_leftOf_8 : decode cX3_leftOf 8 = .ok (.iconst 4, 1) := dk_7 (dk_at dksX3_leftOf_0 8 rfl rfl)
theorem dX3_leftOf_9 : decode cX3_leftOf 9 = .ok (.iload_n 3, 1) := dk_29 (dk_at dksX3_leftOf_0 9 rfl rfl)
theorem dX3_leftOf_10 : decode cX3_leftOf 10 = .ok (.imul, 1) := dk_104 (dk_at dksX3_leftOf_0 10 rfl rfl)
theorem dX3_leftOf_11 : decode cX3_leftOf 11 = .ok (.iadd, 1) := dk_96 (dk_at dksX3_leftOf_0 11 rfl rfl)
theorem dX3_leftOf_12 : decode cX3_leftOf 12 = .ok (.iconst 2, 1) := dk_5 (dk_at dksX3_leftOf_0 12 rfl rfl)
theorem dX3_leftOf_13 : decode cX3_leftOf 13 = .ok (.iadd, 1) := dk_96 (dk_at dksX3_leftOf_0 13 rfl rfl)
theorem dX3_leftOf_14 : decode cX3_leftOf 14 = .ok (.iaload, 1) := dk_46 (dk_at dksX3_leftOf_0 14 rfl rfl)
theorem dX3_leftOf_15 : decode cX3_leftOf 15 = .ok (.istore 4, 2) := dk_54 4 (dk_at dksX3_leftOf_0 15 rfl rfl)
theorem dX3_leftOf_17 : decode cX3_leftOf 17 = .ok (.aload_n 0, 1) := dk_42 (dk_at dksX3_leftOf_0 17 rfl rfl)
theorem dX3_leftOf_18 : decode cX3_leftOf 18 = .ok (.getfield 41, 3) := dk_180 0 41 (dk_at dksX3_leftOf_0 18 rfl rfl)
theorem dX3_leftOf_21 : decode cX3_leftOf 21 = .ok (.bipush 16, 2) := dk_16 16 (dk_at dksX3_leftOf_0 21 rfl rfl)
theorem dX3_leftOf_23 : decode cX3_leftOf 23 = .ok (.iload_n 2, 1) := dk_28 (dk_at dksX3_leftOf_0 23 rfl rfl)
theorem dX3_leftOf_24 : decode cX3_leftOf 24 = .ok (.imul, 1) := dk_104 (dk_at dksX3_leftOf_1 0 rfl rfl)
theorem dX3_leftOf_25 : decode cX3_leftOf 25 = .ok (.iconst 4, 1) := dk_7 (dk_at dksX3_leftOf_1 1 rfl rfl)
theorem dX3_leftOf_26 : decode cX3_leftOf 26 = .ok (.iload_n 3, 1) := dk_29 (dk_at dksX3_leftOf_1 2 rfl rfl)
theorem dX3_leftOf_27 : decode cX3_leftOf 27 = .ok (.imul, 1) := dk_104 (dk_at dksX3_leftOf_1 3 rfl rfl)
theorem dX3_leftOf_28 : decode cX3_leftOf 28 = .ok (.iadd, 1) := dk_96 (dk_at dksX3_leftOf_1 4 rfl rfl)
theorem dX3_leftOf_29 : decode cX3_leftOf 29 = .ok (.iconst 3, 1) := dk_6 (dk_at dksX3_leftOf_1 5 rfl rfl)
theorem dX3_leftOf_30 : decode cX3_leftOf 30 = .ok (.iadd, 1) := dk_96 (dk_at dksX3_leftOf_1 6 rfl rfl)
theorem dX3_leftOf_31 : decode cX3_leftOf 31 = .ok (.iaload, 1) := dk_46 (dk_at dksX3_leftOf_1 7 rfl rfl)
theorem dX3_leftOf_32 : decode cX3_leftOf 32 = .ok (.istore 5, 2) := dk_54 5 (dk_at dksX3_leftOf_1 8 rfl rfl)
theorem dX3_leftOf_34 : decode cX3_leftOf 34 = .ok (.iload_n 1, 1) := dk_27 (dk_at dksX3_leftOf_1 10 rfl rfl)
theorem dX3_leftOf_35 : decode cX3_leftOf 35 = .ok (.iload 4, 2) := dk_21 4 (dk_at dksX3_leftOf_1 11 rfl rfl)
theorem dX3_leftOf_37 : decode cX3_leftOf 37 = .ok (.iload 5, 2) := dk_21 5 (dk_at dksX3_leftOf_1 13 rfl rfl)
theorem dX3_leftOf_39 : decode cX3_leftOf 39 = .ok (.invokestatic 165, 3) := dk_184 0 165 (dk_at dksX3_leftOf_1 15 rfl rfl)
theorem dX3_leftOf_42 : decode cX3_leftOf 42 = .ok (.ifCond .ne 5, 3) := dk_154 0 5 (dk_at dksX3_leftOf_1 18 rfl rfl)
theorem dX3_leftOf_45 : decode cX3_leftOf 45 = .ok (.iconst (-1), 1) := dk_2 (dk_at dksX3_leftOf_1 21 rfl rfl)
theorem dX3_leftOf_46 : decode cX3_leftOf 46 = .ok (.ireturn, 1) := dk_172 (dk_at dksX3_leftOf_1 22 rfl rfl)
theorem dX3_leftOf_47 : decode cX3_leftOf 47 = .ok (.iload 4, 2) := dk_21 4 (dk_at dksX3_leftOf_2 0 rfl rfl)
theorem dX3_leftOf_49 : decode cX3_leftOf 49 = .ok (.istore 6, 2) := dk_54 6 (dk_at dksX3_leftOf_2 2 rfl rfl)
theorem dX3_leftOf_51 : decode cX3_leftOf 51 = .ok (.iload 5, 2) := dk_21 5 (dk_at dksX3_leftOf_2 4 rfl rfl)
theorem dX3_leftOf_53 : decode cX3_leftOf 53 = .ok (.iload_n 1, 1) := dk_27 (dk_at dksX3_leftOf_2 6 rfl rfl)
theorem dX3_leftOf_54 : decode cX3_leftOf 54 = .ok (.iand, 1) := dk_126 (dk_at dksX3_leftOf_2 7 rfl rfl)
theorem dX3_leftOf_55 : decode cX3_leftOf 55 = .ok (.istore 7, 2) := dk_54 7 (dk_at dksX3_leftOf_2 8 rfl rfl)
theorem dX3_leftOf_57 : decode cX3_leftOf 57 = .ok (.iconst 0, 1) := dk_3 (dk_at dksX3_leftOf_2 10 rfl rfl)
theorem dX3_leftOf_58 : decode cX3_leftOf 58 = .ok (.istore 8, 2) := dk_54 8 (dk_at dksX3_leftOf_2 11 rfl rfl)
theorem dX3_leftOf_60 : decode cX3_leftOf 60 = .ok (.iload 8, 2) := dk_21 8 (dk_at dksX3_leftOf_2 13 rfl rfl)
theorem dX3_leftOf_62 : decode cX3_leftOf 62 = .ok (.bipush 8, 2) := dk_16 8 (dk_at dksX3_leftOf_2 15 rfl rfl)
theorem dX3_leftOf_64 : decode cX3_leftOf 64 = .ok (.if_icmp .ge 31, 3) := dk_162 0 31 (dk_at dksX3_leftOf_2 17 rfl rfl)
theorem dX3_leftOf_67 : decode cX3_leftOf 67 = .ok (.iload 7, 2) := dk_21 7 (dk_at dksX3_leftOf_2 20 rfl rfl)
theorem dX3_leftOf_69 : decode cX3_leftOf 69 = .ok (.iload 8, 2) := dk_21 8 (dk_at dksX3_leftOf_2 22 rfl rfl)
theorem dX3_leftOf_71 : decode cX3_leftOf 71 = .ok (.invokestatic 85, 3) := dk_184 0 85 (dk_at dksX3_leftOf_3 0 rfl rfl)
theorem dX3_leftOf_74 : decode cX3_leftOf 74 = .ok (.ifCond .eq 15, 3) := dk_153 0 15 (dk_at dksX3_leftOf_3 3 rfl rfl)
theorem dX3_leftOf_77 : decode cX3_leftOf 77 = .ok (.iload 6, 2) := dk_21 6 (dk_at dksX3_leftOf_3 6 rfl rfl)
theorem dX3_leftOf_79 : decode cX3_leftOf 79 = .ok (.iconst 1, 1) := dk_4 (dk_at dksX3_leftOf_3 8 rfl rfl)
theorem dX3_leftOf_80 : decode cX3_leftOf 80 = .ok (.iload 8, 2) := dk_21 8 (dk_at dksX3_leftOf_3 9 rfl rfl)
theorem dX3_leftOf_82 : decode cX3_leftOf 82 = .ok (.ishl, 1) := dk_120 (dk_at dksX3_leftOf_3 11 rfl rfl)
theorem dX3_leftOf_83 : decode cX3_leftOf 83 = .ok (.ior, 1) := dk_128 (dk_at dksX3_leftOf_3 12 rfl rfl)
theorem dX3_leftOf_84 : decode cX3_leftOf 84 = .ok (.istore 6, 2) := dk_54 6 (dk_at dksX3_leftOf_3 13 rfl rfl)
theorem dX3_leftOf_86 : decode cX3_leftOf 86 = .ok (.iconst 0, 1) := dk_3 (dk_at dksX3_leftOf_3 15 rfl rfl)
theorem dX3_leftOf_87 : decode cX3_leftOf 87 = .ok (.istore 7, 2) := dk_54 7 (dk_at dksX3_leftOf_3 16 rfl rfl)
theorem dX3_leftOf_89 : decode cX3_leftOf 89 = .ok (.iinc 8 1, 3) := dk_132 8 1 (dk_at dksX3_leftOf_3 18 rfl rfl)
theorem dX3_leftOf_92 : decode cX3_leftOf 92 = .ok (.goto (-32), 3) := dk_167 255 224 (dk_at dksX3_leftOf_3 21 rfl rfl)
theorem dX3_leftOf_95 : decode cX3_leftOf 95 = .ok (.iload_n 1, 1) := dk_27 (dk_at dksX3_leftOf_4 0 rfl rfl)
theorem dX3_leftOf_96 : decode cX3_leftOf 96 = .ok (.iload 6, 2) := dk_21 6 (dk_at dksX3_leftOf_4 1 rfl rfl)
theorem dX3_leftOf_98 : decode cX3_leftOf 98 = .ok (.aload_n 0, 1) := dk_42 (dk_at dksX3_leftOf_4 3 rfl rfl)
theorem dX3_leftOf_99 : decode cX3_leftOf 99 = .ok (.getfield 130, 3) := dk_180 0 130 (dk_at dksX3_leftOf_4 4 rfl rfl)
theorem dX3_leftOf_102 : decode cX3_leftOf 102 = .ok (.iconst (-1), 1) := dk_2 (dk_at dksX3_leftOf_4 7 rfl rfl)
theorem dX3_leftOf_103 : decode cX3_leftOf 103 = .ok (.ixor, 1) := dk_130 (dk_at dksX3_leftOf_4 8 rfl rfl)
theorem dX3_leftOf_104 : decode cX3_leftOf 104 = .ok (.iand, 1) := dk_126 (dk_at dksX3_leftOf_4 9 rfl rfl)
theorem dX3_leftOf_105 : decode cX3_leftOf 105 = .ok (.iconst (-1), 1) := dk_2 (dk_at dksX3_leftOf_4 10 rfl rfl)
theorem dX3_leftOf_106 : decode cX3_leftOf 106 = .ok (.ixor, 1) := dk_130 (dk_at dksX3_leftOf_4 11 rfl rfl)
theorem dX3_leftOf_107 : decode cX3_leftOf 107 = .ok (.iand, 1) := dk_126 (dk_at dksX3_leftOf_4 12 rfl rfl)
theorem dX3_leftOf_108 : decode cX3_leftOf 108 = .ok (.ireturn, 1) := dk_172 (dk_at dksX3_leftOf_4 13 rfl rfl)
abbrev cX3_fits : ByteArray := prog_12_method_30_code
def yX3_fits : MethodName := ⟨RX3, "fits", "(III)Z"⟩
def dkwX3_fits_0 : List UInt8 := [27, 26, 2, 130, 126, 154, 0, 17, 28, 153, 0, 9, 28, 26, 126, 153, 0, 7, 4, 167, 0, 4, 3, 172]
abbrev dktX3_fits_0 : List UInt8 := dkwX3_fits_0 ++ []
theorem dksX3_fits_0 : cX3_fits.data.toList.drop 0 = dktX3_fits_0 := by decide +kernel
theorem dX3_fits_0 : decode cX3_fits 0 = .ok (.iload_n 1, 1) := dk_27 (dk_at dksX3_fits_0 0 rfl rfl)
theorem dX3_fits_1 : decode cX3_fits 1 = .ok (.iload_n 0, 1) := dk_26 (dk_at dksX3_fits_0 1 rfl rfl)
theorem dX3_fits_2 : decode cX3_fits 2 = .ok (.iconst (-1), 1) := dk_2 (dk_at dksX3_fits_0 2 rfl rfl)
theorem dX3_fits_3 : decode cX3_fits 3 = .ok (.ixor, 1) := dk_130 (dk_at dksX3_fits_0 3 rfl rfl)
theorem dX3_fits_4 : decode cX3_fits 4 = .ok (.iand, 1) := dk_126 (dk_at dksX3_fits_0 4 rfl rfl)
theorem dX3_fits_5 : decode cX3_fits 5 = .ok (.ifCond .ne 17, 3) := dk_154 0 17 (dk_at dksX3_fits_0 5 rfl rfl)
theorem dX3_fits_8 : decode cX3_fits 8 = .ok (.iload_n 2, 1) := dk_28 (dk_at dksX3_fits_0 8 rfl rfl)
theorem dX3_fits_9 : decode cX3_fits 9 = .ok (.ifCond .eq 9, 3) := dk_153 0 9 (dk_at dksX3_fits_0 9 rfl rfl)
theorem dX3_fits_12 : decode cX3_fits 12 = .ok (.iload_n 2, 1) := dk_28 (dk_at dksX3_fits_0 12 rfl rfl)
theorem dX3_fits_13 : decode cX3_fits 13 = .ok (.iload_n 0, 1) := dk_26 (dk_at dksX3_fits_0 13 rfl rfl)
theorem dX3_fits_14 : decode cX3_fits 14 = .ok (.iand, 1) := dk_126 (dk_at dksX3_fits_0 14 rfl rfl)
theorem dX3_fits_15 : decode cX3_fits 15 = .ok (.ifCond .eq 7, 3) := dk_153 0 7 (dk_at dksX3_fits_0 15 rfl rfl)
theorem dX3_fits_18 : decode cX3_fits 18 = .ok (.iconst 1, 1) := dk_4 (dk_at dksX3_fits_0 18 rfl rfl)
theorem dX3_fits_19 : decode cX3_fits 19 = .ok (.goto 4, 3) := dk_167 0 4 (dk_at dksX3_fits_0 19 rfl rfl)
theorem dX3_fits_22 : decode cX3_fits 22 = .ok (.iconst 0, 1) := dk_3 (dk_at dksX3_fits_0 22 rfl rfl)
theorem dX3_fits_23 : decode cX3_fits 23 = .ok (.ireturn, 1) := dk_172 (dk_at dksX3_fits_0 23 rfl rfl)
abbrev cX3_chance : ByteArray := prog_12_method_38_code
def yX3_chance : MethodName := ⟨RX3, "chance", "(III)I"⟩
def dkwX3_chance_4 : List UInt8 := [182, 0, 182, 133, 29, 184, 0, 185, 136, 172]
abbrev dktX3_chance_4 : List UInt8 := dkwX3_chance_4 ++ []
def dkwX3_chance_3 : List UInt8 := [28, 104, 7, 21, 5, 104, 96, 46, 96, 54, 4, 132, 5, 1, 167, 255, 207, 21, 4, 133, 42, 28]
abbrev dktX3_chance_3 : List UInt8 := dkwX3_chance_3 ++ dktX3_chance_4
def dkwX3_chance_2 : List UInt8 := [21, 4, 42, 27, 28, 21, 5, 182, 0, 168, 2, 160, 0, 7, 3, 167, 0, 17, 42, 180, 0, 41, 16, 16]
abbrev dktX3_chance_2 : List UInt8 := dkwX3_chance_2 ++ dktX3_chance_3
def dkwX3_chance_1 : List UInt8 := [154, 0, 6, 16, 253, 172, 3, 54, 4, 3, 54, 5, 21, 5, 42, 180, 0, 38, 28, 46, 162, 0, 44]
abbrev dktX3_chance_1 : List UInt8 := dkwX3_chance_1 ++ dktX3_chance_2
def dkwX3_chance_0 : List UInt8 := [42, 28, 182, 0, 176, 154, 0, 6, 16, 254, 172, 27, 184, 0, 159, 153, 0, 10, 29, 184, 0, 179]
abbrev dktX3_chance_0 : List UInt8 := dkwX3_chance_0 ++ dktX3_chance_1
theorem dksX3_chance_0 : cX3_chance.data.toList.drop 0 = dktX3_chance_0 := by decide +kernel
theorem dksX3_chance_1 : cX3_chance.data.toList.drop 22 = dktX3_chance_1 := dk_seg dksX3_chance_0 22 rfl rfl
theorem dksX3_chance_2 : cX3_chance.data.toList.drop 45 = dktX3_chance_2 := dk_seg dksX3_chance_1 23 rfl rfl
theorem dksX3_chance_3 : cX3_chance.data.toList.drop 69 = dktX3_chance_3 := dk_seg dksX3_chance_2 24 rfl rfl
theorem dksX3_chance_4 : cX3_chance.data.toList.drop 91 = dktX3_chance_4 := dk_seg dksX3_chance_3 22 rfl rfl
theorem dX3_chance_0 : decode cX3_chance 0 = .ok (.aload_n 0, 1) := dk_42 (dk_at dksX3_chance_0 0 rfl rfl)
theorem dX3_chance_1 : decode cX3_chance 1 = .ok (.iload_n 2, 1) := dk_28 (dk_at dksX3_chance_0 1 rfl rfl)
theorem dX3_chance_2 : decode cX3_chance 2 = .ok (.invokevirtual 176, 3) := dk_182 0 176 (dk_at dksX3_chance_0 2 rfl rfl)
theorem dX3_chance_5 : decode cX3_chance 5 = .ok (.ifCond .ne 6, 3) := dk_154 0 6 (dk_at dksX3_chance_0 5 rfl rfl)
theorem dX3_chance_8 : decode cX3_chance 8 = .ok (.bipush (-2), 2) := dk_16 254 (dk_at dksX3_chance_0 8 rfl rfl)
theorem dX3_chance_10 : decode cX3_chance 10 = .ok (.ireturn, 1) := dk_172 (dk_at dksX3_chance_0 10 rfl rfl)
theorem dX3_chance_11 : decode cX3_chance 11 = .ok (.iload_n 1, 1) := dk_27 (dk_at dksX3_chance_0 11 rfl rfl)
theorem dX3_chance_12 : decode cX3_chance 12 = .ok (.invokestatic 159, 3) := dk_184 0 159 (dk_at dksX3_chance_0 12 rfl rfl)
theorem dX3_chance_15 : decode cX3_chance 15 = .ok (.ifCond .eq 10, 3) := dk_153 0 10 (dk_at dksX3_chance_0 15 rfl rfl)
theorem dX3_chance_18 : decode cX3_chance 18 = .ok (.iload_n 3, 1) := dk_29 (dk_at dksX3_chance_0 18 rfl rfl)
theorem dX3_chance_19 : decode cX3_chance 19 = .ok (.invokestatic 179, 3) := dk_184 0 179 (dk_at dksX3_chance_0 19 rfl rfl)
theorem dX3_chance_22 : decode cX3_chance 22 = .ok (.ifCond .ne 6, 3) := dk_154 0 6 (dk_at dksX3_chance_1 0 rfl rfl)
theorem dX3_chance_25 : decode cX3_chance 25 = .ok (.bipush (-3), 2) := dk_16 253 (dk_at dksX3_chance_1 3 rfl rfl)
theorem dX3_chance_27 : decode cX3_chance 27 = .ok (.ireturn, 1) := dk_172 (dk_at dksX3_chance_1 5 rfl rfl)
theorem dX3_chance_28 : decode cX3_chance 28 = .ok (.iconst 0, 1) := dk_3 (dk_at dksX3_chance_1 6 rfl rfl)
theorem dX3_chance_29 : decode cX3_chance 29 = .ok (.istore 4, 2) := dk_54 4 (dk_at dksX3_chance_1 7 rfl rfl)
theorem dX3_chance_31 : decode cX3_chance 31 = .ok (.iconst 0, 1) := dk_3 (dk_at dksX3_chance_1 9 rfl rfl)
theorem dX3_chance_32 : decode cX3_chance 32 = .ok (.istore 5, 2) := dk_54 5 (dk_at dksX3_chance_1 10 rfl rfl)
theorem dX3_chance_34 : decode cX3_chance 34 = .ok (.iload 5, 2) := dk_21 5 (dk_at dksX3_chance_1 12 rfl rfl)
theorem dX3_chance_36 : decode cX3_chance 36 = .ok (.aload_n 0, 1) := dk_42 (dk_at dksX3_chance_1 14 rfl rfl)
theorem dX3_chance_37 : decode cX3_chance 37 = .ok (.getfield 38, 3) := dk_180 0 38 (dk_at dksX3_chance_1 15 rfl rfl)
theorem dX3_chance_40 : decode cX3_chance 40 = .ok (.iload_n 2, 1) := dk_28 (dk_at dksX3_chance_1 18 rfl rfl)
theorem dX3_chance_41 : decode cX3_chance 41 = .ok (.iaload, 1) := dk_46 (dk_at dksX3_chance_1 19 rfl rfl)
theorem dX3_chance_42 : decode cX3_chance 42 = .ok (.if_icmp .ge 44, 3) := dk_162 0 44 (dk_at dksX3_chance_1 20 rfl rfl)
theorem dX3_chance_45 : decode cX3_chance 45 = .ok (.iload 4, 2) := dk_21 4 (dk_at dksX3_chance_2 0 rfl rfl)
theorem dX3_chance_47 : decode cX3_chance 47 = .ok (.aload_n 0, 1) := dk_42 (dk_at dksX3_chance_2 2 rfl rfl)
theorem dX3_chance_48 : decode cX3_chance 48 = .ok (.iload_n 1, 1) := dk_27 (dk_at dksX3_chance_2 3 rfl rfl)
theorem dX3_chance_49 : decode cX3_chance 49 = .ok (.iload_n 2, 1) := dk_28 (dk_at dksX3_chance_2 4 rfl rfl)
theorem dX3_chance_50 : decode cX3_chance 50 = .ok (.iload 5, 2) := dk_21 5 (dk_at dksX3_chance_2 5 rfl rfl)
theorem dX3_chance_52 : decode cX3_chance 52 = .ok (.invokevirtual 168, 3) := dk_182 0 168 (dk_at dksX3_chance_2 7 rfl rfl)
theorem dX3_chance_55 : decode cX3_chance 55 = .ok (.iconst (-1), 1) := dk_2 (dk_at dksX3_chance_2 10 rfl rfl)
theorem dX3_chance_56 : decode cX3_chance 56 = .ok (.if_icmp .ne 7, 3) := dk_160 0 7 (dk_at dksX3_chance_2 11 rfl rfl)
theorem dX3_chance_59 : decode cX3_chance 59 = .ok (.iconst 0, 1) := dk_3 (dk_at dksX3_chance_2 14 rfl rfl)
theorem dX3_chance_60 : decode cX3_chance 60 = .ok (.goto 17, 3) := dk_167 0 17 (dk_at dksX3_chance_2 15 rfl rfl)
theorem dX3_chance_63 : decode cX3_chance 63 = .ok (.aload_n 0, 1) := dk_42 (dk_at dksX3_chance_2 18 rfl rfl)
theorem dX3_chance_64 : decode cX3_chance 64 = .ok (.getfield 41, 3) := dk_180 0 41 (dk_at dksX3_chance_2 19 rfl rfl)
theorem dX3_chance_67 : decode cX3_chance 67 = .ok (.bipush 16, 2) := dk_16 16 (dk_at dksX3_chance_2 22 rfl rfl)
theorem dX3_chance_69 : decode cX3_chance 69 = .ok (.iload_n 2, 1) := dk_28 (dk_at dksX3_chance_3 0 rfl rfl)
theorem dX3_chance_70 : decode cX3_chance 70 = .ok (.imul, 1) := dk_104 (dk_at dksX3_chance_3 1 rfl rfl)
theorem dX3_chance_71 : decode cX3_chance 71 = .ok (.iconst 4, 1) := dk_7 (dk_at dksX3_chance_3 2 rfl rfl)
theorem dX3_chance_72 : decode cX3_chance 72 = .ok (.iload 5, 2) := dk_21 5 (dk_at dksX3_chance_3 3 rfl rfl)
theorem dX3_chance_74 : decode cX3_chance 74 = .ok (.imul, 1) := dk_104 (dk_at dksX3_chance_3 5 rfl rfl)
theorem dX3_chance_75 : decode cX3_chance 75 = .ok (.iadd, 1) := dk_96 (dk_at dksX3_chance_3 6 rfl rfl)
theorem dX3_chance_76 : decode cX3_chance 76 = .ok (.iaload, 1) := dk_46 (dk_at dksX3_chance_3 7 rfl rfl)
theorem dX3_chance_77 : decode cX3_chance 77 = .ok (.iadd, 1) := dk_96 (dk_at dksX3_chance_3 8 rfl rfl)
theorem dX3_chance_78 : decode cX3_chance 78 = .ok (.istore 4, 2) := dk_54 4 (dk_at dksX3_chance_3 9 rfl rfl)
theorem dX3_chance_80 : decode cX3_chance 80 = .ok (.iinc 5 1, 3) := dk_132 5 1 (dk_at dksX3_chance_3 11 rfl rfl)
theorem dX3_chance_83 : decode cX3_chance 83 = .ok (.goto (-49), 3) := dk_167 255 207 (dk_at dksX3_chance_3 14 rfl rfl)
theorem dX3_chance_86 : decode cX3_chance 86 = .ok (.iload 4, 2) := dk_21 4 (dk_at dksX3_chance_3 17 rfl rfl)
theorem dX3_chance_88 : decode cX3_chance 88 = .ok (.i2l, 1) := dk_133 (dk_at dksX3_chance_3 19 rfl rfl)
theorem dX3_chance_89 : decode cX3_chance 89 = .ok (.aload_n 0, 1) := dk_42 (dk_at dksX3_chance_3 20 rfl rfl)
theorem dX3_chance_90 : decode cX3_chance 90 = .ok (.iload_n 2, 1) := dk_28 (dk_at dksX3_chance_3 21 rfl rfl)
theorem dX3_chance_91 : decode cX3_chance 91 = .ok (.invokevirtual 182, 3) := dk_182 0 182 (dk_at dksX3_chance_4 0 rfl rfl)
theorem dX3_chance_94 : decode cX3_chance 94 = .ok (.i2l, 1) := dk_133 (dk_at dksX3_chance_4 3 rfl rfl)
theorem dX3_chance_95 : decode cX3_chance 95 = .ok (.iload_n 3, 1) := dk_29 (dk_at dksX3_chance_4 4 rfl rfl)
theorem dX3_chance_96 : decode cX3_chance 96 = .ok (.invokestatic 185, 3) := dk_184 0 185 (dk_at dksX3_chance_4 5 rfl rfl)
theorem dX3_chance_99 : decode cX3_chance 99 = .ok (.l2i, 1) := dk_136 (dk_at dksX3_chance_4 8 rfl rfl)
theorem dX3_chance_100 : decode cX3_chance 100 = .ok (.ireturn, 1) := dk_172 (dk_at dksX3_chance_4 9 rfl rfl)
abbrev cX3_isUsable : ByteArray := prog_12_method_34_code
def yX3_isUsable : MethodName := ⟨RX3, "isUsable", "(I)Z"⟩
def dkwX3_isUsable_0 : List UInt8 := [42, 27, 182, 0, 148, 153, 0, 16, 42, 180, 0, 38, 27, 46, 158, 0, 7, 4, 167, 0, 4, 3, 172]
abbrev dktX3_isUsable_0 : List UInt8 := dkwX3_isUsable_0 ++ []
theorem dksX3_isUsable_0 : cX3_isUsable.data.toList.drop 0 = dktX3_isUsable_0 := by decide +kernel
theorem dX3_isUsable_0 : decode cX3_isUsable 0 = .ok (.aload_n 0, 1) := dk_42 (dk_at dksX3_isUsable_0 0 rfl rfl)
theorem dX3_isUsable_1 : decode cX3_isUsable 1 = .ok (.iload_n 1, 1) := dk_27 (dk_at dksX3_isUsable_0 1 rfl rfl)
theorem dX3_isUsable_2 : decode cX3_isUsable 2 = .ok (.invokevirtual 148, 3) := dk_182 0 148 (dk_at dksX3_isUsable_0 2 rfl rfl)
theorem dX3_isUsable_5 : decode cX3_isUsable 5 = .ok (.ifCond .eq 16, 3) := dk_153 0 16 (dk_at dksX3_isUsable_0 5 rfl rfl)
theorem dX3_isUsable_8 : decode cX3_isUsable 8 = .ok (.aload_n 0, 1) := dk_42 (dk_at dksX3_isUsable_0 8 rfl rfl)
theorem dX3_isUsable_9 : decode cX3_isUsable 9 = .ok (.getfield 38, 3) := dk_180 0 38 (dk_at dksX3_isUsable_0 9 rfl rfl)
theorem dX3_isUsable_12 : decode cX3_isUsable 12 = .ok (.iload_n 1, 1) := dk_27 (dk_at dksX3_isUsable_0 12 rfl rfl)
theorem dX3_isUsable_13 : decode cX3_isUsable 13 = .ok (.iaload, 1) := dk_46 (dk_at dksX3_isUsable_0 13 rfl rfl)
theorem dX3_isUsable_14 : decode cX3_isUsable 14 = .ok (.ifCond .le 7, 3) := dk_158 0 7 (dk_at dksX3_isUsable_0 14 rfl rfl)
theorem dX3_isUsable_17 : decode cX3_isUsable 17 = .ok (.iconst 1, 1) := dk_4 (dk_at dksX3_isUsable_0 17 rfl rfl)
theorem dX3_isUsable_18 : decode cX3_isUsable 18 = .ok (.goto 4, 3) := dk_167 0 4 (dk_at dksX3_isUsable_0 18 rfl rfl)
theorem dX3_isUsable_21 : decode cX3_isUsable 21 = .ok (.iconst 0, 1) := dk_3 (dk_at dksX3_isUsable_0 21 rfl rfl)
theorem dX3_isUsable_22 : decode cX3_isUsable 22 = .ok (.ireturn, 1) := dk_172 (dk_at dksX3_isUsable_0 22 rfl rfl)
abbrev cX3_isPart : ByteArray := prog_12_method_37_code
def yX3_isPart : MethodName := ⟨RX3, "isPart", "(I)Z"⟩
def dkwX3_isPart_0 : List UInt8 := [26, 133, 9, 10, 184, 0, 55, 172]
abbrev dktX3_isPart_0 : List UInt8 := dkwX3_isPart_0 ++ []
theorem dksX3_isPart_0 : cX3_isPart.data.toList.drop 0 = dktX3_isPart_0 := by decide +kernel
theorem dX3_isPart_0 : decode cX3_isPart 0 = .ok (.iload_n 0, 1) := dk_26 (dk_at dksX3_isPart_0 0 rfl rfl)
theorem dX3_isPart_1 : decode cX3_isPart 1 = .ok (.i2l, 1) := dk_133 (dk_at dksX3_isPart_0 1 rfl rfl)
theorem dX3_isPart_2 : decode cX3_isPart 2 = .ok (.lconst 0, 1) := dk_9 (dk_at dksX3_isPart_0 2 rfl rfl)
theorem dX3_isPart_3 : decode cX3_isPart 3 = .ok (.lconst 1, 1) := dk_10 (dk_at dksX3_isPart_0 3 rfl rfl)
theorem dX3_isPart_4 : decode cX3_isPart 4 = .ok (.invokestatic 55, 3) := dk_184 0 55 (dk_at dksX3_isPart_0 4 rfl rfl)
theorem dX3_isPart_7 : decode cX3_isPart 7 = .ok (.ireturn, 1) := dk_172 (dk_at dksX3_isPart_0 7 rfl rfl)
abbrev cX3_totalOf : ByteArray := prog_12_method_33_code
def yX3_totalOf : MethodName := ⟨RX3, "totalOf", "(I)I"⟩
def dkwX3_totalOf_1 : List UInt8 := [29, 104, 96, 46, 96, 61, 132, 3, 1, 167, 255, 227, 28, 172]
abbrev dktX3_totalOf_1 : List UInt8 := dkwX3_totalOf_1 ++ []
def dkwX3_totalOf_0 : List UInt8 := [3, 61, 3, 62, 29, 42, 180, 0, 38, 27, 46, 162, 0, 25, 28, 42, 180, 0, 41, 16, 16, 27, 104, 7]
abbrev dktX3_totalOf_0 : List UInt8 := dkwX3_totalOf_0 ++ dktX3_totalOf_1
theorem dksX3_totalOf_0 : cX3_totalOf.data.toList.drop 0 = dktX3_totalOf_0 := by decide +kernel
theorem dksX3_totalOf_1 : cX3_totalOf.data.toList.drop 24 = dktX3_totalOf_1 := dk_seg dksX3_totalOf_0 24 rfl rfl
theorem dX3_totalOf_0 : decode cX3_totalOf 0 = .ok (.iconst 0, 1) := dk_3 (dk_at dksX3_totalOf_0 0 rfl rfl)
theorem dX3_totalOf_1 : decode cX3_totalOf 1 = .ok (.istore_n 2, 1) := dk_61 (dk_at dksX3_totalOf_0 1 rfl rfl)
theorem dX3_totalOf_2 : decode cX3_totalOf 2 = .ok (.iconst 0, 1) := dk_3 (dk_at dksX3_totalOf_0 2 rfl rfl)
theorem dX3_totalOf_3 : decode cX3_totalOf 3 = .ok (.istore_n 3, 1) := dk_62 (dk_at dksX3_totalOf_0 3 rfl rfl)
theorem dX3_totalOf_4 : decode cX3_totalOf 4 = .ok (.iload_n 3, 1) := dk_29 (dk_at dksX3_totalOf_0 4 rfl rfl)
theorem dX3_totalOf_5 : decode cX3_totalOf 5 = .ok (.aload_n 0, 1) := dk_42 (dk_at dksX3_totalOf_0 5 rfl rfl)
theorem dX3_totalOf_6 : decode cX3_totalOf 6 = .ok (.getfield 38, 3) := dk_180 0 38 (dk_at dksX3_totalOf_0 6 rfl rfl)
theorem dX3_totalOf_9 : decode cX3_totalOf 9 = .ok (.iload_n 1, 1) := dk_27 (dk_at dksX3_totalOf_0 9 rfl rfl)
theorem dX3_totalOf_10 : decode cX3_totalOf 10 = .ok (.iaload, 1) := dk_46 (dk_at dksX3_totalOf_0 10 rfl rfl)
theorem dX3_totalOf_11 : decode cX3_totalOf 11 = .ok (.if_icmp .ge 25, 3) := dk_162 0 25 (dk_at dksX3_totalOf_0 11 rfl rfl)
theorem dX3_totalOf_14 : decode cX3_totalOf 14 = .ok (.iload_n 2, 1) := dk_28 (dk_at dksX3_totalOf_0 14 rfl rfl)
theorem dX3_totalOf_15 : decode cX3_totalOf 15 = .ok (.aload_n 0, 1) := dk_42 (dk_at dksX3_totalOf_0 15 rfl rfl)
theorem dX3_totalOf_16 : decode cX3_totalOf 16 = .ok (.getfield 41, 3) := dk_180 0 41 (dk_at dksX3_totalOf_0 16 rfl rfl)
theorem dX3_totalOf_19 : decode cX3_totalOf 19 = .ok (.bipush 16, 2) := dk_16 16 (dk_at dksX3_totalOf_0 19 rfl rfl)
theorem dX3_totalOf_21 : decode cX3_totalOf 21 = .ok (.iload_n 1, 1) := dk_27 (dk_at dksX3_totalOf_0 21 rfl rfl)
theorem dX3_totalOf_22 : decode cX3_totalOf 22 = .ok (.imul, 1) := dk_104 (dk_at dksX3_totalOf_0 22 rfl rfl)
theorem dX3_totalOf_23 : decode cX3_totalOf 23 = .ok (.iconst 4, 1) := dk_7 (dk_at dksX3_totalOf_0 23 rfl rfl)
theorem dX3_totalOf_24 : decode cX3_totalOf 24 = .ok (.iload_n 3, 1) := dk_29 (dk_at dksX3_totalOf_1 0 rfl rfl)
theorem dX3_totalOf_25 : decode cX3_totalOf 25 = .ok (.imul, 1) := dk_104 (dk_at dksX3_totalOf_1 1 rfl rfl)
theorem dX3_totalOf_26 : decode cX3_totalOf 26 = .ok (.iadd, 1) := dk_96 (dk_at dksX3_totalOf_1 2 rfl rfl)
theorem dX3_totalOf_27 : decode cX3_totalOf 27 = .ok (.iaload, 1) := dk_46 (dk_at dksX3_totalOf_1 3 rfl rfl)
theorem dX3_totalOf_28 : decode cX3_totalOf 28 = .ok (.iadd, 1) := dk_96 (dk_at dksX3_totalOf_1 4 rfl rfl)
theorem dX3_totalOf_29 : decode cX3_totalOf 29 = .ok (.istore_n 2, 1) := dk_61 (dk_at dksX3_totalOf_1 5 rfl rfl)
theorem dX3_totalOf_30 : decode cX3_totalOf 30 = .ok (.iinc 3 1, 3) := dk_132 3 1 (dk_at dksX3_totalOf_1 6 rfl rfl)
theorem dX3_totalOf_33 : decode cX3_totalOf 33 = .ok (.goto (-29), 3) := dk_167 255 227 (dk_at dksX3_totalOf_1 9 rfl rfl)
theorem dX3_totalOf_36 : decode cX3_totalOf 36 = .ok (.iload_n 2, 1) := dk_28 (dk_at dksX3_totalOf_1 12 rfl rfl)
theorem dX3_totalOf_37 : decode cX3_totalOf 37 = .ok (.ireturn, 1) := dk_172 (dk_at dksX3_totalOf_1 13 rfl rfl)
abbrev cX3_lowest : ByteArray := prog_12_method_36_code
def yX3_lowest : MethodName := ⟨RX3, "lowest", "(JJI)J"⟩
def dkwX3_lowest_0 : List UInt8 := [30, 32, 184, 0, 172, 55, 5, 21, 4, 154, 0, 10, 30, 22, 5, 109, 167, 0, 7, 32, 22, 5, 109, 173]
abbrev dktX3_lowest_0 : List UInt8 := dkwX3_lowest_0 ++ []
theorem dksX3_lowest_0 : cX3_lowest.data.toList.drop 0 = dktX3_lowest_0 := by decide +kernel
theorem dX3_lowest_0 : decode cX3_lowest 0 = .ok (.lload_n 0, 1) := dk_30 (dk_at dksX3_lowest_0 0 rfl rfl)
theorem dX3_lowest_1 : decode cX3_lowest 1 = .ok (.lload_n 2, 1) := dk_32 (dk_at dksX3_lowest_0 1 rfl rfl)
theorem dX3_lowest_2 : decode cX3_lowest 2 = .ok (.invokestatic 172, 3) := dk_184 0 172 (dk_at dksX3_lowest_0 2 rfl rfl)
theorem dX3_lowest_5 : decode cX3_lowest 5 = .ok (.lstore 5, 2) := dk_55 5 (dk_at dksX3_lowest_0 5 rfl rfl)
theorem dX3_lowest_7 : decode cX3_lowest 7 = .ok (.iload 4, 2) := dk_21 4 (dk_at dksX3_lowest_0 7 rfl rfl)
theorem dX3_lowest_9 : decode cX3_lowest 9 = .ok (.ifCond .ne 10, 3) := dk_154 0 10 (dk_at dksX3_lowest_0 9 rfl rfl)
theorem dX3_lowest_12 : decode cX3_lowest 12 = .ok (.lload_n 0, 1) := dk_30 (dk_at dksX3_lowest_0 12 rfl rfl)
theorem dX3_lowest_13 : decode cX3_lowest 13 = .ok (.lload 5, 2) := dk_22 5 (dk_at dksX3_lowest_0 13 rfl rfl)
theorem dX3_lowest_15 : decode cX3_lowest 15 = .ok (.ldiv, 1) := dk_109 (dk_at dksX3_lowest_0 15 rfl rfl)
theorem dX3_lowest_16 : decode cX3_lowest 16 = .ok (.goto 7, 3) := dk_167 0 7 (dk_at dksX3_lowest_0 16 rfl rfl)
theorem dX3_lowest_19 : decode cX3_lowest 19 = .ok (.lload_n 2, 1) := dk_32 (dk_at dksX3_lowest_0 19 rfl rfl)
theorem dX3_lowest_20 : decode cX3_lowest 20 = .ok (.lload 5, 2) := dk_22 5 (dk_at dksX3_lowest_0 20 rfl rfl)
theorem dX3_lowest_22 : decode cX3_lowest 22 = .ok (.ldiv, 1) := dk_109 (dk_at dksX3_lowest_0 22 rfl rfl)
theorem dX3_lowest_23 : decode cX3_lowest 23 = .ok (.lreturn, 1) := dk_173 (dk_at dksX3_lowest_0 23 rfl rfl)
abbrev cX3_divisor : ByteArray := prog_12_method_35_code
def yX3_divisor : MethodName := ⟨RX3, "divisor", "(JJ)J"⟩
def dkwX3_divisor_1 : List UInt8 := [22, 4, 22, 6, 113, 55, 8, 22, 6, 55, 4, 22, 8, 55, 6, 167, 255, 234, 22, 4, 173]
abbrev dktX3_divisor_1 : List UInt8 := dkwX3_divisor_1 ++ []
def dkwX3_divisor_0 : List UInt8 := [30, 9, 148, 156, 0, 8, 30, 117, 167, 0, 4, 30, 55, 4, 32, 55, 6, 22, 6, 9, 148, 153, 0, 21]
abbrev dktX3_divisor_0 : List UInt8 := dkwX3_divisor_0 ++ dktX3_divisor_1
theorem dksX3_divisor_0 : cX3_divisor.data.toList.drop 0 = dktX3_divisor_0 := by decide +kernel
theorem dksX3_divisor_1 : cX3_divisor.data.toList.drop 24 = dktX3_divisor_1 := dk_seg dksX3_divisor_0 24 rfl rfl
theorem dX3_divisor_0 : decode cX3_divisor 0 = .ok (.lload_n 0, 1) := dk_30 (dk_at dksX3_divisor_0 0 rfl rfl)
theorem dX3_divisor_1 : decode cX3_divisor 1 = .ok (.lconst 0, 1) := dk_9 (dk_at dksX3_divisor_0 1 rfl rfl)
theorem dX3_divisor_2 : decode cX3_divisor 2 = .ok (.lcmp, 1) := dk_148 (dk_at dksX3_divisor_0 2 rfl rfl)
theorem dX3_divisor_3 : decode cX3_divisor 3 = .ok (.ifCond .ge 8, 3) := dk_156 0 8 (dk_at dksX3_divisor_0 3 rfl rfl)
theorem dX3_divisor_6 : decode cX3_divisor 6 = .ok (.lload_n 0, 1) := dk_30 (dk_at dksX3_divisor_0 6 rfl rfl)
theorem dX3_divisor_7 : decode cX3_divisor 7 = .ok (.lneg, 1) := dk_117 (dk_at dksX3_divisor_0 7 rfl rfl)
theorem dX3_divisor_8 : decode cX3_divisor 8 = .ok (.goto 4, 3) := dk_167 0 4 (dk_at dksX3_divisor_0 8 rfl rfl)
theorem dX3_divisor_11 : decode cX3_divisor 11 = .ok (.lload_n 0, 1) := dk_30 (dk_at dksX3_divisor_0 11 rfl rfl)
theorem dX3_divisor_12 : decode cX3_divisor 12 = .ok (.lstore 4, 2) := dk_55 4 (dk_at dksX3_divisor_0 12 rfl rfl)
theorem dX3_divisor_14 : decode cX3_divisor 14 = .ok (.lload_n 2, 1) := dk_32 (dk_at dksX3_divisor_0 14 rfl rfl)
theorem dX3_divisor_15 : decode cX3_divisor 15 = .ok (.lstore 6, 2) := dk_55 6 (dk_at dksX3_divisor_0 15 rfl rfl)
theorem dX3_divisor_17 : decode cX3_divisor 17 = .ok (.lload 6, 2) := dk_22 6 (dk_at dksX3_divisor_0 17 rfl rfl)
theorem dX3_divisor_19 : decode cX3_divisor 19 = .ok (.lconst 0, 1) := dk_9 (dk_at dksX3_divisor_0 19 rfl rfl)
theorem dX3_divisor_20 : decode cX3_divisor 20 = .ok (.lcmp, 1) := dk_148 (dk_at dksX3_divisor_0 20 rfl rfl)
theorem dX3_divisor_21 : decode cX3_divisor 21 = .ok (.ifCond .eq 21, 3) := dk_153 0 21 (dk_at dksX3_divisor_0 21 rfl rfl)
theorem dX3_divisor_24 : decode cX3_divisor 24 = .ok (.lload 4, 2) := dk_22 4 (dk_at dksX3_divisor_1 0 rfl rfl)
theorem dX3_divisor_26 : decode cX3_divisor 26 = .ok (.lload 6, 2) := dk_22 6 (dk_at dksX3_divisor_1 2 rfl rfl)
theorem dX3_divisor_28 : decode cX3_divisor 28 = .ok (.lrem, 1) := dk_113 (dk_at dksX3_divisor_1 4 rfl rfl)
theorem dX3_divisor_29 : decode cX3_divisor 29 = .ok (.lstore 8, 2) := dk_55 8 (dk_at dksX3_divisor_1 5 rfl rfl)
theorem dX3_divisor_31 : decode cX3_divisor 31 = .ok (.lload 6, 2) := dk_22 6 (dk_at dksX3_divisor_1 7 rfl rfl)
theorem dX3_divisor_33 : decode cX3_divisor 33 = .ok (.lstore 4, 2) := dk_55 4 (dk_at dksX3_divisor_1 9 rfl rfl)
theorem dX3_divisor_35 : decode cX3_divisor 35 = .ok (.lload 8, 2) := dk_22 8 (dk_at dksX3_divisor_1 11 rfl rfl)
theorem dX3_divisor_37 : decode cX3_divisor 37 = .ok (.lstore 6, 2) := dk_55 6 (dk_at dksX3_divisor_1 13 rfl rfl)
theorem dX3_divisor_39 : decode cX3_divisor 39 = .ok (.goto (-22), 3) := dk_167 255 234 (dk_at dksX3_divisor_1 15 rfl rfl)
theorem dX3_divisor_42 : decode cX3_divisor 42 = .ok (.lload 4, 2) := dk_22 4 (dk_at dksX3_divisor_1 18 rfl rfl)
theorem dX3_divisor_44 : decode cX3_divisor 44 = .ok (.lreturn, 1) := dk_173 (dk_at dksX3_divisor_1 20 rfl rfl)
abbrev cX3_mean : ByteArray := prog_12_method_47_code
def yX3_mean : MethodName := ⟨RX3, "mean", "(IIII)J"⟩
def dkwX3_mean_2 : List UInt8 := [3, 182, 0, 244, 42, 180, 0, 197, 21, 4, 184, 0, 185, 173]
abbrev dktX3_mean_2 : List UInt8 := dkwX3_mean_2 ++ []
def dkwX3_mean_1 : List UInt8 := [16, 254, 160, 0, 9, 20, 0, 237, 167, 0, 6, 20, 0, 239, 173, 42, 28, 29, 182, 0, 241, 42, 27, 2]
abbrev dktX3_mean_1 : List UInt8 := dkwX3_mean_1 ++ dktX3_mean_2
def dkwX3_mean_0 : List UInt8 := [42, 27, 28, 29, 182, 0, 234, 54, 5, 21, 5, 154, 0, 11, 21, 4, 184, 0, 179, 154, 0, 20, 21, 5]
abbrev dktX3_mean_0 : List UInt8 := dkwX3_mean_0 ++ dktX3_mean_1
theorem dksX3_mean_0 : cX3_mean.data.toList.drop 0 = dktX3_mean_0 := by decide +kernel
theorem dksX3_mean_1 : cX3_mean.data.toList.drop 24 = dktX3_mean_1 := dk_seg dksX3_mean_0 24 rfl rfl
theorem dksX3_mean_2 : cX3_mean.data.toList.drop 48 = dktX3_mean_2 := dk_seg dksX3_mean_1 24 rfl rfl
theorem dX3_mean_0 : decode cX3_mean 0 = .ok (.aload_n 0, 1) := dk_42 (dk_at dksX3_mean_0 0 rfl rfl)
theorem dX3_mean_1 : decode cX3_mean 1 = .ok (.iload_n 1, 1) := dk_27 (dk_at dksX3_mean_0 1 rfl rfl)
theorem dX3_mean_2 : decode cX3_mean 2 = .ok (.iload_n 2, 1) := dk_28 (dk_at dksX3_mean_0 2 rfl rfl)
theorem dX3_mean_3 : decode cX3_mean 3 = .ok (.iload_n 3, 1) := dk_29 (dk_at dksX3_mean_0 3 rfl rfl)
theorem dX3_mean_4 : decode cX3_mean 4 = .ok (.invokevirtual 234, 3) := dk_182 0 234 (dk_at dksX3_mean_0 4 rfl rfl)
theorem dX3_mean_7 : decode cX3_mean 7 = .ok (.istore 5, 2) := dk_54 5 (dk_at dksX3_mean_0 7 rfl rfl)
theorem dX3_mean_9 : decode cX3_mean 9 = .ok (.iload 5, 2) := dk_21 5 (dk_at dksX3_mean_0 9 rfl rfl)
theorem dX3_mean_11 : decode cX3_mean 11 = .ok (.ifCond .ne 11, 3) := dk_154 0 11 (dk_at dksX3_mean_0 11 rfl rfl)
theorem dX3_mean_14 : decode cX3_mean 14 = .ok (.iload 4, 2) := dk_21 4 (dk_at dksX3_mean_0 14 rfl rfl)
theorem dX3_mean_16 : decode cX3_mean 16 = .ok (.invokestatic 179, 3) := dk_184 0 179 (dk_at dksX3_mean_0 16 rfl rfl)
theorem dX3_mean_19 : decode cX3_mean 19 = .ok (.ifCond .ne 20, 3) := dk_154 0 20 (dk_at dksX3_mean_0 19 rfl rfl)
theorem dX3_mean_22 : decode cX3_mean 22 = .ok (.iload 5, 2) := dk_21 5 (dk_at dksX3_mean_0 22 rfl rfl)
theorem dX3_mean_24 : decode cX3_mean 24 = .ok (.bipush (-2), 2) := dk_16 254 (dk_at dksX3_mean_1 0 rfl rfl)
theorem dX3_mean_26 : decode cX3_mean 26 = .ok (.if_icmp .ne 9, 3) := dk_160 0 9 (dk_at dksX3_mean_1 2 rfl rfl)
theorem dX3_mean_29 : decode cX3_mean 29 = .ok (.ldc2_w 237, 3) := dk_20 0 237 (dk_at dksX3_mean_1 5 rfl rfl)
theorem dX3_mean_32 : decode cX3_mean 32 = .ok (.goto 6, 3) := dk_167 0 6 (dk_at dksX3_mean_1 8 rfl rfl)
theorem dX3_mean_35 : decode cX3_mean 35 = .ok (.ldc2_w 239, 3) := dk_20 0 239 (dk_at dksX3_mean_1 11 rfl rfl)
theorem dX3_mean_38 : decode cX3_mean 38 = .ok (.lreturn, 1) := dk_173 (dk_at dksX3_mean_1 14 rfl rfl)
theorem dX3_mean_39 : decode cX3_mean 39 = .ok (.aload_n 0, 1) := dk_42 (dk_at dksX3_mean_1 15 rfl rfl)
theorem dX3_mean_40 : decode cX3_mean 40 = .ok (.iload_n 2, 1) := dk_28 (dk_at dksX3_mean_1 16 rfl rfl)
theorem dX3_mean_41 : decode cX3_mean 41 = .ok (.iload_n 3, 1) := dk_29 (dk_at dksX3_mean_1 17 rfl rfl)
theorem dX3_mean_42 : decode cX3_mean 42 = .ok (.invokevirtual 241, 3) := dk_182 0 241 (dk_at dksX3_mean_1 18 rfl rfl)
theorem dX3_mean_45 : decode cX3_mean 45 = .ok (.aload_n 0, 1) := dk_42 (dk_at dksX3_mean_1 21 rfl rfl)
theorem dX3_mean_46 : decode cX3_mean 46 = .ok (.iload_n 1, 1) := dk_27 (dk_at dksX3_mean_1 22 rfl rfl)
theorem dX3_mean_47 : decode cX3_mean 47 = .ok (.iconst (-1), 1) := dk_2 (dk_at dksX3_mean_1 23 rfl rfl)
theorem dX3_mean_48 : decode cX3_mean 48 = .ok (.iconst 0, 1) := dk_3 (dk_at dksX3_mean_2 0 rfl rfl)
theorem dX3_mean_49 : decode cX3_mean 49 = .ok (.invokevirtual 244, 3) := dk_182 0 244 (dk_at dksX3_mean_2 1 rfl rfl)
theorem dX3_mean_52 : decode cX3_mean 52 = .ok (.aload_n 0, 1) := dk_42 (dk_at dksX3_mean_2 4 rfl rfl)
theorem dX3_mean_53 : decode cX3_mean 53 = .ok (.getfield 197, 3) := dk_180 0 197 (dk_at dksX3_mean_2 5 rfl rfl)
theorem dX3_mean_56 : decode cX3_mean 56 = .ok (.iload 4, 2) := dk_21 4 (dk_at dksX3_mean_2 8 rfl rfl)
theorem dX3_mean_58 : decode cX3_mean 58 = .ok (.invokestatic 185, 3) := dk_184 0 185 (dk_at dksX3_mean_2 10 rfl rfl)
theorem dX3_mean_61 : decode cX3_mean 61 = .ok (.lreturn, 1) := dk_173 (dk_at dksX3_mean_2 13 rfl rfl)
abbrev cX3_refusesBag : ByteArray := prog_12_method_46_code
def yX3_refusesBag : MethodName := ⟨RX3, "refusesBag", "(III)I"⟩
def dkwX3_refusesBag_1 : List UInt8 := [167, 0, 5, 16, 253, 172]
abbrev dktX3_refusesBag_1 : List UInt8 := dkwX3_refusesBag_1 ++ []
def dkwX3_refusesBag_0 : List UInt8 := [42, 28, 29, 182, 0, 231, 54, 4, 21, 4, 154, 0, 10, 27, 184, 0, 159, 153, 0, 8, 21, 4]
abbrev dktX3_refusesBag_0 : List UInt8 := dkwX3_refusesBag_0 ++ dktX3_refusesBag_1
theorem dksX3_refusesBag_0 : cX3_refusesBag.data.toList.drop 0 = dktX3_refusesBag_0 := by decide +kernel
theorem dksX3_refusesBag_1 : cX3_refusesBag.data.toList.drop 22 = dktX3_refusesBag_1 := dk_seg dksX3_refusesBag_0 22 rfl rfl
theorem dX3_refusesBag_0 : decode cX3_refusesBag 0 = .ok (.aload_n 0, 1) := dk_42 (dk_at dksX3_refusesBag_0 0 rfl rfl)
theorem dX3_refusesBag_1 : decode cX3_refusesBag 1 = .ok (.iload_n 2, 1) := dk_28 (dk_at dksX3_refusesBag_0 1 rfl rfl)
theorem dX3_refusesBag_2 : decode cX3_refusesBag 2 = .ok (.iload_n 3, 1) := dk_29 (dk_at dksX3_refusesBag_0 2 rfl rfl)
theorem dX3_refusesBag_3 : decode cX3_refusesBag 3 = .ok (.invokevirtual 231, 3) := dk_182 0 231 (dk_at dksX3_refusesBag_0 3 rfl rfl)
theorem dX3_refusesBag_6 : decode cX3_refusesBag 6 = .ok (.istore 4, 2) := dk_54 4 (dk_at dksX3_refusesBag_0 6 rfl rfl)
theorem dX3_refusesBag_8 : decode cX3_refusesBag 8 = .ok (.iload 4, 2) := dk_21 4 (dk_at dksX3_refusesBag_0 8 rfl rfl)
theorem dX3_refusesBag_10 : decode cX3_refusesBag 10 = .ok (.ifCond .ne 10, 3) := dk_154 0 10 (dk_at dksX3_refusesBag_0 10 rfl rfl)
theorem dX3_refusesBag_13 : decode cX3_refusesBag 13 = .ok (.iload_n 1, 1) := dk_27 (dk_at dksX3_refusesBag_0 13 rfl rfl)
theorem dX3_refusesBag_14 : decode cX3_refusesBag 14 = .ok (.invokestatic 159, 3) := dk_184 0 159 (dk_at dksX3_refusesBag_0 14 rfl rfl)
theorem dX3_refusesBag_17 : decode cX3_refusesBag 17 = .ok (.ifCond .eq 8, 3) := dk_153 0 8 (dk_at dksX3_refusesBag_0 17 rfl rfl)
theorem dX3_refusesBag_20 : decode cX3_refusesBag 20 = .ok (.iload 4, 2) := dk_21 4 (dk_at dksX3_refusesBag_0 20 rfl rfl)
theorem dX3_refusesBag_22 : decode cX3_refusesBag 22 = .ok (.goto 5, 3) := dk_167 0 5 (dk_at dksX3_refusesBag_1 0 rfl rfl)
theorem dX3_refusesBag_25 : decode cX3_refusesBag 25 = .ok (.bipush (-3), 2) := dk_16 253 (dk_at dksX3_refusesBag_1 3 rfl rfl)
theorem dX3_refusesBag_27 : decode cX3_refusesBag 27 = .ok (.ireturn, 1) := dk_172 (dk_at dksX3_refusesBag_1 5 rfl rfl)
abbrev cX3_refuses : ByteArray := prog_12_method_39_code
def yX3_refuses : MethodName := ⟨RX3, "refuses", "(II)I"⟩
def dkwX3_refuses_5 : List UInt8 := [167, 0, 4, 3, 172]
abbrev dktX3_refuses_5 : List UInt8 := dkwX3_refuses_5 ++ []
def dkwX3_refuses_4 : List UInt8 := [3, 167, 0, 7, 4, 21, 6, 120, 128, 62, 132, 5, 1, 167, 255, 171, 21, 4, 153, 0, 8, 16, 253]
abbrev dktX3_refuses_4 : List UInt8 := dkwX3_refuses_4 ++ dktX3_refuses_5
def dkwX3_refuses_3 : List UInt8 := [29, 21, 6, 184, 0, 85, 153, 0, 7, 4, 167, 0, 4, 3, 54, 4, 29, 21, 6, 16, 6, 160, 0, 7]
abbrev dktX3_refuses_3 : List UInt8 := dkwX3_refuses_3 ++ dktX3_refuses_4
def dkwX3_refuses_2 : List UInt8 := [42, 21, 6, 182, 0, 176, 154, 0, 6, 16, 254, 172, 21, 4, 154, 0, 19, 21, 6, 16, 6, 159, 0, 16]
abbrev dktX3_refuses_2 : List UInt8 := dkwX3_refuses_2 ++ dktX3_refuses_3
def dkwX3_refuses_1 : List UInt8 := [21, 5, 28, 162, 0, 85, 27, 7, 21, 5, 104, 122, 16, 15, 126, 54, 6, 21, 6, 16, 6, 159, 0, 15]
abbrev dktX3_refuses_1 : List UInt8 := dkwX3_refuses_1 ++ dktX3_refuses_2
def dkwX3_refuses_0 : List UInt8 := [28, 133, 10, 20, 0, 189, 184, 0, 55, 154, 0, 6, 16, 253, 172, 3, 62, 3, 54, 4, 3, 54, 5]
abbrev dktX3_refuses_0 : List UInt8 := dkwX3_refuses_0 ++ dktX3_refuses_1
theorem dksX3_refuses_0 : cX3_refuses.data.toList.drop 0 = dktX3_refuses_0 := by decide +kernel
theorem dksX3_refuses_1 : cX3_refuses.data.toList.drop 23 = dktX3_refuses_1 := dk_seg dksX3_refuses_0 23 rfl rfl
theorem dksX3_refuses_2 : cX3_refuses.data.toList.drop 47 = dktX3_refuses_2 := dk_seg dksX3_refuses_1 24 rfl rfl
theorem dksX3_refuses_3 : cX3_refuses.data.toList.drop 71 = dktX3_refuses_3 := dk_seg dksX3_refuses_2 24 rfl rfl
theorem dksX3_refuses_4 : cX3_refuses.data.toList.drop 95 = dktX3_refuses_4 := dk_seg dksX3_refuses_3 24 rfl rfl
theorem dksX3_refuses_5 : cX3_refuses.data.toList.drop 118 = dktX3_refuses_5 := dk_seg dksX3_refuses_4 23 rfl rfl
theorem dX3_refuses_0 : decode cX3_refuses 0 = .ok (.iload_n 2, 1) := dk_28 (dk_at dksX3_refuses_0 0 rfl rfl)
theorem dX3_refuses_1 : decode cX3_refuses 1 = .ok (.i2l, 1) := dk_133 (dk_at dksX3_refuses_0 1 rfl rfl)
theorem dX3_refuses_2 : decode cX3_refuses 2 = .ok (.lconst 1, 1) := dk_10 (dk_at dksX3_refuses_0 2 rfl rfl)
theorem dX3_refuses_3 : decode cX3_refuses 3 = .ok (.ldc2_w 189, 3) := dk_20 0 189 (dk_at dksX3_refuses_0 3 rfl rfl)
theorem dX3_refuses_6 : decode cX3_refuses 6 = .ok (.invokestatic 55, 3) := dk_184 0 55 (dk_at dksX3_refuses_0 6 rfl rfl)
theorem dX3_refuses_9 : decode cX3_refuses 9 = .ok (.ifCond .ne 6, 3) := dk_154 0 6 (dk_at dksX3_refuses_0 9 rfl rfl)
theorem dX3_refuses_12 : decode cX3_refuses 12 = .ok (.bipush (-3), 2) := dk_16 253 (dk_at dksX3_refuses_0 12 rfl rfl)
theorem dX3_refuses_14 : decode cX3_refuses 14 = .ok (.ireturn, 1) := dk_172 (dk_at dksX3_refuses_0 14 rfl rfl)
theorem dX3_refuses_15 : decode cX3_refuses 15 = .ok (.iconst 0, 1) := dk_3 (dk_at dksX3_refuses_0 15 rfl rfl)
theorem dX3_refuses_16 : decode cX3_refuses 16 = .ok (.istore_n 3, 1) := dk_62 (dk_at dksX3_refuses_0 16 rfl rfl)
theorem dX3_refuses_17 : decode cX3_refuses 17 = .ok (.iconst 0, 1) := dk_3 (dk_at dksX3_refuses_0 17 rfl rfl)
theorem dX3_refuses_18 : decode cX3_refuses 18 = .ok (.istore 4, 2) := dk_54 4 (dk_at dksX3_refuses_0 18 rfl rfl)
theorem dX3_refuses_20 : decode cX3_refuses 20 = .ok (.iconst 0, 1) := dk_3 (dk_at dksX3_refuses_0 20 rfl rfl)
theorem dX3_refuses_21 : decode cX3_refuses 21 = .ok (.istore 5, 2) := dk_54 5 (dk_at dksX3_refuses_0 21 rfl rfl)
theorem dX3_refuses_23 : decode cX3_refuses 23 = .ok (.iload 5, 2) := dk_21 5 (dk_at dksX3_refuses_1 0 rfl rfl)
theorem dX3_refuses_25 : decode cX3_refuses 25 = .ok (.iload_n 2, 1) := dk_28 (dk_at dksX3_refuses_1 2 rfl rfl)
theorem dX3_refuses_26 : decode cX3_refuses 26 = .ok (.if_icmp .ge 85, 3) := dk_162 0 85 (dk_at dksX3_refuses_1 3 rfl rfl)
theorem dX3_refuses_29 : decode cX3_refuses 29 = .ok (.iload_n 1, 1) := dk_27 (dk_at dksX3_refuses_1 6 rfl rfl)
theorem dX3_refuses_30 : decode cX3_refuses 30 = .ok (.iconst 4, 1) := dk_7 (dk_at dksX3_refuses_1 7 rfl rfl)
theorem dX3_refuses_31 : decode cX3_refuses 31 = .ok (.iload 5, 2) := dk_21 5 (dk_at dksX3_refuses_1 8 rfl rfl)
theorem dX3_refuses_33 : decode cX3_refuses 33 = .ok (.imul, 1) := dk_104 (dk_at dksX3_refuses_1 10 rfl rfl)
theorem dX3_refuses_34 : decode cX3_refuses 34 = .ok (.ishr, 1) := dk_122 (dk_at dksX3_refuses_1 11 rfl rfl)
theorem dX3_refuses_35 : decode cX3_refuses 35 = .ok (.bipush 15, 2) := dk_16 15 (dk_at dksX3_refuses_1 12 rfl rfl)
theorem dX3_refuses_37 : decode cX3_refuses 37 = .ok (.iand, 1) := dk_126 (dk_at dksX3_refuses_1 14 rfl rfl)
theorem dX3_refuses_38 : decode cX3_refuses 38 = .ok (.istore 6, 2) := dk_54 6 (dk_at dksX3_refuses_1 15 rfl rfl)
theorem dX3_refuses_40 : decode cX3_refuses 40 = .ok (.iload 6, 2) := dk_21 6 (dk_at dksX3_refuses_1 17 rfl rfl)
theorem dX3_refuses_42 : decode cX3_refuses 42 = .ok (.bipush 6, 2) := dk_16 6 (dk_at dksX3_refuses_1 19 rfl rfl)
theorem dX3_refuses_44 : decode cX3_refuses 44 = .ok (.if_icmp .eq 15, 3) := dk_159 0 15 (dk_at dksX3_refuses_1 21 rfl rfl)
theorem dX3_refuses_47 : decode cX3_refuses 47 = .ok (.aload_n 0, 1) := dk_42 (dk_at dksX3_refuses_2 0 rfl rfl)
theorem dX3_refuses_48 : decode cX3_refuses 48 = .ok (.iload 6, 2) := dk_21 6 (dk_at dksX3_refuses_2 1 rfl rfl)
theorem dX3_refuses_50 : decode cX3_refuses 50 = .ok (.invokevirtual 176, 3) := dk_182 0 176 (dk_at dksX3_refuses_2 3 rfl rfl)
theorem dX3_refuses_53 : decode cX3_refuses 53 = .ok (.ifCond .ne 6, 3) := dk_154 0 6 (dk_at dksX3_refuses_2 6 rfl rfl)
theorem dX3_refuses_56 : decode cX3_refuses 56 = .ok (.bipush (-2), 2) := dk_16 254 (dk_at dksX3_refuses_2 9 rfl rfl)
theorem dX3_refuses_58 : decode cX3_refuses 58 = .ok (.ireturn, 1) := dk_172 (dk_at dksX3_refuses_2 11 rfl rfl)
theorem dX3_refuses_59 : decode cX3_refuses 59 = .ok (.iload 4, 2) := dk_21 4 (dk_at dksX3_refuses_2 12 rfl rfl)
theorem dX3_refuses_61 : decode cX3_refuses 61 = .ok (.ifCond .ne 19, 3) := dk_154 0 19 (dk_at dksX3_refuses_2 14 rfl rfl)
theorem dX3_refuses_64 : decode cX3_refuses 64 = .ok (.iload 6, 2) := dk_21 6 (dk_at dksX3_refuses_2 17 rfl rfl)
theorem dX3_refuses_66 : decode cX3_refuses 66 = .ok (.bipush 6, 2) := dk_16 6 (dk_at dksX3_refuses_2 19 rfl rfl)
theorem dX3_refuses_68 : decode cX3_refuses 68 = .ok (.if_icmp .eq 16, 3) := dk_159 0 16 (dk_at dksX3_refuses_2 21 rfl rfl)
theorem dX3_refuses_71 : decode cX3_refuses 71 = .ok (.iload_n 3, 1) := dk_29 (dk_at dksX3_refuses_3 0 rfl rfl)
theorem dX3_refuses_72 : decode cX3_refuses 72 = .ok (.iload 6, 2) := dk_21 6 (dk_at dksX3_refuses_3 1 rfl rfl)
theorem dX3_refuses_74 : decode cX3_refuses 74 = .ok (.invokestatic 85, 3) := dk_184 0 85 (dk_at dksX3_refuses_3 3 rfl rfl)
theorem dX3_refuses_77 : decode cX3_refuses 77 = .ok (.ifCond .eq 7, 3) := dk_153 0 7 (dk_at dksX3_refuses_3 6 rfl rfl)
theorem dX3_refuses_80 : decode cX3_refuses 80 = .ok (.iconst 1, 1) := dk_4 (dk_at dksX3_refuses_3 9 rfl rfl)
theorem dX3_refuses_81 : decode cX3_refuses 81 = .ok (.goto 4, 3) := dk_167 0 4 (dk_at dksX3_refuses_3 10 rfl rfl)
theorem dX3_refuses_84 : decode cX3_refuses 84 = .ok (.iconst 0, 1) := dk_3 (dk_at dksX3_refuses_3 13 rfl rfl)
theorem dX3_refuses_85 : decode cX3_refuses 85 = .ok (.istore 4, 2) := dk_54 4 (dk_at dksX3_refuses_3 14 rfl rfl)
theorem dX3_refuses_87 : decode cX3_refuses 87 = .ok (.iload_n 3, 1) := dk_29 (dk_at dksX3_refuses_3 16 rfl rfl)
theorem dX3_refuses_88 : decode cX3_refuses 88 = .ok (.iload 6, 2) := dk_21 6 (dk_at dksX3_refuses_3 17 rfl rfl)
theorem dX3_refuses_90 : decode cX3_refuses 90 = .ok (.bipush 6, 2) := dk_16 6 (dk_at dksX3_refuses_3 19 rfl rfl)
theorem dX3_refuses_92 : decode cX3_refuses 92 = .ok (.if_icmp .ne 7, 3) := dk_160 0 7 (dk_at dksX3_refuses_3 21 rfl rfl)
theorem dX3_refuses_95 : decode cX3_refuses 95 = .ok (.iconst 0, 1) := dk_3 (dk_at dksX3_refuses_4 0 rfl rfl)
theorem dX3_refuses_96 : decode cX3_refuses 96 = .ok (.goto 7, 3) := dk_167 0 7 (dk_at dksX3_refuses_4 1 rfl rfl)
theorem dX3_refuses_99 : decode cX3_refuses 99 = .ok (.iconst 1, 1) := dk_4 (dk_at dksX3_refuses_4 4 rfl rfl)
theorem dX3_refuses_100 : decode cX3_refuses 100 = .ok (.iload 6, 2) := dk_21 6 (dk_at dksX3_refuses_4 5 rfl rfl)
theorem dX3_refuses_102 : decode cX3_refuses 102 = .ok (.ishl, 1) := dk_120 (dk_at dksX3_refuses_4 7 rfl rfl)
theorem dX3_refuses_103 : decode cX3_refuses 103 = .ok (.ior, 1) := dk_128 (dk_at dksX3_refuses_4 8 rfl rfl)
theorem dX3_refuses_104 : decode cX3_refuses 104 = .ok (.istore_n 3, 1) := dk_62 (dk_at dksX3_refuses_4 9 rfl rfl)
theorem dX3_refuses_105 : decode cX3_refuses 105 = .ok (.iinc 5 1, 3) := dk_132 5 1 (dk_at dksX3_refuses_4 10 rfl rfl)
theorem dX3_refuses_108 : decode cX3_refuses 108 = .ok (.goto (-85), 3) := dk_167 255 171 (dk_at dksX3_refuses_4 13 rfl rfl)
theorem dX3_refuses_111 : decode cX3_refuses 111 = .ok (.iload 4, 2) := dk_21 4 (dk_at dksX3_refuses_4 16 rfl rfl)
theorem dX3_refuses_113 : decode cX3_refuses 113 = .ok (.ifCond .eq 8, 3) := dk_153 0 8 (dk_at dksX3_refuses_4 18 rfl rfl)
theorem dX3_refuses_116 : decode cX3_refuses 116 = .ok (.bipush (-3), 2) := dk_16 253 (dk_at dksX3_refuses_4 21 rfl rfl)
theorem dX3_refuses_118 : decode cX3_refuses 118 = .ok (.goto 4, 3) := dk_167 0 4 (dk_at dksX3_refuses_5 0 rfl rfl)
theorem dX3_refuses_121 : decode cX3_refuses 121 = .ok (.iconst 0, 1) := dk_3 (dk_at dksX3_refuses_5 3 rfl rfl)
theorem dX3_refuses_122 : decode cX3_refuses 122 = .ok (.ireturn, 1) := dk_172 (dk_at dksX3_refuses_5 4 rfl rfl)
abbrev cX3_layRow : ByteArray := prog_12_method_40_code
def yX3_layRow : MethodName := ⟨RX3, "layRow", "(II)V"⟩
def dkwX3_layRow_4 : List UInt8 := [181, 0, 197, 132, 3, 1, 167, 255, 176, 177]
abbrev dktX3_layRow_4 : List UInt8 := dkwX3_layRow_4 ++ []
def dkwX3_layRow_3 : List UInt8 := [180, 0, 197, 21, 4, 16, 6, 160, 0, 7, 10, 167, 0, 10, 42, 21, 4, 182, 0, 182, 133, 105]
abbrev dktX3_layRow_3 : List UInt8 := dkwX3_layRow_3 ++ dktX3_layRow_4
def dkwX3_layRow_2 : List UInt8 := [16, 6, 160, 0, 7, 4, 167, 0, 10, 42, 180, 0, 38, 21, 4, 46, 104, 181, 0, 194, 42, 89]
abbrev dktX3_layRow_2 : List UInt8 := dkwX3_layRow_2 ++ dktX3_layRow_3
def dkwX3_layRow_1 : List UInt8 := [29, 104, 122, 16, 15, 126, 54, 4, 42, 180, 0, 47, 29, 21, 4, 79, 42, 89, 180, 0, 194, 21, 4]
abbrev dktX3_layRow_1 : List UInt8 := dkwX3_layRow_1 ++ dktX3_layRow_2
def dkwX3_layRow_0 : List UInt8 := [42, 28, 181, 0, 191, 42, 4, 181, 0, 194, 42, 10, 181, 0, 197, 3, 62, 29, 28, 162, 0, 81, 27, 7]
abbrev dktX3_layRow_0 : List UInt8 := dkwX3_layRow_0 ++ dktX3_layRow_1
theorem dksX3_layRow_0 : cX3_layRow.data.toList.drop 0 = dktX3_layRow_0 := by decide +kernel
theorem dksX3_layRow_1 : cX3_layRow.data.toList.drop 24 = dktX3_layRow_1 := dk_seg dksX3_layRow_0 24 rfl rfl
theorem dksX3_layRow_2 : cX3_layRow.data.toList.drop 47 = dktX3_layRow_2 := dk_seg dksX3_layRow_1 23 rfl rfl
theorem dksX3_layRow_3 : cX3_layRow.data.toList.drop 69 = dktX3_layRow_3 := dk_seg dksX3_layRow_2 22 rfl rfl
theorem dksX3_layRow_4 : cX3_layRow.data.toList.drop 91 = dktX3_layRow_4 := dk_seg dksX3_layRow_3 22 rfl rfl
theorem dX3_layRow_0 : decode cX3_layRow 0 = .ok (.aload_n 0, 1) := dk_42 (dk_at dksX3_layRow_0 0 rfl rfl)
theorem dX3_layRow_1 : decode cX3_layRow 1 = .ok (.iload_n 2, 1) := dk_28 (dk_at dksX3_layRow_0 1 rfl rfl)
theorem dX3_layRow_2 : decode cX3_layRow 2 = .ok (.putfield 191, 3) := dk_181 0 191 (dk_at dksX3_layRow_0 2 rfl rfl)
theorem dX3_layRow_5 : decode cX3_layRow 5 = .ok (.aload_n 0, 1) := dk_42 (dk_at dksX3_layRow_0 5 rfl rfl)
theorem dX3_layRow_6 : decode cX3_layRow 6 = .ok (.iconst 1, 1) := dk_4 (dk_at dksX3_layRow_0 6 rfl rfl)
theorem dX3_layRow_7 : decode cX3_layRow 7 = .ok (.putfield 194, 3) := dk_181 0 194 (dk_at dksX3_layRow_0 7 rfl rfl)
theorem dX3_layRow_10 : decode cX3_layRow 10 = .ok (.aload_n 0, 1) := dk_42 (dk_at dksX3_layRow_0 10 rfl rfl)
theorem dX3_layRow_11 : decode cX3_layRow 11 = .ok (.lconst 1, 1) := dk_10 (dk_at dksX3_layRow_0 11 rfl rfl)
theorem dX3_layRow_12 : decode cX3_layRow 12 = .ok (.putfield 197, 3) := dk_181 0 197 (dk_at dksX3_layRow_0 12 rfl rfl)
theorem dX3_layRow_15 : decode cX3_layRow 15 = .ok (.iconst 0, 1) := dk_3 (dk_at dksX3_layRow_0 15 rfl rfl)
theorem dX3_layRow_16 : decode cX3_layRow 16 = .ok (.istore_n 3, 1) := dk_62 (dk_at dksX3_layRow_0 16 rfl rfl)
theorem dX3_layRow_17 : decode cX3_layRow 17 = .ok (.iload_n 3, 1) := dk_29 (dk_at dksX3_layRow_0 17 rfl rfl)
theorem dX3_layRow_18 : decode cX3_layRow 18 = .ok (.iload_n 2, 1) := dk_28 (dk_at dksX3_layRow_0 18 rfl rfl)
theorem dX3_layRow_19 : decode cX3_layRow 19 = .ok (.if_icmp .ge 81, 3) := dk_162 0 81 (dk_at dksX3_layRow_0 19 rfl rfl)
theorem dX3_layRow_22 : decode cX3_layRow 22 = .ok (.iload_n 1, 1) := dk_27 (dk_at dksX3_layRow_0 22 rfl rfl)
theorem dX3_layRow_23 : decode cX3_layRow 23 = .ok (.iconst 4, 1) := dk_7 (dk_at dksX3_layRow_0 23 rfl rfl)
theorem dX3_layRow_24 : decode cX3_layRow 24 = .ok (.iload_n 3, 1) := dk_29 (dk_at dksX3_layRow_1 0 rfl rfl)
theorem dX3_layRow_25 : decode cX3_layRow 25 = .ok (.imul, 1) := dk_104 (dk_at dksX3_layRow_1 1 rfl rfl)
theorem dX3_layRow_26 : decode cX3_layRow 26 = .ok (.ishr, 1) := dk_122 (dk_at dksX3_layRow_1 2 rfl rfl)
theorem dX3_layRow_27 : decode cX3_layRow 27 = .ok (.bipush 15, 2) := dk_16 15 (dk_at dksX3_layRow_1 3 rfl rfl)
theorem dX3_layRow_29 : decode cX3_layRow 29 = .ok (.iand, 1) := dk_126 (dk_at dksX3_layRow_1 5 rfl rfl)
theorem dX3_layRow_30 : decode cX3_layRow 30 = .ok (.istore 4, 2) := dk_54 4 (dk_at dksX3_layRow_1 6 rfl rfl)
theorem dX3_layRow_32 : decode cX3_layRow 32 = .ok (.aload_n 0, 1) := dk_42 (dk_at dksX3_layRow_1 8 rfl rfl)
theorem dX3_layRow_33 : decode cX3_layRow 33 = .ok (.getfield 47, 3) := dk_180 0 47 (dk_at dksX3_layRow_1 9 rfl rfl)
theorem dX3_layRow_36 : decode cX3_layRow 36 = .ok (.iload_n 3, 1) := dk_29 (dk_at dksX3_layRow_1 12 rfl rfl)
theorem dX3_layRow_37 : decode cX3_layRow 37 = .ok (.iload 4, 2) := dk_21 4 (dk_at dksX3_layRow_1 13 rfl rfl)
theorem dX3_layRow_39 : decode cX3_layRow 39 = .ok (.iastore, 1) := dk_79 (dk_at dksX3_layRow_1 15 rfl rfl)
theorem dX3_layRow_40 : decode cX3_layRow 40 = .ok (.aload_n 0, 1) := dk_42 (dk_at dksX3_layRow_1 16 rfl rfl)
theorem dX3_layRow_41 : decode cX3_layRow 41 = .ok (.dup, 1) := dk_89 (dk_at dksX3_layRow_1 17 rfl rfl)
theorem dX3_layRow_42 : decode cX3_layRow 42 = .ok (.getfield 194, 3) := dk_180 0 194 (dk_at dksX3_layRow_1 18 rfl rfl)
theorem dX3_layRow_45 : decode cX3_layRow 45 = .ok (.iload 4, 2) := dk_21 4 (dk_at dksX3_layRow_1 21 rfl rfl)
theorem dX3_layRow_47 : decode cX3_layRow 47 = .ok (.bipush 6, 2) := dk_16 6 (dk_at dksX3_layRow_2 0 rfl rfl)
theorem dX3_layRow_49 : decode cX3_layRow 49 = .ok (.if_icmp .ne 7, 3) := dk_160 0 7 (dk_at dksX3_layRow_2 2 rfl rfl)
theorem dX3_layRow_52 : decode cX3_layRow 52 = .ok (.iconst 1, 1) := dk_4 (dk_at dksX3_layRow_2 5 rfl rfl)
theorem dX3_layRow_53 : decode cX3_layRow 53 = .ok (.goto 10, 3) := dk_167 0 10 (dk_at dksX3_layRow_2 6 rfl rfl)
theorem dX3_layRow_56 : decode cX3_layRow 56 = .ok (.aload_n 0, 1) := dk_42 (dk_at dksX3_layRow_2 9 rfl rfl)
theorem dX3_layRow_57 : decode cX3_layRow 57 = .ok (.getfield 38, 3) := dk_180 0 38 (dk_at dksX3_layRow_2 10 rfl rfl)
theorem dX3_layRow_60 : decode cX3_layRow 60 = .ok (.iload 4, 2) := dk_21 4 (dk_at dksX3_layRow_2 13 rfl rfl)
theorem dX3_layRow_62 : decode cX3_layRow 62 = .ok (.iaload, 1) := dk_46 (dk_at dksX3_layRow_2 15 rfl rfl)
theorem dX3_layRow_63 : decode cX3_layRow 63 = .ok (.imul, 1) := dk_104 (dk_at dksX3_layRow_2 16 rfl rfl)
theorem dX3_layRow_64 : decode cX3_layRow 64 = .ok (.putfield 194, 3) := dk_181 0 194 (dk_at dksX3_layRow_2 17 rfl rfl)
theorem dX3_layRow_67 : decode cX3_layRow 67 = .ok (.aload_n 0, 1) := dk_42 (dk_at dksX3_layRow_2 20 rfl rfl)
theorem dX3_layRow_68 : decode cX3_layRow 68 = .ok (.dup, 1) := dk_89 (dk_at dksX3_layRow_2 21 rfl rfl)
theorem dX3_layRow_69 : decode cX3_layRow 69 = .ok (.getfield 197, 3) := dk_180 0 197 (dk_at dksX3_layRow_3 0 rfl rfl)
theorem dX3_layRow_72 : decode cX3_layRow 72 = .ok (.iload 4, 2) := dk_21 4 (dk_at dksX3_layRow_3 3 rfl rfl)
theorem dX3_layRow_74 : decode cX3_layRow 74 = .ok (.bipush 6, 2) := dk_16 6 (dk_at dksX3_layRow_3 5 rfl rfl)
theorem dX3_layRow_76 : decode cX3_layRow 76 = .ok (.if_icmp .ne 7, 3) := dk_160 0 7 (dk_at dksX3_layRow_3 7 rfl rfl)
theorem dX3_layRow_79 : decode cX3_layRow 79 = .ok (.lconst 1, 1) := dk_10 (dk_at dksX3_layRow_3 10 rfl rfl)
theorem dX3_layRow_80 : decode cX3_layRow 80 = .ok (.goto 10, 3) := dk_167 0 10 (dk_at dksX3_layRow_3 11 rfl rfl)
theorem dX3_layRow_83 : decode cX3_layRow 83 = .ok (.aload_n 0, 1) := dk_42 (dk_at dksX3_layRow_3 14 rfl rfl)
theorem dX3_layRow_84 : decode cX3_layRow 84 = .ok (.iload 4, 2) := dk_21 4 (dk_at dksX3_layRow_3 15 rfl rfl)
theorem dX3_layRow_86 : decode cX3_layRow 86 = .ok (.invokevirtual 182, 3) := dk_182 0 182 (dk_at dksX3_layRow_3 17 rfl rfl)
theorem dX3_layRow_89 : decode cX3_layRow 89 = .ok (.i2l, 1) := dk_133 (dk_at dksX3_layRow_3 20 rfl rfl)
theorem dX3_layRow_90 : decode cX3_layRow 90 = .ok (.lmul, 1) := dk_105 (dk_at dksX3_layRow_3 21 rfl rfl)
theorem dX3_layRow_91 : decode cX3_layRow 91 = .ok (.putfield 197, 3) := dk_181 0 197 (dk_at dksX3_layRow_4 0 rfl rfl)
theorem dX3_layRow_94 : decode cX3_layRow 94 = .ok (.iinc 3 1, 3) := dk_132 3 1 (dk_at dksX3_layRow_4 3 rfl rfl)
theorem dX3_layRow_97 : decode cX3_layRow 97 = .ok (.goto (-80), 3) := dk_167 255 176 (dk_at dksX3_layRow_4 6 rfl rfl)
theorem dX3_layRow_100 : decode cX3_layRow 100 = .ok (.return_, 1) := dk_177 (dk_at dksX3_layRow_4 9 rfl rfl)
abbrev cX3_meanOf : ByteArray := prog_12_method_44_code
def yX3_meanOf : MethodName := ⟨RX3, "meanOf", "(III)J"⟩
def dkwX3_meanOf_2 : List UInt8 := [180, 0, 201, 42, 180, 0, 209, 133, 105, 97, 55, 4, 132, 6, 1, 167, 255, 203, 22, 4, 173]
abbrev dktX3_meanOf_2 : List UInt8 := dkwX3_meanOf_2 ++ []
def dkwX3_meanOf_1 : List UInt8 := [155, 0, 13, 42, 180, 0, 50, 28, 46, 29, 160, 0, 24, 42, 27, 2, 182, 0, 227, 22, 4, 42]
abbrev dktX3_meanOf_1 : List UInt8 := dkwX3_meanOf_1 ++ dktX3_meanOf_2
def dkwX3_meanOf_0 : List UInt8 := [9, 55, 4, 3, 54, 6, 21, 6, 42, 180, 0, 194, 162, 0, 50, 42, 21, 6, 182, 0, 224, 28]
abbrev dktX3_meanOf_0 : List UInt8 := dkwX3_meanOf_0 ++ dktX3_meanOf_1
theorem dksX3_meanOf_0 : cX3_meanOf.data.toList.drop 0 = dktX3_meanOf_0 := by decide +kernel
theorem dksX3_meanOf_1 : cX3_meanOf.data.toList.drop 22 = dktX3_meanOf_1 := dk_seg dksX3_meanOf_0 22 rfl rfl
theorem dksX3_meanOf_2 : cX3_meanOf.data.toList.drop 44 = dktX3_meanOf_2 := dk_seg dksX3_meanOf_1 22 rfl rfl
theorem dX3_meanOf_0 : decode cX3_meanOf 0 = .ok (.lconst 0, 1) := dk_9 (dk_at dksX3_meanOf_0 0 rfl rfl)
theorem dX3_meanOf_1 : decode cX3_meanOf 1 = .ok (.lstore 4, 2) := dk_55 4 (dk_at dksX3_meanOf_0 1 rfl rfl)
theorem dX3_meanOf_3 : decode cX3_meanOf 3 = .ok (.iconst 0, 1) := dk_3 (dk_at dksX3_meanOf_0 3 rfl rfl)
theorem dX3_meanOf_4 : decode cX3_meanOf 4 = .ok (.istore 6, 2) := dk_54 6 (dk_at dksX3_meanOf_0 4 rfl rfl)
theorem dX3_meanOf_6 : decode cX3_meanOf 6 = .ok (.iload 6, 2) := dk_21 6 (dk_at dksX3_meanOf_0 6 rfl rfl)
theorem dX3_meanOf_8 : decode cX3_meanOf 8 = .ok (.aload_n 0, 1) := dk_42 (dk_at dksX3_meanOf_0 8 rfl rfl)
theorem dX3_meanOf_9 : decode cX3_meanOf 9 = .ok (.getfield 194, 3) := dk_180 0 194 (dk_at dksX3_meanOf_0 9 rfl rfl)
theorem dX3_meanOf_12 : decode cX3_meanOf 12 = .ok (.if_icmp .ge 50, 3) := dk_162 0 50 (dk_at dksX3_meanOf_0 12 rfl rfl)
theorem dX3_meanOf_15 : decode cX3_meanOf 15 = .ok (.aload_n 0, 1) := dk_42 (dk_at dksX3_meanOf_0 15 rfl rfl)
theorem dX3_meanOf_16 : decode cX3_meanOf 16 = .ok (.iload 6, 2) := dk_21 6 (dk_at dksX3_meanOf_0 16 rfl rfl)
theorem dX3_meanOf_18 : decode cX3_meanOf 18 = .ok (.invokevirtual 224, 3) := dk_182 0 224 (dk_at dksX3_meanOf_0 18 rfl rfl)
theorem dX3_meanOf_21 : decode cX3_meanOf 21 = .ok (.iload_n 2, 1) := dk_28 (dk_at dksX3_meanOf_0 21 rfl rfl)
theorem dX3_meanOf_22 : decode cX3_meanOf 22 = .ok (.ifCond .lt 13, 3) := dk_155 0 13 (dk_at dksX3_meanOf_1 0 rfl rfl)
theorem dX3_meanOf_25 : decode cX3_meanOf 25 = .ok (.aload_n 0, 1) := dk_42 (dk_at dksX3_meanOf_1 3 rfl rfl)
theorem dX3_meanOf_26 : decode cX3_meanOf 26 = .ok (.getfield 50, 3) := dk_180 0 50 (dk_at dksX3_meanOf_1 4 rfl rfl)
theorem dX3_meanOf_29 : decode cX3_meanOf 29 = .ok (.iload_n 2, 1) := dk_28 (dk_at dksX3_meanOf_1 7 rfl rfl)
theorem dX3_meanOf_30 : decode cX3_meanOf 30 = .ok (.iaload, 1) := dk_46 (dk_at dksX3_meanOf_1 8 rfl rfl)
theorem dX3_meanOf_31 : decode cX3_meanOf 31 = .ok (.iload_n 3, 1) := dk_29 (dk_at dksX3_meanOf_1 9 rfl rfl)
theorem dX3_meanOf_32 : decode cX3_meanOf 32 = .ok (.if_icmp .ne 24, 3) := dk_160 0 24 (dk_at dksX3_meanOf_1 10 rfl rfl)
theorem dX3_meanOf_35 : decode cX3_meanOf 35 = .ok (.aload_n 0, 1) := dk_42 (dk_at dksX3_meanOf_1 13 rfl rfl)
theorem dX3_meanOf_36 : decode cX3_meanOf 36 = .ok (.iload_n 1, 1) := dk_27 (dk_at dksX3_meanOf_1 14 rfl rfl)
theorem dX3_meanOf_37 : decode cX3_meanOf 37 = .ok (.iconst (-1), 1) := dk_2 (dk_at dksX3_meanOf_1 15 rfl rfl)
theorem dX3_meanOf_38 : decode cX3_meanOf 38 = .ok (.invokevirtual 227, 3) := dk_182 0 227 (dk_at dksX3_meanOf_1 16 rfl rfl)
theorem dX3_meanOf_41 : decode cX3_meanOf 41 = .ok (.lload 4, 2) := dk_22 4 (dk_at dksX3_meanOf_1 19 rfl rfl)
theorem dX3_meanOf_43 : decode cX3_meanOf 43 = .ok (.aload_n 0, 1) := dk_42 (dk_at dksX3_meanOf_1 21 rfl rfl)
theorem dX3_meanOf_44 : decode cX3_meanOf 44 = .ok (.getfield 201, 3) := dk_180 0 201 (dk_at dksX3_meanOf_2 0 rfl rfl)
theorem dX3_meanOf_47 : decode cX3_meanOf 47 = .ok (.aload_n 0, 1) := dk_42 (dk_at dksX3_meanOf_2 3 rfl rfl)
theorem dX3_meanOf_48 : decode cX3_meanOf 48 = .ok (.getfield 209, 3) := dk_180 0 209 (dk_at dksX3_meanOf_2 4 rfl rfl)
theorem dX3_meanOf_51 : decode cX3_meanOf 51 = .ok (.i2l, 1) := dk_133 (dk_at dksX3_meanOf_2 7 rfl rfl)
theorem dX3_meanOf_52 : decode cX3_meanOf 52 = .ok (.lmul, 1) := dk_105 (dk_at dksX3_meanOf_2 8 rfl rfl)
theorem dX3_meanOf_53 : decode cX3_meanOf 53 = .ok (.ladd, 1) := dk_97 (dk_at dksX3_meanOf_2 9 rfl rfl)
theorem dX3_meanOf_54 : decode cX3_meanOf 54 = .ok (.lstore 4, 2) := dk_55 4 (dk_at dksX3_meanOf_2 10 rfl rfl)
theorem dX3_meanOf_56 : decode cX3_meanOf 56 = .ok (.iinc 6 1, 3) := dk_132 6 1 (dk_at dksX3_meanOf_2 12 rfl rfl)
theorem dX3_meanOf_59 : decode cX3_meanOf 59 = .ok (.goto (-53), 3) := dk_167 255 203 (dk_at dksX3_meanOf_2 15 rfl rfl)
theorem dX3_meanOf_62 : decode cX3_meanOf 62 = .ok (.lload 4, 2) := dk_22 4 (dk_at dksX3_meanOf_2 18 rfl rfl)
theorem dX3_meanOf_64 : decode cX3_meanOf 64 = .ok (.lreturn, 1) := dk_173 (dk_at dksX3_meanOf_2 20 rfl rfl)
abbrev cX3_layChosen : ByteArray := prog_12_method_41_code
def yX3_layChosen : MethodName := ⟨RX3, "layChosen", "(I)V"⟩
def dkwX3_layChosen_3 : List UInt8 := [7, 42, 180, 0, 50, 29, 46, 104, 96, 46, 133, 105, 181, 0, 201, 132, 3, 1, 167, 255, 176, 177]
abbrev dktX3_layChosen_3 : List UInt8 := dkwX3_layChosen_3 ++ []
def dkwX3_layChosen_2 : List UInt8 := [28, 42, 180, 0, 38, 21, 4, 46, 108, 61, 42, 89, 180, 0, 201, 42, 180, 0, 41, 16, 16, 21, 4, 104]
abbrev dktX3_layChosen_2 : List UInt8 := dkwX3_layChosen_2 ++ dktX3_layChosen_3
def dkwX3_layChosen_1 : List UInt8 := [54, 4, 21, 4, 16, 6, 159, 0, 57, 42, 180, 0, 50, 29, 28, 42, 180, 0, 38, 21, 4, 46, 112, 79]
abbrev dktX3_layChosen_1 : List UInt8 := dkwX3_layChosen_1 ++ dktX3_layChosen_2
def dkwX3_layChosen_0 : List UInt8 := [27, 61, 42, 10, 181, 0, 201, 3, 62, 29, 42, 180, 0, 191, 162, 0, 78, 42, 180, 0, 47, 29, 46]
abbrev dktX3_layChosen_0 : List UInt8 := dkwX3_layChosen_0 ++ dktX3_layChosen_1
theorem dksX3_layChosen_0 : cX3_layChosen.data.toList.drop 0 = dktX3_layChosen_0 := by decide +kernel
theorem dksX3_layChosen_1 : cX3_layChosen.data.toList.drop 23 = dktX3_layChosen_1 := dk_seg dksX3_layChosen_0 23 rfl rfl
theorem dksX3_layChosen_2 : cX3_layChosen.data.toList.drop 47 = dktX3_layChosen_2 := dk_seg dksX3_layChosen_1 24 rfl rfl
theorem dksX3_layChosen_3 : cX3_layChosen.data.toList.drop 71 = dktX3_layChosen_3 := dk_seg dksX3_layChosen_2 24 rfl rfl
theorem dX3_layChosen_0 : decode cX3_layChosen 0 = .ok (.iload_n 1, 1) := dk_27 (dk_at dksX3_layChosen_0 0 rfl rfl)
theorem dX3_layChosen_1 : decode cX3_layChosen 1 = .ok (.istore_n 2, 1) := dk_61 (dk_at dksX3_layChosen_0 1 rfl rfl)
theorem dX3_layChosen_2 : decode cX3_layChosen 2 = .ok (.aload_n 0, 1) := dk_42 (dk_at dksX3_layChosen_0 2 rfl rfl)
theorem dX3_layChosen_3 : decode cX3_layChosen 3 = .ok (.lconst 1, 1) := dk_10 (dk_at dksX3_layChosen_0 3 rfl rfl)
theorem dX3_layChosen_4 : decode cX3_layChosen 4 = .ok (.putfield 201, 3) := dk_181 0 201 (dk_at dksX3_layChosen_0 4 rfl rfl)
theorem dX3_layChosen_7 : decode cX3_layChosen 7 = .ok (.iconst 0, 1) := dk_3 (dk_at dksX3_layChosen_0 7 rfl rfl)
theorem dX3_layChosen_8 : decode cX3_layChosen 8 = .ok (.istore_n 3, 1) := dk_62 (dk_at dksX3_layChosen_0 8 rfl rfl)
theorem dX3_layChosen_9 : decode cX3_layChosen 9 = .ok (.iload_n 3, 1) := dk_29 (dk_at dksX3_layChosen_0 9 rfl rfl)
theorem dX3_layChosen_10 : decode cX3_layChosen 10 = .ok (.aload_n 0, 1) := dk_42 (dk_at dksX3_layChosen_0 10 rfl rfl)
theorem dX3_layChosen_11 : decode cX3_layChosen 11 = .ok (.getfield 191, 3) := dk_180 0 191 (dk_at dksX3_layChosen_0 11 rfl rfl)
theorem dX3_layChosen_14 : decode cX3_layChosen 14 = .ok (.if_icmp .ge 78, 3) := dk_162 0 78 (dk_at dksX3_layChosen_0 14 rfl rfl)
theorem dX3_layChosen_17 : decode cX3_layChosen 17 = .ok (.aload_n 0, 1) := dk_42 (dk_at dksX3_layChosen_0 17 rfl rfl)
theorem dX3_layChosen_18 : decode cX3_layChosen 18 = .ok (.getfield 47, 3) := dk_180 0 47 (dk_at dksX3_layChosen_0 18 rfl rfl)
theorem dX3_layChosen_21 : decode cX3_layChosen 21 = .ok (.iload_n 3, 1) := dk_29 (dk_at dksX3_layChosen_0 21 rfl rfl)
theorem dX3_layChosen_22 : decode cX3_layChosen 22 = .ok (.iaload, 1) := dk_46 (dk_at dksX3_layChosen_0 22 rfl rfl)
theorem dX3_layChosen_23 : decode cX3_layChosen 23 = .ok (.istore 4, 2) := dk_54 4 (dk_at dksX3_layChosen_1 0 rfl rfl)
theorem dX3_layChosen_25 : decode cX3_layChosen 25 = .ok (.iload 4, 2) := dk_21 4 (dk_at dksX3_layChosen_1 2 rfl rfl)
theorem dX3_layChosen_27 : decode cX3_layChosen 27 = .ok (.bipush 6, 2) := dk_16 6 (dk_at dksX3_layChosen_1 4 rfl rfl)
theorem dX3_layChosen_29 : decode cX3_layChosen 29 = .ok (.if_icmp .eq 57, 3) := dk_159 0 57 (dk_at dksX3_layChosen_1 6 rfl rfl)
theorem dX3_layChosen_32 : decode cX3_layChosen 32 = .ok (.aload_n 0, 1) := dk_42 (dk_at dksX3_layChosen_1 9 rfl rfl)
theorem dX3_layChosen_33 : decode cX3_layChosen 33 = .ok (.getfield 50, 3) := dk_180 0 50 (dk_at dksX3_layChosen_1 10 rfl rfl)
theorem dX3_layChosen_36 : decode cX3_layChosen 36 = .ok (.iload_n 3, 1) := dk_29 (dk_at dksX3_layChosen_1 13 rfl rfl)
theorem dX3_layChosen_37 : decode cX3_layChosen 37 = .ok (.iload_n 2, 1) := dk_28 (dk_at dksX3_layChosen_1 14 rfl rfl)
theorem dX3_layChosen_38 : decode cX3_layChosen 38 = .ok (.aload_n 0, 1) := dk_42 (dk_at dksX3_layChosen_1 15 rfl rfl)
theorem dX3_layChosen_39 : decode cX3_layChosen 39 = .ok (.getfield 38, 3) := dk_180 0 38 (dk_at dksX3_layChosen_1 16 rfl rfl)
theorem dX3_layChosen_42 : decode cX3_layChosen 42 = .ok (.iload 4, 2) := dk_21 4 (dk_at dksX3_layChosen_1 19 rfl rfl)
theorem dX3_layChosen_44 : decode cX3_layChosen 44 = .ok (.iaload, 1) := dk_46 (dk_at dksX3_layChosen_1 21 rfl rfl)
theorem dX3_layChosen_45 : decode cX3_layChosen 45 = .ok (.irem, 1) := dk_112 (dk_at dksX3_layChosen_1 22 rfl rfl)
theorem dX3_layChosen_46 : decode cX3_layChosen 46 = .ok (.iastore, 1) := dk_79 (dk_at dksX3_layChosen_1 23 rfl rfl)
theorem dX3_layChosen_47 : decode cX3_layChosen 47 = .ok (.iload_n 2, 1) := dk_28 (dk_at dksX3_layChosen_2 0 rfl rfl)
theorem dX3_layChosen_48 : decode cX3_layChosen 48 = .ok (.aload_n 0, 1) := dk_42 (dk_at dksX3_layChosen_2 1 rfl rfl)
theorem dX3_layChosen_49 : decode cX3_layChosen 49 = .ok (.getfield 38, 3) := dk_180 0 38 (dk_at dksX3_layChosen_2 2 rfl rfl)
theorem dX3_layChosen_52 : decode cX3_layChosen 52 = .ok (.iload 4, 2) := dk_21 4 (dk_at dksX3_layChosen_2 5 rfl rfl)
theorem dX3_layChosen_54 : decode cX3_layChosen 54 = .ok (.iaload, 1) := dk_46 (dk_at dksX3_layChosen_2 7 rfl rfl)
theorem dX3_layChosen_55 : decode cX3_layChosen 55 = .ok (.idiv, 1) := dk_108 (dk_at dksX3_layChosen_2 8 rfl rfl)
theorem dX3_layChosen_56 : decode cX3_layChosen 56 = .ok (.istore_n 2, 1) := dk_61 (dk_at dksX3_layChosen_2 9 rfl rfl)
theorem dX3_layChosen_57 : decode cX3_layChosen 57 = .ok (.aload_n 0, 1) := dk_42 (dk_at dksX3_layChosen_2 10 rfl rfl)
theorem dX3_layChosen_58 : decode cX3_layChosen 58 = .ok (.dup, 1) := dk_89 (dk_at dksX3_layChosen_2 11 rfl rfl)
theorem dX3_layChosen_59 : decode cX3_layChosen 59 = .ok (.getfield 201, 3) := dk_180 0 201 (dk_at dksX3_layChosen_2 12 rfl rfl)
theorem dX3_layChosen_62 : decode cX3_layChosen 62 = .ok (.aload_n 0, 1) := dk_42 (dk_at dksX3_layChosen_2 15 rfl rfl)
theorem dX3_layChosen_63 : decode cX3_layChosen 63 = .ok (.getfield 41, 3) := dk_180 0 41 (dk_at dksX3_layChosen_2 16 rfl rfl)
theorem dX3_layChosen_66 : decode cX3_layChosen 66 = .ok (.bipush 16, 2) := dk_16 16 (dk_at dksX3_layChosen_2 19 rfl rfl)
theorem dX3_layChosen_68 : decode cX3_layChosen 68 = .ok (.iload 4, 2) := dk_21 4 (dk_at dksX3_layChosen_2 21 rfl rfl)
theorem dX3_layChosen_70 : decode cX3_layChosen 70 = .ok (.imul, 1) := dk_104 (dk_at dksX3_layChosen_2 23 rfl rfl)
theorem dX3_layChosen_71 : decode cX3_layChosen 71 = .ok (.iconst 4, 1) := dk_7 (dk_at dksX3_layChosen_3 0 rfl rfl)
theorem dX3_layChosen_72 : decode cX3_layChosen 72 = .ok (.aload_n 0, 1) := dk_42 (dk_at dksX3_layChosen_3 1 rfl rfl)
theorem dX3_layChosen_73 : decode cX3_layChosen 73 = .ok (.getfield 50, 3) := dk_180 0 50 (dk_at dksX3_layChosen_3 2 rfl rfl)
theorem dX3_layChosen_76 : decode cX3_layChosen 76 = .ok (.iload_n 3, 1) := dk_29 (dk_at dksX3_layChosen_3 5 rfl rfl)
theorem dX3_layChosen_77 : decode cX3_layChosen 77 = .ok (.iaload, 1) := dk_46 (dk_at dksX3_layChosen_3 6 rfl rfl)
theorem dX3_layChosen_78 : decode cX3_layChosen 78 = .ok (.imul, 1) := dk_104 (dk_at dksX3_layChosen_3 7 rfl rfl)
theorem dX3_layChosen_79 : decode cX3_layChosen 79 = .ok (.iadd, 1) := dk_96 (dk_at dksX3_layChosen_3 8 rfl rfl)
theorem dX3_layChosen_80 : decode cX3_layChosen 80 = .ok (.iaload, 1) := dk_46 (dk_at dksX3_layChosen_3 9 rfl rfl)
theorem dX3_layChosen_81 : decode cX3_layChosen 81 = .ok (.i2l, 1) := dk_133 (dk_at dksX3_layChosen_3 10 rfl rfl)
theorem dX3_layChosen_82 : decode cX3_layChosen 82 = .ok (.lmul, 1) := dk_105 (dk_at dksX3_layChosen_3 11 rfl rfl)
theorem dX3_layChosen_83 : decode cX3_layChosen 83 = .ok (.putfield 201, 3) := dk_181 0 201 (dk_at dksX3_layChosen_3 12 rfl rfl)
theorem dX3_layChosen_86 : decode cX3_layChosen 86 = .ok (.iinc 3 1, 3) := dk_132 3 1 (dk_at dksX3_layChosen_3 15 rfl rfl)
theorem dX3_layChosen_89 : decode cX3_layChosen 89 = .ok (.goto (-80), 3) := dk_167 255 176 (dk_at dksX3_layChosen_3 18 rfl rfl)
theorem dX3_layChosen_92 : decode cX3_layChosen 92 = .ok (.return_, 1) := dk_177 (dk_at dksX3_layChosen_3 21 rfl rfl)
abbrev cX3_go : ByteArray := prog_12_method_42_code
def yX3_go : MethodName := ⟨RX3, "go", "(II)V"⟩
def dkwX3_go_18 : List UInt8 := [21, 11, 153, 0, 7, 4, 167, 0, 4, 3, 181, 0, 215, 132, 5, 1, 167, 254, 114, 177]
abbrev dktX3_go_18 : List UInt8 := dkwX3_go_18 ++ []
def dkwX3_go_17 : List UInt8 := [153, 0, 10, 4, 21, 6, 120, 167, 0, 4, 3, 128, 181, 0, 212, 42, 42, 180, 0, 215, 153, 0, 12]
abbrev dktX3_go_17 : List UInt8 := dkwX3_go_17 ++ dktX3_go_18
def dkwX3_go_16 : List UInt8 := [153, 0, 8, 21, 10, 167, 0, 7, 42, 180, 0, 206, 181, 0, 206, 42, 89, 180, 0, 212, 21, 11]
abbrev dktX3_go_16 : List UInt8 := dkwX3_go_16 ++ dktX3_go_17
def dkwX3_go_15 : List UInt8 := [46, 167, 0, 16, 42, 180, 0, 35, 16, 6, 21, 6, 104, 7, 96, 46, 116, 96, 181, 0, 209, 42, 21, 11]
abbrev dktX3_go_15 : List UInt8 := dkwX3_go_15 ++ dktX3_go_16
def dkwX3_go_14 : List UInt8 := [181, 0, 203, 42, 89, 180, 0, 209, 21, 11, 153, 0, 18, 42, 180, 0, 35, 16, 6, 21, 6, 104, 6, 96]
abbrev dktX3_go_14 : List UInt8 := dkwX3_go_14 ++ dktX3_go_15
def dkwX3_go_13 : List UInt8 := [21, 9, 104, 96, 4, 96, 46, 167, 0, 15, 42, 180, 0, 35, 16, 6, 21, 6, 104, 8, 96, 46, 96]
abbrev dktX3_go_13 : List UInt8 := dkwX3_go_13 ++ dktX3_go_14
def dkwX3_go_12 : List UInt8 := [21, 8, 153, 0, 7, 3, 167, 0, 40, 21, 11, 153, 0, 23, 42, 180, 0, 41, 16, 16, 21, 6, 104, 7]
abbrev dktX3_go_12 : List UInt8 := dkwX3_go_12 ++ dktX3_go_13
def dkwX3_go_11 : List UInt8 := [182, 0, 168, 54, 10, 21, 10, 2, 159, 0, 7, 4, 167, 0, 4, 3, 54, 11, 42, 89, 180, 0, 203]
abbrev dktX3_go_11 : List UInt8 := dkwX3_go_11 ++ dktX3_go_12
def dkwX3_go_10 : List UInt8 := [182, 0, 220, 54, 9, 21, 8, 153, 0, 7, 2, 167, 0, 15, 42, 42, 180, 0, 206, 21, 6, 21, 9]
abbrev dktX3_go_10 : List UInt8 := dkwX3_go_10 ++ dktX3_go_11
def dkwX3_go_9 : List UInt8 := [17, 54, 25, 96, 18, 219, 112, 54, 4, 42, 21, 6, 21, 4, 16, 64, 108, 42, 21, 6, 182, 0, 182, 112]
abbrev dktX3_go_9 : List UInt8 := dkwX3_go_9 ++ dktX3_go_10
def dkwX3_go_8 : List UInt8 := [180, 0, 50, 21, 5, 46, 54, 9, 21, 8, 154, 0, 42, 28, 155, 0, 38, 21, 4, 17, 98, 85, 104]
abbrev dktX3_go_8 : List UInt8 := dkwX3_go_8 ++ dktX3_go_9
def dkwX3_go_7 : List UInt8 := [180, 0, 35, 16, 6, 21, 6, 104, 5, 96, 46, 164, 0, 7, 4, 167, 0, 4, 3, 54, 8, 42]
abbrev dktX3_go_7 : List UInt8 := dkwX3_go_7 ++ dktX3_go_8
def dkwX3_go_6 : List UInt8 := [16, 6, 21, 6, 104, 4, 96, 46, 167, 0, 7, 42, 180, 0, 203, 181, 0, 203, 42, 180, 0, 203, 42]
abbrev dktX3_go_6 : List UInt8 := dkwX3_go_6 ++ dktX3_go_7
def dkwX3_go_5 : List UInt8 := [42, 180, 0, 203, 42, 180, 0, 35, 16, 6, 21, 6, 104, 4, 96, 46, 162, 0, 18, 42, 180, 0, 35]
abbrev dktX3_go_5 : List UInt8 := dkwX3_go_5 ++ dktX3_go_6
def dkwX3_go_4 : List UInt8 := [46, 96, 181, 0, 203, 21, 7, 62, 21, 6, 16, 6, 160, 0, 11, 42, 27, 181, 0, 206, 167, 1, 62, 42]
abbrev dktX3_go_4 : List UInt8 := dkwX3_go_4 ++ dktX3_go_5
def dkwX3_go_3 : List UInt8 := [16, 6, 21, 6, 104, 46, 54, 7, 42, 89, 180, 0, 203, 42, 180, 0, 32, 16, 6, 29, 104, 21, 7, 96]
abbrev dktX3_go_3 : List UInt8 := dkwX3_go_3 ++ dktX3_go_4
def dkwX3_go_2 : List UInt8 := [180, 0, 47, 21, 5, 46, 54, 6, 21, 6, 16, 6, 160, 0, 7, 3, 167, 0, 13, 42, 180, 0, 35]
abbrev dktX3_go_2 : List UInt8 := dkwX3_go_2 ++ dktX3_go_3
def dkwX3_go_1 : List UInt8 := [3, 181, 0, 212, 42, 4, 181, 0, 215, 3, 54, 5, 21, 5, 42, 180, 0, 191, 162, 1, 139, 42]
abbrev dktX3_go_1 : List UInt8 := dkwX3_go_1 ++ dktX3_go_2
def dkwX3_go_0 : List UInt8 := [3, 62, 28, 54, 4, 42, 42, 180, 0, 29, 181, 0, 203, 42, 27, 181, 0, 206, 42, 3, 181, 0, 209, 42]
abbrev dktX3_go_0 : List UInt8 := dkwX3_go_0 ++ dktX3_go_1
theorem dksX3_go_0 : cX3_go.data.toList.drop 0 = dktX3_go_0 := by decide +kernel
theorem dksX3_go_1 : cX3_go.data.toList.drop 24 = dktX3_go_1 := dk_seg dksX3_go_0 24 rfl rfl
theorem dksX3_go_2 : cX3_go.data.toList.drop 46 = dktX3_go_2 := dk_seg dksX3_go_1 22 rfl rfl
theorem dksX3_go_3 : cX3_go.data.toList.drop 69 = dktX3_go_3 := dk_seg dksX3_go_2 23 rfl rfl
theorem dksX3_go_4 : cX3_go.data.toList.drop 93 = dktX3_go_4 := dk_seg dksX3_go_3 24 rfl rfl
theorem dksX3_go_5 : cX3_go.data.toList.drop 117 = dktX3_go_5 := dk_seg dksX3_go_4 24 rfl rfl
theorem dksX3_go_6 : cX3_go.data.toList.drop 140 = dktX3_go_6 := dk_seg dksX3_go_5 23 rfl rfl
theorem dksX3_go_7 : cX3_go.data.toList.drop 163 = dktX3_go_7 := dk_seg dksX3_go_6 23 rfl rfl
theorem dksX3_go_8 : cX3_go.data.toList.drop 185 = dktX3_go_8 := dk_seg dksX3_go_7 22 rfl rfl
theorem dksX3_go_9 : cX3_go.data.toList.drop 208 = dktX3_go_9 := dk_seg dksX3_go_8 23 rfl rfl
theorem dksX3_go_10 : cX3_go.data.toList.drop 232 = dktX3_go_10 := dk_seg dksX3_go_9 24 rfl rfl
theorem dksX3_go_11 : cX3_go.data.toList.drop 255 = dktX3_go_11 := dk_seg dksX3_go_10 23 rfl rfl
theorem dksX3_go_12 : cX3_go.data.toList.drop 278 = dktX3_go_12 := dk_seg dksX3_go_11 23 rfl rfl
theorem dksX3_go_13 : cX3_go.data.toList.drop 302 = dktX3_go_13 := dk_seg dksX3_go_12 24 rfl rfl
theorem dksX3_go_14 : cX3_go.data.toList.drop 325 = dktX3_go_14 := dk_seg dksX3_go_13 23 rfl rfl
theorem dksX3_go_15 : cX3_go.data.toList.drop 349 = dktX3_go_15 := dk_seg dksX3_go_14 24 rfl rfl
theorem dksX3_go_16 : cX3_go.data.toList.drop 373 = dktX3_go_16 := dk_seg dksX3_go_15 24 rfl rfl
theorem dksX3_go_17 : cX3_go.data.toList.drop 395 = dktX3_go_17 := dk_seg dksX3_go_16 22 rfl rfl
theorem dksX3_go_18 : cX3_go.data.toList.drop 418 = dktX3_go_18 := dk_seg dksX3_go_17 23 rfl rfl
theorem dX3_go_0 : decode cX3_go 0 = .ok (.iconst 0, 1) := dk_3 (dk_at dksX3_go_0 0 rfl rfl)
theorem dX3_go_1 : decode cX3_go 1 = .ok (.istore_n 3, 1) := dk_62 (dk_at dksX3_go_0 1 rfl rfl)
theorem dX3_go_2 : decode cX3_go 2 = .ok (.iload_n 2, 1) := dk_28 (dk_at dksX3_go_0 2 rfl rfl)
theorem dX3_go_3 : decode cX3_go 3 = .ok (.istore 4, 2) := dk_54 4 (dk_at dksX3_go_0 3 rfl rfl)
theorem dX3_go_5 : decode cX3_go 5 = .ok (.aload_n 0, 1) := dk_42 (dk_at dksX3_go_0 5 rfl rfl)
theorem dX3_go_6 : decode cX3_go 6 = .ok (.aload_n 0, 1) := dk_42 (dk_at dksX3_go_0 6 rfl rfl)
theorem dX3_go_7 : decode cX3_go 7 = .ok (.getfield 29, 3) := dk_180 0 29 (dk_at dksX3_go_0 7 rfl rfl)
theorem dX3_go_10 : decode cX3_go 10 = .ok (.putfield 203, 3) := dk_181 0 203 (dk_at dksX3_go_0 10 rfl rfl)
theorem dX3_go_13 : decode cX3_go 13 = .ok (.aload_n 0, 1) := dk_42 (dk_at dksX3_go_0 13 rfl rfl)
theorem dX3_go_14 : decode cX3_go 14 = .ok (.iload_n 1, 1) := dk_27 (dk_at dksX3_go_0 14 rfl rfl)
theorem dX3_go_15 : decode cX3_go 15 = .ok (.putfield 206, 3) := dk_181 0 206 (dk_at dksX3_go_0 15 rfl rfl)
theorem dX3_go_18 : decode cX3_go 18 = .ok (.aload_n 0, 1) := dk_42 (dk_at dksX3_go_0 18 rfl rfl)
theorem dX3_go_19 : decode cX3_go 19 = .ok (.iconst 0, 1) := dk_3 (dk_at dksX3_go_0 19 rfl rfl)
theorem dX3_go_20 : decode cX3_go 20 = .ok (.putfield 209, 3) := dk_181 0 209 (dk_at dksX3_go_0 20 rfl rfl)
theorem dX3_go_23 : decode cX3_go 23 = .ok (.aload_n 0, 1) := dk_42 (dk_at dksX3_go_0 23 rfl rfl)
theorem dX3_go_24 : decode cX3_go 24 = .ok (.iconst 0, 1) := dk_3 (dk_at dksX3_go_1 0 rfl rfl)
theorem dX3_go_25 : decode cX3_go 25 = .ok (.putfield 212, 3) := dk_181 0 212 (dk_at dksX3_go_1 1 rfl rfl)
theorem dX3_go_28 : decode cX3_go 28 = .ok (.aload_n 0, 1) := dk_42 (dk_at dksX3_go_1 4 rfl rfl)
theorem dX3_go_29 : decode cX3_go 29 = .ok (.iconst 1, 1) := dk_4 (dk_at dksX3_go_1 5 rfl rfl)
theorem dX3_go_30 : decode cX3_go 30 = .ok (.putfield 215, 3) := dk_181 0 215 (dk_at dksX3_go_1 6 rfl rfl)
theorem dX3_go_33 : decode cX3_go 33 = .ok (.iconst 0, 1) := dk_3 (dk_at dksX3_go_1 9 rfl rfl)
theorem dX3_go_34 : decode cX3_go 34 = .ok (.istore 5, 2) := dk_54 5 (dk_at dksX3_go_1 10 rfl rfl)
theorem dX3_go_36 : decode cX3_go 36 = .ok (.iload 5, 2) := dk_21 5 (dk_at dksX3_go_1 12 rfl rfl)
theorem dX3_go_38 : decode cX3_go 38 = .ok (.aload_n 0, 1) := dk_42 (dk_at dksX3_go_1 14 rfl rfl)
theorem dX3_go_39 : decode cX3_go 39 = .ok (.getfield 191, 3) := dk_180 0 191 (dk_at dksX3_go_1 15 rfl rfl)
theorem dX3_go_42 : decode cX3_go 42 = .ok (.if_icmp .ge 395, 3) := dk_162 1 139 (dk_at dksX3_go_1 18 rfl rfl)
theorem dX3_go_45 : decode cX3_go 45 = .ok (.aload_n 0, 1) := dk_42 (dk_at dksX3_go_1 21 rfl rfl)
theorem dX3_go_46 : decode cX3_go 46 = .ok (.getfield 47, 3) := dk_180 0 47 (dk_at dksX3_go_2 0 rfl rfl)
theorem dX3_go_49 : decode cX3_go 49 = .ok (.iload 5, 2) := dk_21 5 (dk_at dksX3_go_2 3 rfl rfl)
theorem dX3_go_51 : decode cX3_go 51 = .ok (.iaload, 1) := dk_46 (dk_at dksX3_go_2 5 rfl rfl)
theorem dX3_go_52 : decode cX3_go 52 = .ok (.istore 6, 2) := dk_54 6 (dk_at dksX3_go_2 6 rfl rfl)
theorem dX3_go_54 : decode cX3_go 54 = .ok (.iload 6, 2) := dk_21 6 (dk_at dksX3_go_2 8 rfl rfl)
theorem dX3_go_56 : decode cX3_go 56 = .ok (.bipush 6, 2) := dk_16 6 (dk_at dksX3_go_2 10 rfl rfl)
theorem dX3_go_58 : decode cX3_go 58 = .ok (.if_icmp .ne 7, 3) := dk_160 0 7 (dk_at dksX3_go_2 12 rfl rfl)
theorem dX3_go_61 : decode cX3_go 61 = .ok (.iconst 0, 1) := dk_3 (dk_at dksX3_go_2 15 rfl rfl)
theorem dX3_go_62 : decode cX3_go 62 = .ok (.goto 13, 3) := dk_167 0 13 (dk_at dksX3_go_2 16 rfl rfl)
theorem dX3_go_65 : decode cX3_go 65 = .ok (.aload_n 0, 1) := dk_42 (dk_at dksX3_go_2 19 rfl rfl)
theorem dX3_go_66 : decode cX3_go 66 = .ok (.getfield 35, 3) := dk_180 0 35 (dk_at dksX3_go_2 20 rfl rfl)
theorem dX3_go_69 : decode cX3_go 69 = .ok (.bipush 6, 2) := dk_16 6 (dk_at dksX3_go_3 0 rfl rfl)
theorem dX3_go_71 : decode cX3_go 71 = .ok (.iload 6, 2) := dk_21 6 (dk_at dksX3_go_3 2 rfl rfl)
theorem dX3_go_73 : decode cX3_go 73 = .ok (.imul, 1) := dk_104 (dk_at dksX3_go_3 4 rfl rfl)
theorem dX3_go_74 : decode cX3_go 74 = .ok (.iaload, 1) := dk_46 (dk_at dksX3_go_3 5 rfl rfl)
theorem dX3_go_75 : decode cX3_go 75 = .ok (.istore 7, 2) := dk_54 7 (dk_at dksX3_go_3 6 rfl rfl)
theorem dX3_go_77 : decode cX3_go 77 = .ok (.aload_n 0, 1) := dk_42 (dk_at dksX3_go_3 8 rfl rfl)
theorem dX3_go_78 : decode cX3_go 78 = .ok (.dup, 1) := dk_89 (dk_at dksX3_go_3 9 rfl rfl)
theorem dX3_go_79 : decode cX3_go 79 = .ok (.getfield 203, 3) := dk_180 0 203 (dk_at dksX3_go_3 10 rfl rfl)
theorem dX3_go_82 : decode cX3_go 82 = .ok (.aload_n 0, 1) := dk_42 (dk_at dksX3_go_3 13 rfl rfl)
theorem dX3_go_83 : decode cX3_go 83 = .ok (.getfield 32, 3) := dk_180 0 32 (dk_at dksX3_go_3 14 rfl rfl)
theorem dX3_go_86 : decode cX3_go 86 = .ok (.bipush 6, 2) := dk_16 6 (dk_at dksX3_go_3 17 rfl rfl)
theorem dX3_go_88 : decode cX3_go 88 = .ok (.iload_n 3, 1) := dk_29 (dk_at dksX3_go_3 19 rfl rfl)
theorem dX3_go_89 : decode cX3_go 89 = .ok (.imul, 1) := dk_104 (dk_at dksX3_go_3 20 rfl rfl)
theorem dX3_go_90 : decode cX3_go 90 = .ok (.iload 7, 2) := dk_21 7 (dk_at dksX3_go_3 21 rfl rfl)
theorem dX3_go_92 : decode cX3_go 92 = .ok (.iadd, 1) := dk_96 (dk_at dksX3_go_3 23 rfl rfl)
theorem dX3_go_93 : decode cX3_go 93 = .ok (.iaload, 1) := dk_46 (dk_at dksX3_go_4 0 rfl rfl)
theorem dX3_go_94 : decode cX3_go 94 = .ok (.iadd, 1) := dk_96 (dk_at dksX3_go_4 1 rfl rfl)
theorem dX3_go_95 : decode cX3_go 95 = .ok (.putfield 203, 3) := dk_181 0 203 (dk_at dksX3_go_4 2 rfl rfl)
theorem dX3_go_98 : decode cX3_go 98 = .ok (.iload 7, 2) := dk_21 7 (dk_at dksX3_go_4 5 rfl rfl)
theorem dX3_go_100 : decode cX3_go 100 = .ok (.istore_n 3, 1) := dk_62 (dk_at dksX3_go_4 7 rfl rfl)
theorem dX3_go_101 : decode cX3_go 101 = .ok (.iload 6, 2) := dk_21 6 (dk_at dksX3_go_4 8 rfl rfl)
theorem dX3_go_103 : decode cX3_go 103 = .ok (.bipush 6, 2) := dk_16 6 (dk_at dksX3_go_4 10 rfl rfl)
theorem dX3_go_105 : decode cX3_go 105 = .ok (.if_icmp .ne 11, 3) := dk_160 0 11 (dk_at dksX3_go_4 12 rfl rfl)
theorem dX3_go_108 : decode cX3_go 108 = .ok (.aload_n 0, 1) := dk_42 (dk_at dksX3_go_4 15 rfl rfl)
theorem dX3_go_109 : decode cX3_go 109 = .ok (.iload_n 1, 1) := dk_27 (dk_at dksX3_go_4 16 rfl rfl)
theorem dX3_go_110 : decode cX3_go 110 = .ok (.putfield 206, 3) := dk_181 0 206 (dk_at dksX3_go_4 17 rfl rfl)
theorem dX3_go_113 : decode cX3_go 113 = .ok (.goto 318, 3) := dk_167 1 62 (dk_at dksX3_go_4 20 rfl rfl)
theorem dX3_go_116 : decode cX3_go 116 = .ok (.aload_n 0, 1) := dk_42 (dk_at dksX3_go_4 23 rfl rfl)
theorem dX3_go_117 : decode cX3_go 117 = .ok (.aload_n 0, 1) := dk_42 (dk_at dksX3_go_5 0 rfl rfl)
theorem dX3_go_118 : decode cX3_go 118 = .ok (.getfield 203, 3) := dk_180 0 203 (dk_at dksX3_go_5 1 rfl rfl)
theorem dX3_go_121 : decode cX3_go 121 = .ok (.aload_n 0, 1) := dk_42 (dk_at dksX3_go_5 4 rfl rfl)
theorem dX3_go_122 : decode cX3_go 122 = .ok (.getfield 35, 3) := dk_180 0 35 (dk_at dksX3_go_5 5 rfl rfl)
theorem dX3_go_125 : decode cX3_go 125 = .ok (.bipush 6, 2) := dk_16 6 (dk_at dksX3_go_5 8 rfl rfl)
theorem dX3_go_127 : decode cX3_go 127 = .ok (.iload 6, 2) := dk_21 6 (dk_at dksX3_go_5 10 rfl rfl)
theorem dX3_go_129 : decode cX3_go 129 = .ok (.imul, 1) := dk_104 (dk_at dksX3_go_5 12 rfl rfl)
theorem dX3_go_130 : decode cX3_go 130 = .ok (.iconst 1, 1) := dk_4 (dk_at dksX3_go_5 13 rfl rfl)
theorem dX3_go_131 : decode cX3_go 131 = .ok (.iadd, 1) := dk_96 (dk_at dksX3_go_5 14 rfl rfl)
theorem dX3_go_132 : decode cX3_go 132 = .ok (.iaload, 1) := dk_46 (dk_at dksX3_go_5 15 rfl rfl)
theorem dX3_go_133 : decode cX3_go 133 = .ok (.if_icmp .ge 18, 3) := dk_162 0 18 (dk_at dksX3_go_5 16 rfl rfl)
theorem dX3_go_136 : decode cX3_go 136 = .ok (.aload_n 0, 1) := dk_42 (dk_at dksX3_go_5 19 rfl rfl)
theorem dX3_go_137 : decode cX3_go 137 = .ok (.getfield 35, 3) := dk_180 0 35 (dk_at dksX3_go_5 20 rfl rfl)
theorem dX3_go_140 : decode cX3_go 140 = .ok (.bipush 6, 2) := dk_16 6 (dk_at dksX3_go_6 0 rfl rfl)
theorem dX3_go_142 : decode cX3_go 142 = .ok (.iload 6, 2) := dk_21 6 (dk_at dksX3_go_6 2 rfl rfl)
theorem dX3_go_144 : decode cX3_go 144 = .ok (.imul, 1) := dk_104 (dk_at dksX3_go_6 4 rfl rfl)
theorem dX3_go_145 : decode cX3_go 145 = .ok (.iconst 1, 1) := dk_4 (dk_at dksX3_go_6 5 rfl rfl)
theorem dX3_go_146 : decode cX3_go 146 = .ok (.iadd, 1) := dk_96 (dk_at dksX3_go_6 6 rfl rfl)
theorem dX3_go_147 : decode cX3_go 147 = .ok (.iaload, 1) := dk_46 (dk_at dksX3_go_6 7 rfl rfl)
theorem dX3_go_148 : decode cX3_go 148 = .ok (.goto 7, 3) := dk_167 0 7 (dk_at dksX3_go_6 8 rfl rfl)
theorem dX3_go_151 : decode cX3_go 151 = .ok (.aload_n 0, 1) := dk_42 (dk_at dksX3_go_6 11 rfl rfl)
theorem dX3_go_152 : decode cX3_go 152 = .ok (.getfield 203, 3) := dk_180 0 203 (dk_at dksX3_go_6 12 rfl rfl)
theorem dX3_go_155 : decode cX3_go 155 = .ok (.putfield 203, 3) := dk_181 0 203 (dk_at dksX3_go_6 15 rfl rfl)
theorem dX3_go_158 : decode cX3_go 158 = .ok (.aload_n 0, 1) := dk_42 (dk_at dksX3_go_6 18 rfl rfl)
theorem dX3_go_159 : decode cX3_go 159 = .ok (.getfield 203, 3) := dk_180 0 203 (dk_at dksX3_go_6 19 rfl rfl)
theorem dX3_go_162 : decode cX3_go 162 = .ok (.aload_n 0, 1) := dk_42 (dk_at dksX3_go_6 22 rfl rfl)
theorem dX3_go_163 : decode cX3_go 163 = .ok (.getfield 35, 3) := dk_180 0 35 (dk_at dksX3_go_7 0 rfl rfl)
theorem dX3_go_166 : decode cX3_go 166 = .ok (.bipush 6, 2) := dk_16 6 (dk_at dksX3_go_7 3 rfl rfl)
theorem dX3_go_168 : decode cX3_go 168 = .ok (.iload 6, 2) := dk_21 6 (dk_at dksX3_go_7 5 rfl rfl)
theorem dX3_go_170 : decode cX3_go 170 = .ok (.imul, 1) := dk_104 (dk_at dksX3_go_7 7 rfl rfl)
theorem dX3_go_171 : decode cX3_go 171 = .ok (.iconst 2, 1) := dk_5 (dk_at dksX3_go_7 8 rfl rfl)
theorem dX3_go_172 : decode cX3_go 172 = .ok (.iadd, 1) := dk_96 (dk_at dksX3_go_7 9 rfl rfl)
theorem dX3_go_173 : decode cX3_go 173 = .ok (.iaload, 1) := dk_46 (dk_at dksX3_go_7 10 rfl rfl)
theorem dX3_go_174 : decode cX3_go 174 = .ok (.if_icmp .le 7, 3) := dk_164 0 7 (dk_at dksX3_go_7 11 rfl rfl)
theorem dX3_go_177 : decode cX3_go 177 = .ok (.iconst 1, 1) := dk_4 (dk_at dksX3_go_7 14 rfl rfl)
theorem dX3_go_178 : decode cX3_go 178 = .ok (.goto 4, 3) := dk_167 0 4 (dk_at dksX3_go_7 15 rfl rfl)
theorem dX3_go_181 : decode cX3_go 181 = .ok (.iconst 0, 1) := dk_3 (dk_at dksX3_go_7 18 rfl rfl)
theorem dX3_go_182 : decode cX3_go 182 = .ok (.istore 8, 2) := dk_54 8 (dk_at dksX3_go_7 19 rfl rfl)
theorem dX3_go_184 : decode cX3_go 184 = .ok (.aload_n 0, 1) := dk_42 (dk_at dksX3_go_7 21 rfl rfl)
theorem dX3_go_185 : decode cX3_go 185 = .ok (.getfield 50, 3) := dk_180 0 50 (dk_at dksX3_go_8 0 rfl rfl)
theorem dX3_go_188 : decode cX3_go 188 = .ok (.iload 5, 2) := dk_21 5 (dk_at dksX3_go_8 3 rfl rfl)
theorem dX3_go_190 : decode cX3_go 190 = .ok (.iaload, 1) := dk_46 (dk_at dksX3_go_8 5 rfl rfl)
theorem dX3_go_191 : decode cX3_go 191 = .ok (.istore 9, 2) := dk_54 9 (dk_at dksX3_go_8 6 rfl rfl)
theorem dX3_go_193 : decode cX3_go 193 = .ok (.iload 8, 2) := dk_21 8 (dk_at dksX3_go_8 8 rfl rfl)
theorem dX3_go_195 : decode cX3_go 195 = .ok (.ifCond .ne 42, 3) := dk_154 0 42 (dk_at dksX3_go_8 10 rfl rfl)
theorem dX3_go_198 : decode cX3_go 198 = .ok (.iload_n 2, 1) := dk_28 (dk_at dksX3_go_8 13 rfl rfl)
theorem dX3_go_199 : decode cX3_go 199 = .ok (.ifCond .lt 38, 3) := dk_155 0 38 (dk_at dksX3_go_8 14 rfl rfl)
theorem dX3_go_202 : decode cX3_go 202 = .ok (.iload 4, 2) := dk_21 4 (dk_at dksX3_go_8 17 rfl rfl)
theorem dX3_go_204 : decode cX3_go 204 = .ok (.sipush 25173, 3) := dk_17 98 85 (dk_at dksX3_go_8 19 rfl rfl)
theorem dX3_go_207 : decode cX3_go 207 = .ok (.imul, 1) := dk_104 (dk_at dksX3_go_8 22 rfl rfl)
theorem dX3_go_208 : decode cX3_go 208 = .ok (.sipush 13849, 3) := dk_17 54 25 (dk_at dksX3_go_9 0 rfl rfl)
theorem dX3_go_211 : decode cX3_go 211 = .ok (.iadd, 1) := dk_96 (dk_at dksX3_go_9 3 rfl rfl)
theorem dX3_go_212 : decode cX3_go 212 = .ok (.ldc 219, 2) := dk_18 219 (dk_at dksX3_go_9 4 rfl rfl)
theorem dX3_go_214 : decode cX3_go 214 = .ok (.irem, 1) := dk_112 (dk_at dksX3_go_9 6 rfl rfl)
theorem dX3_go_215 : decode cX3_go 215 = .ok (.istore 4, 2) := dk_54 4 (dk_at dksX3_go_9 7 rfl rfl)
theorem dX3_go_217 : decode cX3_go 217 = .ok (.aload_n 0, 1) := dk_42 (dk_at dksX3_go_9 9 rfl rfl)
theorem dX3_go_218 : decode cX3_go 218 = .ok (.iload 6, 2) := dk_21 6 (dk_at dksX3_go_9 10 rfl rfl)
theorem dX3_go_220 : decode cX3_go 220 = .ok (.iload 4, 2) := dk_21 4 (dk_at dksX3_go_9 12 rfl rfl)
theorem dX3_go_222 : decode cX3_go 222 = .ok (.bipush 64, 2) := dk_16 64 (dk_at dksX3_go_9 14 rfl rfl)
theorem dX3_go_224 : decode cX3_go 224 = .ok (.idiv, 1) := dk_108 (dk_at dksX3_go_9 16 rfl rfl)
theorem dX3_go_225 : decode cX3_go 225 = .ok (.aload_n 0, 1) := dk_42 (dk_at dksX3_go_9 17 rfl rfl)
theorem dX3_go_226 : decode cX3_go 226 = .ok (.iload 6, 2) := dk_21 6 (dk_at dksX3_go_9 18 rfl rfl)
theorem dX3_go_228 : decode cX3_go 228 = .ok (.invokevirtual 182, 3) := dk_182 0 182 (dk_at dksX3_go_9 20 rfl rfl)
theorem dX3_go_231 : decode cX3_go 231 = .ok (.irem, 1) := dk_112 (dk_at dksX3_go_9 23 rfl rfl)
theorem dX3_go_232 : decode cX3_go 232 = .ok (.invokevirtual 220, 3) := dk_182 0 220 (dk_at dksX3_go_10 0 rfl rfl)
theorem dX3_go_235 : decode cX3_go 235 = .ok (.istore 9, 2) := dk_54 9 (dk_at dksX3_go_10 3 rfl rfl)
theorem dX3_go_237 : decode cX3_go 237 = .ok (.iload 8, 2) := dk_21 8 (dk_at dksX3_go_10 5 rfl rfl)
theorem dX3_go_239 : decode cX3_go 239 = .ok (.ifCond .eq 7, 3) := dk_153 0 7 (dk_at dksX3_go_10 7 rfl rfl)
theorem dX3_go_242 : decode cX3_go 242 = .ok (.iconst (-1), 1) := dk_2 (dk_at dksX3_go_10 10 rfl rfl)
theorem dX3_go_243 : decode cX3_go 243 = .ok (.goto 15, 3) := dk_167 0 15 (dk_at dksX3_go_10 11 rfl rfl)
theorem dX3_go_246 : decode cX3_go 246 = .ok (.aload_n 0, 1) := dk_42 (dk_at dksX3_go_10 14 rfl rfl)
theorem dX3_go_247 : decode cX3_go 247 = .ok (.aload_n 0, 1) := dk_42 (dk_at dksX3_go_10 15 rfl rfl)
theorem dX3_go_248 : decode cX3_go 248 = .ok (.getfield 206, 3) := dk_180 0 206 (dk_at dksX3_go_10 16 rfl rfl)
theorem dX3_go_251 : decode cX3_go 251 = .ok (.iload 6, 2) := dk_21 6 (dk_at dksX3_go_10 19 rfl rfl)
theorem dX3_go_253 : decode cX3_go 253 = .ok (.iload 9, 2) := dk_21 9 (dk_at dksX3_go_10 21 rfl rfl)
theorem dX3_go_255 : decode cX3_go 255 = .ok (.invokevirtual 168, 3) := dk_182 0 168 (dk_at dksX3_go_11 0 rfl rfl)
theorem dX3_go_258 : decode cX3_go 258 = .ok (.istore 10, 2) := dk_54 10 (dk_at dksX3_go_11 3 rfl rfl)
theorem dX3_go_260 : decode cX3_go 260 = .ok (.iload 10, 2) := dk_21 10 (dk_at dksX3_go_11 5 rfl rfl)
theorem dX3_go_262 : decode cX3_go 262 = .ok (.iconst (-1), 1) := dk_2 (dk_at dksX3_go_11 7 rfl rfl)
theorem dX3_go_263 : decode cX3_go 263 = .ok (.if_icmp .eq 7, 3) := dk_159 0 7 (dk_at dksX3_go_11 8 rfl rfl)
theorem dX3_go_266 : decode cX3_go 266 = .ok (.iconst 1, 1) := dk_4 (dk_at dksX3_go_11 11 rfl rfl)
theorem dX3_go_267 : decode cX3_go 267 = .ok (.goto 4, 3) := dk_167 0 4 (dk_at dksX3_go_11 12 rfl rfl)
theorem dX3_go_270 : decode cX3_go 270 = .ok (.iconst 0, 1) := dk_3 (dk_at dksX3_go_11 15 rfl rfl)
theorem dX3_go_271 : decode cX3_go 271 = .ok (.istore 11, 2) := dk_54 11 (dk_at dksX3_go_11 16 rfl rfl)
theorem dX3_go_273 : decode cX3_go 273 = .ok (.aload_n 0, 1) := dk_42 (dk_at dksX3_go_11 18 rfl rfl)
theorem dX3_go_274 : decode cX3_go 274 = .ok (.dup, 1) := dk_89 (dk_at dksX3_go_11 19 rfl rfl)
theorem dX3_go_275 : decode cX3_go 275 = .ok (.getfield 203, 3) := dk_180 0 203 (dk_at dksX3_go_11 20 rfl rfl)
theorem dX3_go_278 : decode cX3_go 278 = .ok (.iload 8, 2) := dk_21 8 (dk_at dksX3_go_12 0 rfl rfl)
theorem dX3_go_280 : decode cX3_go 280 = .ok (.ifCond .eq 7, 3) := dk_153 0 7 (dk_at dksX3_go_12 2 rfl rfl)
theorem dX3_go_283 : decode cX3_go 283 = .ok (.iconst 0, 1) := dk_3 (dk_at dksX3_go_12 5 rfl rfl)
theorem dX3_go_284 : decode cX3_go 284 = .ok (.goto 40, 3) := dk_167 0 40 (dk_at dksX3_go_12 6 rfl rfl)
theorem dX3_go_287 : decode cX3_go 287 = .ok (.iload 11, 2) := dk_21 11 (dk_at dksX3_go_12 9 rfl rfl)
theorem dX3_go_289 : decode cX3_go 289 = .ok (.ifCond .eq 23, 3) := dk_153 0 23 (dk_at dksX3_go_12 11 rfl rfl)
theorem dX3_go_292 : decode cX3_go 292 = .ok (.aload_n 0, 1) := dk_42 (dk_at dksX3_go_12 14 rfl rfl)
theorem dX3_go_293 : decode cX3_go 293 = .ok (.getfield 41, 3) := dk_180 0 41 (dk_at dksX3_go_12 15 rfl rfl)
theorem dX3_go_296 : decode cX3_go 296 = .ok (.bipush 16, 2) := dk_16 16 (dk_at dksX3_go_12 18 rfl rfl)
theorem dX3_go_298 : decode cX3_go 298 = .ok (.iload 6, 2) := dk_21 6 (dk_at dksX3_go_12 20 rfl rfl)
theorem dX3_go_300 : decode cX3_go 300 = .ok (.imul, 1) := dk_104 (dk_at dksX3_go_12 22 rfl rfl)
theorem dX3_go_301 : decode cX3_go 301 = .ok (.iconst 4, 1) := dk_7 (dk_at dksX3_go_12 23 rfl rfl)
theorem dX3_go_302 : decode cX3_go 302 = .ok (.iload 9, 2) := dk_21 9 (dk_at dksX3_go_13 0 rfl rfl)
theorem dX3_go_304 : decode cX3_go 304 = .ok (.imul, 1) := dk_104 (dk_at dksX3_go_13 2 rfl rfl)
theorem dX3_go_305 : decode cX3_go 305 = .ok (.iadd, 1) := dk_96 (dk_at dksX3_go_13 3 rfl rfl)
theorem dX3_go_306 : decode cX3_go 306 = .ok (.iconst 1, 1) := dk_4 (dk_at dksX3_go_13 4 rfl rfl)
theorem dX3_go_307 : decode cX3_go 307 = .ok (.iadd, 1) := dk_96 (dk_at dksX3_go_13 5 rfl rfl)
theorem dX3_go_308 : decode cX3_go 308 = .ok (.iaload, 1) := dk_46 (dk_at dksX3_go_13 6 rfl rfl)
theorem dX3_go_309 : decode cX3_go 309 = .ok (.goto 15, 3) := dk_167 0 15 (dk_at dksX3_go_13 7 rfl rfl)
theorem dX3_go_312 : decode cX3_go 312 = .ok (.aload_n 0, 1) := dk_42 (dk_at dksX3_go_13 10 rfl rfl)
theorem dX3_go_313 : decode cX3_go 313 = .ok (.getfield 35, 3) := dk_180 0 35 (dk_at dksX3_go_13 11 rfl rfl)
theorem dX3_go_316 : decode cX3_go 316 = .ok (.bipush 6, 2) := dk_16 6 (dk_at dksX3_go_13 14 rfl rfl)
theorem dX3_go_318 : decode cX3_go 318 = .ok (.iload 6, 2) := dk_21 6 (dk_at dksX3_go_13 16 rfl rfl)
theorem dX3_go_320 : decode cX3_go 320 = .ok (.imul, 1) := dk_104 (dk_at dksX3_go_13 18 rfl rfl)
theorem dX3_go_321 : decode cX3_go 321 = .ok (.iconst 5, 1) := dk_8 (dk_at dksX3_go_13 19 rfl rfl)
theorem dX3_go_322 : decode cX3_go 322 = .ok (.iadd, 1) := dk_96 (dk_at dksX3_go_13 20 rfl rfl)
theorem dX3_go_323 : decode cX3_go 323 = .ok (.iaload, 1) := dk_46 (dk_at dksX3_go_13 21 rfl rfl)
theorem dX3_go_324 : decode cX3_go 324 = .ok (.iadd, 1) := dk_96 (dk_at dksX3_go_13 22 rfl rfl)
theorem dX3_go_325 : decode cX3_go 325 = .ok (.putfield 203, 3) := dk_181 0 203 (dk_at dksX3_go_14 0 rfl rfl)
theorem dX3_go_328 : decode cX3_go 328 = .ok (.aload_n 0, 1) := dk_42 (dk_at dksX3_go_14 3 rfl rfl)
theorem dX3_go_329 : decode cX3_go 329 = .ok (.dup, 1) := dk_89 (dk_at dksX3_go_14 4 rfl rfl)
theorem dX3_go_330 : decode cX3_go 330 = .ok (.getfield 209, 3) := dk_180 0 209 (dk_at dksX3_go_14 5 rfl rfl)
theorem dX3_go_333 : decode cX3_go 333 = .ok (.iload 11, 2) := dk_21 11 (dk_at dksX3_go_14 8 rfl rfl)
theorem dX3_go_335 : decode cX3_go 335 = .ok (.ifCond .eq 18, 3) := dk_153 0 18 (dk_at dksX3_go_14 10 rfl rfl)
theorem dX3_go_338 : decode cX3_go 338 = .ok (.aload_n 0, 1) := dk_42 (dk_at dksX3_go_14 13 rfl rfl)
theorem dX3_go_339 : decode cX3_go 339 = .ok (.getfield 35, 3) := dk_180 0 35 (dk_at dksX3_go_14 14 rfl rfl)
theorem dX3_go_342 : decode cX3_go 342 = .ok (.bipush 6, 2) := dk_16 6 (dk_at dksX3_go_14 17 rfl rfl)
theorem dX3_go_344 : decode cX3_go 344 = .ok (.iload 6, 2) := dk_21 6 (dk_at dksX3_go_14 19 rfl rfl)
theorem dX3_go_346 : decode cX3_go 346 = .ok (.imul, 1) := dk_104 (dk_at dksX3_go_14 21 rfl rfl)
theorem dX3_go_347 : decode cX3_go 347 = .ok (.iconst 3, 1) := dk_6 (dk_at dksX3_go_14 22 rfl rfl)
theorem dX3_go_348 : decode cX3_go 348 = .ok (.iadd, 1) := dk_96 (dk_at dksX3_go_14 23 rfl rfl)
theorem dX3_go_349 : decode cX3_go 349 = .ok (.iaload, 1) := dk_46 (dk_at dksX3_go_15 0 rfl rfl)
theorem dX3_go_350 : decode cX3_go 350 = .ok (.goto 16, 3) := dk_167 0 16 (dk_at dksX3_go_15 1 rfl rfl)
theorem dX3_go_353 : decode cX3_go 353 = .ok (.aload_n 0, 1) := dk_42 (dk_at dksX3_go_15 4 rfl rfl)
theorem dX3_go_354 : decode cX3_go 354 = .ok (.getfield 35, 3) := dk_180 0 35 (dk_at dksX3_go_15 5 rfl rfl)
theorem dX3_go_357 : decode cX3_go 357 = .ok (.bipush 6, 2) := dk_16 6 (dk_at dksX3_go_15 8 rfl rfl)
theorem dX3_go_359 : decode cX3_go 359 = .ok (.iload 6, 2) := dk_21 6 (dk_at dksX3_go_15 10 rfl rfl)
theorem dX3_go_361 : decode cX3_go 361 = .ok (.imul, 1) := dk_104 (dk_at dksX3_go_15 12 rfl rfl)
theorem dX3_go_362 : decode cX3_go 362 = .ok (.iconst 4, 1) := dk_7 (dk_at dksX3_go_15 13 rfl rfl)
theorem dX3_go_363 : decode cX3_go 363 = .ok (.iadd, 1) := dk_96 (dk_at dksX3_go_15 14 rfl rfl)
theorem dX3_go_364 : decode cX3_go 364 = .ok (.iaload, 1) := dk_46 (dk_at dksX3_go_15 15 rfl rfl)
theorem dX3_go_365 : decode cX3_go 365 = .ok (.ineg, 1) := dk_116 (dk_at dksX3_go_15 16 rfl rfl)
theorem dX3_go_366 : decode cX3_go 366 = .ok (.iadd, 1) := dk_96 (dk_at dksX3_go_15 17 rfl rfl)
theorem dX3_go_367 : decode cX3_go 367 = .ok (.putfield 209, 3) := dk_181 0 209 (dk_at dksX3_go_15 18 rfl rfl)
theorem dX3_go_370 : decode cX3_go 370 = .ok (.aload_n 0, 1) := dk_42 (dk_at dksX3_go_15 21 rfl rfl)
theorem dX3_go_371 : decode cX3_go 371 = .ok (.iload 11, 2) := dk_21 11 (dk_at dksX3_go_15 22 rfl rfl)
theorem dX3_go_373 : decode cX3_go 373 = .ok (.ifCond .eq 8, 3) := dk_153 0 8 (dk_at dksX3_go_16 0 rfl rfl)
theorem dX3_go_376 : decode cX3_go 376 = .ok (.iload 10, 2) := dk_21 10 (dk_at dksX3_go_16 3 rfl rfl)
theorem dX3_go_378 : decode cX3_go 378 = .ok (.goto 7, 3) := dk_167 0 7 (dk_at dksX3_go_16 5 rfl rfl)
theorem dX3_go_381 : decode cX3_go 381 = .ok (.aload_n 0, 1) := dk_42 (dk_at dksX3_go_16 8 rfl rfl)
theorem dX3_go_382 : decode cX3_go 382 = .ok (.getfield 206, 3) := dk_180 0 206 (dk_at dksX3_go_16 9 rfl rfl)
theorem dX3_go_385 : decode cX3_go 385 = .ok (.putfield 206, 3) := dk_181 0 206 (dk_at dksX3_go_16 12 rfl rfl)
theorem dX3_go_388 : decode cX3_go 388 = .ok (.aload_n 0, 1) := dk_42 (dk_at dksX3_go_16 15 rfl rfl)
theorem dX3_go_389 : decode cX3_go 389 = .ok (.dup, 1) := dk_89 (dk_at dksX3_go_16 16 rfl rfl)
theorem dX3_go_390 : decode cX3_go 390 = .ok (.getfield 212, 3) := dk_180 0 212 (dk_at dksX3_go_16 17 rfl rfl)
theorem dX3_go_393 : decode cX3_go 393 = .ok (.iload 11, 2) := dk_21 11 (dk_at dksX3_go_16 20 rfl rfl)
theorem dX3_go_395 : decode cX3_go 395 = .ok (.ifCond .eq 10, 3) := dk_153 0 10 (dk_at dksX3_go_17 0 rfl rfl)
theorem dX3_go_398 : decode cX3_go 398 = .ok (.iconst 1, 1) := dk_4 (dk_at dksX3_go_17 3 rfl rfl)
theorem dX3_go_399 : decode cX3_go 399 = .ok (.iload 6, 2) := dk_21 6 (dk_at dksX3_go_17 4 rfl rfl)
theorem dX3_go_401 : decode cX3_go 401 = .ok (.ishl, 1) := dk_120 (dk_at dksX3_go_17 6 rfl rfl)
theorem dX3_go_402 : decode cX3_go 402 = .ok (.goto 4, 3) := dk_167 0 4 (dk_at dksX3_go_17 7 rfl rfl)
theorem dX3_go_405 : decode cX3_go 405 = .ok (.iconst 0, 1) := dk_3 (dk_at dksX3_go_17 10 rfl rfl)
theorem dX3_go_406 : decode cX3_go 406 = .ok (.ior, 1) := dk_128 (dk_at dksX3_go_17 11 rfl rfl)
theorem dX3_go_407 : decode cX3_go 407 = .ok (.putfield 212, 3) := dk_181 0 212 (dk_at dksX3_go_17 12 rfl rfl)
theorem dX3_go_410 : decode cX3_go 410 = .ok (.aload_n 0, 1) := dk_42 (dk_at dksX3_go_17 15 rfl rfl)
theorem dX3_go_411 : decode cX3_go 411 = .ok (.aload_n 0, 1) := dk_42 (dk_at dksX3_go_17 16 rfl rfl)
theorem dX3_go_412 : decode cX3_go 412 = .ok (.getfield 215, 3) := dk_180 0 215 (dk_at dksX3_go_17 17 rfl rfl)
theorem dX3_go_415 : decode cX3_go 415 = .ok (.ifCond .eq 12, 3) := dk_153 0 12 (dk_at dksX3_go_17 20 rfl rfl)
theorem dX3_go_418 : decode cX3_go 418 = .ok (.iload 11, 2) := dk_21 11 (dk_at dksX3_go_18 0 rfl rfl)
theorem dX3_go_420 : decode cX3_go 420 = .ok (.ifCond .eq 7, 3) := dk_153 0 7 (dk_at dksX3_go_18 2 rfl rfl)
theorem dX3_go_423 : decode cX3_go 423 = .ok (.iconst 1, 1) := dk_4 (dk_at dksX3_go_18 5 rfl rfl)
theorem dX3_go_424 : decode cX3_go 424 = .ok (.goto 4, 3) := dk_167 0 4 (dk_at dksX3_go_18 6 rfl rfl)
theorem dX3_go_427 : decode cX3_go 427 = .ok (.iconst 0, 1) := dk_3 (dk_at dksX3_go_18 9 rfl rfl)
theorem dX3_go_428 : decode cX3_go 428 = .ok (.putfield 215, 3) := dk_181 0 215 (dk_at dksX3_go_18 10 rfl rfl)
theorem dX3_go_431 : decode cX3_go 431 = .ok (.iinc 5 1, 3) := dk_132 5 1 (dk_at dksX3_go_18 13 rfl rfl)
theorem dX3_go_434 : decode cX3_go 434 = .ok (.goto (-398), 3) := dk_167 254 114 (dk_at dksX3_go_18 16 rfl rfl)
theorem dX3_go_437 : decode cX3_go 437 = .ok (.return_, 1) := dk_177 (dk_at dksX3_go_18 19 rfl rfl)
abbrev cX3_sortBy : ByteArray := prog_12_method_43_code
def yX3_sortBy : MethodName := ⟨RX3, "sortBy", "(II)I"⟩
def dkwX3_sortBy_2 : List UInt8 := [172]
abbrev dktX3_sortBy_2 : List UInt8 := dkwX3_sortBy_2 ++ []
def dkwX3_sortBy_1 : List UInt8 := [42, 180, 0, 41, 16, 16, 27, 104, 7, 21, 4, 104, 96, 46, 100, 62, 132, 4, 1, 167, 255, 218, 21, 4]
abbrev dktX3_sortBy_1 : List UInt8 := dkwX3_sortBy_1 ++ dktX3_sortBy_2
def dkwX3_sortBy_0 : List UInt8 := [28, 62, 3, 54, 4, 29, 42, 180, 0, 41, 16, 16, 27, 104, 7, 21, 4, 104, 96, 46, 161, 0, 26, 29]
abbrev dktX3_sortBy_0 : List UInt8 := dkwX3_sortBy_0 ++ dktX3_sortBy_1
theorem dksX3_sortBy_0 : cX3_sortBy.data.toList.drop 0 = dktX3_sortBy_0 := by decide +kernel
theorem dksX3_sortBy_1 : cX3_sortBy.data.toList.drop 24 = dktX3_sortBy_1 := dk_seg dksX3_sortBy_0 24 rfl rfl
theorem dksX3_sortBy_2 : cX3_sortBy.data.toList.drop 48 = dktX3_sortBy_2 := dk_seg dksX3_sortBy_1 24 rfl rfl
theorem dX3_sortBy_0 : decode cX3_sortBy 0 = .ok (.iload_n 2, 1) := dk_28 (dk_at dksX3_sortBy_0 0 rfl rfl)
theorem dX3_sortBy_1 : decode cX3_sortBy 1 = .ok (.istore_n 3, 1) := dk_62 (dk_at dksX3_sortBy_0 1 rfl rfl)
theorem dX3_sortBy_2 : decode cX3_sortBy 2 = .ok (.iconst 0, 1) := dk_3 (dk_at dksX3_sortBy_0 2 rfl rfl)
theorem dX3_sortBy_3 : decode cX3_sortBy 3 = .ok (.istore 4, 2) := dk_54 4 (dk_at dksX3_sortBy_0 3 rfl rfl)
theorem dX3_sortBy_5 : decode cX3_sortBy 5 = .ok (.iload_n 3, 1) := dk_29 (dk_at dksX3_sortBy_0 5 rfl rfl)
theorem dX3_sortBy_6 : decode cX3_sortBy 6 = .ok (.aload_n 0, 1) := dk_42 (dk_at dksX3_sortBy_0 6 rfl rfl)
theorem dX3_sortBy_7 : decode cX3_sortBy 7 = .ok (.getfield 41, 3) := dk_180 0 41 (dk_at dksX3_sortBy_0 7 rfl rfl)
theorem dX3_sortBy_10 : decode cX3_sortBy 10 = .ok (.bipush 16, 2) := dk_16 16 (dk_at dksX3_sortBy_0 10 rfl rfl)
theorem dX3_sortBy_12 : decode cX3_sortBy 12 = .ok (.iload_n 1, 1) := dk_27 (dk_at dksX3_sortBy_0 12 rfl rfl)
theorem dX3_sortBy_13 : decode cX3_sortBy 13 = .ok (.imul, 1) := dk_104 (dk_at dksX3_sortBy_0 13 rfl rfl)
theorem dX3_sortBy_14 : decode cX3_sortBy 14 = .ok (.iconst 4, 1) := dk_7 (dk_at dksX3_sortBy_0 14 rfl rfl)
theorem dX3_sortBy_15 : decode cX3_sortBy 15 = .ok (.iload 4, 2) := dk_21 4 (dk_at dksX3_sortBy_0 15 rfl rfl)
theorem dX3_sortBy_17 : decode cX3_sortBy 17 = .ok (.imul, 1) := dk_104 (dk_at dksX3_sortBy_0 17 rfl rfl)
theorem dX3_sortBy_18 : decode cX3_sortBy 18 = .ok (.iadd, 1) := dk_96 (dk_at dksX3_sortBy_0 18 rfl rfl)
theorem dX3_sortBy_19 : decode cX3_sortBy 19 = .ok (.iaload, 1) := dk_46 (dk_at dksX3_sortBy_0 19 rfl rfl)
theorem dX3_sortBy_20 : decode cX3_sortBy 20 = .ok (.if_icmp .lt 26, 3) := dk_161 0 26 (dk_at dksX3_sortBy_0 20 rfl rfl)
theorem dX3_sortBy_23 : decode cX3_sortBy 23 = .ok (.iload_n 3, 1) := dk_29 (dk_at dksX3_sortBy_0 23 rfl rfl)
theorem dX3_sortBy_24 : decode cX3_sortBy 24 = .ok (.aload_n 0, 1) := dk_42 (dk_at dksX3_sortBy_1 0 rfl rfl)
theorem dX3_sortBy_25 : decode cX3_sortBy 25 = .ok (.getfield 41, 3) := dk_180 0 41 (dk_at dksX3_sortBy_1 1 rfl rfl)
theorem dX3_sortBy_28 : decode cX3_sortBy 28 = .ok (.bipush 16, 2) := dk_16 16 (dk_at dksX3_sortBy_1 4 rfl rfl)
theorem dX3_sortBy_30 : decode cX3_sortBy 30 = .ok (.iload_n 1, 1) := dk_27 (dk_at dksX3_sortBy_1 6 rfl rfl)
theorem dX3_sortBy_31 : decode cX3_sortBy 31 = .ok (.imul, 1) := dk_104 (dk_at dksX3_sortBy_1 7 rfl rfl)
theorem dX3_sortBy_32 : decode cX3_sortBy 32 = .ok (.iconst 4, 1) := dk_7 (dk_at dksX3_sortBy_1 8 rfl rfl)
theorem dX3_sortBy_33 : decode cX3_sortBy 33 = .ok (.iload 4, 2) := dk_21 4 (dk_at dksX3_sortBy_1 9 rfl rfl)
theorem dX3_sortBy_35 : decode cX3_sortBy 35 = .ok (.imul, 1) := dk_104 (dk_at dksX3_sortBy_1 11 rfl rfl)
theorem dX3_sortBy_36 : decode cX3_sortBy 36 = .ok (.iadd, 1) := dk_96 (dk_at dksX3_sortBy_1 12 rfl rfl)
theorem dX3_sortBy_37 : decode cX3_sortBy 37 = .ok (.iaload, 1) := dk_46 (dk_at dksX3_sortBy_1 13 rfl rfl)
theorem dX3_sortBy_38 : decode cX3_sortBy 38 = .ok (.isub, 1) := dk_100 (dk_at dksX3_sortBy_1 14 rfl rfl)
theorem dX3_sortBy_39 : decode cX3_sortBy 39 = .ok (.istore_n 3, 1) := dk_62 (dk_at dksX3_sortBy_1 15 rfl rfl)
theorem dX3_sortBy_40 : decode cX3_sortBy 40 = .ok (.iinc 4 1, 3) := dk_132 4 1 (dk_at dksX3_sortBy_1 16 rfl rfl)
theorem dX3_sortBy_43 : decode cX3_sortBy 43 = .ok (.goto (-38), 3) := dk_167 255 218 (dk_at dksX3_sortBy_1 19 rfl rfl)
theorem dX3_sortBy_46 : decode cX3_sortBy 46 = .ok (.iload 4, 2) := dk_21 4 (dk_at dksX3_sortBy_1 22 rfl rfl)
theorem dX3_sortBy_48 : decode cX3_sortBy 48 = .ok (.ireturn, 1) := dk_172 (dk_at dksX3_sortBy_2 0 rfl rfl)
abbrev cX3_all : ByteArray := prog_12_method_48_code
def yX3_all : MethodName := ⟨RX3, "all", "(IIII)J"⟩
def dkwX3_all_2 : List UInt8 := [182, 0, 252, 42, 180, 0, 197, 21, 4, 184, 0, 185, 173]
abbrev dktX3_all_2 : List UInt8 := dkwX3_all_2 ++ []
def dkwX3_all_1 : List UInt8 := [16, 254, 160, 0, 9, 20, 0, 248, 167, 0, 6, 20, 0, 250, 173, 42, 28, 29, 182, 0, 241, 42, 27]
abbrev dktX3_all_1 : List UInt8 := dkwX3_all_1 ++ dktX3_all_2
def dkwX3_all_0 : List UInt8 := [42, 27, 28, 29, 182, 0, 234, 54, 5, 21, 5, 154, 0, 11, 21, 4, 184, 0, 179, 154, 0, 20, 21, 5]
abbrev dktX3_all_0 : List UInt8 := dkwX3_all_0 ++ dktX3_all_1
theorem dksX3_all_0 : cX3_all.data.toList.drop 0 = dktX3_all_0 := by decide +kernel
theorem dksX3_all_1 : cX3_all.data.toList.drop 24 = dktX3_all_1 := dk_seg dksX3_all_0 24 rfl rfl
theorem dksX3_all_2 : cX3_all.data.toList.drop 47 = dktX3_all_2 := dk_seg dksX3_all_1 23 rfl rfl
theorem dX3_all_0 : decode cX3_all 0 = .ok (.aload_n 0, 1) := dk_42 (dk_at dksX3_all_0 0 rfl rfl)
theorem dX3_all_1 : decode cX3_all 1 = .ok (.iload_n 1, 1) := dk_27 (dk_at dksX3_all_0 1 rfl rfl)
theorem dX3_all_2 : decode cX3_all 2 = .ok (.iload_n 2, 1) := dk_28 (dk_at dksX3_all_0 2 rfl rfl)
theorem dX3_all_3 : decode cX3_all 3 = .ok (.iload_n 3, 1) := dk_29 (dk_at dksX3_all_0 3 rfl rfl)
theorem dX3_all_4 : decode cX3_all 4 = .ok (.invokevirtual 234, 3) := dk_182 0 234 (dk_at dksX3_all_0 4 rfl rfl)
theorem dX3_all_7 : decode cX3_all 7 = .ok (.istore 5, 2) := dk_54 5 (dk_at dksX3_all_0 7 rfl rfl)
theorem dX3_all_9 : decode cX3_all 9 = .ok (.iload 5, 2) := dk_21 5 (dk_at dksX3_all_0 9 rfl rfl)
theorem dX3_all_11 : decode cX3_all 11 = .ok (.ifCond .ne 11, 3) := dk_154 0 11 (dk_at dksX3_all_0 11 rfl rfl)
theorem dX3_all_14 : decode cX3_all 14 = .ok (.iload 4, 2) := dk_21 4 (dk_at dksX3_all_0 14 rfl rfl)
theorem dX3_all_16 : decode cX3_all 16 = .ok (.invokestatic 179, 3) := dk_184 0 179 (dk_at dksX3_all_0 16 rfl rfl)
theorem dX3_all_19 : decode cX3_all 19 = .ok (.ifCond .ne 20, 3) := dk_154 0 20 (dk_at dksX3_all_0 19 rfl rfl)
theorem dX3_all_22 : decode cX3_all 22 = .ok (.iload 5, 2) := dk_21 5 (dk_at dksX3_all_0 22 rfl rfl)
theorem dX3_all_24 : decode cX3_all 24 = .ok (.bipush (-2), 2) := dk_16 254 (dk_at dksX3_all_1 0 rfl rfl)
theorem dX3_all_26 : decode cX3_all 26 = .ok (.if_icmp .ne 9, 3) := dk_160 0 9 (dk_at dksX3_all_1 2 rfl rfl)
theorem dX3_all_29 : decode cX3_all 29 = .ok (.ldc2_w 248, 3) := dk_20 0 248 (dk_at dksX3_all_1 5 rfl rfl)
theorem dX3_all_32 : decode cX3_all 32 = .ok (.goto 6, 3) := dk_167 0 6 (dk_at dksX3_all_1 8 rfl rfl)
theorem dX3_all_35 : decode cX3_all 35 = .ok (.ldc2_w 250, 3) := dk_20 0 250 (dk_at dksX3_all_1 11 rfl rfl)
theorem dX3_all_38 : decode cX3_all 38 = .ok (.lreturn, 1) := dk_173 (dk_at dksX3_all_1 14 rfl rfl)
theorem dX3_all_39 : decode cX3_all 39 = .ok (.aload_n 0, 1) := dk_42 (dk_at dksX3_all_1 15 rfl rfl)
theorem dX3_all_40 : decode cX3_all 40 = .ok (.iload_n 2, 1) := dk_28 (dk_at dksX3_all_1 16 rfl rfl)
theorem dX3_all_41 : decode cX3_all 41 = .ok (.iload_n 3, 1) := dk_29 (dk_at dksX3_all_1 17 rfl rfl)
theorem dX3_all_42 : decode cX3_all 42 = .ok (.invokevirtual 241, 3) := dk_182 0 241 (dk_at dksX3_all_1 18 rfl rfl)
theorem dX3_all_45 : decode cX3_all 45 = .ok (.aload_n 0, 1) := dk_42 (dk_at dksX3_all_1 21 rfl rfl)
theorem dX3_all_46 : decode cX3_all 46 = .ok (.iload_n 1, 1) := dk_27 (dk_at dksX3_all_1 22 rfl rfl)
theorem dX3_all_47 : decode cX3_all 47 = .ok (.invokevirtual 252, 3) := dk_182 0 252 (dk_at dksX3_all_2 0 rfl rfl)
theorem dX3_all_50 : decode cX3_all 50 = .ok (.aload_n 0, 1) := dk_42 (dk_at dksX3_all_2 3 rfl rfl)
theorem dX3_all_51 : decode cX3_all 51 = .ok (.getfield 197, 3) := dk_180 0 197 (dk_at dksX3_all_2 4 rfl rfl)
theorem dX3_all_54 : decode cX3_all 54 = .ok (.iload 4, 2) := dk_21 4 (dk_at dksX3_all_2 7 rfl rfl)
theorem dX3_all_56 : decode cX3_all 56 = .ok (.invokestatic 185, 3) := dk_184 0 185 (dk_at dksX3_all_2 9 rfl rfl)
theorem dX3_all_59 : decode cX3_all 59 = .ok (.lreturn, 1) := dk_173 (dk_at dksX3_all_2 12 rfl rfl)
abbrev cX3_doneOf : ByteArray := prog_12_method_45_code
def yX3_doneOf : MethodName := ⟨RX3, "doneOf", "(I)J"⟩
def dkwX3_doneOf_2 : List UInt8 := [167, 255, 214, 32, 173]
abbrev dktX3_doneOf_2 : List UInt8 := dkwX3_doneOf_2 ++ []
def dkwX3_doneOf_1 : List UInt8 := [182, 0, 227, 32, 42, 180, 0, 215, 153, 0, 10, 42, 180, 0, 201, 167, 0, 4, 9, 97, 65, 132, 4, 1]
abbrev dktX3_doneOf_1 : List UInt8 := dkwX3_doneOf_1 ++ dktX3_doneOf_2
def dkwX3_doneOf_0 : List UInt8 := [9, 65, 3, 54, 4, 21, 4, 42, 180, 0, 194, 162, 0, 39, 42, 21, 4, 182, 0, 224, 42, 27, 2]
abbrev dktX3_doneOf_0 : List UInt8 := dkwX3_doneOf_0 ++ dktX3_doneOf_1
theorem dksX3_doneOf_0 : cX3_doneOf.data.toList.drop 0 = dktX3_doneOf_0 := by decide +kernel
theorem dksX3_doneOf_1 : cX3_doneOf.data.toList.drop 23 = dktX3_doneOf_1 := dk_seg dksX3_doneOf_0 23 rfl rfl
theorem dksX3_doneOf_2 : cX3_doneOf.data.toList.drop 47 = dktX3_doneOf_2 := dk_seg dksX3_doneOf_1 24 rfl rfl
theorem dX3_doneOf_0 : decode cX3_doneOf 0 = .ok (.lconst 0, 1) := dk_9 (dk_at dksX3_doneOf_0 0 rfl rfl)
theorem dX3_doneOf_1 : decode cX3_doneOf 1 = .ok (.lstore_n 2, 1) := dk_65 (dk_at dksX3_doneOf_0 1 rfl rfl)
theorem dX3_doneOf_2 : decode cX3_doneOf 2 = .ok (.iconst 0, 1) := dk_3 (dk_at dksX3_doneOf_0 2 rfl rfl)
theorem dX3_doneOf_3 : decode cX3_doneOf 3 = .ok (.istore 4, 2) := dk_54 4 (dk_at dksX3_doneOf_0 3 rfl rfl)
theorem dX3_doneOf_5 : decode cX3_doneOf 5 = .ok (.iload 4, 2) := dk_21 4 (dk_at dksX3_doneOf_0 5 rfl rfl)
theorem dX3_doneOf_7 : decode cX3_doneOf 7 = .ok (.aload_n 0, 1) := dk_42 (dk_at dksX3_doneOf_0 7 rfl rfl)
theorem dX3_doneOf_8 : decode cX3_doneOf 8 = .ok (.getfield 194, 3) := dk_180 0 194 (dk_at dksX3_doneOf_0 8 rfl rfl)
theorem dX3_doneOf_11 : decode cX3_doneOf 11 = .ok (.if_icmp .ge 39, 3) := dk_162 0 39 (dk_at dksX3_doneOf_0 11 rfl rfl)
theorem dX3_doneOf_14 : decode cX3_doneOf 14 = .ok (.aload_n 0, 1) := dk_42 (dk_at dksX3_doneOf_0 14 rfl rfl)
theorem dX3_doneOf_15 : decode cX3_doneOf 15 = .ok (.iload 4, 2) := dk_21 4 (dk_at dksX3_doneOf_0 15 rfl rfl)
theorem dX3_doneOf_17 : decode cX3_doneOf 17 = .ok (.invokevirtual 224, 3) := dk_182 0 224 (dk_at dksX3_doneOf_0 17 rfl rfl)
theorem dX3_doneOf_20 : decode cX3_doneOf 20 = .ok (.aload_n 0, 1) := dk_42 (dk_at dksX3_doneOf_0 20 rfl rfl)
theorem dX3_doneOf_21 : decode cX3_doneOf 21 = .ok (.iload_n 1, 1) := dk_27 (dk_at dksX3_doneOf_0 21 rfl rfl)
theorem dX3_doneOf_22 : decode cX3_doneOf 22 = .ok (.iconst (-1), 1) := dk_2 (dk_at dksX3_doneOf_0 22 rfl rfl)
theorem dX3_doneOf_23 : decode cX3_doneOf 23 = .ok (.invokevirtual 227, 3) := dk_182 0 227 (dk_at dksX3_doneOf_1 0 rfl rfl)
theorem dX3_doneOf_26 : decode cX3_doneOf 26 = .ok (.lload_n 2, 1) := dk_32 (dk_at dksX3_doneOf_1 3 rfl rfl)
theorem dX3_doneOf_27 : decode cX3_doneOf 27 = .ok (.aload_n 0, 1) := dk_42 (dk_at dksX3_doneOf_1 4 rfl rfl)
theorem dX3_doneOf_28 : decode cX3_doneOf 28 = .ok (.getfield 215, 3) := dk_180 0 215 (dk_at dksX3_doneOf_1 5 rfl rfl)
theorem dX3_doneOf_31 : decode cX3_doneOf 31 = .ok (.ifCond .eq 10, 3) := dk_153 0 10 (dk_at dksX3_doneOf_1 8 rfl rfl)
theorem dX3_doneOf_34 : decode cX3_doneOf 34 = .ok (.aload_n 0, 1) := dk_42 (dk_at dksX3_doneOf_1 11 rfl rfl)
theorem dX3_doneOf_35 : decode cX3_doneOf 35 = .ok (.getfield 201, 3) := dk_180 0 201 (dk_at dksX3_doneOf_1 12 rfl rfl)
theorem dX3_doneOf_38 : decode cX3_doneOf 38 = .ok (.goto 4, 3) := dk_167 0 4 (dk_at dksX3_doneOf_1 15 rfl rfl)
theorem dX3_doneOf_41 : decode cX3_doneOf 41 = .ok (.lconst 0, 1) := dk_9 (dk_at dksX3_doneOf_1 18 rfl rfl)
theorem dX3_doneOf_42 : decode cX3_doneOf 42 = .ok (.ladd, 1) := dk_97 (dk_at dksX3_doneOf_1 19 rfl rfl)
theorem dX3_doneOf_43 : decode cX3_doneOf 43 = .ok (.lstore_n 2, 1) := dk_65 (dk_at dksX3_doneOf_1 20 rfl rfl)
theorem dX3_doneOf_44 : decode cX3_doneOf 44 = .ok (.iinc 4 1, 3) := dk_132 4 1 (dk_at dksX3_doneOf_1 21 rfl rfl)
theorem dX3_doneOf_47 : decode cX3_doneOf 47 = .ok (.goto (-42), 3) := dk_167 255 214 (dk_at dksX3_doneOf_2 0 rfl rfl)
theorem dX3_doneOf_50 : decode cX3_doneOf 50 = .ok (.lload_n 2, 1) := dk_32 (dk_at dksX3_doneOf_2 3 rfl rfl)
theorem dX3_doneOf_51 : decode cX3_doneOf 51 = .ok (.lreturn, 1) := dk_173 (dk_at dksX3_doneOf_2 4 rfl rfl)
abbrev cX3_end : ByteArray := prog_12_method_49_code
def yX3_end : MethodName := ⟨RX3, "end", "(III)I"⟩
def dkwX3_end_3 : List UInt8 := [132, 6, 1, 167, 255, 212, 21, 5, 172]
abbrev dktX3_end_3 : List UInt8 := dkwX3_end_3 ++ []
def dkwX3_end_2 : List UInt8 := [182, 0, 227, 42, 180, 0, 203, 21, 5, 164, 0, 10, 42, 180, 0, 203, 167, 0, 5, 21, 5, 54, 5]
abbrev dktX3_end_2 : List UInt8 := dkwX3_end_2 ++ dktX3_end_3
def dkwX3_end_1 : List UInt8 := [54, 5, 3, 54, 6, 21, 6, 42, 180, 0, 194, 162, 0, 41, 42, 21, 6, 182, 0, 224, 42, 27, 2]
abbrev dktX3_end_1 : List UInt8 := dkwX3_end_1 ++ dktX3_end_2
def dkwX3_end_0 : List UInt8 := [42, 27, 28, 29, 182, 0, 234, 54, 4, 21, 4, 153, 0, 6, 21, 4, 172, 42, 28, 29, 182, 0, 241, 3]
abbrev dktX3_end_0 : List UInt8 := dkwX3_end_0 ++ dktX3_end_1
theorem dksX3_end_0 : cX3_end.data.toList.drop 0 = dktX3_end_0 := by decide +kernel
theorem dksX3_end_1 : cX3_end.data.toList.drop 24 = dktX3_end_1 := dk_seg dksX3_end_0 24 rfl rfl
theorem dksX3_end_2 : cX3_end.data.toList.drop 47 = dktX3_end_2 := dk_seg dksX3_end_1 23 rfl rfl
theorem dksX3_end_3 : cX3_end.data.toList.drop 70 = dktX3_end_3 := dk_seg dksX3_end_2 23 rfl rfl
theorem dX3_end_0 : decode cX3_end 0 = .ok (.aload_n 0, 1) := dk_42 (dk_at dksX3_end_0 0 rfl rfl)
theorem dX3_end_1 : decode cX3_end 1 = .ok (.iload_n 1, 1) := dk_27 (dk_at dksX3_end_0 1 rfl rfl)
theorem dX3_end_2 : decode cX3_end 2 = .ok (.iload_n 2, 1) := dk_28 (dk_at dksX3_end_0 2 rfl rfl)
theorem dX3_end_3 : decode cX3_end 3 = .ok (.iload_n 3, 1) := dk_29 (dk_at dksX3_end_0 3 rfl rfl)
theorem dX3_end_4 : decode cX3_end 4 = .ok (.invokevirtual 234, 3) := dk_182 0 234 (dk_at dksX3_end_0 4 rfl rfl)
theorem dX3_end_7 : decode cX3_end 7 = .ok (.istore 4, 2) := dk_54 4 (dk_at dksX3_end_0 7 rfl rfl)
theorem dX3_end_9 : decode cX3_end 9 = .ok (.iload 4, 2) := dk_21 4 (dk_at dksX3_end_0 9 rfl rfl)
theorem dX3_end_11 : decode cX3_end 11 = .ok (.ifCond .eq 6, 3) := dk_153 0 6 (dk_at dksX3_end_0 11 rfl rfl)
theorem dX3_end_14 : decode cX3_end 14 = .ok (.iload 4, 2) := dk_21 4 (dk_at dksX3_end_0 14 rfl rfl)
theorem dX3_end_16 : decode cX3_end 16 = .ok (.ireturn, 1) := dk_172 (dk_at dksX3_end_0 16 rfl rfl)
theorem dX3_end_17 : decode cX3_end 17 = .ok (.aload_n 0, 1) := dk_42 (dk_at dksX3_end_0 17 rfl rfl)
theorem dX3_end_18 : decode cX3_end 18 = .ok (.iload_n 2, 1) := dk_28 (dk_at dksX3_end_0 18 rfl rfl)
theorem dX3_end_19 : decode cX3_end 19 = .ok (.iload_n 3, 1) := dk_29 (dk_at dksX3_end_0 19 rfl rfl)
theorem dX3_end_20 : decode cX3_end 20 = .ok (.invokevirtual 241, 3) := dk_182 0 241 (dk_at dksX3_end_0 20 rfl rfl)
theorem dX3_end_23 : decode cX3_end 23 = .ok (.iconst 0, 1) := dk_3 (dk_at dksX3_end_0 23 rfl rfl)
theorem dX3_end_24 : decode cX3_end 24 = .ok (.istore 5, 2) := dk_54 5 (dk_at dksX3_end_1 0 rfl rfl)
theorem dX3_end_26 : decode cX3_end 26 = .ok (.iconst 0, 1) := dk_3 (dk_at dksX3_end_1 2 rfl rfl)
theorem dX3_end_27 : decode cX3_end 27 = .ok (.istore 6, 2) := dk_54 6 (dk_at dksX3_end_1 3 rfl rfl)
theorem dX3_end_29 : decode cX3_end 29 = .ok (.iload 6, 2) := dk_21 6 (dk_at dksX3_end_1 5 rfl rfl)
theorem dX3_end_31 : decode cX3_end 31 = .ok (.aload_n 0, 1) := dk_42 (dk_at dksX3_end_1 7 rfl rfl)
theorem dX3_end_32 : decode cX3_end 32 = .ok (.getfield 194, 3) := dk_180 0 194 (dk_at dksX3_end_1 8 rfl rfl)
theorem dX3_end_35 : decode cX3_end 35 = .ok (.if_icmp .ge 41, 3) := dk_162 0 41 (dk_at dksX3_end_1 11 rfl rfl)
theorem dX3_end_38 : decode cX3_end 38 = .ok (.aload_n 0, 1) := dk_42 (dk_at dksX3_end_1 14 rfl rfl)
theorem dX3_end_39 : decode cX3_end 39 = .ok (.iload 6, 2) := dk_21 6 (dk_at dksX3_end_1 15 rfl rfl)
theorem dX3_end_41 : decode cX3_end 41 = .ok (.invokevirtual 224, 3) := dk_182 0 224 (dk_at dksX3_end_1 17 rfl rfl)
theorem dX3_end_44 : decode cX3_end 44 = .ok (.aload_n 0, 1) := dk_42 (dk_at dksX3_end_1 20 rfl rfl)
theorem dX3_end_45 : decode cX3_end 45 = .ok (.iload_n 1, 1) := dk_27 (dk_at dksX3_end_1 21 rfl rfl)
theorem dX3_end_46 : decode cX3_end 46 = .ok (.iconst (-1), 1) := dk_2 (dk_at dksX3_end_1 22 rfl rfl)
theorem dX3_end_47 : decode cX3_end 47 = .ok (.invokevirtual 227, 3) := dk_182 0 227 (dk_at dksX3_end_2 0 rfl rfl)
theorem dX3_end_50 : decode cX3_end 50 = .ok (.aload_n 0, 1) := dk_42 (dk_at dksX3_end_2 3 rfl rfl)
theorem dX3_end_51 : decode cX3_end 51 = .ok (.getfield 203, 3) := dk_180 0 203 (dk_at dksX3_end_2 4 rfl rfl)
theorem dX3_end_54 : decode cX3_end 54 = .ok (.iload 5, 2) := dk_21 5 (dk_at dksX3_end_2 7 rfl rfl)
theorem dX3_end_56 : decode cX3_end 56 = .ok (.if_icmp .le 10, 3) := dk_164 0 10 (dk_at dksX3_end_2 9 rfl rfl)
theorem dX3_end_59 : decode cX3_end 59 = .ok (.aload_n 0, 1) := dk_42 (dk_at dksX3_end_2 12 rfl rfl)
theorem dX3_end_60 : decode cX3_end 60 = .ok (.getfield 203, 3) := dk_180 0 203 (dk_at dksX3_end_2 13 rfl rfl)
theorem dX3_end_63 : decode cX3_end 63 = .ok (.goto 5, 3) := dk_167 0 5 (dk_at dksX3_end_2 16 rfl rfl)
theorem dX3_end_66 : decode cX3_end 66 = .ok (.iload 5, 2) := dk_21 5 (dk_at dksX3_end_2 19 rfl rfl)
theorem dX3_end_68 : decode cX3_end 68 = .ok (.istore 5, 2) := dk_54 5 (dk_at dksX3_end_2 21 rfl rfl)
theorem dX3_end_70 : decode cX3_end 70 = .ok (.iinc 6 1, 3) := dk_132 6 1 (dk_at dksX3_end_3 0 rfl rfl)
theorem dX3_end_73 : decode cX3_end 73 = .ok (.goto (-44), 3) := dk_167 255 212 (dk_at dksX3_end_3 3 rfl rfl)
theorem dX3_end_76 : decode cX3_end 76 = .ok (.iload 5, 2) := dk_21 5 (dk_at dksX3_end_3 6 rfl rfl)
theorem dX3_end_78 : decode cX3_end 78 = .ok (.ireturn, 1) := dk_172 (dk_at dksX3_end_3 8 rfl rfl)
abbrev cX3_best : ByteArray := prog_12_method_51_code
def yX3_best : MethodName := ⟨RX3, "best", "(II)I"⟩
def dkwX3_best_0 : List UInt8 := [42, 27, 28, 182, 0, 231, 62, 29, 153, 0, 5, 29, 172, 42, 27, 28, 182, 0, 241, 42, 182, 1, 0, 172]
abbrev dktX3_best_0 : List UInt8 := dkwX3_best_0 ++ []
theorem dksX3_best_0 : cX3_best.data.toList.drop 0 = dktX3_best_0 := by decide +kernel
theorem dX3_best_0 : decode cX3_best 0 = .ok (.aload_n 0, 1) := dk_42 (dk_at dksX3_best_0 0 rfl rfl)
theorem dX3_best_1 : decode cX3_best 1 = .ok (.iload_n 1, 1) := dk_27 (dk_at dksX3_best_0 1 rfl rfl)
theorem dX3_best_2 : decode cX3_best 2 = .ok (.iload_n 2, 1) := dk_28 (dk_at dksX3_best_0 2 rfl rfl)
theorem dX3_best_3 : decode cX3_best 3 = .ok (.invokevirtual 231, 3) := dk_182 0 231 (dk_at dksX3_best_0 3 rfl rfl)
theorem dX3_best_6 : decode cX3_best 6 = .ok (.istore_n 3, 1) := dk_62 (dk_at dksX3_best_0 6 rfl rfl)
theorem dX3_best_7 : decode cX3_best 7 = .ok (.iload_n 3, 1) := dk_29 (dk_at dksX3_best_0 7 rfl rfl)
theorem dX3_best_8 : decode cX3_best 8 = .ok (.ifCond .eq 5, 3) := dk_153 0 5 (dk_at dksX3_best_0 8 rfl rfl)
theorem dX3_best_11 : decode cX3_best 11 = .ok (.iload_n 3, 1) := dk_29 (dk_at dksX3_best_0 11 rfl rfl)
theorem dX3_best_12 : decode cX3_best 12 = .ok (.ireturn, 1) := dk_172 (dk_at dksX3_best_0 12 rfl rfl)
theorem dX3_best_13 : decode cX3_best 13 = .ok (.aload_n 0, 1) := dk_42 (dk_at dksX3_best_0 13 rfl rfl)
theorem dX3_best_14 : decode cX3_best 14 = .ok (.iload_n 1, 1) := dk_27 (dk_at dksX3_best_0 14 rfl rfl)
theorem dX3_best_15 : decode cX3_best 15 = .ok (.iload_n 2, 1) := dk_28 (dk_at dksX3_best_0 15 rfl rfl)
theorem dX3_best_16 : decode cX3_best 16 = .ok (.invokevirtual 241, 3) := dk_182 0 241 (dk_at dksX3_best_0 16 rfl rfl)
theorem dX3_best_19 : decode cX3_best 19 = .ok (.aload_n 0, 1) := dk_42 (dk_at dksX3_best_0 19 rfl rfl)
theorem dX3_best_20 : decode cX3_best 20 = .ok (.invokevirtual 256, 3) := dk_182 1 0 (dk_at dksX3_best_0 20 rfl rfl)
theorem dX3_best_23 : decode cX3_best 23 = .ok (.ireturn, 1) := dk_172 (dk_at dksX3_best_0 23 rfl rfl)
abbrev cX3_bestBag : ByteArray := prog_12_method_50_code
def yX3_bestBag : MethodName := ⟨RX3, "bestBag", "()I"⟩
def dkwX3_bestBag_3 : List UInt8 := [22, 5, 167, 0, 4, 32, 65, 132, 4, 1, 167, 255, 183, 27, 172]
abbrev dktX3_bestBag_3 : List UInt8 := dkwX3_bestBag_3 ++ []
def dkwX3_bestBag_2 : List UInt8 := [167, 0, 4, 3, 54, 7, 21, 7, 153, 0, 8, 21, 4, 167, 0, 4, 27, 60, 21, 7, 153, 0, 8]
abbrev dktX3_bestBag_2 : List UInt8 := dkwX3_bestBag_2 ++ dktX3_bestBag_3
def dkwX3_bestBag_1 : List UInt8 := [42, 21, 4, 2, 3, 182, 0, 244, 55, 5, 27, 2, 159, 0, 10, 22, 5, 32, 148, 158, 0, 7, 4]
abbrev dktX3_bestBag_1 : List UInt8 := dkwX3_bestBag_1 ++ dktX3_bestBag_2
def dkwX3_bestBag_0 : List UInt8 := [2, 60, 9, 65, 3, 54, 4, 21, 4, 17, 1, 0, 162, 0, 71, 42, 21, 4, 182, 0, 162, 153, 0, 56]
abbrev dktX3_bestBag_0 : List UInt8 := dkwX3_bestBag_0 ++ dktX3_bestBag_1
theorem dksX3_bestBag_0 : cX3_bestBag.data.toList.drop 0 = dktX3_bestBag_0 := by decide +kernel
theorem dksX3_bestBag_1 : cX3_bestBag.data.toList.drop 24 = dktX3_bestBag_1 := dk_seg dksX3_bestBag_0 24 rfl rfl
theorem dksX3_bestBag_2 : cX3_bestBag.data.toList.drop 47 = dktX3_bestBag_2 := dk_seg dksX3_bestBag_1 23 rfl rfl
theorem dksX3_bestBag_3 : cX3_bestBag.data.toList.drop 70 = dktX3_bestBag_3 := dk_seg dksX3_bestBag_2 23 rfl rfl
theorem dX3_bestBag_0 : decode cX3_bestBag 0 = .ok (.iconst (-1), 1) := dk_2 (dk_at dksX3_bestBag_0 0 rfl rfl)
theorem dX3_bestBag_1 : decode cX3_bestBag 1 = .ok (.istore_n 1, 1) := dk_60 (dk_at dksX3_bestBag_0 1 rfl rfl)
theorem dX3_bestBag_2 : decode cX3_bestBag 2 = .ok (.lconst 0, 1) := dk_9 (dk_at dksX3_bestBag_0 2 rfl rfl)
theorem dX3_bestBag_3 : decode cX3_bestBag 3 = .ok (.lstore_n 2, 1) := dk_65 (dk_at dksX3_bestBag_0 3 rfl rfl)
theorem dX3_bestBag_4 : decode cX3_bestBag 4 = .ok (.iconst 0, 1) := dk_3 (dk_at dksX3_bestBag_0 4 rfl rfl)
theorem dX3_bestBag_5 : decode cX3_bestBag 5 = .ok (.istore 4, 2) := dk_54 4 (dk_at dksX3_bestBag_0 5 rfl rfl)
theorem dX3_bestBag_7 : decode cX3_bestBag 7 = .ok (.iload 4, 2) := dk_21 4 (dk_at dksX3_bestBag_0 7 rfl rfl)
theorem dX3_bestBag_9 : decode cX3_bestBag 9 = .ok (.sipush 256, 3) := dk_17 1 0 (dk_at dksX3_bestBag_0 9 rfl rfl)
theorem dX3_bestBag_12 : decode cX3_bestBag 12 = .ok (.if_icmp .ge 71, 3) := dk_162 0 71 (dk_at dksX3_bestBag_0 12 rfl rfl)
theorem dX3_bestBag_15 : decode cX3_bestBag 15 = .ok (.aload_n 0, 1) := dk_42 (dk_at dksX3_bestBag_0 15 rfl rfl)
theorem dX3_bestBag_16 : decode cX3_bestBag 16 = .ok (.iload 4, 2) := dk_21 4 (dk_at dksX3_bestBag_0 16 rfl rfl)
theorem dX3_bestBag_18 : decode cX3_bestBag 18 = .ok (.invokevirtual 162, 3) := dk_182 0 162 (dk_at dksX3_bestBag_0 18 rfl rfl)
theorem dX3_bestBag_21 : decode cX3_bestBag 21 = .ok (.ifCond .eq 56, 3) := dk_153 0 56 (dk_at dksX3_bestBag_0 21 rfl rfl)
theorem dX3_bestBag_24 : decode cX3_bestBag 24 = .ok (.aload_n 0, 1) := dk_42 (dk_at dksX3_bestBag_1 0 rfl rfl)
theorem dX3_bestBag_25 : decode cX3_bestBag 25 = .ok (.iload 4, 2) := dk_21 4 (dk_at dksX3_bestBag_1 1 rfl rfl)
theorem dX3_bestBag_27 : decode cX3_bestBag 27 = .ok (.iconst (-1), 1) := dk_2 (dk_at dksX3_bestBag_1 3 rfl rfl)
theorem dX3_bestBag_28 : decode cX3_bestBag 28 = .ok (.iconst 0, 1) := dk_3 (dk_at dksX3_bestBag_1 4 rfl rfl)
theorem dX3_bestBag_29 : decode cX3_bestBag 29 = .ok (.invokevirtual 244, 3) := dk_182 0 244 (dk_at dksX3_bestBag_1 5 rfl rfl)
theorem dX3_bestBag_32 : decode cX3_bestBag 32 = .ok (.lstore 5, 2) := dk_55 5 (dk_at dksX3_bestBag_1 8 rfl rfl)
theorem dX3_bestBag_34 : decode cX3_bestBag 34 = .ok (.iload_n 1, 1) := dk_27 (dk_at dksX3_bestBag_1 10 rfl rfl)
theorem dX3_bestBag_35 : decode cX3_bestBag 35 = .ok (.iconst (-1), 1) := dk_2 (dk_at dksX3_bestBag_1 11 rfl rfl)
theorem dX3_bestBag_36 : decode cX3_bestBag 36 = .ok (.if_icmp .eq 10, 3) := dk_159 0 10 (dk_at dksX3_bestBag_1 12 rfl rfl)
theorem dX3_bestBag_39 : decode cX3_bestBag 39 = .ok (.lload 5, 2) := dk_22 5 (dk_at dksX3_bestBag_1 15 rfl rfl)
theorem dX3_bestBag_41 : decode cX3_bestBag 41 = .ok (.lload_n 2, 1) := dk_32 (dk_at dksX3_bestBag_1 17 rfl rfl)
theorem dX3_bestBag_42 : decode cX3_bestBag 42 = .ok (.lcmp, 1) := dk_148 (dk_at dksX3_bestBag_1 18 rfl rfl)
theorem dX3_bestBag_43 : decode cX3_bestBag 43 = .ok (.ifCond .le 7, 3) := dk_158 0 7 (dk_at dksX3_bestBag_1 19 rfl rfl)
theorem dX3_bestBag_46 : decode cX3_bestBag 46 = .ok (.iconst 1, 1) := dk_4 (dk_at dksX3_bestBag_1 22 rfl rfl)
theorem dX3_bestBag_47 : decode cX3_bestBag 47 = .ok (.goto 4, 3) := dk_167 0 4 (dk_at dksX3_bestBag_2 0 rfl rfl)
theorem dX3_bestBag_50 : decode cX3_bestBag 50 = .ok (.iconst 0, 1) := dk_3 (dk_at dksX3_bestBag_2 3 rfl rfl)
theorem dX3_bestBag_51 : decode cX3_bestBag 51 = .ok (.istore 7, 2) := dk_54 7 (dk_at dksX3_bestBag_2 4 rfl rfl)
theorem dX3_bestBag_53 : decode cX3_bestBag 53 = .ok (.iload 7, 2) := dk_21 7 (dk_at dksX3_bestBag_2 6 rfl rfl)
theorem dX3_bestBag_55 : decode cX3_bestBag 55 = .ok (.ifCond .eq 8, 3) := dk_153 0 8 (dk_at dksX3_bestBag_2 8 rfl rfl)
theorem dX3_bestBag_58 : decode cX3_bestBag 58 = .ok (.iload 4, 2) := dk_21 4 (dk_at dksX3_bestBag_2 11 rfl rfl)
theorem dX3_bestBag_60 : decode cX3_bestBag 60 = .ok (.goto 4, 3) := dk_167 0 4 (dk_at dksX3_bestBag_2 13 rfl rfl)
theorem dX3_bestBag_63 : decode cX3_bestBag 63 = .ok (.iload_n 1, 1) := dk_27 (dk_at dksX3_bestBag_2 16 rfl rfl)
theorem dX3_bestBag_64 : decode cX3_bestBag 64 = .ok (.istore_n 1, 1) := dk_60 (dk_at dksX3_bestBag_2 17 rfl rfl)
theorem dX3_bestBag_65 : decode cX3_bestBag 65 = .ok (.iload 7, 2) := dk_21 7 (dk_at dksX3_bestBag_2 18 rfl rfl)
theorem dX3_bestBag_67 : decode cX3_bestBag 67 = .ok (.ifCond .eq 8, 3) := dk_153 0 8 (dk_at dksX3_bestBag_2 20 rfl rfl)
theorem dX3_bestBag_70 : decode cX3_bestBag 70 = .ok (.lload 5, 2) := dk_22 5 (dk_at dksX3_bestBag_3 0 rfl rfl)
theorem dX3_bestBag_72 : decode cX3_bestBag 72 = .ok (.goto 4, 3) := dk_167 0 4 (dk_at dksX3_bestBag_3 2 rfl rfl)
theorem dX3_bestBag_75 : decode cX3_bestBag 75 = .ok (.lload_n 2, 1) := dk_32 (dk_at dksX3_bestBag_3 5 rfl rfl)
theorem dX3_bestBag_76 : decode cX3_bestBag 76 = .ok (.lstore_n 2, 1) := dk_65 (dk_at dksX3_bestBag_3 6 rfl rfl)
theorem dX3_bestBag_77 : decode cX3_bestBag 77 = .ok (.iinc 4 1, 3) := dk_132 4 1 (dk_at dksX3_bestBag_3 7 rfl rfl)
theorem dX3_bestBag_80 : decode cX3_bestBag 80 = .ok (.goto (-73), 3) := dk_167 255 183 (dk_at dksX3_bestBag_3 10 rfl rfl)
theorem dX3_bestBag_83 : decode cX3_bestBag 83 = .ok (.iload_n 1, 1) := dk_27 (dk_at dksX3_bestBag_3 13 rfl rfl)
theorem dX3_bestBag_84 : decode cX3_bestBag 84 = .ok (.ireturn, 1) := dk_172 (dk_at dksX3_bestBag_3 14 rfl rfl)
abbrev cX3_sure : ByteArray := prog_12_method_52_code
def yX3_sure : MethodName := ⟨RX3, "sure", "(IIII)I"⟩
def dkwX3_sure_6 : List UInt8 := [167, 255, 173, 21, 6, 172]
abbrev dktX3_sure_6 : List UInt8 := dkwX3_sure_6 ++ []
def dkwX3_sure_5 : List UInt8 := [180, 0, 197, 29, 133, 105, 148, 155, 0, 8, 21, 7, 167, 0, 5, 21, 6, 54, 6, 132, 7, 1]
abbrev dktX3_sure_5 : List UInt8 := dkwX3_sure_5 ++ dktX3_sure_6
def dkwX3_sure_4 : List UInt8 := [4, 167, 0, 4, 3, 54, 8, 21, 8, 153, 0, 29, 42, 21, 7, 182, 0, 252, 21, 4, 133, 105, 42]
abbrev dktX3_sure_4 : List UInt8 := dkwX3_sure_4 ++ dktX3_sure_5
def dkwX3_sure_3 : List UInt8 := [153, 0, 28, 21, 6, 2, 159, 0, 18, 42, 21, 7, 182, 0, 156, 42, 21, 6, 182, 0, 156, 162, 0, 7]
abbrev dktX3_sure_3 : List UInt8 := dkwX3_sure_3 ++ dktX3_sure_4
def dkwX3_sure_2 : List UInt8 := [182, 0, 241, 2, 54, 6, 3, 54, 7, 21, 7, 17, 1, 0, 162, 0, 81, 42, 21, 7, 182, 0, 162]
abbrev dktX3_sure_2 : List UInt8 := dkwX3_sure_2 ++ dktX3_sure_3
def dkwX3_sure_1 : List UInt8 := [184, 0, 55, 153, 0, 15, 29, 133, 9, 21, 4, 133, 184, 0, 55, 154, 0, 6, 16, 253, 172, 42, 27, 28]
abbrev dktX3_sure_1 : List UInt8 := dkwX3_sure_1 ++ dktX3_sure_2
def dkwX3_sure_0 : List UInt8 := [42, 27, 28, 182, 0, 231, 54, 5, 21, 5, 153, 0, 6, 21, 5, 172, 21, 4, 133, 10, 20, 1, 3]
abbrev dktX3_sure_0 : List UInt8 := dkwX3_sure_0 ++ dktX3_sure_1
theorem dksX3_sure_0 : cX3_sure.data.toList.drop 0 = dktX3_sure_0 := by decide +kernel
theorem dksX3_sure_1 : cX3_sure.data.toList.drop 23 = dktX3_sure_1 := dk_seg dksX3_sure_0 23 rfl rfl
theorem dksX3_sure_2 : cX3_sure.data.toList.drop 47 = dktX3_sure_2 := dk_seg dksX3_sure_1 24 rfl rfl
theorem dksX3_sure_3 : cX3_sure.data.toList.drop 70 = dktX3_sure_3 := dk_seg dksX3_sure_2 23 rfl rfl
theorem dksX3_sure_4 : cX3_sure.data.toList.drop 94 = dktX3_sure_4 := dk_seg dksX3_sure_3 24 rfl rfl
theorem dksX3_sure_5 : cX3_sure.data.toList.drop 117 = dktX3_sure_5 := dk_seg dksX3_sure_4 23 rfl rfl
theorem dksX3_sure_6 : cX3_sure.data.toList.drop 139 = dktX3_sure_6 := dk_seg dksX3_sure_5 22 rfl rfl
theorem dX3_sure_0 : decode cX3_sure 0 = .ok (.aload_n 0, 1) := dk_42 (dk_at dksX3_sure_0 0 rfl rfl)
theorem dX3_sure_1 : decode cX3_sure 1 = .ok (.iload_n 1, 1) := dk_27 (dk_at dksX3_sure_0 1 rfl rfl)
theorem dX3_sure_2 : decode cX3_sure 2 = .ok (.iload_n 2, 1) := dk_28 (dk_at dksX3_sure_0 2 rfl rfl)
theorem dX3_sure_3 : decode cX3_sure 3 = .ok (.invokevirtual 231, 3) := dk_182 0 231 (dk_at dksX3_sure_0 3 rfl rfl)
theorem dX3_sure_6 : decode cX3_sure 6 = .ok (.istore 5, 2) := dk_54 5 (dk_at dksX3_sure_0 6 rfl rfl)
theorem dX3_sure_8 : decode cX3_sure 8 = .ok (.iload 5, 2) := dk_21 5 (dk_at dksX3_sure_0 8 rfl rfl)
theorem dX3_sure_10 : decode cX3_sure 10 = .ok (.ifCond .eq 6, 3) := dk_153 0 6 (dk_at dksX3_sure_0 10 rfl rfl)
theorem dX3_sure_13 : decode cX3_sure 13 = .ok (.iload 5, 2) := dk_21 5 (dk_at dksX3_sure_0 13 rfl rfl)
theorem dX3_sure_15 : decode cX3_sure 15 = .ok (.ireturn, 1) := dk_172 (dk_at dksX3_sure_0 15 rfl rfl)
theorem dX3_sure_16 : decode cX3_sure 16 = .ok (.iload 4, 2) := dk_21 4 (dk_at dksX3_sure_0 16 rfl rfl)
theorem dX3_sure_18 : decode cX3_sure 18 = .ok (.i2l, 1) := dk_133 (dk_at dksX3_sure_0 18 rfl rfl)
theorem dX3_sure_19 : decode cX3_sure 19 = .ok (.lconst 1, 1) := dk_10 (dk_at dksX3_sure_0 19 rfl rfl)
theorem dX3_sure_20 : decode cX3_sure 20 = .ok (.ldc2_w 259, 3) := dk_20 1 3 (dk_at dksX3_sure_0 20 rfl rfl)
theorem dX3_sure_23 : decode cX3_sure 23 = .ok (.invokestatic 55, 3) := dk_184 0 55 (dk_at dksX3_sure_1 0 rfl rfl)
theorem dX3_sure_26 : decode cX3_sure 26 = .ok (.ifCond .eq 15, 3) := dk_153 0 15 (dk_at dksX3_sure_1 3 rfl rfl)
theorem dX3_sure_29 : decode cX3_sure 29 = .ok (.iload_n 3, 1) := dk_29 (dk_at dksX3_sure_1 6 rfl rfl)
theorem dX3_sure_30 : decode cX3_sure 30 = .ok (.i2l, 1) := dk_133 (dk_at dksX3_sure_1 7 rfl rfl)
theorem dX3_sure_31 : decode cX3_sure 31 = .ok (.lconst 0, 1) := dk_9 (dk_at dksX3_sure_1 8 rfl rfl)
theorem dX3_sure_32 : decode cX3_sure 32 = .ok (.iload 4, 2) := dk_21 4 (dk_at dksX3_sure_1 9 rfl rfl)
theorem dX3_sure_34 : decode cX3_sure 34 = .ok (.i2l, 1) := dk_133 (dk_at dksX3_sure_1 11 rfl rfl)
theorem dX3_sure_35 : decode cX3_sure 35 = .ok (.invokestatic 55, 3) := dk_184 0 55 (dk_at dksX3_sure_1 12 rfl rfl)
theorem dX3_sure_38 : decode cX3_sure 38 = .ok (.ifCond .ne 6, 3) := dk_154 0 6 (dk_at dksX3_sure_1 15 rfl rfl)
theorem dX3_sure_41 : decode cX3_sure 41 = .ok (.bipush (-3), 2) := dk_16 253 (dk_at dksX3_sure_1 18 rfl rfl)
theorem dX3_sure_43 : decode cX3_sure 43 = .ok (.ireturn, 1) := dk_172 (dk_at dksX3_sure_1 20 rfl rfl)
theorem dX3_sure_44 : decode cX3_sure 44 = .ok (.aload_n 0, 1) := dk_42 (dk_at dksX3_sure_1 21 rfl rfl)
theorem dX3_sure_45 : decode cX3_sure 45 = .ok (.iload_n 1, 1) := dk_27 (dk_at dksX3_sure_1 22 rfl rfl)
theorem dX3_sure_46 : decode cX3_sure 46 = .ok (.iload_n 2, 1) := dk_28 (dk_at dksX3_sure_1 23 rfl rfl)
theorem dX3_sure_47 : decode cX3_sure 47 = .ok (.invokevirtual 241, 3) := dk_182 0 241 (dk_at dksX3_sure_2 0 rfl rfl)
theorem dX3_sure_50 : decode cX3_sure 50 = .ok (.iconst (-1), 1) := dk_2 (dk_at dksX3_sure_2 3 rfl rfl)
theorem dX3_sure_51 : decode cX3_sure 51 = .ok (.istore 6, 2) := dk_54 6 (dk_at dksX3_sure_2 4 rfl rfl)
theorem dX3_sure_53 : decode cX3_sure 53 = .ok (.iconst 0, 1) := dk_3 (dk_at dksX3_sure_2 6 rfl rfl)
theorem dX3_sure_54 : decode cX3_sure 54 = .ok (.istore 7, 2) := dk_54 7 (dk_at dksX3_sure_2 7 rfl rfl)
theorem dX3_sure_56 : decode cX3_sure 56 = .ok (.iload 7, 2) := dk_21 7 (dk_at dksX3_sure_2 9 rfl rfl)
theorem dX3_sure_58 : decode cX3_sure 58 = .ok (.sipush 256, 3) := dk_17 1 0 (dk_at dksX3_sure_2 11 rfl rfl)
theorem dX3_sure_61 : decode cX3_sure 61 = .ok (.if_icmp .ge 81, 3) := dk_162 0 81 (dk_at dksX3_sure_2 14 rfl rfl)
theorem dX3_sure_64 : decode cX3_sure 64 = .ok (.aload_n 0, 1) := dk_42 (dk_at dksX3_sure_2 17 rfl rfl)
theorem dX3_sure_65 : decode cX3_sure 65 = .ok (.iload 7, 2) := dk_21 7 (dk_at dksX3_sure_2 18 rfl rfl)
theorem dX3_sure_67 : decode cX3_sure 67 = .ok (.invokevirtual 162, 3) := dk_182 0 162 (dk_at dksX3_sure_2 20 rfl rfl)
theorem dX3_sure_70 : decode cX3_sure 70 = .ok (.ifCond .eq 28, 3) := dk_153 0 28 (dk_at dksX3_sure_3 0 rfl rfl)
theorem dX3_sure_73 : decode cX3_sure 73 = .ok (.iload 6, 2) := dk_21 6 (dk_at dksX3_sure_3 3 rfl rfl)
theorem dX3_sure_75 : decode cX3_sure 75 = .ok (.iconst (-1), 1) := dk_2 (dk_at dksX3_sure_3 5 rfl rfl)
theorem dX3_sure_76 : decode cX3_sure 76 = .ok (.if_icmp .eq 18, 3) := dk_159 0 18 (dk_at dksX3_sure_3 6 rfl rfl)
theorem dX3_sure_79 : decode cX3_sure 79 = .ok (.aload_n 0, 1) := dk_42 (dk_at dksX3_sure_3 9 rfl rfl)
theorem dX3_sure_80 : decode cX3_sure 80 = .ok (.iload 7, 2) := dk_21 7 (dk_at dksX3_sure_3 10 rfl rfl)
theorem dX3_sure_82 : decode cX3_sure 82 = .ok (.invokevirtual 156, 3) := dk_182 0 156 (dk_at dksX3_sure_3 12 rfl rfl)
theorem dX3_sure_85 : decode cX3_sure 85 = .ok (.aload_n 0, 1) := dk_42 (dk_at dksX3_sure_3 15 rfl rfl)
theorem dX3_sure_86 : decode cX3_sure 86 = .ok (.iload 6, 2) := dk_21 6 (dk_at dksX3_sure_3 16 rfl rfl)
theorem dX3_sure_88 : decode cX3_sure 88 = .ok (.invokevirtual 156, 3) := dk_182 0 156 (dk_at dksX3_sure_3 18 rfl rfl)
theorem dX3_sure_91 : decode cX3_sure 91 = .ok (.if_icmp .ge 7, 3) := dk_162 0 7 (dk_at dksX3_sure_3 21 rfl rfl)
theorem dX3_sure_94 : decode cX3_sure 94 = .ok (.iconst 1, 1) := dk_4 (dk_at dksX3_sure_4 0 rfl rfl)
theorem dX3_sure_95 : decode cX3_sure 95 = .ok (.goto 4, 3) := dk_167 0 4 (dk_at dksX3_sure_4 1 rfl rfl)
theorem dX3_sure_98 : decode cX3_sure 98 = .ok (.iconst 0, 1) := dk_3 (dk_at dksX3_sure_4 4 rfl rfl)
theorem dX3_sure_99 : decode cX3_sure 99 = .ok (.istore 8, 2) := dk_54 8 (dk_at dksX3_sure_4 5 rfl rfl)
theorem dX3_sure_101 : decode cX3_sure 101 = .ok (.iload 8, 2) := dk_21 8 (dk_at dksX3_sure_4 7 rfl rfl)
theorem dX3_sure_103 : decode cX3_sure 103 = .ok (.ifCond .eq 29, 3) := dk_153 0 29 (dk_at dksX3_sure_4 9 rfl rfl)
theorem dX3_sure_106 : decode cX3_sure 106 = .ok (.aload_n 0, 1) := dk_42 (dk_at dksX3_sure_4 12 rfl rfl)
theorem dX3_sure_107 : decode cX3_sure 107 = .ok (.iload 7, 2) := dk_21 7 (dk_at dksX3_sure_4 13 rfl rfl)
theorem dX3_sure_109 : decode cX3_sure 109 = .ok (.invokevirtual 252, 3) := dk_182 0 252 (dk_at dksX3_sure_4 15 rfl rfl)
theorem dX3_sure_112 : decode cX3_sure 112 = .ok (.iload 4, 2) := dk_21 4 (dk_at dksX3_sure_4 18 rfl rfl)
theorem dX3_sure_114 : decode cX3_sure 114 = .ok (.i2l, 1) := dk_133 (dk_at dksX3_sure_4 20 rfl rfl)
theorem dX3_sure_115 : decode cX3_sure 115 = .ok (.lmul, 1) := dk_105 (dk_at dksX3_sure_4 21 rfl rfl)
theorem dX3_sure_116 : decode cX3_sure 116 = .ok (.aload_n 0, 1) := dk_42 (dk_at dksX3_sure_4 22 rfl rfl)
theorem dX3_sure_117 : decode cX3_sure 117 = .ok (.getfield 197, 3) := dk_180 0 197 (dk_at dksX3_sure_5 0 rfl rfl)
theorem dX3_sure_120 : decode cX3_sure 120 = .ok (.iload_n 3, 1) := dk_29 (dk_at dksX3_sure_5 3 rfl rfl)
theorem dX3_sure_121 : decode cX3_sure 121 = .ok (.i2l, 1) := dk_133 (dk_at dksX3_sure_5 4 rfl rfl)
theorem dX3_sure_122 : decode cX3_sure 122 = .ok (.lmul, 1) := dk_105 (dk_at dksX3_sure_5 5 rfl rfl)
theorem dX3_sure_123 : decode cX3_sure 123 = .ok (.lcmp, 1) := dk_148 (dk_at dksX3_sure_5 6 rfl rfl)
theorem dX3_sure_124 : decode cX3_sure 124 = .ok (.ifCond .lt 8, 3) := dk_155 0 8 (dk_at dksX3_sure_5 7 rfl rfl)
theorem dX3_sure_127 : decode cX3_sure 127 = .ok (.iload 7, 2) := dk_21 7 (dk_at dksX3_sure_5 10 rfl rfl)
theorem dX3_sure_129 : decode cX3_sure 129 = .ok (.goto 5, 3) := dk_167 0 5 (dk_at dksX3_sure_5 12 rfl rfl)
theorem dX3_sure_132 : decode cX3_sure 132 = .ok (.iload 6, 2) := dk_21 6 (dk_at dksX3_sure_5 15 rfl rfl)
theorem dX3_sure_134 : decode cX3_sure 134 = .ok (.istore 6, 2) := dk_54 6 (dk_at dksX3_sure_5 17 rfl rfl)
theorem dX3_sure_136 : decode cX3_sure 136 = .ok (.iinc 7 1, 3) := dk_132 7 1 (dk_at dksX3_sure_5 19 rfl rfl)
theorem dX3_sure_139 : decode cX3_sure 139 = .ok (.goto (-83), 3) := dk_167 255 173 (dk_at dksX3_sure_6 0 rfl rfl)
theorem dX3_sure_142 : decode cX3_sure 142 = .ok (.iload 6, 2) := dk_21 6 (dk_at dksX3_sure_6 3 rfl rfl)
theorem dX3_sure_144 : decode cX3_sure 144 = .ok (.ireturn, 1) := dk_172 (dk_at dksX3_sure_6 5 rfl rfl)
abbrev cX3_know : ByteArray := prog_12_method_53_code
def yX3_know : MethodName := ⟨RX3, "know", "(IIII)J"⟩
def dkwX3_know_9 : List UInt8 := [55, 7, 132, 9, 1, 167, 255, 169, 22, 7, 42, 180, 0, 197, 21, 4, 184, 0, 185, 173]
abbrev dktX3_know_9 : List UInt8 := dkwX3_know_9 ++ []
def dkwX3_know_8 : List UInt8 := [158, 0, 8, 22, 13, 167, 0, 5, 22, 10, 55, 10, 132, 12, 1, 167, 255, 201, 22, 7, 22, 10, 97]
abbrev dktX3_know_8 : List UInt8 := dkwX3_know_8 ++ dktX3_know_9
def dkwX3_know_7 : List UInt8 := [21, 12, 21, 6, 21, 9, 182, 0, 244, 167, 0, 6, 20, 1, 5, 55, 13, 22, 13, 22, 10, 148]
abbrev dktX3_know_7 : List UInt8 := dkwX3_know_7 ++ dktX3_know_8
def dkwX3_know_6 : List UInt8 := [55, 10, 3, 54, 12, 21, 12, 17, 1, 0, 162, 0, 53, 42, 21, 12, 182, 0, 162, 153, 0, 16, 42]
abbrev dktX3_know_6 : List UInt8 := dkwX3_know_6 ++ dktX3_know_7
def dkwX3_know_5 : List UInt8 := [182, 0, 244, 117, 55, 7, 3, 54, 9, 21, 9, 42, 180, 0, 38, 29, 46, 162, 0, 82, 20, 1, 5]
abbrev dktX3_know_5 : List UInt8 := dkwX3_know_5 ++ dktX3_know_6
def dkwX3_know_4 : List UInt8 := [184, 0, 179, 154, 0, 7, 20, 0, 239, 173, 42, 27, 28, 182, 0, 241, 42, 42, 182, 1, 0, 2, 3]
abbrev dktX3_know_4 : List UInt8 := dkwX3_know_4 ++ dktX3_know_5
def dkwX3_know_3 : List UInt8 := [16, 254, 159, 0, 9, 21, 6, 2, 160, 0, 7, 20, 0, 237, 173, 21, 5, 154, 0, 11, 21, 4]
abbrev dktX3_know_3 : List UInt8 := dkwX3_know_3 ++ dktX3_know_4
def dkwX3_know_2 : List UInt8 := [16, 15, 126, 29, 160, 0, 8, 21, 7, 167, 0, 5, 21, 6, 54, 6, 132, 7, 1, 167, 255, 219, 21, 5]
abbrev dktX3_know_2 : List UInt8 := dkwX3_know_2 ++ dktX3_know_3
def dkwX3_know_1 : List UInt8 := [2, 54, 6, 3, 54, 7, 21, 7, 28, 162, 0, 37, 29, 16, 6, 159, 0, 21, 27, 7, 21, 7, 104, 122]
abbrev dktX3_know_1 : List UInt8 := dkwX3_know_1 ++ dktX3_know_2
def dkwX3_know_0 : List UInt8 := [42, 27, 28, 182, 0, 231, 54, 5, 28, 133, 10, 20, 0, 189, 184, 0, 55, 154, 0, 7, 20, 0, 239, 173]
abbrev dktX3_know_0 : List UInt8 := dkwX3_know_0 ++ dktX3_know_1
theorem dksX3_know_0 : cX3_know.data.toList.drop 0 = dktX3_know_0 := by decide +kernel
theorem dksX3_know_1 : cX3_know.data.toList.drop 24 = dktX3_know_1 := dk_seg dksX3_know_0 24 rfl rfl
theorem dksX3_know_2 : cX3_know.data.toList.drop 48 = dktX3_know_2 := dk_seg dksX3_know_1 24 rfl rfl
theorem dksX3_know_3 : cX3_know.data.toList.drop 72 = dktX3_know_3 := dk_seg dksX3_know_2 24 rfl rfl
theorem dksX3_know_4 : cX3_know.data.toList.drop 94 = dktX3_know_4 := dk_seg dksX3_know_3 22 rfl rfl
theorem dksX3_know_5 : cX3_know.data.toList.drop 117 = dktX3_know_5 := dk_seg dksX3_know_4 23 rfl rfl
theorem dksX3_know_6 : cX3_know.data.toList.drop 140 = dktX3_know_6 := dk_seg dksX3_know_5 23 rfl rfl
theorem dksX3_know_7 : cX3_know.data.toList.drop 163 = dktX3_know_7 := dk_seg dksX3_know_6 23 rfl rfl
theorem dksX3_know_8 : cX3_know.data.toList.drop 185 = dktX3_know_8 := dk_seg dksX3_know_7 22 rfl rfl
theorem dksX3_know_9 : cX3_know.data.toList.drop 208 = dktX3_know_9 := dk_seg dksX3_know_8 23 rfl rfl
theorem dX3_know_0 : decode cX3_know 0 = .ok (.aload_n 0, 1) := dk_42 (dk_at dksX3_know_0 0 rfl rfl)
theorem dX3_know_1 : decode cX3_know 1 = .ok (.iload_n 1, 1) := dk_27 (dk_at dksX3_know_0 1 rfl rfl)
theorem dX3_know_2 : decode cX3_know 2 = .ok (.iload_n 2, 1) := dk_28 (dk_at dksX3_know_0 2 rfl rfl)
theorem dX3_know_3 : decode cX3_know 3 = .ok (.invokevirtual 231, 3) := dk_182 0 231 (dk_at dksX3_know_0 3 rfl rfl)
theorem dX3_know_6 : decode cX3_know 6 = .ok (.istore 5, 2) := dk_54 5 (dk_at dksX3_know_0 6 rfl rfl)
theorem dX3_know_8 : decode cX3_know 8 = .ok (.iload_n 2, 1) := dk_28 (dk_at dksX3_know_0 8 rfl rfl)
theorem dX3_know_9 : decode cX3_know 9 = .ok (.i2l, 1) := dk_133 (dk_at dksX3_know_0 9 rfl rfl)
theorem dX3_know_10 : decode cX3_know 10 = .ok (.lconst 1, 1) := dk_10 (dk_at dksX3_know_0 10 rfl rfl)
theorem dX3_know_11 : decode cX3_know 11 = .ok (.ldc2_w 189, 3) := dk_20 0 189 (dk_at dksX3_know_0 11 rfl rfl)
theorem dX3_know_14 : decode cX3_know 14 = .ok (.invokestatic 55, 3) := dk_184 0 55 (dk_at dksX3_know_0 14 rfl rfl)
theorem dX3_know_17 : decode cX3_know 17 = .ok (.ifCond .ne 7, 3) := dk_154 0 7 (dk_at dksX3_know_0 17 rfl rfl)
theorem dX3_know_20 : decode cX3_know 20 = .ok (.ldc2_w 239, 3) := dk_20 0 239 (dk_at dksX3_know_0 20 rfl rfl)
theorem dX3_know_23 : decode cX3_know 23 = .ok (.lreturn, 1) := dk_173 (dk_at dksX3_know_0 23 rfl rfl)
theorem dX3_know_24 : decode cX3_know 24 = .ok (.iconst (-1), 1) := dk_2 (dk_at dksX3_know_1 0 rfl rfl)
theorem dX3_know_25 : decode cX3_know 25 = .ok (.istore 6, 2) := dk_54 6 (dk_at dksX3_know_1 1 rfl rfl)
theorem dX3_know_27 : decode cX3_know 27 = .ok (.iconst 0, 1) := dk_3 (dk_at dksX3_know_1 3 rfl rfl)
theorem dX3_know_28 : decode cX3_know 28 = .ok (.istore 7, 2) := dk_54 7 (dk_at dksX3_know_1 4 rfl rfl)
theorem dX3_know_30 : decode cX3_know 30 = .ok (.iload 7, 2) := dk_21 7 (dk_at dksX3_know_1 6 rfl rfl)
theorem dX3_know_32 : decode cX3_know 32 = .ok (.iload_n 2, 1) := dk_28 (dk_at dksX3_know_1 8 rfl rfl)
theorem dX3_know_33 : decode cX3_know 33 = .ok (.if_icmp .ge 37, 3) := dk_162 0 37 (dk_at dksX3_know_1 9 rfl rfl)
theorem dX3_know_36 : decode cX3_know 36 = .ok (.iload_n 3, 1) := dk_29 (dk_at dksX3_know_1 12 rfl rfl)
theorem dX3_know_37 : decode cX3_know 37 = .ok (.bipush 6, 2) := dk_16 6 (dk_at dksX3_know_1 13 rfl rfl)
theorem dX3_know_39 : decode cX3_know 39 = .ok (.if_icmp .eq 21, 3) := dk_159 0 21 (dk_at dksX3_know_1 15 rfl rfl)
theorem dX3_know_42 : decode cX3_know 42 = .ok (.iload_n 1, 1) := dk_27 (dk_at dksX3_know_1 18 rfl rfl)
theorem dX3_know_43 : decode cX3_know 43 = .ok (.iconst 4, 1) := dk_7 (dk_at dksX3_know_1 19 rfl rfl)
theorem dX3_know_44 : decode cX3_know 44 = .ok (.iload 7, 2) := dk_21 7 (dk_at dksX3_know_1 20 rfl rfl)
theorem dX3_know_46 : decode cX3_know 46 = .ok (.imul, 1) := dk_104 (dk_at dksX3_know_1 22 rfl rfl)
theorem dX3_know_47 : decode cX3_know 47 = .ok (.ishr, 1) := dk_122 (dk_at dksX3_know_1 23 rfl rfl)
theorem dX3_know_48 : decode cX3_know 48 = .ok (.bipush 15, 2) := dk_16 15 (dk_at dksX3_know_2 0 rfl rfl)
theorem dX3_know_50 : decode cX3_know 50 = .ok (.iand, 1) := dk_126 (dk_at dksX3_know_2 2 rfl rfl)
theorem dX3_know_51 : decode cX3_know 51 = .ok (.iload_n 3, 1) := dk_29 (dk_at dksX3_know_2 3 rfl rfl)
theorem dX3_know_52 : decode cX3_know 52 = .ok (.if_icmp .ne 8, 3) := dk_160 0 8 (dk_at dksX3_know_2 4 rfl rfl)
theorem dX3_know_55 : decode cX3_know 55 = .ok (.iload 7, 2) := dk_21 7 (dk_at dksX3_know_2 7 rfl rfl)
theorem dX3_know_57 : decode cX3_know 57 = .ok (.goto 5, 3) := dk_167 0 5 (dk_at dksX3_know_2 9 rfl rfl)
theorem dX3_know_60 : decode cX3_know 60 = .ok (.iload 6, 2) := dk_21 6 (dk_at dksX3_know_2 12 rfl rfl)
theorem dX3_know_62 : decode cX3_know 62 = .ok (.istore 6, 2) := dk_54 6 (dk_at dksX3_know_2 14 rfl rfl)
theorem dX3_know_64 : decode cX3_know 64 = .ok (.iinc 7 1, 3) := dk_132 7 1 (dk_at dksX3_know_2 16 rfl rfl)
theorem dX3_know_67 : decode cX3_know 67 = .ok (.goto (-37), 3) := dk_167 255 219 (dk_at dksX3_know_2 19 rfl rfl)
theorem dX3_know_70 : decode cX3_know 70 = .ok (.iload 5, 2) := dk_21 5 (dk_at dksX3_know_2 22 rfl rfl)
theorem dX3_know_72 : decode cX3_know 72 = .ok (.bipush (-2), 2) := dk_16 254 (dk_at dksX3_know_3 0 rfl rfl)
theorem dX3_know_74 : decode cX3_know 74 = .ok (.if_icmp .eq 9, 3) := dk_159 0 9 (dk_at dksX3_know_3 2 rfl rfl)
theorem dX3_know_77 : decode cX3_know 77 = .ok (.iload 6, 2) := dk_21 6 (dk_at dksX3_know_3 5 rfl rfl)
theorem dX3_know_79 : decode cX3_know 79 = .ok (.iconst (-1), 1) := dk_2 (dk_at dksX3_know_3 7 rfl rfl)
theorem dX3_know_80 : decode cX3_know 80 = .ok (.if_icmp .ne 7, 3) := dk_160 0 7 (dk_at dksX3_know_3 8 rfl rfl)
theorem dX3_know_83 : decode cX3_know 83 = .ok (.ldc2_w 237, 3) := dk_20 0 237 (dk_at dksX3_know_3 11 rfl rfl)
theorem dX3_know_86 : decode cX3_know 86 = .ok (.lreturn, 1) := dk_173 (dk_at dksX3_know_3 14 rfl rfl)
theorem dX3_know_87 : decode cX3_know 87 = .ok (.iload 5, 2) := dk_21 5 (dk_at dksX3_know_3 15 rfl rfl)
theorem dX3_know_89 : decode cX3_know 89 = .ok (.ifCond .ne 11, 3) := dk_154 0 11 (dk_at dksX3_know_3 17 rfl rfl)
theorem dX3_know_92 : decode cX3_know 92 = .ok (.iload 4, 2) := dk_21 4 (dk_at dksX3_know_3 20 rfl rfl)
theorem dX3_know_94 : decode cX3_know 94 = .ok (.invokestatic 179, 3) := dk_184 0 179 (dk_at dksX3_know_4 0 rfl rfl)
theorem dX3_know_97 : decode cX3_know 97 = .ok (.ifCond .ne 7, 3) := dk_154 0 7 (dk_at dksX3_know_4 3 rfl rfl)
theorem dX3_know_100 : decode cX3_know 100 = .ok (.ldc2_w 239, 3) := dk_20 0 239 (dk_at dksX3_know_4 6 rfl rfl)
theorem dX3_know_103 : decode cX3_know 103 = .ok (.lreturn, 1) := dk_173 (dk_at dksX3_know_4 9 rfl rfl)
theorem dX3_know_104 : decode cX3_know 104 = .ok (.aload_n 0, 1) := dk_42 (dk_at dksX3_know_4 10 rfl rfl)
theorem dX3_know_105 : decode cX3_know 105 = .ok (.iload_n 1, 1) := dk_27 (dk_at dksX3_know_4 11 rfl rfl)
theorem dX3_know_106 : decode cX3_know 106 = .ok (.iload_n 2, 1) := dk_28 (dk_at dksX3_know_4 12 rfl rfl)
theorem dX3_know_107 : decode cX3_know 107 = .ok (.invokevirtual 241, 3) := dk_182 0 241 (dk_at dksX3_know_4 13 rfl rfl)
theorem dX3_know_110 : decode cX3_know 110 = .ok (.aload_n 0, 1) := dk_42 (dk_at dksX3_know_4 16 rfl rfl)
theorem dX3_know_111 : decode cX3_know 111 = .ok (.aload_n 0, 1) := dk_42 (dk_at dksX3_know_4 17 rfl rfl)
theorem dX3_know_112 : decode cX3_know 112 = .ok (.invokevirtual 256, 3) := dk_182 1 0 (dk_at dksX3_know_4 18 rfl rfl)
theorem dX3_know_115 : decode cX3_know 115 = .ok (.iconst (-1), 1) := dk_2 (dk_at dksX3_know_4 21 rfl rfl)
theorem dX3_know_116 : decode cX3_know 116 = .ok (.iconst 0, 1) := dk_3 (dk_at dksX3_know_4 22 rfl rfl)
theorem dX3_know_117 : decode cX3_know 117 = .ok (.invokevirtual 244, 3) := dk_182 0 244 (dk_at dksX3_know_5 0 rfl rfl)
theorem dX3_know_120 : decode cX3_know 120 = .ok (.lneg, 1) := dk_117 (dk_at dksX3_know_5 3 rfl rfl)
theorem dX3_know_121 : decode cX3_know 121 = .ok (.lstore 7, 2) := dk_55 7 (dk_at dksX3_know_5 4 rfl rfl)
theorem dX3_know_123 : decode cX3_know 123 = .ok (.iconst 0, 1) := dk_3 (dk_at dksX3_know_5 6 rfl rfl)
theorem dX3_know_124 : decode cX3_know 124 = .ok (.istore 9, 2) := dk_54 9 (dk_at dksX3_know_5 7 rfl rfl)
theorem dX3_know_126 : decode cX3_know 126 = .ok (.iload 9, 2) := dk_21 9 (dk_at dksX3_know_5 9 rfl rfl)
theorem dX3_know_128 : decode cX3_know 128 = .ok (.aload_n 0, 1) := dk_42 (dk_at dksX3_know_5 11 rfl rfl)
theorem dX3_know_129 : decode cX3_know 129 = .ok (.getfield 38, 3) := dk_180 0 38 (dk_at dksX3_know_5 12 rfl rfl)
theorem dX3_know_132 : decode cX3_know 132 = .ok (.iload_n 3, 1) := dk_29 (dk_at dksX3_know_5 15 rfl rfl)
theorem dX3_know_133 : decode cX3_know 133 = .ok (.iaload, 1) := dk_46 (dk_at dksX3_know_5 16 rfl rfl)
theorem dX3_know_134 : decode cX3_know 134 = .ok (.if_icmp .ge 82, 3) := dk_162 0 82 (dk_at dksX3_know_5 17 rfl rfl)
theorem dX3_know_137 : decode cX3_know 137 = .ok (.ldc2_w 261, 3) := dk_20 1 5 (dk_at dksX3_know_5 20 rfl rfl)
theorem dX3_know_140 : decode cX3_know 140 = .ok (.lstore 10, 2) := dk_55 10 (dk_at dksX3_know_6 0 rfl rfl)
theorem dX3_know_142 : decode cX3_know 142 = .ok (.iconst 0, 1) := dk_3 (dk_at dksX3_know_6 2 rfl rfl)
theorem dX3_know_143 : decode cX3_know 143 = .ok (.istore 12, 2) := dk_54 12 (dk_at dksX3_know_6 3 rfl rfl)
theorem dX3_know_145 : decode cX3_know 145 = .ok (.iload 12, 2) := dk_21 12 (dk_at dksX3_know_6 5 rfl rfl)
theorem dX3_know_147 : decode cX3_know 147 = .ok (.sipush 256, 3) := dk_17 1 0 (dk_at dksX3_know_6 7 rfl rfl)
theorem dX3_know_150 : decode cX3_know 150 = .ok (.if_icmp .ge 53, 3) := dk_162 0 53 (dk_at dksX3_know_6 10 rfl rfl)
theorem dX3_know_153 : decode cX3_know 153 = .ok (.aload_n 0, 1) := dk_42 (dk_at dksX3_know_6 13 rfl rfl)
theorem dX3_know_154 : decode cX3_know 154 = .ok (.iload 12, 2) := dk_21 12 (dk_at dksX3_know_6 14 rfl rfl)
theorem dX3_know_156 : decode cX3_know 156 = .ok (.invokevirtual 162, 3) := dk_182 0 162 (dk_at dksX3_know_6 16 rfl rfl)
theorem dX3_know_159 : decode cX3_know 159 = .ok (.ifCond .eq 16, 3) := dk_153 0 16 (dk_at dksX3_know_6 19 rfl rfl)
theorem dX3_know_162 : decode cX3_know 162 = .ok (.aload_n 0, 1) := dk_42 (dk_at dksX3_know_6 22 rfl rfl)
theorem dX3_know_163 : decode cX3_know 163 = .ok (.iload 12, 2) := dk_21 12 (dk_at dksX3_know_7 0 rfl rfl)
theorem dX3_know_165 : decode cX3_know 165 = .ok (.iload 6, 2) := dk_21 6 (dk_at dksX3_know_7 2 rfl rfl)
theorem dX3_know_167 : decode cX3_know 167 = .ok (.iload 9, 2) := dk_21 9 (dk_at dksX3_know_7 4 rfl rfl)
theorem dX3_know_169 : decode cX3_know 169 = .ok (.invokevirtual 244, 3) := dk_182 0 244 (dk_at dksX3_know_7 6 rfl rfl)
theorem dX3_know_172 : decode cX3_know 172 = .ok (.goto 6, 3) := dk_167 0 6 (dk_at dksX3_know_7 9 rfl rfl)
theorem dX3_know_175 : decode cX3_know 175 = .ok (.ldc2_w 261, 3) := dk_20 1 5 (dk_at dksX3_know_7 12 rfl rfl)
theorem dX3_know_178 : decode cX3_know 178 = .ok (.lstore 13, 2) := dk_55 13 (dk_at dksX3_know_7 15 rfl rfl)
theorem dX3_know_180 : decode cX3_know 180 = .ok (.lload 13, 2) := dk_22 13 (dk_at dksX3_know_7 17 rfl rfl)
theorem dX3_know_182 : decode cX3_know 182 = .ok (.lload 10, 2) := dk_22 10 (dk_at dksX3_know_7 19 rfl rfl)
theorem dX3_know_184 : decode cX3_know 184 = .ok (.lcmp, 1) := dk_148 (dk_at dksX3_know_7 21 rfl rfl)
theorem dX3_know_185 : decode cX3_know 185 = .ok (.ifCond .le 8, 3) := dk_158 0 8 (dk_at dksX3_know_8 0 rfl rfl)
theorem dX3_know_188 : decode cX3_know 188 = .ok (.lload 13, 2) := dk_22 13 (dk_at dksX3_know_8 3 rfl rfl)
theorem dX3_know_190 : decode cX3_know 190 = .ok (.goto 5, 3) := dk_167 0 5 (dk_at dksX3_know_8 5 rfl rfl)
theorem dX3_know_193 : decode cX3_know 193 = .ok (.lload 10, 2) := dk_22 10 (dk_at dksX3_know_8 8 rfl rfl)
theorem dX3_know_195 : decode cX3_know 195 = .ok (.lstore 10, 2) := dk_55 10 (dk_at dksX3_know_8 10 rfl rfl)
theorem dX3_know_197 : decode cX3_know 197 = .ok (.iinc 12 1, 3) := dk_132 12 1 (dk_at dksX3_know_8 12 rfl rfl)
theorem dX3_know_200 : decode cX3_know 200 = .ok (.goto (-55), 3) := dk_167 255 201 (dk_at dksX3_know_8 15 rfl rfl)
theorem dX3_know_203 : decode cX3_know 203 = .ok (.lload 7, 2) := dk_22 7 (dk_at dksX3_know_8 18 rfl rfl)
theorem dX3_know_205 : decode cX3_know 205 = .ok (.lload 10, 2) := dk_22 10 (dk_at dksX3_know_8 20 rfl rfl)
theorem dX3_know_207 : decode cX3_know 207 = .ok (.ladd, 1) := dk_97 (dk_at dksX3_know_8 22 rfl rfl)
theorem dX3_know_208 : decode cX3_know 208 = .ok (.lstore 7, 2) := dk_55 7 (dk_at dksX3_know_9 0 rfl rfl)
theorem dX3_know_210 : decode cX3_know 210 = .ok (.iinc 9 1, 3) := dk_132 9 1 (dk_at dksX3_know_9 2 rfl rfl)
theorem dX3_know_213 : decode cX3_know 213 = .ok (.goto (-87), 3) := dk_167 255 169 (dk_at dksX3_know_9 5 rfl rfl)
theorem dX3_know_216 : decode cX3_know 216 = .ok (.lload 7, 2) := dk_22 7 (dk_at dksX3_know_9 8 rfl rfl)
theorem dX3_know_218 : decode cX3_know 218 = .ok (.aload_n 0, 1) := dk_42 (dk_at dksX3_know_9 10 rfl rfl)
theorem dX3_know_219 : decode cX3_know 219 = .ok (.getfield 197, 3) := dk_180 0 197 (dk_at dksX3_know_9 11 rfl rfl)
theorem dX3_know_222 : decode cX3_know 222 = .ok (.iload 4, 2) := dk_21 4 (dk_at dksX3_know_9 14 rfl rfl)
theorem dX3_know_224 : decode cX3_know 224 = .ok (.invokestatic 185, 3) := dk_184 0 185 (dk_at dksX3_know_9 16 rfl rfl)
theorem dX3_know_227 : decode cX3_know 227 = .ok (.lreturn, 1) := dk_173 (dk_at dksX3_know_9 19 rfl rfl)
abbrev cX3_both : ByteArray := prog_12_method_54_code
def yX3_both : MethodName := ⟨RX3, "both", "(II)I"⟩
def dkwX3_both_11 : List UInt8 := [21, 4, 172]
abbrev dktX3_both_11 : List UInt8 := dkwX3_both_11 ++ []
def dkwX3_both_10 : List UInt8 := [180, 0, 197, 167, 0, 5, 22, 7, 55, 7, 132, 10, 1, 167, 255, 71, 28, 154, 0, 7, 29, 167, 0, 5]
abbrev dktX3_both_10 : List UInt8 := dkwX3_both_10 ++ dktX3_both_11
def dkwX3_both_9 : List UInt8 := [54, 4, 21, 15, 153, 0, 8, 22, 13, 167, 0, 5, 22, 5, 55, 5, 21, 15, 153, 0, 10, 42]
abbrev dktX3_both_9 : List UInt8 := dkwX3_both_9 ++ dktX3_both_10
def dkwX3_both_8 : List UInt8 := [21, 15, 153, 0, 8, 21, 11, 167, 0, 4, 29, 62, 21, 15, 153, 0, 8, 21, 12, 167, 0, 5, 21, 4]
abbrev dktX3_both_8 : List UInt8 := dkwX3_both_8 ++ dktX3_both_9
def dkwX3_both_7 : List UInt8 := [22, 13, 22, 7, 105, 22, 5, 42, 180, 0, 197, 105, 148, 158, 0, 7, 4, 167, 0, 4, 3, 54, 15]
abbrev dktX3_both_7 : List UInt8 := dkwX3_both_7 ++ dktX3_both_8
def dkwX3_both_6 : List UInt8 := [182, 0, 241, 42, 182, 1, 0, 54, 12, 42, 21, 12, 2, 3, 182, 0, 244, 55, 13, 29, 2, 159, 0, 19]
abbrev dktX3_both_6 : List UInt8 := dkwX3_both_6 ++ dktX3_both_7
def dkwX3_both_5 : List UInt8 := [16, 6, 112, 16, 8, 120, 128, 54, 11, 42, 21, 11, 27, 182, 0, 231, 154, 0, 110, 42, 21, 11, 27]
abbrev dktX3_both_5 : List UInt8 := dkwX3_both_5 ++ dktX3_both_6
def dkwX3_both_4 : List UInt8 := [7, 120, 128, 167, 0, 28, 21, 10, 16, 36, 108, 21, 10, 16, 6, 108, 16, 6, 112, 7, 120, 128, 21, 10]
abbrev dktX3_both_4 : List UInt8 := dkwX3_both_4 ++ dktX3_both_5
def dkwX3_both_3 : List UInt8 := [4, 160, 0, 8, 21, 10, 167, 0, 49, 27, 5, 160, 0, 19, 21, 10, 16, 6, 108, 21, 10, 16, 6, 112]
abbrev dktX3_both_3 : List UInt8 := dkwX3_both_3 ++ dktX3_both_4
def dkwX3_both_2 : List UInt8 := [160, 0, 8, 16, 36, 167, 0, 6, 17, 0, 216, 54, 9, 3, 54, 10, 21, 10, 21, 9, 162, 0, 184, 27]
abbrev dktX3_both_2 : List UInt8 := dkwX3_both_2 ++ dktX3_both_3
def dkwX3_both_1 : List UInt8 := [172, 2, 62, 2, 54, 4, 9, 55, 5, 10, 55, 7, 27, 4, 160, 0, 8, 16, 6, 167, 0, 16, 27, 5]
abbrev dktX3_both_1 : List UInt8 := dkwX3_both_1 ++ dktX3_both_2
def dkwX3_both_0 : List UInt8 := [27, 133, 10, 20, 0, 154, 184, 0, 55, 153, 0, 13, 28, 133, 9, 10, 184, 0, 55, 154, 0, 6, 16, 253]
abbrev dktX3_both_0 : List UInt8 := dkwX3_both_0 ++ dktX3_both_1
theorem dksX3_both_0 : cX3_both.data.toList.drop 0 = dktX3_both_0 := by decide +kernel
theorem dksX3_both_1 : cX3_both.data.toList.drop 24 = dktX3_both_1 := dk_seg dksX3_both_0 24 rfl rfl
theorem dksX3_both_2 : cX3_both.data.toList.drop 48 = dktX3_both_2 := dk_seg dksX3_both_1 24 rfl rfl
theorem dksX3_both_3 : cX3_both.data.toList.drop 72 = dktX3_both_3 := dk_seg dksX3_both_2 24 rfl rfl
theorem dksX3_both_4 : cX3_both.data.toList.drop 96 = dktX3_both_4 := dk_seg dksX3_both_3 24 rfl rfl
theorem dksX3_both_5 : cX3_both.data.toList.drop 120 = dktX3_both_5 := dk_seg dksX3_both_4 24 rfl rfl
theorem dksX3_both_6 : cX3_both.data.toList.drop 143 = dktX3_both_6 := dk_seg dksX3_both_5 23 rfl rfl
theorem dksX3_both_7 : cX3_both.data.toList.drop 167 = dktX3_both_7 := dk_seg dksX3_both_6 24 rfl rfl
theorem dksX3_both_8 : cX3_both.data.toList.drop 190 = dktX3_both_8 := dk_seg dksX3_both_7 23 rfl rfl
theorem dksX3_both_9 : cX3_both.data.toList.drop 214 = dktX3_both_9 := dk_seg dksX3_both_8 24 rfl rfl
theorem dksX3_both_10 : cX3_both.data.toList.drop 236 = dktX3_both_10 := dk_seg dksX3_both_9 22 rfl rfl
theorem dksX3_both_11 : cX3_both.data.toList.drop 260 = dktX3_both_11 := dk_seg dksX3_both_10 24 rfl rfl
theorem dX3_both_0 : decode cX3_both 0 = .ok (.iload_n 1, 1) := dk_27 (dk_at dksX3_both_0 0 rfl rfl)
theorem dX3_both_1 : decode cX3_both 1 = .ok (.i2l, 1) := dk_133 (dk_at dksX3_both_0 1 rfl rfl)
theorem dX3_both_2 : decode cX3_both 2 = .ok (.lconst 1, 1) := dk_10 (dk_at dksX3_both_0 2 rfl rfl)
theorem dX3_both_3 : decode cX3_both 3 = .ok (.ldc2_w 154, 3) := dk_20 0 154 (dk_at dksX3_both_0 3 rfl rfl)
theorem dX3_both_6 : decode cX3_both 6 = .ok (.invokestatic 55, 3) := dk_184 0 55 (dk_at dksX3_both_0 6 rfl rfl)
theorem dX3_both_9 : decode cX3_both 9 = .ok (.ifCond .eq 13, 3) := dk_153 0 13 (dk_at dksX3_both_0 9 rfl rfl)
theorem dX3_both_12 : decode cX3_both 12 = .ok (.iload_n 2, 1) := dk_28 (dk_at dksX3_both_0 12 rfl rfl)
theorem dX3_both_13 : decode cX3_both 13 = .ok (.i2l, 1) := dk_133 (dk_at dksX3_both_0 13 rfl rfl)
theorem dX3_both_14 : decode cX3_both 14 = .ok (.lconst 0, 1) := dk_9 (dk_at dksX3_both_0 14 rfl rfl)
theorem dX3_both_15 : decode cX3_both 15 = .ok (.lconst 1, 1) := dk_10 (dk_at dksX3_both_0 15 rfl rfl)
theorem dX3_both_16 : decode cX3_both 16 = .ok (.invokestatic 55, 3) := dk_184 0 55 (dk_at dksX3_both_0 16 rfl rfl)
theorem dX3_both_19 : decode cX3_both 19 = .ok (.ifCond .ne 6, 3) := dk_154 0 6 (dk_at dksX3_both_0 19 rfl rfl)
theorem dX3_both_22 : decode cX3_both 22 = .ok (.bipush (-3), 2) := dk_16 253 (dk_at dksX3_both_0 22 rfl rfl)
theorem dX3_both_24 : decode cX3_both 24 = .ok (.ireturn, 1) := dk_172 (dk_at dksX3_both_1 0 rfl rfl)
theorem dX3_both_25 : decode cX3_both 25 = .ok (.iconst (-1), 1) := dk_2 (dk_at dksX3_both_1 1 rfl rfl)
theorem dX3_both_26 : decode cX3_both 26 = .ok (.istore_n 3, 1) := dk_62 (dk_at dksX3_both_1 2 rfl rfl)
theorem dX3_both_27 : decode cX3_both 27 = .ok (.iconst (-1), 1) := dk_2 (dk_at dksX3_both_1 3 rfl rfl)
theorem dX3_both_28 : decode cX3_both 28 = .ok (.istore 4, 2) := dk_54 4 (dk_at dksX3_both_1 4 rfl rfl)
theorem dX3_both_30 : decode cX3_both 30 = .ok (.lconst 0, 1) := dk_9 (dk_at dksX3_both_1 6 rfl rfl)
theorem dX3_both_31 : decode cX3_both 31 = .ok (.lstore 5, 2) := dk_55 5 (dk_at dksX3_both_1 7 rfl rfl)
theorem dX3_both_33 : decode cX3_both 33 = .ok (.lconst 1, 1) := dk_10 (dk_at dksX3_both_1 9 rfl rfl)
theorem dX3_both_34 : decode cX3_both 34 = .ok (.lstore 7, 2) := dk_55 7 (dk_at dksX3_both_1 10 rfl rfl)
theorem dX3_both_36 : decode cX3_both 36 = .ok (.iload_n 1, 1) := dk_27 (dk_at dksX3_both_1 12 rfl rfl)
theorem dX3_both_37 : decode cX3_both 37 = .ok (.iconst 1, 1) := dk_4 (dk_at dksX3_both_1 13 rfl rfl)
theorem dX3_both_38 : decode cX3_both 38 = .ok (.if_icmp .ne 8, 3) := dk_160 0 8 (dk_at dksX3_both_1 14 rfl rfl)
theorem dX3_both_41 : decode cX3_both 41 = .ok (.bipush 6, 2) := dk_16 6 (dk_at dksX3_both_1 17 rfl rfl)
theorem dX3_both_43 : decode cX3_both 43 = .ok (.goto 16, 3) := dk_167 0 16 (dk_at dksX3_both_1 19 rfl rfl)
theorem dX3_both_46 : decode cX3_both 46 = .ok (.iload_n 1, 1) := dk_27 (dk_at dksX3_both_1 22 rfl rfl)
theorem dX3_both_47 : decode cX3_both 47 = .ok (.iconst 2, 1) := dk_5 (dk_at dksX3_both_1 23 rfl rfl)
theorem dX3_both_48 : decode cX3_both 48 = .ok (.if_icmp .ne 8, 3) := dk_160 0 8 (dk_at dksX3_both_2 0 rfl rfl)
theorem dX3_both_51 : decode cX3_both 51 = .ok (.bipush 36, 2) := dk_16 36 (dk_at dksX3_both_2 3 rfl rfl)
theorem dX3_both_53 : decode cX3_both 53 = .ok (.goto 6, 3) := dk_167 0 6 (dk_at dksX3_both_2 5 rfl rfl)
theorem dX3_both_56 : decode cX3_both 56 = .ok (.sipush 216, 3) := dk_17 0 216 (dk_at dksX3_both_2 8 rfl rfl)
theorem dX3_both_59 : decode cX3_both 59 = .ok (.istore 9, 2) := dk_54 9 (dk_at dksX3_both_2 11 rfl rfl)
theorem dX3_both_61 : decode cX3_both 61 = .ok (.iconst 0, 1) := dk_3 (dk_at dksX3_both_2 13 rfl rfl)
theorem dX3_both_62 : decode cX3_both 62 = .ok (.istore 10, 2) := dk_54 10 (dk_at dksX3_both_2 14 rfl rfl)
theorem dX3_both_64 : decode cX3_both 64 = .ok (.iload 10, 2) := dk_21 10 (dk_at dksX3_both_2 16 rfl rfl)
theorem dX3_both_66 : decode cX3_both 66 = .ok (.iload 9, 2) := dk_21 9 (dk_at dksX3_both_2 18 rfl rfl)
theorem dX3_both_68 : decode cX3_both 68 = .ok (.if_icmp .ge 184, 3) := dk_162 0 184 (dk_at dksX3_both_2 20 rfl rfl)
theorem dX3_both_71 : decode cX3_both 71 = .ok (.iload_n 1, 1) := dk_27 (dk_at dksX3_both_2 23 rfl rfl)
theorem dX3_both_72 : decode cX3_both 72 = .ok (.iconst 1, 1) := dk_4 (dk_at dksX3_both_3 0 rfl rfl)
theorem dX3_both_73 : decode cX3_both 73 = .ok (.if_icmp .ne 8, 3) := dk_160 0 8 (dk_at dksX3_both_3 1 rfl rfl)
theorem dX3_both_76 : decode cX3_both 76 = .ok (.iload 10, 2) := dk_21 10 (dk_at dksX3_both_3 4 rfl rfl)
theorem dX3_both_78 : decode cX3_both 78 = .ok (.goto 49, 3) := dk_167 0 49 (dk_at dksX3_both_3 6 rfl rfl)
theorem dX3_both_81 : decode cX3_both 81 = .ok (.iload_n 1, 1) := dk_27 (dk_at dksX3_both_3 9 rfl rfl)
theorem dX3_both_82 : decode cX3_both 82 = .ok (.iconst 2, 1) := dk_5 (dk_at dksX3_both_3 10 rfl rfl)
theorem dX3_both_83 : decode cX3_both 83 = .ok (.if_icmp .ne 19, 3) := dk_160 0 19 (dk_at dksX3_both_3 11 rfl rfl)
theorem dX3_both_86 : decode cX3_both 86 = .ok (.iload 10, 2) := dk_21 10 (dk_at dksX3_both_3 14 rfl rfl)
theorem dX3_both_88 : decode cX3_both 88 = .ok (.bipush 6, 2) := dk_16 6 (dk_at dksX3_both_3 16 rfl rfl)
theorem dX3_both_90 : decode cX3_both 90 = .ok (.idiv, 1) := dk_108 (dk_at dksX3_both_3 18 rfl rfl)
theorem dX3_both_91 : decode cX3_both 91 = .ok (.iload 10, 2) := dk_21 10 (dk_at dksX3_both_3 19 rfl rfl)
theorem dX3_both_93 : decode cX3_both 93 = .ok (.bipush 6, 2) := dk_16 6 (dk_at dksX3_both_3 21 rfl rfl)
theorem dX3_both_95 : decode cX3_both 95 = .ok (.irem, 1) := dk_112 (dk_at dksX3_both_3 23 rfl rfl)
theorem dX3_both_96 : decode cX3_both 96 = .ok (.iconst 4, 1) := dk_7 (dk_at dksX3_both_4 0 rfl rfl)
theorem dX3_both_97 : decode cX3_both 97 = .ok (.ishl, 1) := dk_120 (dk_at dksX3_both_4 1 rfl rfl)
theorem dX3_both_98 : decode cX3_both 98 = .ok (.ior, 1) := dk_128 (dk_at dksX3_both_4 2 rfl rfl)
theorem dX3_both_99 : decode cX3_both 99 = .ok (.goto 28, 3) := dk_167 0 28 (dk_at dksX3_both_4 3 rfl rfl)
theorem dX3_both_102 : decode cX3_both 102 = .ok (.iload 10, 2) := dk_21 10 (dk_at dksX3_both_4 6 rfl rfl)
theorem dX3_both_104 : decode cX3_both 104 = .ok (.bipush 36, 2) := dk_16 36 (dk_at dksX3_both_4 8 rfl rfl)
theorem dX3_both_106 : decode cX3_both 106 = .ok (.idiv, 1) := dk_108 (dk_at dksX3_both_4 10 rfl rfl)
theorem dX3_both_107 : decode cX3_both 107 = .ok (.iload 10, 2) := dk_21 10 (dk_at dksX3_both_4 11 rfl rfl)
theorem dX3_both_109 : decode cX3_both 109 = .ok (.bipush 6, 2) := dk_16 6 (dk_at dksX3_both_4 13 rfl rfl)
theorem dX3_both_111 : decode cX3_both 111 = .ok (.idiv, 1) := dk_108 (dk_at dksX3_both_4 15 rfl rfl)
theorem dX3_both_112 : decode cX3_both 112 = .ok (.bipush 6, 2) := dk_16 6 (dk_at dksX3_both_4 16 rfl rfl)
theorem dX3_both_114 : decode cX3_both 114 = .ok (.irem, 1) := dk_112 (dk_at dksX3_both_4 18 rfl rfl)
theorem dX3_both_115 : decode cX3_both 115 = .ok (.iconst 4, 1) := dk_7 (dk_at dksX3_both_4 19 rfl rfl)
theorem dX3_both_116 : decode cX3_both 116 = .ok (.ishl, 1) := dk_120 (dk_at dksX3_both_4 20 rfl rfl)
theorem dX3_both_117 : decode cX3_both 117 = .ok (.ior, 1) := dk_128 (dk_at dksX3_both_4 21 rfl rfl)
theorem dX3_both_118 : decode cX3_both 118 = .ok (.iload 10, 2) := dk_21 10 (dk_at dksX3_both_4 22 rfl rfl)
theorem dX3_both_120 : decode cX3_both 120 = .ok (.bipush 6, 2) := dk_16 6 (dk_at dksX3_both_5 0 rfl rfl)
theorem dX3_both_122 : decode cX3_both 122 = .ok (.irem, 1) := dk_112 (dk_at dksX3_both_5 2 rfl rfl)
theorem dX3_both_123 : decode cX3_both 123 = .ok (.bipush 8, 2) := dk_16 8 (dk_at dksX3_both_5 3 rfl rfl)
theorem dX3_both_125 : decode cX3_both 125 = .ok (.ishl, 1) := dk_120 (dk_at dksX3_both_5 5 rfl rfl)
theorem dX3_both_126 : decode cX3_both 126 = .ok (.ior, 1) := dk_128 (dk_at dksX3_both_5 6 rfl rfl)
theorem dX3_both_127 : decode cX3_both 127 = .ok (.istore 11, 2) := dk_54 11 (dk_at dksX3_both_5 7 rfl rfl)
theorem dX3_both_129 : decode cX3_both 129 = .ok (.aload_n 0, 1) := dk_42 (dk_at dksX3_both_5 9 rfl rfl)
theorem dX3_both_130 : decode cX3_both 130 = .ok (.iload 11, 2) := dk_21 11 (dk_at dksX3_both_5 10 rfl rfl)
theorem dX3_both_132 : decode cX3_both 132 = .ok (.iload_n 1, 1) := dk_27 (dk_at dksX3_both_5 12 rfl rfl)
theorem dX3_both_133 : decode cX3_both 133 = .ok (.invokevirtual 231, 3) := dk_182 0 231 (dk_at dksX3_both_5 13 rfl rfl)
theorem dX3_both_136 : decode cX3_both 136 = .ok (.ifCond .ne 110, 3) := dk_154 0 110 (dk_at dksX3_both_5 16 rfl rfl)
theorem dX3_both_139 : decode cX3_both 139 = .ok (.aload_n 0, 1) := dk_42 (dk_at dksX3_both_5 19 rfl rfl)
theorem dX3_both_140 : decode cX3_both 140 = .ok (.iload 11, 2) := dk_21 11 (dk_at dksX3_both_5 20 rfl rfl)
theorem dX3_both_142 : decode cX3_both 142 = .ok (.iload_n 1, 1) := dk_27 (dk_at dksX3_both_5 22 rfl rfl)
theorem dX3_both_143 : decode cX3_both 143 = .ok (.invokevirtual 241, 3) := dk_182 0 241 (dk_at dksX3_both_6 0 rfl rfl)
theorem dX3_both_146 : decode cX3_both 146 = .ok (.aload_n 0, 1) := dk_42 (dk_at dksX3_both_6 3 rfl rfl)
theorem dX3_both_147 : decode cX3_both 147 = .ok (.invokevirtual 256, 3) := dk_182 1 0 (dk_at dksX3_both_6 4 rfl rfl)
theorem dX3_both_150 : decode cX3_both 150 = .ok (.istore 12, 2) := dk_54 12 (dk_at dksX3_both_6 7 rfl rfl)
theorem dX3_both_152 : decode cX3_both 152 = .ok (.aload_n 0, 1) := dk_42 (dk_at dksX3_both_6 9 rfl rfl)
theorem dX3_both_153 : decode cX3_both 153 = .ok (.iload 12, 2) := dk_21 12 (dk_at dksX3_both_6 10 rfl rfl)
theorem dX3_both_155 : decode cX3_both 155 = .ok (.iconst (-1), 1) := dk_2 (dk_at dksX3_both_6 12 rfl rfl)
theorem dX3_both_156 : decode cX3_both 156 = .ok (.iconst 0, 1) := dk_3 (dk_at dksX3_both_6 13 rfl rfl)
theorem dX3_both_157 : decode cX3_both 157 = .ok (.invokevirtual 244, 3) := dk_182 0 244 (dk_at dksX3_both_6 14 rfl rfl)
theorem dX3_both_160 : decode cX3_both 160 = .ok (.lstore 13, 2) := dk_55 13 (dk_at dksX3_both_6 17 rfl rfl)
theorem dX3_both_162 : decode cX3_both 162 = .ok (.iload_n 3, 1) := dk_29 (dk_at dksX3_both_6 19 rfl rfl)
theorem dX3_both_163 : decode cX3_both 163 = .ok (.iconst (-1), 1) := dk_2 (dk_at dksX3_both_6 20 rfl rfl)
theorem dX3_both_164 : decode cX3_both 164 = .ok (.if_icmp .eq 19, 3) := dk_159 0 19 (dk_at dksX3_both_6 21 rfl rfl)
theorem dX3_both_167 : decode cX3_both 167 = .ok (.lload 13, 2) := dk_22 13 (dk_at dksX3_both_7 0 rfl rfl)
theorem dX3_both_169 : decode cX3_both 169 = .ok (.lload 7, 2) := dk_22 7 (dk_at dksX3_both_7 2 rfl rfl)
theorem dX3_both_171 : decode cX3_both 171 = .ok (.lmul, 1) := dk_105 (dk_at dksX3_both_7 4 rfl rfl)
theorem dX3_both_172 : decode cX3_both 172 = .ok (.lload 5, 2) := dk_22 5 (dk_at dksX3_both_7 5 rfl rfl)
theorem dX3_both_174 : decode cX3_both 174 = .ok (.aload_n 0, 1) := dk_42 (dk_at dksX3_both_7 7 rfl rfl)
theorem dX3_both_175 : decode cX3_both 175 = .ok (.getfield 197, 3) := dk_180 0 197 (dk_at dksX3_both_7 8 rfl rfl)
theorem dX3_both_178 : decode cX3_both 178 = .ok (.lmul, 1) := dk_105 (dk_at dksX3_both_7 11 rfl rfl)
theorem dX3_both_179 : decode cX3_both 179 = .ok (.lcmp, 1) := dk_148 (dk_at dksX3_both_7 12 rfl rfl)
theorem dX3_both_180 : decode cX3_both 180 = .ok (.ifCond .le 7, 3) := dk_158 0 7 (dk_at dksX3_both_7 13 rfl rfl)
theorem dX3_both_183 : decode cX3_both 183 = .ok (.iconst 1, 1) := dk_4 (dk_at dksX3_both_7 16 rfl rfl)
theorem dX3_both_184 : decode cX3_both 184 = .ok (.goto 4, 3) := dk_167 0 4 (dk_at dksX3_both_7 17 rfl rfl)
theorem dX3_both_187 : decode cX3_both 187 = .ok (.iconst 0, 1) := dk_3 (dk_at dksX3_both_7 20 rfl rfl)
theorem dX3_both_188 : decode cX3_both 188 = .ok (.istore 15, 2) := dk_54 15 (dk_at dksX3_both_7 21 rfl rfl)
theorem dX3_both_190 : decode cX3_both 190 = .ok (.iload 15, 2) := dk_21 15 (dk_at dksX3_both_8 0 rfl rfl)
theorem dX3_both_192 : decode cX3_both 192 = .ok (.ifCond .eq 8, 3) := dk_153 0 8 (dk_at dksX3_both_8 2 rfl rfl)
theorem dX3_both_195 : decode cX3_both 195 = .ok (.iload 11, 2) := dk_21 11 (dk_at dksX3_both_8 5 rfl rfl)
theorem dX3_both_197 : decode cX3_both 197 = .ok (.goto 4, 3) := dk_167 0 4 (dk_at dksX3_both_8 7 rfl rfl)
theorem dX3_both_200 : decode cX3_both 200 = .ok (.iload_n 3, 1) := dk_29 (dk_at dksX3_both_8 10 rfl rfl)
theorem dX3_both_201 : decode cX3_both 201 = .ok (.istore_n 3, 1) := dk_62 (dk_at dksX3_both_8 11 rfl rfl)
theorem dX3_both_202 : decode cX3_both 202 = .ok (.iload 15, 2) := dk_21 15 (dk_at dksX3_both_8 12 rfl rfl)
theorem dX3_both_204 : decode cX3_both 204 = .ok (.ifCond .eq 8, 3) := dk_153 0 8 (dk_at dksX3_both_8 14 rfl rfl)
theorem dX3_both_207 : decode cX3_both 207 = .ok (.iload 12, 2) := dk_21 12 (dk_at dksX3_both_8 17 rfl rfl)
theorem dX3_both_209 : decode cX3_both 209 = .ok (.goto 5, 3) := dk_167 0 5 (dk_at dksX3_both_8 19 rfl rfl)
theorem dX3_both_212 : decode cX3_both 212 = .ok (.iload 4, 2) := dk_21 4 (dk_at dksX3_both_8 22 rfl rfl)
theorem dX3_both_214 : decode cX3_both 214 = .ok (.istore 4, 2) := dk_54 4 (dk_at dksX3_both_9 0 rfl rfl)
theorem dX3_both_216 : decode cX3_both 216 = .ok (.iload 15, 2) := dk_21 15 (dk_at dksX3_both_9 2 rfl rfl)
theorem dX3_both_218 : decode cX3_both 218 = .ok (.ifCond .eq 8, 3) := dk_153 0 8 (dk_at dksX3_both_9 4 rfl rfl)
theorem dX3_both_221 : decode cX3_both 221 = .ok (.lload 13, 2) := dk_22 13 (dk_at dksX3_both_9 7 rfl rfl)
theorem dX3_both_223 : decode cX3_both 223 = .ok (.goto 5, 3) := dk_167 0 5 (dk_at dksX3_both_9 9 rfl rfl)
theorem dX3_both_226 : decode cX3_both 226 = .ok (.lload 5, 2) := dk_22 5 (dk_at dksX3_both_9 12 rfl rfl)
theorem dX3_both_228 : decode cX3_both 228 = .ok (.lstore 5, 2) := dk_55 5 (dk_at dksX3_both_9 14 rfl rfl)
theorem dX3_both_230 : decode cX3_both 230 = .ok (.iload 15, 2) := dk_21 15 (dk_at dksX3_both_9 16 rfl rfl)
theorem dX3_both_232 : decode cX3_both 232 = .ok (.ifCond .eq 10, 3) := dk_153 0 10 (dk_at dksX3_both_9 18 rfl rfl)
theorem dX3_both_235 : decode cX3_both 235 = .ok (.aload_n 0, 1) := dk_42 (dk_at dksX3_both_9 21 rfl rfl)
theorem dX3_both_236 : decode cX3_both 236 = .ok (.getfield 197, 3) := dk_180 0 197 (dk_at dksX3_both_10 0 rfl rfl)
theorem dX3_both_239 : decode cX3_both 239 = .ok (.goto 5, 3) := dk_167 0 5 (dk_at dksX3_both_10 3 rfl rfl)
theorem dX3_both_242 : decode cX3_both 242 = .ok (.lload 7, 2) := dk_22 7 (dk_at dksX3_both_10 6 rfl rfl)
theorem dX3_both_244 : decode cX3_both 244 = .ok (.lstore 7, 2) := dk_55 7 (dk_at dksX3_both_10 8 rfl rfl)
theorem dX3_both_246 : decode cX3_both 246 = .ok (.iinc 10 1, 3) := dk_132 10 1 (dk_at dksX3_both_10 10 rfl rfl)
theorem dX3_both_249 : decode cX3_both 249 = .ok (.goto (-185), 3) := dk_167 255 71 (dk_at dksX3_both_10 13 rfl rfl)
theorem dX3_both_252 : decode cX3_both 252 = .ok (.iload_n 2, 1) := dk_28 (dk_at dksX3_both_10 16 rfl rfl)
theorem dX3_both_253 : decode cX3_both 253 = .ok (.ifCond .ne 7, 3) := dk_154 0 7 (dk_at dksX3_both_10 17 rfl rfl)
theorem dX3_both_256 : decode cX3_both 256 = .ok (.iload_n 3, 1) := dk_29 (dk_at dksX3_both_10 20 rfl rfl)
theorem dX3_both_257 : decode cX3_both 257 = .ok (.goto 5, 3) := dk_167 0 5 (dk_at dksX3_both_10 21 rfl rfl)
theorem dX3_both_260 : decode cX3_both 260 = .ok (.iload 4, 2) := dk_21 4 (dk_at dksX3_both_11 0 rfl rfl)
theorem dX3_both_262 : decode cX3_both 262 = .ok (.ireturn, 1) := dk_172 (dk_at dksX3_both_11 2 rfl rfl)
abbrev cX3_value : ByteArray := prog_12_method_68_code
def yX3_value : MethodName := ⟨RX3, "value", "(IIIII)J"⟩
def dkwX3_value_2 : List UInt8 := [182, 1, 51, 42, 21, 4, 182, 1, 17, 21, 5, 184, 0, 185, 173]
abbrev dktX3_value_2 : List UInt8 := dkwX3_value_2 ++ []
def dkwX3_value_1 : List UInt8 := [21, 6, 16, 254, 160, 0, 9, 20, 0, 237, 167, 0, 6, 20, 0, 239, 173, 42, 27, 28, 29, 21, 4]
abbrev dktX3_value_1 : List UInt8 := dkwX3_value_1 ++ dktX3_value_2
def dkwX3_value_0 : List UInt8 := [42, 27, 28, 29, 21, 4, 182, 1, 48, 54, 6, 21, 6, 154, 0, 11, 21, 5, 184, 0, 179, 154, 0, 20]
abbrev dktX3_value_0 : List UInt8 := dkwX3_value_0 ++ dktX3_value_1
theorem dksX3_value_0 : cX3_value.data.toList.drop 0 = dktX3_value_0 := by decide +kernel
theorem dksX3_value_1 : cX3_value.data.toList.drop 24 = dktX3_value_1 := dk_seg dksX3_value_0 24 rfl rfl
theorem dksX3_value_2 : cX3_value.data.toList.drop 47 = dktX3_value_2 := dk_seg dksX3_value_1 23 rfl rfl
theorem dX3_value_0 : decode cX3_value 0 = .ok (.aload_n 0, 1) := dk_42 (dk_at dksX3_value_0 0 rfl rfl)
theorem dX3_value_1 : decode cX3_value 1 = .ok (.iload_n 1, 1) := dk_27 (dk_at dksX3_value_0 1 rfl rfl)
theorem dX3_value_2 : decode cX3_value 2 = .ok (.iload_n 2, 1) := dk_28 (dk_at dksX3_value_0 2 rfl rfl)
theorem dX3_value_3 : decode cX3_value 3 = .ok (.iload_n 3, 1) := dk_29 (dk_at dksX3_value_0 3 rfl rfl)
theorem dX3_value_4 : decode cX3_value 4 = .ok (.iload 4, 2) := dk_21 4 (dk_at dksX3_value_0 4 rfl rfl)
theorem dX3_value_6 : decode cX3_value 6 = .ok (.invokevirtual 304, 3) := dk_182 1 48 (dk_at dksX3_value_0 6 rfl rfl)
theorem dX3_value_9 : decode cX3_value 9 = .ok (.istore 6, 2) := dk_54 6 (dk_at dksX3_value_0 9 rfl rfl)
theorem dX3_value_11 : decode cX3_value 11 = .ok (.iload 6, 2) := dk_21 6 (dk_at dksX3_value_0 11 rfl rfl)
theorem dX3_value_13 : decode cX3_value 13 = .ok (.ifCond .ne 11, 3) := dk_154 0 11 (dk_at dksX3_value_0 13 rfl rfl)
theorem dX3_value_16 : decode cX3_value 16 = .ok (.iload 5, 2) := dk_21 5 (dk_at dksX3_value_0 16 rfl rfl)
theorem dX3_value_18 : decode cX3_value 18 = .ok (.invokestatic 179, 3) := dk_184 0 179 (dk_at dksX3_value_0 18 rfl rfl)
theorem dX3_value_21 : decode cX3_value 21 = .ok (.ifCond .ne 20, 3) := dk_154 0 20 (dk_at dksX3_value_0 21 rfl rfl)
theorem dX3_value_24 : decode cX3_value 24 = .ok (.iload 6, 2) := dk_21 6 (dk_at dksX3_value_1 0 rfl rfl)
theorem dX3_value_26 : decode cX3_value 26 = .ok (.bipush (-2), 2) := dk_16 254 (dk_at dksX3_value_1 2 rfl rfl)
theorem dX3_value_28 : decode cX3_value 28 = .ok (.if_icmp .ne 9, 3) := dk_160 0 9 (dk_at dksX3_value_1 4 rfl rfl)
theorem dX3_value_31 : decode cX3_value 31 = .ok (.ldc2_w 237, 3) := dk_20 0 237 (dk_at dksX3_value_1 7 rfl rfl)
theorem dX3_value_34 : decode cX3_value 34 = .ok (.goto 6, 3) := dk_167 0 6 (dk_at dksX3_value_1 10 rfl rfl)
theorem dX3_value_37 : decode cX3_value 37 = .ok (.ldc2_w 239, 3) := dk_20 0 239 (dk_at dksX3_value_1 13 rfl rfl)
theorem dX3_value_40 : decode cX3_value 40 = .ok (.lreturn, 1) := dk_173 (dk_at dksX3_value_1 16 rfl rfl)
theorem dX3_value_41 : decode cX3_value 41 = .ok (.aload_n 0, 1) := dk_42 (dk_at dksX3_value_1 17 rfl rfl)
theorem dX3_value_42 : decode cX3_value 42 = .ok (.iload_n 1, 1) := dk_27 (dk_at dksX3_value_1 18 rfl rfl)
theorem dX3_value_43 : decode cX3_value 43 = .ok (.iload_n 2, 1) := dk_28 (dk_at dksX3_value_1 19 rfl rfl)
theorem dX3_value_44 : decode cX3_value 44 = .ok (.iload_n 3, 1) := dk_29 (dk_at dksX3_value_1 20 rfl rfl)
theorem dX3_value_45 : decode cX3_value 45 = .ok (.iload 4, 2) := dk_21 4 (dk_at dksX3_value_1 21 rfl rfl)
theorem dX3_value_47 : decode cX3_value 47 = .ok (.invokevirtual 307, 3) := dk_182 1 51 (dk_at dksX3_value_2 0 rfl rfl)
theorem dX3_value_50 : decode cX3_value 50 = .ok (.aload_n 0, 1) := dk_42 (dk_at dksX3_value_2 3 rfl rfl)
theorem dX3_value_51 : decode cX3_value 51 = .ok (.iload 4, 2) := dk_21 4 (dk_at dksX3_value_2 4 rfl rfl)
theorem dX3_value_53 : decode cX3_value 53 = .ok (.invokevirtual 273, 3) := dk_182 1 17 (dk_at dksX3_value_2 6 rfl rfl)
theorem dX3_value_56 : decode cX3_value 56 = .ok (.iload 5, 2) := dk_21 5 (dk_at dksX3_value_2 9 rfl rfl)
theorem dX3_value_58 : decode cX3_value 58 = .ok (.invokestatic 185, 3) := dk_184 0 185 (dk_at dksX3_value_2 11 rfl rfl)
theorem dX3_value_61 : decode cX3_value 61 = .ok (.lreturn, 1) := dk_173 (dk_at dksX3_value_2 14 rfl rfl)
abbrev cX3_refusesNow : ByteArray := prog_12_method_66_code
def yX3_refusesNow : MethodName := ⟨RX3, "refusesNow", "(IIII)I"⟩
def dkwX3_refusesNow_6 : List UInt8 := [16, 253, 167, 0, 4, 3, 172]
abbrev dktX3_refusesNow_6 : List UInt8 := dkwX3_refusesNow_6 ++ []
def dkwX3_refusesNow_5 : List UInt8 := [9, 20, 1, 43, 184, 0, 55, 153, 0, 16, 29, 184, 0, 159, 153, 0, 9, 21, 6, 7, 164, 0, 8]
abbrev dktX3_refusesNow_5 : List UInt8 := dkwX3_refusesNow_5 ++ dktX3_refusesNow_6
def dkwX3_refusesNow_4 : List UInt8 := [20, 1, 41, 184, 0, 55, 154, 0, 6, 16, 253, 172, 21, 5, 154, 0, 8, 16, 254, 167, 0, 34, 28, 133]
abbrev dktX3_refusesNow_4 : List UInt8 := dkwX3_refusesNow_4 ++ dktX3_refusesNow_5
def dkwX3_refusesNow_3 : List UInt8 := [167, 255, 195, 27, 133, 9, 20, 0, 143, 184, 0, 55, 154, 0, 6, 16, 254, 172, 21, 4, 133, 9]
abbrev dktX3_refusesNow_3 : List UInt8 := dkwX3_refusesNow_3 ++ dktX3_refusesNow_4
def dkwX3_refusesNow_2 : List UInt8 := [21, 6, 21, 4, 21, 7, 184, 0, 85, 153, 0, 7, 4, 167, 0, 4, 3, 96, 54, 6, 132, 7, 1]
abbrev dktX3_refusesNow_2 : List UInt8 := dkwX3_refusesNow_2 ++ dktX3_refusesNow_3
def dkwX3_refusesNow_1 : List UInt8 := [21, 7, 184, 0, 85, 153, 0, 12, 42, 21, 7, 182, 0, 176, 153, 0, 7, 4, 167, 0, 4, 3, 54, 5]
abbrev dktX3_refusesNow_1 : List UInt8 := dkwX3_refusesNow_1 ++ dktX3_refusesNow_2
def dkwX3_refusesNow_0 : List UInt8 := [4, 54, 5, 3, 54, 6, 3, 54, 7, 21, 7, 16, 6, 162, 0, 60, 21, 5, 153, 0, 26, 21, 4]
abbrev dktX3_refusesNow_0 : List UInt8 := dkwX3_refusesNow_0 ++ dktX3_refusesNow_1
theorem dksX3_refusesNow_0 : cX3_refusesNow.data.toList.drop 0 = dktX3_refusesNow_0 := by decide +kernel
theorem dksX3_refusesNow_1 : cX3_refusesNow.data.toList.drop 23 = dktX3_refusesNow_1 := dk_seg dksX3_refusesNow_0 23 rfl rfl
theorem dksX3_refusesNow_2 : cX3_refusesNow.data.toList.drop 47 = dktX3_refusesNow_2 := dk_seg dksX3_refusesNow_1 24 rfl rfl
theorem dksX3_refusesNow_3 : cX3_refusesNow.data.toList.drop 70 = dktX3_refusesNow_3 := dk_seg dksX3_refusesNow_2 23 rfl rfl
theorem dksX3_refusesNow_4 : cX3_refusesNow.data.toList.drop 92 = dktX3_refusesNow_4 := dk_seg dksX3_refusesNow_3 22 rfl rfl
theorem dksX3_refusesNow_5 : cX3_refusesNow.data.toList.drop 116 = dktX3_refusesNow_5 := dk_seg dksX3_refusesNow_4 24 rfl rfl
theorem dksX3_refusesNow_6 : cX3_refusesNow.data.toList.drop 139 = dktX3_refusesNow_6 := dk_seg dksX3_refusesNow_5 23 rfl rfl
theorem dX3_refusesNow_0 : decode cX3_refusesNow 0 = .ok (.iconst 1, 1) := dk_4 (dk_at dksX3_refusesNow_0 0 rfl rfl)
theorem dX3_refusesNow_1 : decode cX3_refusesNow 1 = .ok (.istore 5, 2) := dk_54 5 (dk_at dksX3_refusesNow_0 1 rfl rfl)
theorem dX3_refusesNow_3 : decode cX3_refusesNow 3 = .ok (.iconst 0, 1) := dk_3 (dk_at dksX3_refusesNow_0 3 rfl rfl)
theorem dX3_refusesNow_4 : decode cX3_refusesNow 4 = .ok (.istore 6, 2) := dk_54 6 (dk_at dksX3_refusesNow_0 4 rfl rfl)
theorem dX3_refusesNow_6 : decode cX3_refusesNow 6 = .ok (.iconst 0, 1) := dk_3 (dk_at dksX3_refusesNow_0 6 rfl rfl)
theorem dX3_refusesNow_7 : decode cX3_refusesNow 7 = .ok (.istore 7, 2) := dk_54 7 (dk_at dksX3_refusesNow_0 7 rfl rfl)
theorem dX3_refusesNow_9 : decode cX3_refusesNow 9 = .ok (.iload 7, 2) := dk_21 7 (dk_at dksX3_refusesNow_0 9 rfl rfl)
theorem dX3_refusesNow_11 : decode cX3_refusesNow 11 = .ok (.bipush 6, 2) := dk_16 6 (dk_at dksX3_refusesNow_0 11 rfl rfl)
theorem dX3_refusesNow_13 : decode cX3_refusesNow 13 = .ok (.if_icmp .ge 60, 3) := dk_162 0 60 (dk_at dksX3_refusesNow_0 13 rfl rfl)
theorem dX3_refusesNow_16 : decode cX3_refusesNow 16 = .ok (.iload 5, 2) := dk_21 5 (dk_at dksX3_refusesNow_0 16 rfl rfl)
theorem dX3_refusesNow_18 : decode cX3_refusesNow 18 = .ok (.ifCond .eq 26, 3) := dk_153 0 26 (dk_at dksX3_refusesNow_0 18 rfl rfl)
theorem dX3_refusesNow_21 : decode cX3_refusesNow 21 = .ok (.iload 4, 2) := dk_21 4 (dk_at dksX3_refusesNow_0 21 rfl rfl)
theorem dX3_refusesNow_23 : decode cX3_refusesNow 23 = .ok (.iload 7, 2) := dk_21 7 (dk_at dksX3_refusesNow_1 0 rfl rfl)
theorem dX3_refusesNow_25 : decode cX3_refusesNow 25 = .ok (.invokestatic 85, 3) := dk_184 0 85 (dk_at dksX3_refusesNow_1 2 rfl rfl)
theorem dX3_refusesNow_28 : decode cX3_refusesNow 28 = .ok (.ifCond .eq 12, 3) := dk_153 0 12 (dk_at dksX3_refusesNow_1 5 rfl rfl)
theorem dX3_refusesNow_31 : decode cX3_refusesNow 31 = .ok (.aload_n 0, 1) := dk_42 (dk_at dksX3_refusesNow_1 8 rfl rfl)
theorem dX3_refusesNow_32 : decode cX3_refusesNow 32 = .ok (.iload 7, 2) := dk_21 7 (dk_at dksX3_refusesNow_1 9 rfl rfl)
theorem dX3_refusesNow_34 : decode cX3_refusesNow 34 = .ok (.invokevirtual 176, 3) := dk_182 0 176 (dk_at dksX3_refusesNow_1 11 rfl rfl)
theorem dX3_refusesNow_37 : decode cX3_refusesNow 37 = .ok (.ifCond .eq 7, 3) := dk_153 0 7 (dk_at dksX3_refusesNow_1 14 rfl rfl)
theorem dX3_refusesNow_40 : decode cX3_refusesNow 40 = .ok (.iconst 1, 1) := dk_4 (dk_at dksX3_refusesNow_1 17 rfl rfl)
theorem dX3_refusesNow_41 : decode cX3_refusesNow 41 = .ok (.goto 4, 3) := dk_167 0 4 (dk_at dksX3_refusesNow_1 18 rfl rfl)
theorem dX3_refusesNow_44 : decode cX3_refusesNow 44 = .ok (.iconst 0, 1) := dk_3 (dk_at dksX3_refusesNow_1 21 rfl rfl)
theorem dX3_refusesNow_45 : decode cX3_refusesNow 45 = .ok (.istore 5, 2) := dk_54 5 (dk_at dksX3_refusesNow_1 22 rfl rfl)
theorem dX3_refusesNow_47 : decode cX3_refusesNow 47 = .ok (.iload 6, 2) := dk_21 6 (dk_at dksX3_refusesNow_2 0 rfl rfl)
theorem dX3_refusesNow_49 : decode cX3_refusesNow 49 = .ok (.iload 4, 2) := dk_21 4 (dk_at dksX3_refusesNow_2 2 rfl rfl)
theorem dX3_refusesNow_51 : decode cX3_refusesNow 51 = .ok (.iload 7, 2) := dk_21 7 (dk_at dksX3_refusesNow_2 4 rfl rfl)
theorem dX3_refusesNow_53 : decode cX3_refusesNow 53 = .ok (.invokestatic 85, 3) := dk_184 0 85 (dk_at dksX3_refusesNow_2 6 rfl rfl)
theorem dX3_refusesNow_56 : decode cX3_refusesNow 56 = .ok (.ifCond .eq 7, 3) := dk_153 0 7 (dk_at dksX3_refusesNow_2 9 rfl rfl)
theorem dX3_refusesNow_59 : decode cX3_refusesNow 59 = .ok (.iconst 1, 1) := dk_4 (dk_at dksX3_refusesNow_2 12 rfl rfl)
theorem dX3_refusesNow_60 : decode cX3_refusesNow 60 = .ok (.goto 4, 3) := dk_167 0 4 (dk_at dksX3_refusesNow_2 13 rfl rfl)
theorem dX3_refusesNow_63 : decode cX3_refusesNow 63 = .ok (.iconst 0, 1) := dk_3 (dk_at dksX3_refusesNow_2 16 rfl rfl)
theorem dX3_refusesNow_64 : decode cX3_refusesNow 64 = .ok (.iadd, 1) := dk_96 (dk_at dksX3_refusesNow_2 17 rfl rfl)
theorem dX3_refusesNow_65 : decode cX3_refusesNow 65 = .ok (.istore 6, 2) := dk_54 6 (dk_at dksX3_refusesNow_2 18 rfl rfl)
theorem dX3_refusesNow_67 : decode cX3_refusesNow 67 = .ok (.iinc 7 1, 3) := dk_132 7 1 (dk_at dksX3_refusesNow_2 20 rfl rfl)
theorem dX3_refusesNow_70 : decode cX3_refusesNow 70 = .ok (.goto (-61), 3) := dk_167 255 195 (dk_at dksX3_refusesNow_3 0 rfl rfl)
theorem dX3_refusesNow_73 : decode cX3_refusesNow 73 = .ok (.iload_n 1, 1) := dk_27 (dk_at dksX3_refusesNow_3 3 rfl rfl)
theorem dX3_refusesNow_74 : decode cX3_refusesNow 74 = .ok (.i2l, 1) := dk_133 (dk_at dksX3_refusesNow_3 4 rfl rfl)
theorem dX3_refusesNow_75 : decode cX3_refusesNow 75 = .ok (.lconst 0, 1) := dk_9 (dk_at dksX3_refusesNow_3 5 rfl rfl)
theorem dX3_refusesNow_76 : decode cX3_refusesNow 76 = .ok (.ldc2_w 143, 3) := dk_20 0 143 (dk_at dksX3_refusesNow_3 6 rfl rfl)
theorem dX3_refusesNow_79 : decode cX3_refusesNow 79 = .ok (.invokestatic 55, 3) := dk_184 0 55 (dk_at dksX3_refusesNow_3 9 rfl rfl)
theorem dX3_refusesNow_82 : decode cX3_refusesNow 82 = .ok (.ifCond .ne 6, 3) := dk_154 0 6 (dk_at dksX3_refusesNow_3 12 rfl rfl)
theorem dX3_refusesNow_85 : decode cX3_refusesNow 85 = .ok (.bipush (-2), 2) := dk_16 254 (dk_at dksX3_refusesNow_3 15 rfl rfl)
theorem dX3_refusesNow_87 : decode cX3_refusesNow 87 = .ok (.ireturn, 1) := dk_172 (dk_at dksX3_refusesNow_3 17 rfl rfl)
theorem dX3_refusesNow_88 : decode cX3_refusesNow 88 = .ok (.iload 4, 2) := dk_21 4 (dk_at dksX3_refusesNow_3 18 rfl rfl)
theorem dX3_refusesNow_90 : decode cX3_refusesNow 90 = .ok (.i2l, 1) := dk_133 (dk_at dksX3_refusesNow_3 20 rfl rfl)
theorem dX3_refusesNow_91 : decode cX3_refusesNow 91 = .ok (.lconst 0, 1) := dk_9 (dk_at dksX3_refusesNow_3 21 rfl rfl)
theorem dX3_refusesNow_92 : decode cX3_refusesNow 92 = .ok (.ldc2_w 297, 3) := dk_20 1 41 (dk_at dksX3_refusesNow_4 0 rfl rfl)
theorem dX3_refusesNow_95 : decode cX3_refusesNow 95 = .ok (.invokestatic 55, 3) := dk_184 0 55 (dk_at dksX3_refusesNow_4 3 rfl rfl)
theorem dX3_refusesNow_98 : decode cX3_refusesNow 98 = .ok (.ifCond .ne 6, 3) := dk_154 0 6 (dk_at dksX3_refusesNow_4 6 rfl rfl)
theorem dX3_refusesNow_101 : decode cX3_refusesNow 101 = .ok (.bipush (-3), 2) := dk_16 253 (dk_at dksX3_refusesNow_4 9 rfl rfl)
theorem dX3_refusesNow_103 : decode cX3_refusesNow 103 = .ok (.ireturn, 1) := dk_172 (dk_at dksX3_refusesNow_4 11 rfl rfl)
theorem dX3_refusesNow_104 : decode cX3_refusesNow 104 = .ok (.iload 5, 2) := dk_21 5 (dk_at dksX3_refusesNow_4 12 rfl rfl)
theorem dX3_refusesNow_106 : decode cX3_refusesNow 106 = .ok (.ifCond .ne 8, 3) := dk_154 0 8 (dk_at dksX3_refusesNow_4 14 rfl rfl)
theorem dX3_refusesNow_109 : decode cX3_refusesNow 109 = .ok (.bipush (-2), 2) := dk_16 254 (dk_at dksX3_refusesNow_4 17 rfl rfl)
theorem dX3_refusesNow_111 : decode cX3_refusesNow 111 = .ok (.goto 34, 3) := dk_167 0 34 (dk_at dksX3_refusesNow_4 19 rfl rfl)
theorem dX3_refusesNow_114 : decode cX3_refusesNow 114 = .ok (.iload_n 2, 1) := dk_28 (dk_at dksX3_refusesNow_4 22 rfl rfl)
theorem dX3_refusesNow_115 : decode cX3_refusesNow 115 = .ok (.i2l, 1) := dk_133 (dk_at dksX3_refusesNow_4 23 rfl rfl)
theorem dX3_refusesNow_116 : decode cX3_refusesNow 116 = .ok (.lconst 0, 1) := dk_9 (dk_at dksX3_refusesNow_5 0 rfl rfl)
theorem dX3_refusesNow_117 : decode cX3_refusesNow 117 = .ok (.ldc2_w 299, 3) := dk_20 1 43 (dk_at dksX3_refusesNow_5 1 rfl rfl)
theorem dX3_refusesNow_120 : decode cX3_refusesNow 120 = .ok (.invokestatic 55, 3) := dk_184 0 55 (dk_at dksX3_refusesNow_5 4 rfl rfl)
theorem dX3_refusesNow_123 : decode cX3_refusesNow 123 = .ok (.ifCond .eq 16, 3) := dk_153 0 16 (dk_at dksX3_refusesNow_5 7 rfl rfl)
theorem dX3_refusesNow_126 : decode cX3_refusesNow 126 = .ok (.iload_n 3, 1) := dk_29 (dk_at dksX3_refusesNow_5 10 rfl rfl)
theorem dX3_refusesNow_127 : decode cX3_refusesNow 127 = .ok (.invokestatic 159, 3) := dk_184 0 159 (dk_at dksX3_refusesNow_5 11 rfl rfl)
theorem dX3_refusesNow_130 : decode cX3_refusesNow 130 = .ok (.ifCond .eq 9, 3) := dk_153 0 9 (dk_at dksX3_refusesNow_5 14 rfl rfl)
theorem dX3_refusesNow_133 : decode cX3_refusesNow 133 = .ok (.iload 6, 2) := dk_21 6 (dk_at dksX3_refusesNow_5 17 rfl rfl)
theorem dX3_refusesNow_135 : decode cX3_refusesNow 135 = .ok (.iconst 4, 1) := dk_7 (dk_at dksX3_refusesNow_5 19 rfl rfl)
theorem dX3_refusesNow_136 : decode cX3_refusesNow 136 = .ok (.if_icmp .le 8, 3) := dk_164 0 8 (dk_at dksX3_refusesNow_5 20 rfl rfl)
theorem dX3_refusesNow_139 : decode cX3_refusesNow 139 = .ok (.bipush (-3), 2) := dk_16 253 (dk_at dksX3_refusesNow_6 0 rfl rfl)
theorem dX3_refusesNow_141 : decode cX3_refusesNow 141 = .ok (.goto 4, 3) := dk_167 0 4 (dk_at dksX3_refusesNow_6 2 rfl rfl)
theorem dX3_refusesNow_144 : decode cX3_refusesNow 144 = .ok (.iconst 0, 1) := dk_3 (dk_at dksX3_refusesNow_6 5 rfl rfl)
theorem dX3_refusesNow_145 : decode cX3_refusesNow 145 = .ok (.ireturn, 1) := dk_172 (dk_at dksX3_refusesNow_6 6 rfl rfl)
abbrev cX3_valueOf : ByteArray := prog_12_method_67_code
def yX3_valueOf : MethodName := ⟨RX3, "valueOf", "(IIII)J"⟩
def dkwX3_valueOf_2 : List UInt8 := [22, 8, 167, 0, 5, 22, 5, 55, 5, 132, 7, 1, 167, 255, 202, 22, 5, 173]
abbrev dktX3_valueOf_2 : List UInt8 := dkwX3_valueOf_2 ++ []
def dkwX3_valueOf_1 : List UInt8 := [27, 28, 29, 21, 4, 21, 7, 182, 1, 45, 167, 0, 4, 9, 55, 8, 22, 8, 22, 5, 148, 158, 0, 8]
abbrev dktX3_valueOf_1 : List UInt8 := dkwX3_valueOf_1 ++ dktX3_valueOf_2
def dkwX3_valueOf_0 : List UInt8 := [9, 55, 5, 3, 54, 7, 21, 7, 16, 6, 162, 0, 53, 21, 4, 21, 7, 184, 0, 85, 153, 0, 17, 42]
abbrev dktX3_valueOf_0 : List UInt8 := dkwX3_valueOf_0 ++ dktX3_valueOf_1
theorem dksX3_valueOf_0 : cX3_valueOf.data.toList.drop 0 = dktX3_valueOf_0 := by decide +kernel
theorem dksX3_valueOf_1 : cX3_valueOf.data.toList.drop 24 = dktX3_valueOf_1 := dk_seg dksX3_valueOf_0 24 rfl rfl
theorem dksX3_valueOf_2 : cX3_valueOf.data.toList.drop 48 = dktX3_valueOf_2 := dk_seg dksX3_valueOf_1 24 rfl rfl
theorem dX3_valueOf_0 : decode cX3_valueOf 0 = .ok (.lconst 0, 1) := dk_9 (dk_at dksX3_valueOf_0 0 rfl rfl)
theorem dX3_valueOf_1 : decode cX3_valueOf 1 = .ok (.lstore 5, 2) := dk_55 5 (dk_at dksX3_valueOf_0 1 rfl rfl)
theorem dX3_valueOf_3 : decode cX3_valueOf 3 = .ok (.iconst 0, 1) := dk_3 (dk_at dksX3_valueOf_0 3 rfl rfl)
theorem dX3_valueOf_4 : decode cX3_valueOf 4 = .ok (.istore 7, 2) := dk_54 7 (dk_at dksX3_valueOf_0 4 rfl rfl)
theorem dX3_valueOf_6 : decode cX3_valueOf 6 = .ok (.iload 7, 2) := dk_21 7 (dk_at dksX3_valueOf_0 6 rfl rfl)
theorem dX3_valueOf_8 : decode cX3_valueOf 8 = .ok (.bipush 6, 2) := dk_16 6 (dk_at dksX3_valueOf_0 8 rfl rfl)
theorem dX3_valueOf_10 : decode cX3_valueOf 10 = .ok (.if_icmp .ge 53, 3) := dk_162 0 53 (dk_at dksX3_valueOf_0 10 rfl rfl)
theorem dX3_valueOf_13 : decode cX3_valueOf 13 = .ok (.iload 4, 2) := dk_21 4 (dk_at dksX3_valueOf_0 13 rfl rfl)
theorem dX3_valueOf_15 : decode cX3_valueOf 15 = .ok (.iload 7, 2) := dk_21 7 (dk_at dksX3_valueOf_0 15 rfl rfl)
theorem dX3_valueOf_17 : decode cX3_valueOf 17 = .ok (.invokestatic 85, 3) := dk_184 0 85 (dk_at dksX3_valueOf_0 17 rfl rfl)
theorem dX3_valueOf_20 : decode cX3_valueOf 20 = .ok (.ifCond .eq 17, 3) := dk_153 0 17 (dk_at dksX3_valueOf_0 20 rfl rfl)
theorem dX3_valueOf_23 : decode cX3_valueOf 23 = .ok (.aload_n 0, 1) := dk_42 (dk_at dksX3_valueOf_0 23 rfl rfl)
theorem dX3_valueOf_24 : decode cX3_valueOf 24 = .ok (.iload_n 1, 1) := dk_27 (dk_at dksX3_valueOf_1 0 rfl rfl)
theorem dX3_valueOf_25 : decode cX3_valueOf 25 = .ok (.iload_n 2, 1) := dk_28 (dk_at dksX3_valueOf_1 1 rfl rfl)
theorem dX3_valueOf_26 : decode cX3_valueOf 26 = .ok (.iload_n 3, 1) := dk_29 (dk_at dksX3_valueOf_1 2 rfl rfl)
theorem dX3_valueOf_27 : decode cX3_valueOf 27 = .ok (.iload 4, 2) := dk_21 4 (dk_at dksX3_valueOf_1 3 rfl rfl)
theorem dX3_valueOf_29 : decode cX3_valueOf 29 = .ok (.iload 7, 2) := dk_21 7 (dk_at dksX3_valueOf_1 5 rfl rfl)
theorem dX3_valueOf_31 : decode cX3_valueOf 31 = .ok (.invokevirtual 301, 3) := dk_182 1 45 (dk_at dksX3_valueOf_1 7 rfl rfl)
theorem dX3_valueOf_34 : decode cX3_valueOf 34 = .ok (.goto 4, 3) := dk_167 0 4 (dk_at dksX3_valueOf_1 10 rfl rfl)
theorem dX3_valueOf_37 : decode cX3_valueOf 37 = .ok (.lconst 0, 1) := dk_9 (dk_at dksX3_valueOf_1 13 rfl rfl)
theorem dX3_valueOf_38 : decode cX3_valueOf 38 = .ok (.lstore 8, 2) := dk_55 8 (dk_at dksX3_valueOf_1 14 rfl rfl)
theorem dX3_valueOf_40 : decode cX3_valueOf 40 = .ok (.lload 8, 2) := dk_22 8 (dk_at dksX3_valueOf_1 16 rfl rfl)
theorem dX3_valueOf_42 : decode cX3_valueOf 42 = .ok (.lload 5, 2) := dk_22 5 (dk_at dksX3_valueOf_1 18 rfl rfl)
theorem dX3_valueOf_44 : decode cX3_valueOf 44 = .ok (.lcmp, 1) := dk_148 (dk_at dksX3_valueOf_1 20 rfl rfl)
theorem dX3_valueOf_45 : decode cX3_valueOf 45 = .ok (.ifCond .le 8, 3) := dk_158 0 8 (dk_at dksX3_valueOf_1 21 rfl rfl)
theorem dX3_valueOf_48 : decode cX3_valueOf 48 = .ok (.lload 8, 2) := dk_22 8 (dk_at dksX3_valueOf_2 0 rfl rfl)
theorem dX3_valueOf_50 : decode cX3_valueOf 50 = .ok (.goto 5, 3) := dk_167 0 5 (dk_at dksX3_valueOf_2 2 rfl rfl)
theorem dX3_valueOf_53 : decode cX3_valueOf 53 = .ok (.lload 5, 2) := dk_22 5 (dk_at dksX3_valueOf_2 5 rfl rfl)
theorem dX3_valueOf_55 : decode cX3_valueOf 55 = .ok (.lstore 5, 2) := dk_55 5 (dk_at dksX3_valueOf_2 7 rfl rfl)
theorem dX3_valueOf_57 : decode cX3_valueOf 57 = .ok (.iinc 7 1, 3) := dk_132 7 1 (dk_at dksX3_valueOf_2 9 rfl rfl)
theorem dX3_valueOf_60 : decode cX3_valueOf 60 = .ok (.goto (-54), 3) := dk_167 255 202 (dk_at dksX3_valueOf_2 12 rfl rfl)
theorem dX3_valueOf_63 : decode cX3_valueOf 63 = .ok (.lload 5, 2) := dk_22 5 (dk_at dksX3_valueOf_2 15 rfl rfl)
theorem dX3_valueOf_65 : decode cX3_valueOf 65 = .ok (.lreturn, 1) := dk_173 (dk_at dksX3_valueOf_2 17 rfl rfl)
abbrev cX3_going : ByteArray := prog_12_method_65_code
def yX3_going : MethodName := ⟨RX3, "going", "(IIIII)J"⟩
def dkwX3_going_8 : List UInt8 := [173]
abbrev dktX3_going_8 : List UInt8 := dkwX3_going_8 ++ []
def dkwX3_going_7 : List UInt8 := [29, 167, 0, 5, 21, 13, 21, 7, 182, 1, 38, 97, 105, 97, 55, 10, 132, 12, 1, 167, 255, 156, 22, 10]
abbrev dktX3_going_7 : List UInt8 := dkwX3_going_7 ++ dktX3_going_8
def dkwX3_going_6 : List UInt8 := [16, 6, 21, 5, 104, 46, 42, 21, 6, 21, 5, 21, 12, 21, 13, 182, 1, 24, 21, 13, 2, 160, 0, 7]
abbrev dktX3_going_6 : List UInt8 := dkwX3_going_6 ++ dktX3_going_7
def dkwX3_going_5 : List UInt8 := [104, 7, 21, 12, 104, 96, 46, 133, 42, 21, 5, 21, 13, 182, 1, 13, 22, 8, 105, 42, 42, 180, 0, 35]
abbrev dktX3_going_5 : List UInt8 := dkwX3_going_5 ++ dktX3_going_6
def dkwX3_going_4 : List UInt8 := [162, 0, 94, 42, 29, 21, 5, 21, 12, 182, 0, 168, 54, 13, 22, 10, 42, 180, 0, 41, 16, 16, 21, 5]
abbrev dktX3_going_4 : List UInt8 := dkwX3_going_4 ++ dktX3_going_5
def dkwX3_going_3 : List UInt8 := [21, 7, 182, 1, 38, 97, 105, 173, 9, 55, 10, 3, 54, 12, 21, 12, 42, 180, 0, 38, 21, 5, 46]
abbrev dktX3_going_3 : List UInt8 := dkwX3_going_3 ++ dktX3_going_4
def dkwX3_going_2 : List UInt8 := [21, 5, 2, 182, 1, 13, 22, 8, 105, 42, 42, 180, 0, 35, 16, 6, 21, 5, 104, 46, 21, 6, 29]
abbrev dktX3_going_2 : List UInt8 := dkwX3_going_2 ++ dktX3_going_3
def dkwX3_going_1 : List UInt8 := [182, 1, 17, 55, 8, 42, 21, 6, 21, 5, 182, 1, 10, 153, 0, 42, 42, 21, 5, 182, 0, 182, 133, 42]
abbrev dktX3_going_1 : List UInt8 := dkwX3_going_1 ++ dktX3_going_2
def dkwX3_going_0 : List UInt8 := [42, 27, 28, 21, 5, 182, 1, 7, 54, 6, 21, 4, 4, 21, 5, 120, 2, 130, 126, 54, 7, 42, 21, 7]
abbrev dktX3_going_0 : List UInt8 := dkwX3_going_0 ++ dktX3_going_1
theorem dksX3_going_0 : cX3_going.data.toList.drop 0 = dktX3_going_0 := by decide +kernel
theorem dksX3_going_1 : cX3_going.data.toList.drop 24 = dktX3_going_1 := dk_seg dksX3_going_0 24 rfl rfl
theorem dksX3_going_2 : cX3_going.data.toList.drop 48 = dktX3_going_2 := dk_seg dksX3_going_1 24 rfl rfl
theorem dksX3_going_3 : cX3_going.data.toList.drop 71 = dktX3_going_3 := dk_seg dksX3_going_2 23 rfl rfl
theorem dksX3_going_4 : cX3_going.data.toList.drop 94 = dktX3_going_4 := dk_seg dksX3_going_3 23 rfl rfl
theorem dksX3_going_5 : cX3_going.data.toList.drop 118 = dktX3_going_5 := dk_seg dksX3_going_4 24 rfl rfl
theorem dksX3_going_6 : cX3_going.data.toList.drop 142 = dktX3_going_6 := dk_seg dksX3_going_5 24 rfl rfl
theorem dksX3_going_7 : cX3_going.data.toList.drop 166 = dktX3_going_7 := dk_seg dksX3_going_6 24 rfl rfl
theorem dksX3_going_8 : cX3_going.data.toList.drop 190 = dktX3_going_8 := dk_seg dksX3_going_7 24 rfl rfl
theorem dX3_going_0 : decode cX3_going 0 = .ok (.aload_n 0, 1) := dk_42 (dk_at dksX3_going_0 0 rfl rfl)
theorem dX3_going_1 : decode cX3_going 1 = .ok (.iload_n 1, 1) := dk_27 (dk_at dksX3_going_0 1 rfl rfl)
theorem dX3_going_2 : decode cX3_going 2 = .ok (.iload_n 2, 1) := dk_28 (dk_at dksX3_going_0 2 rfl rfl)
theorem dX3_going_3 : decode cX3_going 3 = .ok (.iload 5, 2) := dk_21 5 (dk_at dksX3_going_0 3 rfl rfl)
theorem dX3_going_5 : decode cX3_going 5 = .ok (.invokevirtual 263, 3) := dk_182 1 7 (dk_at dksX3_going_0 5 rfl rfl)
theorem dX3_going_8 : decode cX3_going 8 = .ok (.istore 6, 2) := dk_54 6 (dk_at dksX3_going_0 8 rfl rfl)
theorem dX3_going_10 : decode cX3_going 10 = .ok (.iload 4, 2) := dk_21 4 (dk_at dksX3_going_0 10 rfl rfl)
theorem dX3_going_12 : decode cX3_going 12 = .ok (.iconst 1, 1) := dk_4 (dk_at dksX3_going_0 12 rfl rfl)
theorem dX3_going_13 : decode cX3_going 13 = .ok (.iload 5, 2) := dk_21 5 (dk_at dksX3_going_0 13 rfl rfl)
theorem dX3_going_15 : decode cX3_going 15 = .ok (.ishl, 1) := dk_120 (dk_at dksX3_going_0 15 rfl rfl)
theorem dX3_going_16 : decode cX3_going 16 = .ok (.iconst (-1), 1) := dk_2 (dk_at dksX3_going_0 16 rfl rfl)
theorem dX3_going_17 : decode cX3_going 17 = .ok (.ixor, 1) := dk_130 (dk_at dksX3_going_0 17 rfl rfl)
theorem dX3_going_18 : decode cX3_going 18 = .ok (.iand, 1) := dk_126 (dk_at dksX3_going_0 18 rfl rfl)
theorem dX3_going_19 : decode cX3_going 19 = .ok (.istore 7, 2) := dk_54 7 (dk_at dksX3_going_0 19 rfl rfl)
theorem dX3_going_21 : decode cX3_going 21 = .ok (.aload_n 0, 1) := dk_42 (dk_at dksX3_going_0 21 rfl rfl)
theorem dX3_going_22 : decode cX3_going 22 = .ok (.iload 7, 2) := dk_21 7 (dk_at dksX3_going_0 22 rfl rfl)
theorem dX3_going_24 : decode cX3_going 24 = .ok (.invokevirtual 273, 3) := dk_182 1 17 (dk_at dksX3_going_1 0 rfl rfl)
theorem dX3_going_27 : decode cX3_going 27 = .ok (.lstore 8, 2) := dk_55 8 (dk_at dksX3_going_1 3 rfl rfl)
theorem dX3_going_29 : decode cX3_going 29 = .ok (.aload_n 0, 1) := dk_42 (dk_at dksX3_going_1 5 rfl rfl)
theorem dX3_going_30 : decode cX3_going 30 = .ok (.iload 6, 2) := dk_21 6 (dk_at dksX3_going_1 6 rfl rfl)
theorem dX3_going_32 : decode cX3_going 32 = .ok (.iload 5, 2) := dk_21 5 (dk_at dksX3_going_1 8 rfl rfl)
theorem dX3_going_34 : decode cX3_going 34 = .ok (.invokevirtual 266, 3) := dk_182 1 10 (dk_at dksX3_going_1 10 rfl rfl)
theorem dX3_going_37 : decode cX3_going 37 = .ok (.ifCond .eq 42, 3) := dk_153 0 42 (dk_at dksX3_going_1 13 rfl rfl)
theorem dX3_going_40 : decode cX3_going 40 = .ok (.aload_n 0, 1) := dk_42 (dk_at dksX3_going_1 16 rfl rfl)
theorem dX3_going_41 : decode cX3_going 41 = .ok (.iload 5, 2) := dk_21 5 (dk_at dksX3_going_1 17 rfl rfl)
theorem dX3_going_43 : decode cX3_going 43 = .ok (.invokevirtual 182, 3) := dk_182 0 182 (dk_at dksX3_going_1 19 rfl rfl)
theorem dX3_going_46 : decode cX3_going 46 = .ok (.i2l, 1) := dk_133 (dk_at dksX3_going_1 22 rfl rfl)
theorem dX3_going_47 : decode cX3_going 47 = .ok (.aload_n 0, 1) := dk_42 (dk_at dksX3_going_1 23 rfl rfl)
theorem dX3_going_48 : decode cX3_going 48 = .ok (.iload 5, 2) := dk_21 5 (dk_at dksX3_going_2 0 rfl rfl)
theorem dX3_going_50 : decode cX3_going 50 = .ok (.iconst (-1), 1) := dk_2 (dk_at dksX3_going_2 2 rfl rfl)
theorem dX3_going_51 : decode cX3_going 51 = .ok (.invokevirtual 269, 3) := dk_182 1 13 (dk_at dksX3_going_2 3 rfl rfl)
theorem dX3_going_54 : decode cX3_going 54 = .ok (.lload 8, 2) := dk_22 8 (dk_at dksX3_going_2 6 rfl rfl)
theorem dX3_going_56 : decode cX3_going 56 = .ok (.lmul, 1) := dk_105 (dk_at dksX3_going_2 8 rfl rfl)
theorem dX3_going_57 : decode cX3_going 57 = .ok (.aload_n 0, 1) := dk_42 (dk_at dksX3_going_2 9 rfl rfl)
theorem dX3_going_58 : decode cX3_going 58 = .ok (.aload_n 0, 1) := dk_42 (dk_at dksX3_going_2 10 rfl rfl)
theorem dX3_going_59 : decode cX3_going 59 = .ok (.getfield 35, 3) := dk_180 0 35 (dk_at dksX3_going_2 11 rfl rfl)
theorem dX3_going_62 : decode cX3_going 62 = .ok (.bipush 6, 2) := dk_16 6 (dk_at dksX3_going_2 14 rfl rfl)
theorem dX3_going_64 : decode cX3_going 64 = .ok (.iload 5, 2) := dk_21 5 (dk_at dksX3_going_2 16 rfl rfl)
theorem dX3_going_66 : decode cX3_going 66 = .ok (.imul, 1) := dk_104 (dk_at dksX3_going_2 18 rfl rfl)
theorem dX3_going_67 : decode cX3_going 67 = .ok (.iaload, 1) := dk_46 (dk_at dksX3_going_2 19 rfl rfl)
theorem dX3_going_68 : decode cX3_going 68 = .ok (.iload 6, 2) := dk_21 6 (dk_at dksX3_going_2 20 rfl rfl)
theorem dX3_going_70 : decode cX3_going 70 = .ok (.iload_n 3, 1) := dk_29 (dk_at dksX3_going_2 22 rfl rfl)
theorem dX3_going_71 : decode cX3_going 71 = .ok (.iload 7, 2) := dk_21 7 (dk_at dksX3_going_3 0 rfl rfl)
theorem dX3_going_73 : decode cX3_going 73 = .ok (.invokevirtual 294, 3) := dk_182 1 38 (dk_at dksX3_going_3 2 rfl rfl)
theorem dX3_going_76 : decode cX3_going 76 = .ok (.ladd, 1) := dk_97 (dk_at dksX3_going_3 5 rfl rfl)
theorem dX3_going_77 : decode cX3_going 77 = .ok (.lmul, 1) := dk_105 (dk_at dksX3_going_3 6 rfl rfl)
theorem dX3_going_78 : decode cX3_going 78 = .ok (.lreturn, 1) := dk_173 (dk_at dksX3_going_3 7 rfl rfl)
theorem dX3_going_79 : decode cX3_going 79 = .ok (.lconst 0, 1) := dk_9 (dk_at dksX3_going_3 8 rfl rfl)
theorem dX3_going_80 : decode cX3_going 80 = .ok (.lstore 10, 2) := dk_55 10 (dk_at dksX3_going_3 9 rfl rfl)
theorem dX3_going_82 : decode cX3_going 82 = .ok (.iconst 0, 1) := dk_3 (dk_at dksX3_going_3 11 rfl rfl)
theorem dX3_going_83 : decode cX3_going 83 = .ok (.istore 12, 2) := dk_54 12 (dk_at dksX3_going_3 12 rfl rfl)
theorem dX3_going_85 : decode cX3_going 85 = .ok (.iload 12, 2) := dk_21 12 (dk_at dksX3_going_3 14 rfl rfl)
theorem dX3_going_87 : decode cX3_going 87 = .ok (.aload_n 0, 1) := dk_42 (dk_at dksX3_going_3 16 rfl rfl)
theorem dX3_going_88 : decode cX3_going 88 = .ok (.getfield 38, 3) := dk_180 0 38 (dk_at dksX3_going_3 17 rfl rfl)
theorem dX3_going_91 : decode cX3_going 91 = .ok (.iload 5, 2) := dk_21 5 (dk_at dksX3_going_3 20 rfl rfl)
theorem dX3_going_93 : decode cX3_going 93 = .ok (.iaload, 1) := dk_46 (dk_at dksX3_going_3 22 rfl rfl)
theorem dX3_going_94 : decode cX3_going 94 = .ok (.if_icmp .ge 94, 3) := dk_162 0 94 (dk_at dksX3_going_4 0 rfl rfl)
theorem dX3_going_97 : decode cX3_going 97 = .ok (.aload_n 0, 1) := dk_42 (dk_at dksX3_going_4 3 rfl rfl)
theorem dX3_going_98 : decode cX3_going 98 = .ok (.iload_n 3, 1) := dk_29 (dk_at dksX3_going_4 4 rfl rfl)
theorem dX3_going_99 : decode cX3_going 99 = .ok (.iload 5, 2) := dk_21 5 (dk_at dksX3_going_4 5 rfl rfl)
theorem dX3_going_101 : decode cX3_going 101 = .ok (.iload 12, 2) := dk_21 12 (dk_at dksX3_going_4 7 rfl rfl)
theorem dX3_going_103 : decode cX3_going 103 = .ok (.invokevirtual 168, 3) := dk_182 0 168 (dk_at dksX3_going_4 9 rfl rfl)
theorem dX3_going_106 : decode cX3_going 106 = .ok (.istore 13, 2) := dk_54 13 (dk_at dksX3_going_4 12 rfl rfl)
theorem dX3_going_108 : decode cX3_going 108 = .ok (.lload 10, 2) := dk_22 10 (dk_at dksX3_going_4 14 rfl rfl)
theorem dX3_going_110 : decode cX3_going 110 = .ok (.aload_n 0, 1) := dk_42 (dk_at dksX3_going_4 16 rfl rfl)
theorem dX3_going_111 : decode cX3_going 111 = .ok (.getfield 41, 3) := dk_180 0 41 (dk_at dksX3_going_4 17 rfl rfl)
theorem dX3_going_114 : decode cX3_going 114 = .ok (.bipush 16, 2) := dk_16 16 (dk_at dksX3_going_4 20 rfl rfl)
theorem dX3_going_116 : decode cX3_going 116 = .ok (.iload 5, 2) := dk_21 5 (dk_at dksX3_going_4 22 rfl rfl)
theorem dX3_going_118 : decode cX3_going 118 = .ok (.imul, 1) := dk_104 (dk_at dksX3_going_5 0 rfl rfl)
theorem dX3_going_119 : decode cX3_going 119 = .ok (.iconst 4, 1) := dk_7 (dk_at dksX3_going_5 1 rfl rfl)
theorem dX3_going_120 : decode cX3_going 120 = .ok (.iload 12, 2) := dk_21 12 (dk_at dksX3_going_5 2 rfl rfl)
theorem dX3_going_122 : decode cX3_going 122 = .ok (.imul, 1) := dk_104 (dk_at dksX3_going_5 4 rfl rfl)
theorem dX3_going_123 : decode cX3_going 123 = .ok (.iadd, 1) := dk_96 (dk_at dksX3_going_5 5 rfl rfl)
theorem dX3_going_124 : decode cX3_going 124 = .ok (.iaload, 1) := dk_46 (dk_at dksX3_going_5 6 rfl rfl)
theorem dX3_going_125 : decode cX3_going 125 = .ok (.i2l, 1) := dk_133 (dk_at dksX3_going_5 7 rfl rfl)
theorem dX3_going_126 : decode cX3_going 126 = .ok (.aload_n 0, 1) := dk_42 (dk_at dksX3_going_5 8 rfl rfl)
theorem dX3_going_127 : decode cX3_going 127 = .ok (.iload 5, 2) := dk_21 5 (dk_at dksX3_going_5 9 rfl rfl)
theorem dX3_going_129 : decode cX3_going 129 = .ok (.iload 13, 2) := dk_21 13 (dk_at dksX3_going_5 11 rfl rfl)
theorem dX3_going_131 : decode cX3_going 131 = .ok (.invokevirtual 269, 3) := dk_182 1 13 (dk_at dksX3_going_5 13 rfl rfl)
theorem dX3_going_134 : decode cX3_going 134 = .ok (.lload 8, 2) := dk_22 8 (dk_at dksX3_going_5 16 rfl rfl)
theorem dX3_going_136 : decode cX3_going 136 = .ok (.lmul, 1) := dk_105 (dk_at dksX3_going_5 18 rfl rfl)
theorem dX3_going_137 : decode cX3_going 137 = .ok (.aload_n 0, 1) := dk_42 (dk_at dksX3_going_5 19 rfl rfl)
theorem dX3_going_138 : decode cX3_going 138 = .ok (.aload_n 0, 1) := dk_42 (dk_at dksX3_going_5 20 rfl rfl)
theorem dX3_going_139 : decode cX3_going 139 = .ok (.getfield 35, 3) := dk_180 0 35 (dk_at dksX3_going_5 21 rfl rfl)
theorem dX3_going_142 : decode cX3_going 142 = .ok (.bipush 6, 2) := dk_16 6 (dk_at dksX3_going_6 0 rfl rfl)
theorem dX3_going_144 : decode cX3_going 144 = .ok (.iload 5, 2) := dk_21 5 (dk_at dksX3_going_6 2 rfl rfl)
theorem dX3_going_146 : decode cX3_going 146 = .ok (.imul, 1) := dk_104 (dk_at dksX3_going_6 4 rfl rfl)
theorem dX3_going_147 : decode cX3_going 147 = .ok (.iaload, 1) := dk_46 (dk_at dksX3_going_6 5 rfl rfl)
theorem dX3_going_148 : decode cX3_going 148 = .ok (.aload_n 0, 1) := dk_42 (dk_at dksX3_going_6 6 rfl rfl)
theorem dX3_going_149 : decode cX3_going 149 = .ok (.iload 6, 2) := dk_21 6 (dk_at dksX3_going_6 7 rfl rfl)
theorem dX3_going_151 : decode cX3_going 151 = .ok (.iload 5, 2) := dk_21 5 (dk_at dksX3_going_6 9 rfl rfl)
theorem dX3_going_153 : decode cX3_going 153 = .ok (.iload 12, 2) := dk_21 12 (dk_at dksX3_going_6 11 rfl rfl)
theorem dX3_going_155 : decode cX3_going 155 = .ok (.iload 13, 2) := dk_21 13 (dk_at dksX3_going_6 13 rfl rfl)
theorem dX3_going_157 : decode cX3_going 157 = .ok (.invokevirtual 280, 3) := dk_182 1 24 (dk_at dksX3_going_6 15 rfl rfl)
theorem dX3_going_160 : decode cX3_going 160 = .ok (.iload 13, 2) := dk_21 13 (dk_at dksX3_going_6 18 rfl rfl)
theorem dX3_going_162 : decode cX3_going 162 = .ok (.iconst (-1), 1) := dk_2 (dk_at dksX3_going_6 20 rfl rfl)
theorem dX3_going_163 : decode cX3_going 163 = .ok (.if_icmp .ne 7, 3) := dk_160 0 7 (dk_at dksX3_going_6 21 rfl rfl)
theorem dX3_going_166 : decode cX3_going 166 = .ok (.iload_n 3, 1) := dk_29 (dk_at dksX3_going_7 0 rfl rfl)
theorem dX3_going_167 : decode cX3_going 167 = .ok (.goto 5, 3) := dk_167 0 5 (dk_at dksX3_going_7 1 rfl rfl)
theorem dX3_going_170 : decode cX3_going 170 = .ok (.iload 13, 2) := dk_21 13 (dk_at dksX3_going_7 4 rfl rfl)
theorem dX3_going_172 : decode cX3_going 172 = .ok (.iload 7, 2) := dk_21 7 (dk_at dksX3_going_7 6 rfl rfl)
theorem dX3_going_174 : decode cX3_going 174 = .ok (.invokevirtual 294, 3) := dk_182 1 38 (dk_at dksX3_going_7 8 rfl rfl)
theorem dX3_going_177 : decode cX3_going 177 = .ok (.ladd, 1) := dk_97 (dk_at dksX3_going_7 11 rfl rfl)
theorem dX3_going_178 : decode cX3_going 178 = .ok (.lmul, 1) := dk_105 (dk_at dksX3_going_7 12 rfl rfl)
theorem dX3_going_179 : decode cX3_going 179 = .ok (.ladd, 1) := dk_97 (dk_at dksX3_going_7 13 rfl rfl)
theorem dX3_going_180 : decode cX3_going 180 = .ok (.lstore 10, 2) := dk_55 10 (dk_at dksX3_going_7 14 rfl rfl)
theorem dX3_going_182 : decode cX3_going 182 = .ok (.iinc 12 1, 3) := dk_132 12 1 (dk_at dksX3_going_7 16 rfl rfl)
theorem dX3_going_185 : decode cX3_going 185 = .ok (.goto (-100), 3) := dk_167 255 156 (dk_at dksX3_going_7 19 rfl rfl)
theorem dX3_going_188 : decode cX3_going 188 = .ok (.lload 10, 2) := dk_22 10 (dk_at dksX3_going_7 22 rfl rfl)
theorem dX3_going_190 : decode cX3_going 190 = .ok (.lreturn, 1) := dk_173 (dk_at dksX3_going_8 0 rfl rfl)
abbrev cX3_arrival : ByteArray := prog_12_method_56_code
def yX3_arrival : MethodName := ⟨RX3, "arrival", "(III)I"⟩
def dkwX3_arrival_2 : List UInt8 := [4, 96, 46, 167, 0, 5, 21, 4, 172]
abbrev dktX3_arrival_2 : List UInt8 := dkwX3_arrival_2 ++ []
def dkwX3_arrival_1 : List UInt8 := [21, 4, 42, 180, 0, 35, 16, 6, 29, 104, 4, 96, 46, 162, 0, 17, 42, 180, 0, 35, 16, 6, 29, 104]
abbrev dktX3_arrival_1 : List UInt8 := dkwX3_arrival_1 ++ dktX3_arrival_2
def dkwX3_arrival_0 : List UInt8 := [28, 42, 180, 0, 32, 16, 6, 27, 104, 42, 180, 0, 35, 16, 6, 29, 104, 46, 96, 46, 96, 54, 4]
abbrev dktX3_arrival_0 : List UInt8 := dkwX3_arrival_0 ++ dktX3_arrival_1
theorem dksX3_arrival_0 : cX3_arrival.data.toList.drop 0 = dktX3_arrival_0 := by decide +kernel
theorem dksX3_arrival_1 : cX3_arrival.data.toList.drop 23 = dktX3_arrival_1 := dk_seg dksX3_arrival_0 23 rfl rfl
theorem dksX3_arrival_2 : cX3_arrival.data.toList.drop 47 = dktX3_arrival_2 := dk_seg dksX3_arrival_1 24 rfl rfl
theorem dX3_arrival_0 : decode cX3_arrival 0 = .ok (.iload_n 2, 1) := dk_28 (dk_at dksX3_arrival_0 0 rfl rfl)
theorem dX3_arrival_1 : decode cX3_arrival 1 = .ok (.aload_n 0, 1) := dk_42 (dk_at dksX3_arrival_0 1 rfl rfl)
theorem dX3_arrival_2 : decode cX3_arrival 2 = .ok (.getfield 32, 3) := dk_180 0 32 (dk_at dksX3_arrival_0 2 rfl rfl)
theorem dX3_arrival_5 : decode cX3_arrival 5 = .ok (.bipush 6, 2) := dk_16 6 (dk_at dksX3_arrival_0 5 rfl rfl)
theorem dX3_arrival_7 : decode cX3_arrival 7 = .ok (.iload_n 1, 1) := dk_27 (dk_at dksX3_arrival_0 7 rfl rfl)
theorem dX3_arrival_8 : decode cX3_arrival 8 = .ok (.imul, 1) := dk_104 (dk_at dksX3_arrival_0 8 rfl rfl)
theorem dX3_arrival_9 : decode cX3_arrival 9 = .ok (.aload_n 0, 1) := dk_42 (dk_at dksX3_arrival_0 9 rfl rfl)
theorem dX3_arrival_10 : decode cX3_arrival 10 = .ok (.getfield 35, 3) := dk_180 0 35 (dk_at dksX3_arrival_0 10 rfl rfl)
theorem dX3_arrival_13 : decode cX3_arrival 13 = .ok (.bipush 6, 2) := dk_16 6 (dk_at dksX3_arrival_0 13 rfl rfl)
theorem dX3_arrival_15 : decode cX3_arrival 15 = .ok (.iload_n 3, 1) := dk_29 (dk_at dksX3_arrival_0 15 rfl rfl)
theorem dX3_arrival_16 : decode cX3_arrival 16 = .ok (.imul, 1) := dk_104 (dk_at dksX3_arrival_0 16 rfl rfl)
theorem dX3_arrival_17 : decode cX3_arrival 17 = .ok (.iaload, 1) := dk_46 (dk_at dksX3_arrival_0 17 rfl rfl)
theorem dX3_arrival_18 : decode cX3_arrival 18 = .ok (.iadd, 1) := dk_96 (dk_at dksX3_arrival_0 18 rfl rfl)
theorem dX3_arrival_19 : decode cX3_arrival 19 = .ok (.iaload, 1) := dk_46 (dk_at dksX3_arrival_0 19 rfl rfl)
theorem dX3_arrival_20 : decode cX3_arrival 20 = .ok (.iadd, 1) := dk_96 (dk_at dksX3_arrival_0 20 rfl rfl)
theorem dX3_arrival_21 : decode cX3_arrival 21 = .ok (.istore 4, 2) := dk_54 4 (dk_at dksX3_arrival_0 21 rfl rfl)
theorem dX3_arrival_23 : decode cX3_arrival 23 = .ok (.iload 4, 2) := dk_21 4 (dk_at dksX3_arrival_1 0 rfl rfl)
theorem dX3_arrival_25 : decode cX3_arrival 25 = .ok (.aload_n 0, 1) := dk_42 (dk_at dksX3_arrival_1 2 rfl rfl)
theorem dX3_arrival_26 : decode cX3_arrival 26 = .ok (.getfield 35, 3) := dk_180 0 35 (dk_at dksX3_arrival_1 3 rfl rfl)
theorem dX3_arrival_29 : decode cX3_arrival 29 = .ok (.bipush 6, 2) := dk_16 6 (dk_at dksX3_arrival_1 6 rfl rfl)
theorem dX3_arrival_31 : decode cX3_arrival 31 = .ok (.iload_n 3, 1) := dk_29 (dk_at dksX3_arrival_1 8 rfl rfl)
theorem dX3_arrival_32 : decode cX3_arrival 32 = .ok (.imul, 1) := dk_104 (dk_at dksX3_arrival_1 9 rfl rfl)
theorem dX3_arrival_33 : decode cX3_arrival 33 = .ok (.iconst 1, 1) := dk_4 (dk_at dksX3_arrival_1 10 rfl rfl)
theorem dX3_arrival_34 : decode cX3_arrival 34 = .ok (.iadd, 1) := dk_96 (dk_at dksX3_arrival_1 11 rfl rfl)
theorem dX3_arrival_35 : decode cX3_arrival 35 = .ok (.iaload, 1) := dk_46 (dk_at dksX3_arrival_1 12 rfl rfl)
theorem dX3_arrival_36 : decode cX3_arrival 36 = .ok (.if_icmp .ge 17, 3) := dk_162 0 17 (dk_at dksX3_arrival_1 13 rfl rfl)
theorem dX3_arrival_39 : decode cX3_arrival 39 = .ok (.aload_n 0, 1) := dk_42 (dk_at dksX3_arrival_1 16 rfl rfl)
theorem dX3_arrival_40 : decode cX3_arrival 40 = .ok (.getfield 35, 3) := dk_180 0 35 (dk_at dksX3_arrival_1 17 rfl rfl)
theorem dX3_arrival_43 : decode cX3_arrival 43 = .ok (.bipush 6, 2) := dk_16 6 (dk_at dksX3_arrival_1 20 rfl rfl)
theorem dX3_arrival_45 : decode cX3_arrival 45 = .ok (.iload_n 3, 1) := dk_29 (dk_at dksX3_arrival_1 22 rfl rfl)
theorem dX3_arrival_46 : decode cX3_arrival 46 = .ok (.imul, 1) := dk_104 (dk_at dksX3_arrival_1 23 rfl rfl)
theorem dX3_arrival_47 : decode cX3_arrival 47 = .ok (.iconst 1, 1) := dk_4 (dk_at dksX3_arrival_2 0 rfl rfl)
theorem dX3_arrival_48 : decode cX3_arrival 48 = .ok (.iadd, 1) := dk_96 (dk_at dksX3_arrival_2 1 rfl rfl)
theorem dX3_arrival_49 : decode cX3_arrival 49 = .ok (.iaload, 1) := dk_46 (dk_at dksX3_arrival_2 2 rfl rfl)
theorem dX3_arrival_50 : decode cX3_arrival 50 = .ok (.goto 5, 3) := dk_167 0 5 (dk_at dksX3_arrival_2 3 rfl rfl)
theorem dX3_arrival_53 : decode cX3_arrival 53 = .ok (.iload 4, 2) := dk_21 4 (dk_at dksX3_arrival_2 6 rfl rfl)
theorem dX3_arrival_55 : decode cX3_arrival 55 = .ok (.ireturn, 1) := dk_172 (dk_at dksX3_arrival_2 8 rfl rfl)
abbrev cX3_totals : ByteArray := prog_12_method_55_code
def yX3_totals : MethodName := ⟨RX3, "totals", "(I)J"⟩
def dkwX3_totals_1 : List UInt8 := [21, 4, 182, 0, 182, 133, 167, 0, 4, 10, 105, 65, 132, 4, 1, 167, 255, 223, 32, 173]
abbrev dktX3_totals_1 : List UInt8 := dkwX3_totals_1 ++ []
def dkwX3_totals_0 : List UInt8 := [10, 65, 3, 54, 4, 21, 4, 16, 6, 162, 0, 32, 32, 27, 21, 4, 184, 0, 85, 153, 0, 13, 42]
abbrev dktX3_totals_0 : List UInt8 := dkwX3_totals_0 ++ dktX3_totals_1
theorem dksX3_totals_0 : cX3_totals.data.toList.drop 0 = dktX3_totals_0 := by decide +kernel
theorem dksX3_totals_1 : cX3_totals.data.toList.drop 23 = dktX3_totals_1 := dk_seg dksX3_totals_0 23 rfl rfl
theorem dX3_totals_0 : decode cX3_totals 0 = .ok (.lconst 1, 1) := dk_10 (dk_at dksX3_totals_0 0 rfl rfl)
theorem dX3_totals_1 : decode cX3_totals 1 = .ok (.lstore_n 2, 1) := dk_65 (dk_at dksX3_totals_0 1 rfl rfl)
theorem dX3_totals_2 : decode cX3_totals 2 = .ok (.iconst 0, 1) := dk_3 (dk_at dksX3_totals_0 2 rfl rfl)
theorem dX3_totals_3 : decode cX3_totals 3 = .ok (.istore 4, 2) := dk_54 4 (dk_at dksX3_totals_0 3 rfl rfl)
theorem dX3_totals_5 : decode cX3_totals 5 = .ok (.iload 4, 2) := dk_21 4 (dk_at dksX3_totals_0 5 rfl rfl)
theorem dX3_totals_7 : decode cX3_totals 7 = .ok (.bipush 6, 2) := dk_16 6 (dk_at dksX3_totals_0 7 rfl rfl)
theorem dX3_totals_9 : decode cX3_totals 9 = .ok (.if_icmp .ge 32, 3) := dk_162 0 32 (dk_at dksX3_totals_0 9 rfl rfl)
theorem dX3_totals_12 : decode cX3_totals 12 = .ok (.lload_n 2, 1) := dk_32 (dk_at dksX3_totals_0 12 rfl rfl)
theorem dX3_totals_13 : decode cX3_totals 13 = .ok (.iload_n 1, 1) := dk_27 (dk_at dksX3_totals_0 13 rfl rfl)
theorem dX3_totals_14 : decode cX3_totals 14 = .ok (.iload 4, 2) := dk_21 4 (dk_at dksX3_totals_0 14 rfl rfl)
theorem dX3_totals_16 : decode cX3_totals 16 = .ok (.invokestatic 85, 3) := dk_184 0 85 (dk_at dksX3_totals_0 16 rfl rfl)
theorem dX3_totals_19 : decode cX3_totals 19 = .ok (.ifCond .eq 13, 3) := dk_153 0 13 (dk_at dksX3_totals_0 19 rfl rfl)
theorem dX3_totals_22 : decode cX3_totals 22 = .ok (.aload_n 0, 1) := dk_42 (dk_at dksX3_totals_0 22 rfl rfl)
theorem dX3_totals_23 : decode cX3_totals 23 = .ok (.iload 4, 2) := dk_21 4 (dk_at dksX3_totals_1 0 rfl rfl)
theorem dX3_totals_25 : decode cX3_totals 25 = .ok (.invokevirtual 182, 3) := dk_182 0 182 (dk_at dksX3_totals_1 2 rfl rfl)
theorem dX3_totals_28 : decode cX3_totals 28 = .ok (.i2l, 1) := dk_133 (dk_at dksX3_totals_1 5 rfl rfl)
theorem dX3_totals_29 : decode cX3_totals 29 = .ok (.goto 4, 3) := dk_167 0 4 (dk_at dksX3_totals_1 6 rfl rfl)
theorem dX3_totals_32 : decode cX3_totals 32 = .ok (.lconst 1, 1) := dk_10 (dk_at dksX3_totals_1 9 rfl rfl)
theorem dX3_totals_33 : decode cX3_totals 33 = .ok (.lmul, 1) := dk_105 (dk_at dksX3_totals_1 10 rfl rfl)
theorem dX3_totals_34 : decode cX3_totals 34 = .ok (.lstore_n 2, 1) := dk_65 (dk_at dksX3_totals_1 11 rfl rfl)
theorem dX3_totals_35 : decode cX3_totals 35 = .ok (.iinc 4 1, 3) := dk_132 4 1 (dk_at dksX3_totals_1 12 rfl rfl)
theorem dX3_totals_38 : decode cX3_totals 38 = .ok (.goto (-33), 3) := dk_167 255 223 (dk_at dksX3_totals_1 15 rfl rfl)
theorem dX3_totals_41 : decode cX3_totals 41 = .ok (.lload_n 2, 1) := dk_32 (dk_at dksX3_totals_1 18 rfl rfl)
theorem dX3_totals_42 : decode cX3_totals 42 = .ok (.lreturn, 1) := dk_173 (dk_at dksX3_totals_1 19 rfl rfl)
abbrev cX3_isLate : ByteArray := prog_12_method_57_code
def yX3_isLate : MethodName := ⟨RX3, "isLate", "(II)Z"⟩
def dkwX3_isLate_0 : List UInt8 := [27, 42, 180, 0, 35, 16, 6, 28, 104, 5, 96, 46, 164, 0, 7, 4, 167, 0, 4, 3, 172]
abbrev dktX3_isLate_0 : List UInt8 := dkwX3_isLate_0 ++ []
theorem dksX3_isLate_0 : cX3_isLate.data.toList.drop 0 = dktX3_isLate_0 := by decide +kernel
theorem dX3_isLate_0 : decode cX3_isLate 0 = .ok (.iload_n 1, 1) := dk_27 (dk_at dksX3_isLate_0 0 rfl rfl)
theorem dX3_isLate_1 : decode cX3_isLate 1 = .ok (.aload_n 0, 1) := dk_42 (dk_at dksX3_isLate_0 1 rfl rfl)
theorem dX3_isLate_2 : decode cX3_isLate 2 = .ok (.getfield 35, 3) := dk_180 0 35 (dk_at dksX3_isLate_0 2 rfl rfl)
theorem dX3_isLate_5 : decode cX3_isLate 5 = .ok (.bipush 6, 2) := dk_16 6 (dk_at dksX3_isLate_0 5 rfl rfl)
theorem dX3_isLate_7 : decode cX3_isLate 7 = .ok (.iload_n 2, 1) := dk_28 (dk_at dksX3_isLate_0 7 rfl rfl)
theorem dX3_isLate_8 : decode cX3_isLate 8 = .ok (.imul, 1) := dk_104 (dk_at dksX3_isLate_0 8 rfl rfl)
theorem dX3_isLate_9 : decode cX3_isLate 9 = .ok (.iconst 2, 1) := dk_5 (dk_at dksX3_isLate_0 9 rfl rfl)
theorem dX3_isLate_10 : decode cX3_isLate 10 = .ok (.iadd, 1) := dk_96 (dk_at dksX3_isLate_0 10 rfl rfl)
theorem dX3_isLate_11 : decode cX3_isLate 11 = .ok (.iaload, 1) := dk_46 (dk_at dksX3_isLate_0 11 rfl rfl)
theorem dX3_isLate_12 : decode cX3_isLate 12 = .ok (.if_icmp .le 7, 3) := dk_164 0 7 (dk_at dksX3_isLate_0 12 rfl rfl)
theorem dX3_isLate_15 : decode cX3_isLate 15 = .ok (.iconst 1, 1) := dk_4 (dk_at dksX3_isLate_0 15 rfl rfl)
theorem dX3_isLate_16 : decode cX3_isLate 16 = .ok (.goto 4, 3) := dk_167 0 4 (dk_at dksX3_isLate_0 16 rfl rfl)
theorem dX3_isLate_19 : decode cX3_isLate 19 = .ok (.iconst 0, 1) := dk_3 (dk_at dksX3_isLate_0 19 rfl rfl)
theorem dX3_isLate_20 : decode cX3_isLate 20 = .ok (.ireturn, 1) := dk_172 (dk_at dksX3_isLate_0 20 rfl rfl)
abbrev cX3_got : ByteArray := prog_12_method_58_code
def yX3_got : MethodName := ⟨RX3, "got", "(II)J"⟩
def dkwX3_got_1 : List UInt8 := [180, 0, 35, 16, 6, 27, 104, 6, 96, 46, 133, 173]
abbrev dktX3_got_1 : List UInt8 := dkwX3_got_1 ++ []
def dkwX3_got_0 : List UInt8 := [28, 2, 160, 0, 19, 42, 180, 0, 35, 16, 6, 27, 104, 7, 96, 46, 116, 133, 167, 0, 15, 42]
abbrev dktX3_got_0 : List UInt8 := dkwX3_got_0 ++ dktX3_got_1
theorem dksX3_got_0 : cX3_got.data.toList.drop 0 = dktX3_got_0 := by decide +kernel
theorem dksX3_got_1 : cX3_got.data.toList.drop 22 = dktX3_got_1 := dk_seg dksX3_got_0 22 rfl rfl
theorem dX3_got_0 : decode cX3_got 0 = .ok (.iload_n 2, 1) := dk_28 (dk_at dksX3_got_0 0 rfl rfl)
theorem dX3_got_1 : decode cX3_got 1 = .ok (.iconst (-1), 1) := dk_2 (dk_at dksX3_got_0 1 rfl rfl)
theorem dX3_got_2 : decode cX3_got 2 = .ok (.if_icmp .ne 19, 3) := dk_160 0 19 (dk_at dksX3_got_0 2 rfl rfl)
theorem dX3_got_5 : decode cX3_got 5 = .ok (.aload_n 0, 1) := dk_42 (dk_at dksX3_got_0 5 rfl rfl)
theorem dX3_got_6 : decode cX3_got 6 = .ok (.getfield 35, 3) := dk_180 0 35 (dk_at dksX3_got_0 6 rfl rfl)
theorem dX3_got_9 : decode cX3_got 9 = .ok (.bipush 6, 2) := dk_16 6 (dk_at dksX3_got_0 9 rfl rfl)
theorem dX3_got_11 : decode cX3_got 11 = .ok (.iload_n 1, 1) := dk_27 (dk_at dksX3_got_0 11 rfl rfl)
theorem dX3_got_12 : decode cX3_got 12 = .ok (.imul, 1) := dk_104 (dk_at dksX3_got_0 12 rfl rfl)
theorem dX3_got_13 : decode cX3_got 13 = .ok (.iconst 4, 1) := dk_7 (dk_at dksX3_got_0 13 rfl rfl)
theorem dX3_got_14 : decode cX3_got 14 = .ok (.iadd, 1) := dk_96 (dk_at dksX3_got_0 14 rfl rfl)
theorem dX3_got_15 : decode cX3_got 15 = .ok (.iaload, 1) := dk_46 (dk_at dksX3_got_0 15 rfl rfl)
theorem dX3_got_16 : decode cX3_got 16 = .ok (.ineg, 1) := dk_116 (dk_at dksX3_got_0 16 rfl rfl)
theorem dX3_got_17 : decode cX3_got 17 = .ok (.i2l, 1) := dk_133 (dk_at dksX3_got_0 17 rfl rfl)
theorem dX3_got_18 : decode cX3_got 18 = .ok (.goto 15, 3) := dk_167 0 15 (dk_at dksX3_got_0 18 rfl rfl)
theorem dX3_got_21 : decode cX3_got 21 = .ok (.aload_n 0, 1) := dk_42 (dk_at dksX3_got_0 21 rfl rfl)
theorem dX3_got_22 : decode cX3_got 22 = .ok (.getfield 35, 3) := dk_180 0 35 (dk_at dksX3_got_1 0 rfl rfl)
theorem dX3_got_25 : decode cX3_got 25 = .ok (.bipush 6, 2) := dk_16 6 (dk_at dksX3_got_1 3 rfl rfl)
theorem dX3_got_27 : decode cX3_got 27 = .ok (.iload_n 1, 1) := dk_27 (dk_at dksX3_got_1 5 rfl rfl)
theorem dX3_got_28 : decode cX3_got 28 = .ok (.imul, 1) := dk_104 (dk_at dksX3_got_1 6 rfl rfl)
theorem dX3_got_29 : decode cX3_got 29 = .ok (.iconst 3, 1) := dk_6 (dk_at dksX3_got_1 7 rfl rfl)
theorem dX3_got_30 : decode cX3_got 30 = .ok (.iadd, 1) := dk_96 (dk_at dksX3_got_1 8 rfl rfl)
theorem dX3_got_31 : decode cX3_got 31 = .ok (.iaload, 1) := dk_46 (dk_at dksX3_got_1 9 rfl rfl)
theorem dX3_got_32 : decode cX3_got 32 = .ok (.i2l, 1) := dk_133 (dk_at dksX3_got_1 10 rfl rfl)
theorem dX3_got_33 : decode cX3_got 33 = .ok (.lreturn, 1) := dk_173 (dk_at dksX3_got_1 11 rfl rfl)
abbrev cX3_three : ByteArray := prog_12_method_64_code
def yX3_three : MethodName := ⟨RX3, "three", "(IIII)J"⟩
def dkwX3_three_2 : List UInt8 := [22, 8, 167, 0, 5, 22, 5, 55, 5, 132, 7, 1, 167, 255, 202, 22, 5, 173]
abbrev dktX3_three_2 : List UInt8 := dkwX3_three_2 ++ []
def dkwX3_three_1 : List UInt8 := [27, 28, 29, 21, 4, 21, 7, 182, 1, 35, 167, 0, 4, 9, 55, 8, 22, 8, 22, 5, 148, 158, 0, 8]
abbrev dktX3_three_1 : List UInt8 := dkwX3_three_1 ++ dktX3_three_2
def dkwX3_three_0 : List UInt8 := [9, 55, 5, 3, 54, 7, 21, 7, 16, 6, 162, 0, 53, 21, 4, 21, 7, 184, 0, 85, 153, 0, 17, 42]
abbrev dktX3_three_0 : List UInt8 := dkwX3_three_0 ++ dktX3_three_1
theorem dksX3_three_0 : cX3_three.data.toList.drop 0 = dktX3_three_0 := by decide +kernel
theorem dksX3_three_1 : cX3_three.data.toList.drop 24 = dktX3_three_1 := dk_seg dksX3_three_0 24 rfl rfl
theorem dksX3_three_2 : cX3_three.data.toList.drop 48 = dktX3_three_2 := dk_seg dksX3_three_1 24 rfl rfl
theorem dX3_three_0 : decode cX3_three 0 = .ok (.lconst 0, 1) := dk_9 (dk_at dksX3_three_0 0 rfl rfl)
theorem dX3_three_1 : decode cX3_three 1 = .ok (.lstore 5, 2) := dk_55 5 (dk_at dksX3_three_0 1 rfl rfl)
theorem dX3_three_3 : decode cX3_three 3 = .ok (.iconst 0, 1) := dk_3 (dk_at dksX3_three_0 3 rfl rfl)
theorem dX3_three_4 : decode cX3_three 4 = .ok (.istore 7, 2) := dk_54 7 (dk_at dksX3_three_0 4 rfl rfl)
theorem dX3_three_6 : decode cX3_three 6 = .ok (.iload 7, 2) := dk_21 7 (dk_at dksX3_three_0 6 rfl rfl)
theorem dX3_three_8 : decode cX3_three 8 = .ok (.bipush 6, 2) := dk_16 6 (dk_at dksX3_three_0 8 rfl rfl)
theorem dX3_three_10 : decode cX3_three 10 = .ok (.if_icmp .ge 53, 3) := dk_162 0 53 (dk_at dksX3_three_0 10 rfl rfl)
theorem dX3_three_13 : decode cX3_three 13 = .ok (.iload 4, 2) := dk_21 4 (dk_at dksX3_three_0 13 rfl rfl)
theorem dX3_three_15 : decode cX3_three 15 = .ok (.iload 7, 2) := dk_21 7 (dk_at dksX3_three_0 15 rfl rfl)
theorem dX3_three_17 : decode cX3_three 17 = .ok (.invokestatic 85, 3) := dk_184 0 85 (dk_at dksX3_three_0 17 rfl rfl)
theorem dX3_three_20 : decode cX3_three 20 = .ok (.ifCond .eq 17, 3) := dk_153 0 17 (dk_at dksX3_three_0 20 rfl rfl)
theorem dX3_three_23 : decode cX3_three 23 = .ok (.aload_n 0, 1) := dk_42 (dk_at dksX3_three_0 23 rfl rfl)
theorem dX3_three_24 : decode cX3_three 24 = .ok (.iload_n 1, 1) := dk_27 (dk_at dksX3_three_1 0 rfl rfl)
theorem dX3_three_25 : decode cX3_three 25 = .ok (.iload_n 2, 1) := dk_28 (dk_at dksX3_three_1 1 rfl rfl)
theorem dX3_three_26 : decode cX3_three 26 = .ok (.iload_n 3, 1) := dk_29 (dk_at dksX3_three_1 2 rfl rfl)
theorem dX3_three_27 : decode cX3_three 27 = .ok (.iload 4, 2) := dk_21 4 (dk_at dksX3_three_1 3 rfl rfl)
theorem dX3_three_29 : decode cX3_three 29 = .ok (.iload 7, 2) := dk_21 7 (dk_at dksX3_three_1 5 rfl rfl)
theorem dX3_three_31 : decode cX3_three 31 = .ok (.invokevirtual 291, 3) := dk_182 1 35 (dk_at dksX3_three_1 7 rfl rfl)
theorem dX3_three_34 : decode cX3_three 34 = .ok (.goto 4, 3) := dk_167 0 4 (dk_at dksX3_three_1 10 rfl rfl)
theorem dX3_three_37 : decode cX3_three 37 = .ok (.lconst 0, 1) := dk_9 (dk_at dksX3_three_1 13 rfl rfl)
theorem dX3_three_38 : decode cX3_three 38 = .ok (.lstore 8, 2) := dk_55 8 (dk_at dksX3_three_1 14 rfl rfl)
theorem dX3_three_40 : decode cX3_three 40 = .ok (.lload 8, 2) := dk_22 8 (dk_at dksX3_three_1 16 rfl rfl)
theorem dX3_three_42 : decode cX3_three 42 = .ok (.lload 5, 2) := dk_22 5 (dk_at dksX3_three_1 18 rfl rfl)
theorem dX3_three_44 : decode cX3_three 44 = .ok (.lcmp, 1) := dk_148 (dk_at dksX3_three_1 20 rfl rfl)
theorem dX3_three_45 : decode cX3_three 45 = .ok (.ifCond .le 8, 3) := dk_158 0 8 (dk_at dksX3_three_1 21 rfl rfl)
theorem dX3_three_48 : decode cX3_three 48 = .ok (.lload 8, 2) := dk_22 8 (dk_at dksX3_three_2 0 rfl rfl)
theorem dX3_three_50 : decode cX3_three 50 = .ok (.goto 5, 3) := dk_167 0 5 (dk_at dksX3_three_2 2 rfl rfl)
theorem dX3_three_53 : decode cX3_three 53 = .ok (.lload 5, 2) := dk_22 5 (dk_at dksX3_three_2 5 rfl rfl)
theorem dX3_three_55 : decode cX3_three 55 = .ok (.lstore 5, 2) := dk_55 5 (dk_at dksX3_three_2 7 rfl rfl)
theorem dX3_three_57 : decode cX3_three 57 = .ok (.iinc 7 1, 3) := dk_132 7 1 (dk_at dksX3_three_2 9 rfl rfl)
theorem dX3_three_60 : decode cX3_three 60 = .ok (.goto (-54), 3) := dk_167 255 202 (dk_at dksX3_three_2 12 rfl rfl)
theorem dX3_three_63 : decode cX3_three 63 = .ok (.lload 5, 2) := dk_22 5 (dk_at dksX3_three_2 15 rfl rfl)
theorem dX3_three_65 : decode cX3_three 65 = .ok (.lreturn, 1) := dk_173 (dk_at dksX3_three_2 17 rfl rfl)
abbrev cX3_goThree : ByteArray := prog_12_method_63_code
def yX3_goThree : MethodName := ⟨RX3, "goThree", "(IIIII)J"⟩
def dkwX3_goThree_8 : List UInt8 := [173]
abbrev dktX3_goThree_8 : List UInt8 := dkwX3_goThree_8 ++ []
def dkwX3_goThree_7 : List UInt8 := [29, 167, 0, 5, 21, 13, 21, 7, 182, 1, 32, 97, 105, 97, 55, 10, 132, 12, 1, 167, 255, 156, 22, 10]
abbrev dktX3_goThree_7 : List UInt8 := dkwX3_goThree_7 ++ dktX3_goThree_8
def dkwX3_goThree_6 : List UInt8 := [16, 6, 21, 5, 104, 46, 42, 21, 6, 21, 5, 21, 12, 21, 13, 182, 1, 24, 21, 13, 2, 160, 0, 7]
abbrev dktX3_goThree_6 : List UInt8 := dkwX3_goThree_6 ++ dktX3_goThree_7
def dkwX3_goThree_5 : List UInt8 := [104, 7, 21, 12, 104, 96, 46, 133, 42, 21, 5, 21, 13, 182, 1, 13, 22, 8, 105, 42, 42, 180, 0, 35]
abbrev dktX3_goThree_5 : List UInt8 := dkwX3_goThree_5 ++ dktX3_goThree_6
def dkwX3_goThree_4 : List UInt8 := [162, 0, 94, 42, 29, 21, 5, 21, 12, 182, 0, 168, 54, 13, 22, 10, 42, 180, 0, 41, 16, 16, 21, 5]
abbrev dktX3_goThree_4 : List UInt8 := dkwX3_goThree_4 ++ dktX3_goThree_5
def dkwX3_goThree_3 : List UInt8 := [21, 7, 182, 1, 32, 97, 105, 173, 9, 55, 10, 3, 54, 12, 21, 12, 42, 180, 0, 38, 21, 5, 46]
abbrev dktX3_goThree_3 : List UInt8 := dkwX3_goThree_3 ++ dktX3_goThree_4
def dkwX3_goThree_2 : List UInt8 := [21, 5, 2, 182, 1, 13, 22, 8, 105, 42, 42, 180, 0, 35, 16, 6, 21, 5, 104, 46, 21, 6, 29]
abbrev dktX3_goThree_2 : List UInt8 := dkwX3_goThree_2 ++ dktX3_goThree_3
def dkwX3_goThree_1 : List UInt8 := [182, 1, 17, 55, 8, 42, 21, 6, 21, 5, 182, 1, 10, 153, 0, 42, 42, 21, 5, 182, 0, 182, 133, 42]
abbrev dktX3_goThree_1 : List UInt8 := dkwX3_goThree_1 ++ dktX3_goThree_2
def dkwX3_goThree_0 : List UInt8 := [42, 27, 28, 21, 5, 182, 1, 7, 54, 6, 21, 4, 4, 21, 5, 120, 2, 130, 126, 54, 7, 42, 21, 7]
abbrev dktX3_goThree_0 : List UInt8 := dkwX3_goThree_0 ++ dktX3_goThree_1
theorem dksX3_goThree_0 : cX3_goThree.data.toList.drop 0 = dktX3_goThree_0 := by decide +kernel
theorem dksX3_goThree_1 : cX3_goThree.data.toList.drop 24 = dktX3_goThree_1 := dk_seg dksX3_goThree_0 24 rfl rfl
theorem dksX3_goThree_2 : cX3_goThree.data.toList.drop 48 = dktX3_goThree_2 := dk_seg dksX3_goThree_1 24 rfl rfl
theorem dksX3_goThree_3 : cX3_goThree.data.toList.drop 71 = dktX3_goThree_3 := dk_seg dksX3_goThree_2 23 rfl rfl
theorem dksX3_goThree_4 : cX3_goThree.data.toList.drop 94 = dktX3_goThree_4 := dk_seg dksX3_goThree_3 23 rfl rfl
theorem dksX3_goThree_5 : cX3_goThree.data.toList.drop 118 = dktX3_goThree_5 := dk_seg dksX3_goThree_4 24 rfl rfl
theorem dksX3_goThree_6 : cX3_goThree.data.toList.drop 142 = dktX3_goThree_6 := dk_seg dksX3_goThree_5 24 rfl rfl
theorem dksX3_goThree_7 : cX3_goThree.data.toList.drop 166 = dktX3_goThree_7 := dk_seg dksX3_goThree_6 24 rfl rfl
theorem dksX3_goThree_8 : cX3_goThree.data.toList.drop 190 = dktX3_goThree_8 := dk_seg dksX3_goThree_7 24 rfl rfl
theorem dX3_goThree_0 : decode cX3_goThree 0 = .ok (.aload_n 0, 1) := dk_42 (dk_at dksX3_goThree_0 0 rfl rfl)
theorem dX3_goThree_1 : decode cX3_goThree 1 = .ok (.iload_n 1, 1) := dk_27 (dk_at dksX3_goThree_0 1 rfl rfl)
theorem dX3_goThree_2 : decode cX3_goThree 2 = .ok (.iload_n 2, 1) := dk_28 (dk_at dksX3_goThree_0 2 rfl rfl)
theorem dX3_goThree_3 : decode cX3_goThree 3 = .ok (.iload 5, 2) := dk_21 5 (dk_at dksX3_goThree_0 3 rfl rfl)
theorem dX3_goThree_5 : decode cX3_goThree 5 = .ok (.invokevirtual 263, 3) := dk_182 1 7 (dk_at dksX3_goThree_0 5 rfl rfl)
theorem dX3_goThree_8 : decode cX3_goThree 8 = .ok (.istore 6, 2) := dk_54 6 (dk_at dksX3_goThree_0 8 rfl rfl)
theorem dX3_goThree_10 : decode cX3_goThree 10 = .ok (.iload 4, 2) := dk_21 4 (dk_at dksX3_goThree_0 10 rfl rfl)
theorem dX3_goThree_12 : decode cX3_goThree 12 = .ok (.iconst 1, 1) := dk_4 (dk_at dksX3_goThree_0 12 rfl rfl)
theorem dX3_goThree_13 : decode cX3_goThree 13 = .ok (.iload 5, 2) := dk_21 5 (dk_at dksX3_goThree_0 13 rfl rfl)
theorem dX3_goThree_15 : decode cX3_goThree 15 = .ok (.ishl, 1) := dk_120 (dk_at dksX3_goThree_0 15 rfl rfl)
theorem dX3_goThree_16 : decode cX3_goThree 16 = .ok (.iconst (-1), 1) := dk_2 (dk_at dksX3_goThree_0 16 rfl rfl)
theorem dX3_goThree_17 : decode cX3_goThree 17 = .ok (.ixor, 1) := dk_130 (dk_at dksX3_goThree_0 17 rfl rfl)
theorem dX3_goThree_18 : decode cX3_goThree 18 = .ok (.iand, 1) := dk_126 (dk_at dksX3_goThree_0 18 rfl rfl)
theorem dX3_goThree_19 : decode cX3_goThree 19 = .ok (.istore 7, 2) := dk_54 7 (dk_at dksX3_goThree_0 19 rfl rfl)
theorem dX3_goThree_21 : decode cX3_goThree 21 = .ok (.aload_n 0, 1) := dk_42 (dk_at dksX3_goThree_0 21 rfl rfl)
theorem dX3_goThree_22 : decode cX3_goThree 22 = .ok (.iload 7, 2) := dk_21 7 (dk_at dksX3_goThree_0 22 rfl rfl)
theorem dX3_goThree_24 : decode cX3_goThree 24 = .ok (.invokevirtual 273, 3) := dk_182 1 17 (dk_at dksX3_goThree_1 0 rfl rfl)
theorem dX3_goThree_27 : decode cX3_goThree 27 = .ok (.lstore 8, 2) := dk_55 8 (dk_at dksX3_goThree_1 3 rfl rfl)
theorem dX3_goThree_29 : decode cX3_goThree 29 = .ok (.aload_n 0, 1) := dk_42 (dk_at dksX3_goThree_1 5 rfl rfl)
theorem dX3_goThree_30 : decode cX3_goThree 30 = .ok (.iload 6, 2) := dk_21 6 (dk_at dksX3_goThree_1 6 rfl rfl)
theorem dX3_goThree_32 : decode cX3_goThree 32 = .ok (.iload 5, 2) := dk_21 5 (dk_at dksX3_goThree_1 8 rfl rfl)
theorem dX3_goThree_34 : decode cX3_goThree 34 = .ok (.invokevirtual 266, 3) := dk_182 1 10 (dk_at dksX3_goThree_1 10 rfl rfl)
theorem dX3_goThree_37 : decode cX3_goThree 37 = .ok (.ifCond .eq 42, 3) := dk_153 0 42 (dk_at dksX3_goThree_1 13 rfl rfl)
theorem dX3_goThree_40 : decode cX3_goThree 40 = .ok (.aload_n 0, 1) := dk_42 (dk_at dksX3_goThree_1 16 rfl rfl)
theorem dX3_goThree_41 : decode cX3_goThree 41 = .ok (.iload 5, 2) := dk_21 5 (dk_at dksX3_goThree_1 17 rfl rfl)
theorem dX3_goThree_43 : decode cX3_goThree 43 = .ok (.invokevirtual 182, 3) := dk_182 0 182 (dk_at dksX3_goThree_1 19 rfl rfl)
theorem dX3_goThree_46 : decode cX3_goThree 46 = .ok (.i2l, 1) := dk_133 (dk_at dksX3_goThree_1 22 rfl rfl)
theorem dX3_goThree_47 : decode cX3_goThree 47 = .ok (.aload_n 0, 1) := dk_42 (dk_at dksX3_goThree_1 23 rfl rfl)
theorem dX3_goThree_48 : decode cX3_goThree 48 = .ok (.iload 5, 2) := dk_21 5 (dk_at dksX3_goThree_2 0 rfl rfl)
theorem dX3_goThree_50 : decode cX3_goThree 50 = .ok (.iconst (-1), 1) := dk_2 (dk_at dksX3_goThree_2 2 rfl rfl)
theorem dX3_goThree_51 : decode cX3_goThree 51 = .ok (.invokevirtual 269, 3) := dk_182 1 13 (dk_at dksX3_goThree_2 3 rfl rfl)
theorem dX3_goThree_54 : decode cX3_goThree 54 = .ok (.lload 8, 2) := dk_22 8 (dk_at dksX3_goThree_2 6 rfl rfl)
theorem dX3_goThree_56 : decode cX3_goThree 56 = .ok (.lmul, 1) := dk_105 (dk_at dksX3_goThree_2 8 rfl rfl)
theorem dX3_goThree_57 : decode cX3_goThree 57 = .ok (.aload_n 0, 1) := dk_42 (dk_at dksX3_goThree_2 9 rfl rfl)
theorem dX3_goThree_58 : decode cX3_goThree 58 = .ok (.aload_n 0, 1) := dk_42 (dk_at dksX3_goThree_2 10 rfl rfl)
theorem dX3_goThree_59 : decode cX3_goThree 59 = .ok (.getfield 35, 3) := dk_180 0 35 (dk_at dksX3_goThree_2 11 rfl rfl)
theorem dX3_goThree_62 : decode cX3_goThree 62 = .ok (.bipush 6, 2) := dk_16 6 (dk_at dksX3_goThree_2 14 rfl rfl)
theorem dX3_goThree_64 : decode cX3_goThree 64 = .ok (.iload 5, 2) := dk_21 5 (dk_at dksX3_goThree_2 16 rfl rfl)
theorem dX3_goThree_66 : decode cX3_goThree 66 = .ok (.imul, 1) := dk_104 (dk_at dksX3_goThree_2 18 rfl rfl)
theorem dX3_goThree_67 : decode cX3_goThree 67 = .ok (.iaload, 1) := dk_46 (dk_at dksX3_goThree_2 19 rfl rfl)
theorem dX3_goThree_68 : decode cX3_goThree 68 = .ok (.iload 6, 2) := dk_21 6 (dk_at dksX3_goThree_2 20 rfl rfl)
theorem dX3_goThree_70 : decode cX3_goThree 70 = .ok (.iload_n 3, 1) := dk_29 (dk_at dksX3_goThree_2 22 rfl rfl)
theorem dX3_goThree_71 : decode cX3_goThree 71 = .ok (.iload 7, 2) := dk_21 7 (dk_at dksX3_goThree_3 0 rfl rfl)
theorem dX3_goThree_73 : decode cX3_goThree 73 = .ok (.invokevirtual 288, 3) := dk_182 1 32 (dk_at dksX3_goThree_3 2 rfl rfl)
theorem dX3_goThree_76 : decode cX3_goThree 76 = .ok (.ladd, 1) := dk_97 (dk_at dksX3_goThree_3 5 rfl rfl)
theorem dX3_goThree_77 : decode cX3_goThree 77 = .ok (.lmul, 1) := dk_105 (dk_at dksX3_goThree_3 6 rfl rfl)
theorem dX3_goThree_78 : decode cX3_goThree 78 = .ok (.lreturn, 1) := dk_173 (dk_at dksX3_goThree_3 7 rfl rfl)
theorem dX3_goThree_79 : decode cX3_goThree 79 = .ok (.lconst 0, 1) := dk_9 (dk_at dksX3_goThree_3 8 rfl rfl)
theorem dX3_goThree_80 : decode cX3_goThree 80 = .ok (.lstore 10, 2) := dk_55 10 (dk_at dksX3_goThree_3 9 rfl rfl)
theorem dX3_goThree_82 : decode cX3_goThree 82 = .ok (.iconst 0, 1) := dk_3 (dk_at dksX3_goThree_3 11 rfl rfl)
theorem dX3_goThree_83 : decode cX3_goThree 83 = .ok (.istore 12, 2) := dk_54 12 (dk_at dksX3_goThree_3 12 rfl rfl)
theorem dX3_goThree_85 : decode cX3_goThree 85 = .ok (.iload 12, 2) := dk_21 12 (dk_at dksX3_goThree_3 14 rfl rfl)
theorem dX3_goThree_87 : decode cX3_goThree 87 = .ok (.aload_n 0, 1) := dk_42 (dk_at dksX3_goThree_3 16 rfl rfl)
theorem dX3_goThree_88 : decode cX3_goThree 88 = .ok (.getfield 38, 3) := dk_180 0 38 (dk_at dksX3_goThree_3 17 rfl rfl)
theorem dX3_goThree_91 : decode cX3_goThree 91 = .ok (.iload 5, 2) := dk_21 5 (dk_at dksX3_goThree_3 20 rfl rfl)
theorem dX3_goThree_93 : decode cX3_goThree 93 = .ok (.iaload, 1) := dk_46 (dk_at dksX3_goThree_3 22 rfl rfl)
theorem dX3_goThree_94 : decode cX3_goThree 94 = .ok (.if_icmp .ge 94, 3) := dk_162 0 94 (dk_at dksX3_goThree_4 0 rfl rfl)
theorem dX3_goThree_97 : decode cX3_goThree 97 = .ok (.aload_n 0, 1) := dk_42 (dk_at dksX3_goThree_4 3 rfl rfl)
theorem dX3_goThree_98 : decode cX3_goThree 98 = .ok (.iload_n 3, 1) := dk_29 (dk_at dksX3_goThree_4 4 rfl rfl)
theorem dX3_goThree_99 : decode cX3_goThree 99 = .ok (.iload 5, 2) := dk_21 5 (dk_at dksX3_goThree_4 5 rfl rfl)
theorem dX3_goThree_101 : decode cX3_goThree 101 = .ok (.iload 12, 2) := dk_21 12 (dk_at dksX3_goThree_4 7 rfl rfl)
theorem dX3_goThree_103 : decode cX3_goThree 103 = .ok (.invokevirtual 168, 3) := dk_182 0 168 (dk_at dksX3_goThree_4 9 rfl rfl)
theorem dX3_goThree_106 : decode cX3_goThree 106 = .ok (.istore 13, 2) := dk_54 13 (dk_at dksX3_goThree_4 12 rfl rfl)
theorem dX3_goThree_108 : decode cX3_goThree 108 = .ok (.lload 10, 2) := dk_22 10 (dk_at dksX3_goThree_4 14 rfl rfl)
theorem dX3_goThree_110 : decode cX3_goThree 110 = .ok (.aload_n 0, 1) := dk_42 (dk_at dksX3_goThree_4 16 rfl rfl)
theorem dX3_goThree_111 : decode cX3_goThree 111 = .ok (.getfield 41, 3) := dk_180 0 41 (dk_at dksX3_goThree_4 17 rfl rfl)
theorem dX3_goThree_114 : decode cX3_goThree 114 = .ok (.bipush 16, 2) := dk_16 16 (dk_at dksX3_goThree_4 20 rfl rfl)
theorem dX3_goThree_116 : decode cX3_goThree 116 = .ok (.iload 5, 2) := dk_21 5 (dk_at dksX3_goThree_4 22 rfl rfl)
theorem dX3_goThree_118 : decode cX3_goThree 118 = .ok (.imul, 1) := dk_104 (dk_at dksX3_goThree_5 0 rfl rfl)
theorem dX3_goThree_119 : decode cX3_goThree 119 = .ok (.iconst 4, 1) := dk_7 (dk_at dksX3_goThree_5 1 rfl rfl)
theorem dX3_goThree_120 : decode cX3_goThree 120 = .ok (.iload 12, 2) := dk_21 12 (dk_at dksX3_goThree_5 2 rfl rfl)
theorem dX3_goThree_122 : decode cX3_goThree 122 = .ok (.imul, 1) := dk_104 (dk_at dksX3_goThree_5 4 rfl rfl)
theorem dX3_goThree_123 : decode cX3_goThree 123 = .ok (.iadd, 1) := dk_96 (dk_at dksX3_goThree_5 5 rfl rfl)
theorem dX3_goThree_124 : decode cX3_goThree 124 = .ok (.iaload, 1) := dk_46 (dk_at dksX3_goThree_5 6 rfl rfl)
theorem dX3_goThree_125 : decode cX3_goThree 125 = .ok (.i2l, 1) := dk_133 (dk_at dksX3_goThree_5 7 rfl rfl)
theorem dX3_goThree_126 : decode cX3_goThree 126 = .ok (.aload_n 0, 1) := dk_42 (dk_at dksX3_goThree_5 8 rfl rfl)
theorem dX3_goThree_127 : decode cX3_goThree 127 = .ok (.iload 5, 2) := dk_21 5 (dk_at dksX3_goThree_5 9 rfl rfl)
theorem dX3_goThree_129 : decode cX3_goThree 129 = .ok (.iload 13, 2) := dk_21 13 (dk_at dksX3_goThree_5 11 rfl rfl)
theorem dX3_goThree_131 : decode cX3_goThree 131 = .ok (.invokevirtual 269, 3) := dk_182 1 13 (dk_at dksX3_goThree_5 13 rfl rfl)
theorem dX3_goThree_134 : decode cX3_goThree 134 = .ok (.lload 8, 2) := dk_22 8 (dk_at dksX3_goThree_5 16 rfl rfl)
theorem dX3_goThree_136 : decode cX3_goThree 136 = .ok (.lmul, 1) := dk_105 (dk_at dksX3_goThree_5 18 rfl rfl)
theorem dX3_goThree_137 : decode cX3_goThree 137 = .ok (.aload_n 0, 1) := dk_42 (dk_at dksX3_goThree_5 19 rfl rfl)
theorem dX3_goThree_138 : decode cX3_goThree 138 = .ok (.aload_n 0, 1) := dk_42 (dk_at dksX3_goThree_5 20 rfl rfl)
theorem dX3_goThree_139 : decode cX3_goThree 139 = .ok (.getfield 35, 3) := dk_180 0 35 (dk_at dksX3_goThree_5 21 rfl rfl)
theorem dX3_goThree_142 : decode cX3_goThree 142 = .ok (.bipush 6, 2) := dk_16 6 (dk_at dksX3_goThree_6 0 rfl rfl)
theorem dX3_goThree_144 : decode cX3_goThree 144 = .ok (.iload 5, 2) := dk_21 5 (dk_at dksX3_goThree_6 2 rfl rfl)
theorem dX3_goThree_146 : decode cX3_goThree 146 = .ok (.imul, 1) := dk_104 (dk_at dksX3_goThree_6 4 rfl rfl)
theorem dX3_goThree_147 : decode cX3_goThree 147 = .ok (.iaload, 1) := dk_46 (dk_at dksX3_goThree_6 5 rfl rfl)
theorem dX3_goThree_148 : decode cX3_goThree 148 = .ok (.aload_n 0, 1) := dk_42 (dk_at dksX3_goThree_6 6 rfl rfl)
theorem dX3_goThree_149 : decode cX3_goThree 149 = .ok (.iload 6, 2) := dk_21 6 (dk_at dksX3_goThree_6 7 rfl rfl)
theorem dX3_goThree_151 : decode cX3_goThree 151 = .ok (.iload 5, 2) := dk_21 5 (dk_at dksX3_goThree_6 9 rfl rfl)
theorem dX3_goThree_153 : decode cX3_goThree 153 = .ok (.iload 12, 2) := dk_21 12 (dk_at dksX3_goThree_6 11 rfl rfl)
theorem dX3_goThree_155 : decode cX3_goThree 155 = .ok (.iload 13, 2) := dk_21 13 (dk_at dksX3_goThree_6 13 rfl rfl)
theorem dX3_goThree_157 : decode cX3_goThree 157 = .ok (.invokevirtual 280, 3) := dk_182 1 24 (dk_at dksX3_goThree_6 15 rfl rfl)
theorem dX3_goThree_160 : decode cX3_goThree 160 = .ok (.iload 13, 2) := dk_21 13 (dk_at dksX3_goThree_6 18 rfl rfl)
theorem dX3_goThree_162 : decode cX3_goThree 162 = .ok (.iconst (-1), 1) := dk_2 (dk_at dksX3_goThree_6 20 rfl rfl)
theorem dX3_goThree_163 : decode cX3_goThree 163 = .ok (.if_icmp .ne 7, 3) := dk_160 0 7 (dk_at dksX3_goThree_6 21 rfl rfl)
theorem dX3_goThree_166 : decode cX3_goThree 166 = .ok (.iload_n 3, 1) := dk_29 (dk_at dksX3_goThree_7 0 rfl rfl)
theorem dX3_goThree_167 : decode cX3_goThree 167 = .ok (.goto 5, 3) := dk_167 0 5 (dk_at dksX3_goThree_7 1 rfl rfl)
theorem dX3_goThree_170 : decode cX3_goThree 170 = .ok (.iload 13, 2) := dk_21 13 (dk_at dksX3_goThree_7 4 rfl rfl)
theorem dX3_goThree_172 : decode cX3_goThree 172 = .ok (.iload 7, 2) := dk_21 7 (dk_at dksX3_goThree_7 6 rfl rfl)
theorem dX3_goThree_174 : decode cX3_goThree 174 = .ok (.invokevirtual 288, 3) := dk_182 1 32 (dk_at dksX3_goThree_7 8 rfl rfl)
theorem dX3_goThree_177 : decode cX3_goThree 177 = .ok (.ladd, 1) := dk_97 (dk_at dksX3_goThree_7 11 rfl rfl)
theorem dX3_goThree_178 : decode cX3_goThree 178 = .ok (.lmul, 1) := dk_105 (dk_at dksX3_goThree_7 12 rfl rfl)
theorem dX3_goThree_179 : decode cX3_goThree 179 = .ok (.ladd, 1) := dk_97 (dk_at dksX3_goThree_7 13 rfl rfl)
theorem dX3_goThree_180 : decode cX3_goThree 180 = .ok (.lstore 10, 2) := dk_55 10 (dk_at dksX3_goThree_7 14 rfl rfl)
theorem dX3_goThree_182 : decode cX3_goThree 182 = .ok (.iinc 12 1, 3) := dk_132 12 1 (dk_at dksX3_goThree_7 16 rfl rfl)
theorem dX3_goThree_185 : decode cX3_goThree 185 = .ok (.goto (-100), 3) := dk_167 255 156 (dk_at dksX3_goThree_7 19 rfl rfl)
theorem dX3_goThree_188 : decode cX3_goThree 188 = .ok (.lload 10, 2) := dk_22 10 (dk_at dksX3_goThree_7 22 rfl rfl)
theorem dX3_goThree_190 : decode cX3_goThree 190 = .ok (.lreturn, 1) := dk_173 (dk_at dksX3_goThree_8 0 rfl rfl)
abbrev cX3_two : ByteArray := prog_12_method_62_code
def yX3_two : MethodName := ⟨RX3, "two", "(IIII)J"⟩
def dkwX3_two_2 : List UInt8 := [22, 8, 167, 0, 5, 22, 5, 55, 5, 132, 7, 1, 167, 255, 202, 22, 5, 173]
abbrev dktX3_two_2 : List UInt8 := dkwX3_two_2 ++ []
def dkwX3_two_1 : List UInt8 := [27, 28, 29, 21, 4, 21, 7, 182, 1, 28, 167, 0, 4, 9, 55, 8, 22, 8, 22, 5, 148, 158, 0, 8]
abbrev dktX3_two_1 : List UInt8 := dkwX3_two_1 ++ dktX3_two_2
def dkwX3_two_0 : List UInt8 := [9, 55, 5, 3, 54, 7, 21, 7, 16, 6, 162, 0, 53, 21, 4, 21, 7, 184, 0, 85, 153, 0, 17, 42]
abbrev dktX3_two_0 : List UInt8 := dkwX3_two_0 ++ dktX3_two_1
theorem dksX3_two_0 : cX3_two.data.toList.drop 0 = dktX3_two_0 := by decide +kernel
theorem dksX3_two_1 : cX3_two.data.toList.drop 24 = dktX3_two_1 := dk_seg dksX3_two_0 24 rfl rfl
theorem dksX3_two_2 : cX3_two.data.toList.drop 48 = dktX3_two_2 := dk_seg dksX3_two_1 24 rfl rfl
theorem dX3_two_0 : decode cX3_two 0 = .ok (.lconst 0, 1) := dk_9 (dk_at dksX3_two_0 0 rfl rfl)
theorem dX3_two_1 : decode cX3_two 1 = .ok (.lstore 5, 2) := dk_55 5 (dk_at dksX3_two_0 1 rfl rfl)
theorem dX3_two_3 : decode cX3_two 3 = .ok (.iconst 0, 1) := dk_3 (dk_at dksX3_two_0 3 rfl rfl)
theorem dX3_two_4 : decode cX3_two 4 = .ok (.istore 7, 2) := dk_54 7 (dk_at dksX3_two_0 4 rfl rfl)
theorem dX3_two_6 : decode cX3_two 6 = .ok (.iload 7, 2) := dk_21 7 (dk_at dksX3_two_0 6 rfl rfl)
theorem dX3_two_8 : decode cX3_two 8 = .ok (.bipush 6, 2) := dk_16 6 (dk_at dksX3_two_0 8 rfl rfl)
theorem dX3_two_10 : decode cX3_two 10 = .ok (.if_icmp .ge 53, 3) := dk_162 0 53 (dk_at dksX3_two_0 10 rfl rfl)
theorem dX3_two_13 : decode cX3_two 13 = .ok (.iload 4, 2) := dk_21 4 (dk_at dksX3_two_0 13 rfl rfl)
theorem dX3_two_15 : decode cX3_two 15 = .ok (.iload 7, 2) := dk_21 7 (dk_at dksX3_two_0 15 rfl rfl)
theorem dX3_two_17 : decode cX3_two 17 = .ok (.invokestatic 85, 3) := dk_184 0 85 (dk_at dksX3_two_0 17 rfl rfl)
theorem dX3_two_20 : decode cX3_two 20 = .ok (.ifCond .eq 17, 3) := dk_153 0 17 (dk_at dksX3_two_0 20 rfl rfl)
theorem dX3_two_23 : decode cX3_two 23 = .ok (.aload_n 0, 1) := dk_42 (dk_at dksX3_two_0 23 rfl rfl)
theorem dX3_two_24 : decode cX3_two 24 = .ok (.iload_n 1, 1) := dk_27 (dk_at dksX3_two_1 0 rfl rfl)
theorem dX3_two_25 : decode cX3_two 25 = .ok (.iload_n 2, 1) := dk_28 (dk_at dksX3_two_1 1 rfl rfl)
theorem dX3_two_26 : decode cX3_two 26 = .ok (.iload_n 3, 1) := dk_29 (dk_at dksX3_two_1 2 rfl rfl)
theorem dX3_two_27 : decode cX3_two 27 = .ok (.iload 4, 2) := dk_21 4 (dk_at dksX3_two_1 3 rfl rfl)
theorem dX3_two_29 : decode cX3_two 29 = .ok (.iload 7, 2) := dk_21 7 (dk_at dksX3_two_1 5 rfl rfl)
theorem dX3_two_31 : decode cX3_two 31 = .ok (.invokevirtual 284, 3) := dk_182 1 28 (dk_at dksX3_two_1 7 rfl rfl)
theorem dX3_two_34 : decode cX3_two 34 = .ok (.goto 4, 3) := dk_167 0 4 (dk_at dksX3_two_1 10 rfl rfl)
theorem dX3_two_37 : decode cX3_two 37 = .ok (.lconst 0, 1) := dk_9 (dk_at dksX3_two_1 13 rfl rfl)
theorem dX3_two_38 : decode cX3_two 38 = .ok (.lstore 8, 2) := dk_55 8 (dk_at dksX3_two_1 14 rfl rfl)
theorem dX3_two_40 : decode cX3_two 40 = .ok (.lload 8, 2) := dk_22 8 (dk_at dksX3_two_1 16 rfl rfl)
theorem dX3_two_42 : decode cX3_two 42 = .ok (.lload 5, 2) := dk_22 5 (dk_at dksX3_two_1 18 rfl rfl)
theorem dX3_two_44 : decode cX3_two 44 = .ok (.lcmp, 1) := dk_148 (dk_at dksX3_two_1 20 rfl rfl)
theorem dX3_two_45 : decode cX3_two 45 = .ok (.ifCond .le 8, 3) := dk_158 0 8 (dk_at dksX3_two_1 21 rfl rfl)
theorem dX3_two_48 : decode cX3_two 48 = .ok (.lload 8, 2) := dk_22 8 (dk_at dksX3_two_2 0 rfl rfl)
theorem dX3_two_50 : decode cX3_two 50 = .ok (.goto 5, 3) := dk_167 0 5 (dk_at dksX3_two_2 2 rfl rfl)
theorem dX3_two_53 : decode cX3_two 53 = .ok (.lload 5, 2) := dk_22 5 (dk_at dksX3_two_2 5 rfl rfl)
theorem dX3_two_55 : decode cX3_two 55 = .ok (.lstore 5, 2) := dk_55 5 (dk_at dksX3_two_2 7 rfl rfl)
theorem dX3_two_57 : decode cX3_two 57 = .ok (.iinc 7 1, 3) := dk_132 7 1 (dk_at dksX3_two_2 9 rfl rfl)
theorem dX3_two_60 : decode cX3_two 60 = .ok (.goto (-54), 3) := dk_167 255 202 (dk_at dksX3_two_2 12 rfl rfl)
theorem dX3_two_63 : decode cX3_two 63 = .ok (.lload 5, 2) := dk_22 5 (dk_at dksX3_two_2 15 rfl rfl)
theorem dX3_two_65 : decode cX3_two 65 = .ok (.lreturn, 1) := dk_173 (dk_at dksX3_two_2 17 rfl rfl)
abbrev cX3_goTwo : ByteArray := prog_12_method_61_code
def yX3_goTwo : MethodName := ⟨RX3, "goTwo", "(IIIII)J"⟩
def dkwX3_goTwo_8 : List UInt8 := [173]
abbrev dktX3_goTwo_8 : List UInt8 := dkwX3_goTwo_8 ++ []
def dkwX3_goTwo_7 : List UInt8 := [29, 167, 0, 5, 21, 13, 21, 7, 182, 1, 20, 97, 105, 97, 55, 10, 132, 12, 1, 167, 255, 156, 22, 10]
abbrev dktX3_goTwo_7 : List UInt8 := dkwX3_goTwo_7 ++ dktX3_goTwo_8
def dkwX3_goTwo_6 : List UInt8 := [16, 6, 21, 5, 104, 46, 42, 21, 6, 21, 5, 21, 12, 21, 13, 182, 1, 24, 21, 13, 2, 160, 0, 7]
abbrev dktX3_goTwo_6 : List UInt8 := dkwX3_goTwo_6 ++ dktX3_goTwo_7
def dkwX3_goTwo_5 : List UInt8 := [104, 7, 21, 12, 104, 96, 46, 133, 42, 21, 5, 21, 13, 182, 1, 13, 22, 8, 105, 42, 42, 180, 0, 35]
abbrev dktX3_goTwo_5 : List UInt8 := dkwX3_goTwo_5 ++ dktX3_goTwo_6
def dkwX3_goTwo_4 : List UInt8 := [162, 0, 94, 42, 29, 21, 5, 21, 12, 182, 0, 168, 54, 13, 22, 10, 42, 180, 0, 41, 16, 16, 21, 5]
abbrev dktX3_goTwo_4 : List UInt8 := dkwX3_goTwo_4 ++ dktX3_goTwo_5
def dkwX3_goTwo_3 : List UInt8 := [21, 7, 182, 1, 20, 97, 105, 173, 9, 55, 10, 3, 54, 12, 21, 12, 42, 180, 0, 38, 21, 5, 46]
abbrev dktX3_goTwo_3 : List UInt8 := dkwX3_goTwo_3 ++ dktX3_goTwo_4
def dkwX3_goTwo_2 : List UInt8 := [21, 5, 2, 182, 1, 13, 22, 8, 105, 42, 42, 180, 0, 35, 16, 6, 21, 5, 104, 46, 21, 6, 29]
abbrev dktX3_goTwo_2 : List UInt8 := dkwX3_goTwo_2 ++ dktX3_goTwo_3
def dkwX3_goTwo_1 : List UInt8 := [182, 1, 17, 55, 8, 42, 21, 6, 21, 5, 182, 1, 10, 153, 0, 42, 42, 21, 5, 182, 0, 182, 133, 42]
abbrev dktX3_goTwo_1 : List UInt8 := dkwX3_goTwo_1 ++ dktX3_goTwo_2
def dkwX3_goTwo_0 : List UInt8 := [42, 27, 28, 21, 5, 182, 1, 7, 54, 6, 21, 4, 4, 21, 5, 120, 2, 130, 126, 54, 7, 42, 21, 7]
abbrev dktX3_goTwo_0 : List UInt8 := dkwX3_goTwo_0 ++ dktX3_goTwo_1
theorem dksX3_goTwo_0 : cX3_goTwo.data.toList.drop 0 = dktX3_goTwo_0 := by decide +kernel
theorem dksX3_goTwo_1 : cX3_goTwo.data.toList.drop 24 = dktX3_goTwo_1 := dk_seg dksX3_goTwo_0 24 rfl rfl
theorem dksX3_goTwo_2 : cX3_goTwo.data.toList.drop 48 = dktX3_goTwo_2 := dk_seg dksX3_goTwo_1 24 rfl rfl
theorem dksX3_goTwo_3 : cX3_goTwo.data.toList.drop 71 = dktX3_goTwo_3 := dk_seg dksX3_goTwo_2 23 rfl rfl
theorem dksX3_goTwo_4 : cX3_goTwo.data.toList.drop 94 = dktX3_goTwo_4 := dk_seg dksX3_goTwo_3 23 rfl rfl
theorem dksX3_goTwo_5 : cX3_goTwo.data.toList.drop 118 = dktX3_goTwo_5 := dk_seg dksX3_goTwo_4 24 rfl rfl
theorem dksX3_goTwo_6 : cX3_goTwo.data.toList.drop 142 = dktX3_goTwo_6 := dk_seg dksX3_goTwo_5 24 rfl rfl
theorem dksX3_goTwo_7 : cX3_goTwo.data.toList.drop 166 = dktX3_goTwo_7 := dk_seg dksX3_goTwo_6 24 rfl rfl
theorem dksX3_goTwo_8 : cX3_goTwo.data.toList.drop 190 = dktX3_goTwo_8 := dk_seg dksX3_goTwo_7 24 rfl rfl
theorem dX3_goTwo_0 : decode cX3_goTwo 0 = .ok (.aload_n 0, 1) := dk_42 (dk_at dksX3_goTwo_0 0 rfl rfl)
theorem dX3_goTwo_1 : decode cX3_goTwo 1 = .ok (.iload_n 1, 1) := dk_27 (dk_at dksX3_goTwo_0 1 rfl rfl)
theorem dX3_goTwo_2 : decode cX3_goTwo 2 = .ok (.iload_n 2, 1) := dk_28 (dk_at dksX3_goTwo_0 2 rfl rfl)
theorem dX3_goTwo_3 : decode cX3_goTwo 3 = .ok (.iload 5, 2) := dk_21 5 (dk_at dksX3_goTwo_0 3 rfl rfl)
theorem dX3_goTwo_5 : decode cX3_goTwo 5 = .ok (.invokevirtual 263, 3) := dk_182 1 7 (dk_at dksX3_goTwo_0 5 rfl rfl)
theorem dX3_goTwo_8 : decode cX3_goTwo 8 = .ok (.istore 6, 2) := dk_54 6 (dk_at dksX3_goTwo_0 8 rfl rfl)
theorem dX3_goTwo_10 : decode cX3_goTwo 10 = .ok (.iload 4, 2) := dk_21 4 (dk_at dksX3_goTwo_0 10 rfl rfl)
theorem dX3_goTwo_12 : decode cX3_goTwo 12 = .ok (.iconst 1, 1) := dk_4 (dk_at dksX3_goTwo_0 12 rfl rfl)
theorem dX3_goTwo_13 : decode cX3_goTwo 13 = .ok (.iload 5, 2) := dk_21 5 (dk_at dksX3_goTwo_0 13 rfl rfl)
theorem dX3_goTwo_15 : decode cX3_goTwo 15 = .ok (.ishl, 1) := dk_120 (dk_at dksX3_goTwo_0 15 rfl rfl)
theorem dX3_goTwo_16 : decode cX3_goTwo 16 = .ok (.iconst (-1), 1) := dk_2 (dk_at dksX3_goTwo_0 16 rfl rfl)
theorem dX3_goTwo_17 : decode cX3_goTwo 17 = .ok (.ixor, 1) := dk_130 (dk_at dksX3_goTwo_0 17 rfl rfl)
theorem dX3_goTwo_18 : decode cX3_goTwo 18 = .ok (.iand, 1) := dk_126 (dk_at dksX3_goTwo_0 18 rfl rfl)
theorem dX3_goTwo_19 : decode cX3_goTwo 19 = .ok (.istore 7, 2) := dk_54 7 (dk_at dksX3_goTwo_0 19 rfl rfl)
theorem dX3_goTwo_21 : decode cX3_goTwo 21 = .ok (.aload_n 0, 1) := dk_42 (dk_at dksX3_goTwo_0 21 rfl rfl)
theorem dX3_goTwo_22 : decode cX3_goTwo 22 = .ok (.iload 7, 2) := dk_21 7 (dk_at dksX3_goTwo_0 22 rfl rfl)
theorem dX3_goTwo_24 : decode cX3_goTwo 24 = .ok (.invokevirtual 273, 3) := dk_182 1 17 (dk_at dksX3_goTwo_1 0 rfl rfl)
theorem dX3_goTwo_27 : decode cX3_goTwo 27 = .ok (.lstore 8, 2) := dk_55 8 (dk_at dksX3_goTwo_1 3 rfl rfl)
theorem dX3_goTwo_29 : decode cX3_goTwo 29 = .ok (.aload_n 0, 1) := dk_42 (dk_at dksX3_goTwo_1 5 rfl rfl)
theorem dX3_goTwo_30 : decode cX3_goTwo 30 = .ok (.iload 6, 2) := dk_21 6 (dk_at dksX3_goTwo_1 6 rfl rfl)
theorem dX3_goTwo_32 : decode cX3_goTwo 32 = .ok (.iload 5, 2) := dk_21 5 (dk_at dksX3_goTwo_1 8 rfl rfl)
theorem dX3_goTwo_34 : decode cX3_goTwo 34 = .ok (.invokevirtual 266, 3) := dk_182 1 10 (dk_at dksX3_goTwo_1 10 rfl rfl)
theorem dX3_goTwo_37 : decode cX3_goTwo 37 = .ok (.ifCond .eq 42, 3) := dk_153 0 42 (dk_at dksX3_goTwo_1 13 rfl rfl)
theorem dX3_goTwo_40 : decode cX3_goTwo 40 = .ok (.aload_n 0, 1) := dk_42 (dk_at dksX3_goTwo_1 16 rfl rfl)
theorem dX3_goTwo_41 : decode cX3_goTwo 41 = .ok (.iload 5, 2) := dk_21 5 (dk_at dksX3_goTwo_1 17 rfl rfl)
theorem dX3_goTwo_43 : decode cX3_goTwo 43 = .ok (.invokevirtual 182, 3) := dk_182 0 182 (dk_at dksX3_goTwo_1 19 rfl rfl)
theorem dX3_goTwo_46 : decode cX3_goTwo 46 = .ok (.i2l, 1) := dk_133 (dk_at dksX3_goTwo_1 22 rfl rfl)
theorem dX3_goTwo_47 : decode cX3_goTwo 47 = .ok (.aload_n 0, 1) := dk_42 (dk_at dksX3_goTwo_1 23 rfl rfl)
theorem dX3_goTwo_48 : decode cX3_goTwo 48 = .ok (.iload 5, 2) := dk_21 5 (dk_at dksX3_goTwo_2 0 rfl rfl)
theorem dX3_goTwo_50 : decode cX3_goTwo 50 = .ok (.iconst (-1), 1) := dk_2 (dk_at dksX3_goTwo_2 2 rfl rfl)
theorem dX3_goTwo_51 : decode cX3_goTwo 51 = .ok (.invokevirtual 269, 3) := dk_182 1 13 (dk_at dksX3_goTwo_2 3 rfl rfl)
theorem dX3_goTwo_54 : decode cX3_goTwo 54 = .ok (.lload 8, 2) := dk_22 8 (dk_at dksX3_goTwo_2 6 rfl rfl)
theorem dX3_goTwo_56 : decode cX3_goTwo 56 = .ok (.lmul, 1) := dk_105 (dk_at dksX3_goTwo_2 8 rfl rfl)
theorem dX3_goTwo_57 : decode cX3_goTwo 57 = .ok (.aload_n 0, 1) := dk_42 (dk_at dksX3_goTwo_2 9 rfl rfl)
theorem dX3_goTwo_58 : decode cX3_goTwo 58 = .ok (.aload_n 0, 1) := dk_42 (dk_at dksX3_goTwo_2 10 rfl rfl)
theorem dX3_goTwo_59 : decode cX3_goTwo 59 = .ok (.getfield 35, 3) := dk_180 0 35 (dk_at dksX3_goTwo_2 11 rfl rfl)
theorem dX3_goTwo_62 : decode cX3_goTwo 62 = .ok (.bipush 6, 2) := dk_16 6 (dk_at dksX3_goTwo_2 14 rfl rfl)
theorem dX3_goTwo_64 : decode cX3_goTwo 64 = .ok (.iload 5, 2) := dk_21 5 (dk_at dksX3_goTwo_2 16 rfl rfl)
theorem dX3_goTwo_66 : decode cX3_goTwo 66 = .ok (.imul, 1) := dk_104 (dk_at dksX3_goTwo_2 18 rfl rfl)
theorem dX3_goTwo_67 : decode cX3_goTwo 67 = .ok (.iaload, 1) := dk_46 (dk_at dksX3_goTwo_2 19 rfl rfl)
theorem dX3_goTwo_68 : decode cX3_goTwo 68 = .ok (.iload 6, 2) := dk_21 6 (dk_at dksX3_goTwo_2 20 rfl rfl)
theorem dX3_goTwo_70 : decode cX3_goTwo 70 = .ok (.iload_n 3, 1) := dk_29 (dk_at dksX3_goTwo_2 22 rfl rfl)
theorem dX3_goTwo_71 : decode cX3_goTwo 71 = .ok (.iload 7, 2) := dk_21 7 (dk_at dksX3_goTwo_3 0 rfl rfl)
theorem dX3_goTwo_73 : decode cX3_goTwo 73 = .ok (.invokevirtual 276, 3) := dk_182 1 20 (dk_at dksX3_goTwo_3 2 rfl rfl)
theorem dX3_goTwo_76 : decode cX3_goTwo 76 = .ok (.ladd, 1) := dk_97 (dk_at dksX3_goTwo_3 5 rfl rfl)
theorem dX3_goTwo_77 : decode cX3_goTwo 77 = .ok (.lmul, 1) := dk_105 (dk_at dksX3_goTwo_3 6 rfl rfl)
theorem dX3_goTwo_78 : decode cX3_goTwo 78 = .ok (.lreturn, 1) := dk_173 (dk_at dksX3_goTwo_3 7 rfl rfl)
theorem dX3_goTwo_79 : decode cX3_goTwo 79 = .ok (.lconst 0, 1) := dk_9 (dk_at dksX3_goTwo_3 8 rfl rfl)
theorem dX3_goTwo_80 : decode cX3_goTwo 80 = .ok (.lstore 10, 2) := dk_55 10 (dk_at dksX3_goTwo_3 9 rfl rfl)
theorem dX3_goTwo_82 : decode cX3_goTwo 82 = .ok (.iconst 0, 1) := dk_3 (dk_at dksX3_goTwo_3 11 rfl rfl)
theorem dX3_goTwo_83 : decode cX3_goTwo 83 = .ok (.istore 12, 2) := dk_54 12 (dk_at dksX3_goTwo_3 12 rfl rfl)
theorem dX3_goTwo_85 : decode cX3_goTwo 85 = .ok (.iload 12, 2) := dk_21 12 (dk_at dksX3_goTwo_3 14 rfl rfl)
theorem dX3_goTwo_87 : decode cX3_goTwo 87 = .ok (.aload_n 0, 1) := dk_42 (dk_at dksX3_goTwo_3 16 rfl rfl)
theorem dX3_goTwo_88 : decode cX3_goTwo 88 = .ok (.getfield 38, 3) := dk_180 0 38 (dk_at dksX3_goTwo_3 17 rfl rfl)
theorem dX3_goTwo_91 : decode cX3_goTwo 91 = .ok (.iload 5, 2) := dk_21 5 (dk_at dksX3_goTwo_3 20 rfl rfl)
theorem dX3_goTwo_93 : decode cX3_goTwo 93 = .ok (.iaload, 1) := dk_46 (dk_at dksX3_goTwo_3 22 rfl rfl)
theorem dX3_goTwo_94 : decode cX3_goTwo 94 = .ok (.if_icmp .ge 94, 3) := dk_162 0 94 (dk_at dksX3_goTwo_4 0 rfl rfl)
theorem dX3_goTwo_97 : decode cX3_goTwo 97 = .ok (.aload_n 0, 1) := dk_42 (dk_at dksX3_goTwo_4 3 rfl rfl)
theorem dX3_goTwo_98 : decode cX3_goTwo 98 = .ok (.iload_n 3, 1) := dk_29 (dk_at dksX3_goTwo_4 4 rfl rfl)
theorem dX3_goTwo_99 : decode cX3_goTwo 99 = .ok (.iload 5, 2) := dk_21 5 (dk_at dksX3_goTwo_4 5 rfl rfl)
theorem dX3_goTwo_101 : decode cX3_goTwo 101 = .ok (.iload 12, 2) := dk_21 12 (dk_at dksX3_goTwo_4 7 rfl rfl)
theorem dX3_goTwo_103 : decode cX3_goTwo 103 = .ok (.invokevirtual 168, 3) := dk_182 0 168 (dk_at dksX3_goTwo_4 9 rfl rfl)
theorem dX3_goTwo_106 : decode cX3_goTwo 106 = .ok (.istore 13, 2) := dk_54 13 (dk_at dksX3_goTwo_4 12 rfl rfl)
theorem dX3_goTwo_108 : decode cX3_goTwo 108 = .ok (.lload 10, 2) := dk_22 10 (dk_at dksX3_goTwo_4 14 rfl rfl)
theorem dX3_goTwo_110 : decode cX3_goTwo 110 = .ok (.aload_n 0, 1) := dk_42 (dk_at dksX3_goTwo_4 16 rfl rfl)
theorem dX3_goTwo_111 : decode cX3_goTwo 111 = .ok (.getfield 41, 3) := dk_180 0 41 (dk_at dksX3_goTwo_4 17 rfl rfl)
theorem dX3_goTwo_114 : decode cX3_goTwo 114 = .ok (.bipush 16, 2) := dk_16 16 (dk_at dksX3_goTwo_4 20 rfl rfl)
theorem dX3_goTwo_116 : decode cX3_goTwo 116 = .ok (.iload 5, 2) := dk_21 5 (dk_at dksX3_goTwo_4 22 rfl rfl)
theorem dX3_goTwo_118 : decode cX3_goTwo 118 = .ok (.imul, 1) := dk_104 (dk_at dksX3_goTwo_5 0 rfl rfl)
theorem dX3_goTwo_119 : decode cX3_goTwo 119 = .ok (.iconst 4, 1) := dk_7 (dk_at dksX3_goTwo_5 1 rfl rfl)
theorem dX3_goTwo_120 : decode cX3_goTwo 120 = .ok (.iload 12, 2) := dk_21 12 (dk_at dksX3_goTwo_5 2 rfl rfl)
theorem dX3_goTwo_122 : decode cX3_goTwo 122 = .ok (.imul, 1) := dk_104 (dk_at dksX3_goTwo_5 4 rfl rfl)
theorem dX3_goTwo_123 : decode cX3_goTwo 123 = .ok (.iadd, 1) := dk_96 (dk_at dksX3_goTwo_5 5 rfl rfl)
theorem dX3_goTwo_124 : decode cX3_goTwo 124 = .ok (.iaload, 1) := dk_46 (dk_at dksX3_goTwo_5 6 rfl rfl)
theorem dX3_goTwo_125 : decode cX3_goTwo 125 = .ok (.i2l, 1) := dk_133 (dk_at dksX3_goTwo_5 7 rfl rfl)
theorem dX3_goTwo_126 : decode cX3_goTwo 126 = .ok (.aload_n 0, 1) := dk_42 (dk_at dksX3_goTwo_5 8 rfl rfl)
theorem dX3_goTwo_127 : decode cX3_goTwo 127 = .ok (.iload 5, 2) := dk_21 5 (dk_at dksX3_goTwo_5 9 rfl rfl)
theorem dX3_goTwo_129 : decode cX3_goTwo 129 = .ok (.iload 13, 2) := dk_21 13 (dk_at dksX3_goTwo_5 11 rfl rfl)
theorem dX3_goTwo_131 : decode cX3_goTwo 131 = .ok (.invokevirtual 269, 3) := dk_182 1 13 (dk_at dksX3_goTwo_5 13 rfl rfl)
theorem dX3_goTwo_134 : decode cX3_goTwo 134 = .ok (.lload 8, 2) := dk_22 8 (dk_at dksX3_goTwo_5 16 rfl rfl)
theorem dX3_goTwo_136 : decode cX3_goTwo 136 = .ok (.lmul, 1) := dk_105 (dk_at dksX3_goTwo_5 18 rfl rfl)
theorem dX3_goTwo_137 : decode cX3_goTwo 137 = .ok (.aload_n 0, 1) := dk_42 (dk_at dksX3_goTwo_5 19 rfl rfl)
theorem dX3_goTwo_138 : decode cX3_goTwo 138 = .ok (.aload_n 0, 1) := dk_42 (dk_at dksX3_goTwo_5 20 rfl rfl)
theorem dX3_goTwo_139 : decode cX3_goTwo 139 = .ok (.getfield 35, 3) := dk_180 0 35 (dk_at dksX3_goTwo_5 21 rfl rfl)
theorem dX3_goTwo_142 : decode cX3_goTwo 142 = .ok (.bipush 6, 2) := dk_16 6 (dk_at dksX3_goTwo_6 0 rfl rfl)
theorem dX3_goTwo_144 : decode cX3_goTwo 144 = .ok (.iload 5, 2) := dk_21 5 (dk_at dksX3_goTwo_6 2 rfl rfl)
theorem dX3_goTwo_146 : decode cX3_goTwo 146 = .ok (.imul, 1) := dk_104 (dk_at dksX3_goTwo_6 4 rfl rfl)
theorem dX3_goTwo_147 : decode cX3_goTwo 147 = .ok (.iaload, 1) := dk_46 (dk_at dksX3_goTwo_6 5 rfl rfl)
theorem dX3_goTwo_148 : decode cX3_goTwo 148 = .ok (.aload_n 0, 1) := dk_42 (dk_at dksX3_goTwo_6 6 rfl rfl)
theorem dX3_goTwo_149 : decode cX3_goTwo 149 = .ok (.iload 6, 2) := dk_21 6 (dk_at dksX3_goTwo_6 7 rfl rfl)
theorem dX3_goTwo_151 : decode cX3_goTwo 151 = .ok (.iload 5, 2) := dk_21 5 (dk_at dksX3_goTwo_6 9 rfl rfl)
theorem dX3_goTwo_153 : decode cX3_goTwo 153 = .ok (.iload 12, 2) := dk_21 12 (dk_at dksX3_goTwo_6 11 rfl rfl)
theorem dX3_goTwo_155 : decode cX3_goTwo 155 = .ok (.iload 13, 2) := dk_21 13 (dk_at dksX3_goTwo_6 13 rfl rfl)
theorem dX3_goTwo_157 : decode cX3_goTwo 157 = .ok (.invokevirtual 280, 3) := dk_182 1 24 (dk_at dksX3_goTwo_6 15 rfl rfl)
theorem dX3_goTwo_160 : decode cX3_goTwo 160 = .ok (.iload 13, 2) := dk_21 13 (dk_at dksX3_goTwo_6 18 rfl rfl)
theorem dX3_goTwo_162 : decode cX3_goTwo 162 = .ok (.iconst (-1), 1) := dk_2 (dk_at dksX3_goTwo_6 20 rfl rfl)
theorem dX3_goTwo_163 : decode cX3_goTwo 163 = .ok (.if_icmp .ne 7, 3) := dk_160 0 7 (dk_at dksX3_goTwo_6 21 rfl rfl)
theorem dX3_goTwo_166 : decode cX3_goTwo 166 = .ok (.iload_n 3, 1) := dk_29 (dk_at dksX3_goTwo_7 0 rfl rfl)
theorem dX3_goTwo_167 : decode cX3_goTwo 167 = .ok (.goto 5, 3) := dk_167 0 5 (dk_at dksX3_goTwo_7 1 rfl rfl)
theorem dX3_goTwo_170 : decode cX3_goTwo 170 = .ok (.iload 13, 2) := dk_21 13 (dk_at dksX3_goTwo_7 4 rfl rfl)
theorem dX3_goTwo_172 : decode cX3_goTwo 172 = .ok (.iload 7, 2) := dk_21 7 (dk_at dksX3_goTwo_7 6 rfl rfl)
theorem dX3_goTwo_174 : decode cX3_goTwo 174 = .ok (.invokevirtual 276, 3) := dk_182 1 20 (dk_at dksX3_goTwo_7 8 rfl rfl)
theorem dX3_goTwo_177 : decode cX3_goTwo 177 = .ok (.ladd, 1) := dk_97 (dk_at dksX3_goTwo_7 11 rfl rfl)
theorem dX3_goTwo_178 : decode cX3_goTwo 178 = .ok (.lmul, 1) := dk_105 (dk_at dksX3_goTwo_7 12 rfl rfl)
theorem dX3_goTwo_179 : decode cX3_goTwo 179 = .ok (.ladd, 1) := dk_97 (dk_at dksX3_goTwo_7 13 rfl rfl)
theorem dX3_goTwo_180 : decode cX3_goTwo 180 = .ok (.lstore 10, 2) := dk_55 10 (dk_at dksX3_goTwo_7 14 rfl rfl)
theorem dX3_goTwo_182 : decode cX3_goTwo 182 = .ok (.iinc 12 1, 3) := dk_132 12 1 (dk_at dksX3_goTwo_7 16 rfl rfl)
theorem dX3_goTwo_185 : decode cX3_goTwo 185 = .ok (.goto (-100), 3) := dk_167 255 156 (dk_at dksX3_goTwo_7 19 rfl rfl)
theorem dX3_goTwo_188 : decode cX3_goTwo 188 = .ok (.lload 10, 2) := dk_22 10 (dk_at dksX3_goTwo_7 22 rfl rfl)
theorem dX3_goTwo_190 : decode cX3_goTwo 190 = .ok (.lreturn, 1) := dk_173 (dk_at dksX3_goTwo_8 0 rfl rfl)
abbrev cX3_one : ByteArray := prog_12_method_60_code
def yX3_one : MethodName := ⟨RX3, "one", "(IIII)J"⟩
def dkwX3_one_6 : List UInt8 := [22, 9, 167, 0, 5, 22, 5, 55, 5, 132, 7, 1, 167, 255, 108, 22, 5, 173]
abbrev dktX3_one_6 : List UInt8 := dkwX3_one_6 ++ []
def dkwX3_one_5 : List UInt8 := [182, 0, 168, 182, 1, 13, 105, 97, 55, 9, 132, 11, 1, 167, 255, 193, 22, 9, 22, 5, 148, 158, 0, 8]
abbrev dktX3_one_5 : List UInt8 := dkwX3_one_5 ++ dktX3_one_6
def dkwX3_one_4 : List UInt8 := [180, 0, 41, 16, 16, 21, 7, 104, 7, 21, 11, 104, 96, 46, 133, 42, 21, 7, 42, 29, 21, 7, 21, 11]
abbrev dktX3_one_4 : List UInt8 := dkwX3_one_4 ++ dktX3_one_5
def dkwX3_one_3 : List UInt8 := [180, 0, 38, 21, 7, 46, 162, 0, 57, 42, 21, 8, 21, 7, 182, 1, 10, 154, 0, 46, 22, 9, 42]
abbrev dktX3_one_3 : List UInt8 := dkwX3_one_3 ++ dktX3_one_4
def dkwX3_one_2 : List UInt8 := [182, 0, 182, 133, 42, 21, 7, 2, 182, 1, 13, 105, 167, 0, 4, 9, 55, 9, 3, 54, 11, 21, 11, 42]
abbrev dktX3_one_2 : List UInt8 := dkwX3_one_2 ++ dktX3_one_3
def dkwX3_one_1 : List UInt8 := [27, 28, 21, 7, 182, 1, 7, 54, 8, 42, 21, 8, 21, 7, 182, 1, 10, 153, 0, 21, 42, 21, 7]
abbrev dktX3_one_1 : List UInt8 := dkwX3_one_1 ++ dktX3_one_2
def dkwX3_one_0 : List UInt8 := [9, 55, 5, 3, 54, 7, 21, 7, 16, 6, 162, 0, 147, 21, 4, 21, 7, 184, 0, 85, 153, 0, 131, 42]
abbrev dktX3_one_0 : List UInt8 := dkwX3_one_0 ++ dktX3_one_1
theorem dksX3_one_0 : cX3_one.data.toList.drop 0 = dktX3_one_0 := by decide +kernel
theorem dksX3_one_1 : cX3_one.data.toList.drop 24 = dktX3_one_1 := dk_seg dksX3_one_0 24 rfl rfl
theorem dksX3_one_2 : cX3_one.data.toList.drop 47 = dktX3_one_2 := dk_seg dksX3_one_1 23 rfl rfl
theorem dksX3_one_3 : cX3_one.data.toList.drop 71 = dktX3_one_3 := dk_seg dksX3_one_2 24 rfl rfl
theorem dksX3_one_4 : cX3_one.data.toList.drop 94 = dktX3_one_4 := dk_seg dksX3_one_3 23 rfl rfl
theorem dksX3_one_5 : cX3_one.data.toList.drop 118 = dktX3_one_5 := dk_seg dksX3_one_4 24 rfl rfl
theorem dksX3_one_6 : cX3_one.data.toList.drop 142 = dktX3_one_6 := dk_seg dksX3_one_5 24 rfl rfl
theorem dX3_one_0 : decode cX3_one 0 = .ok (.lconst 0, 1) := dk_9 (dk_at dksX3_one_0 0 rfl rfl)
theorem dX3_one_1 : decode cX3_one 1 = .ok (.lstore 5, 2) := dk_55 5 (dk_at dksX3_one_0 1 rfl rfl)
theorem dX3_one_3 : decode cX3_one 3 = .ok (.iconst 0, 1) := dk_3 (dk_at dksX3_one_0 3 rfl rfl)
theorem dX3_one_4 : decode cX3_one 4 = .ok (.istore 7, 2) := dk_54 7 (dk_at dksX3_one_0 4 rfl rfl)
theorem dX3_one_6 : decode cX3_one 6 = .ok (.iload 7, 2) := dk_21 7 (dk_at dksX3_one_0 6 rfl rfl)
theorem dX3_one_8 : decode cX3_one 8 = .ok (.bipush 6, 2) := dk_16 6 (dk_at dksX3_one_0 8 rfl rfl)
theorem dX3_one_10 : decode cX3_one 10 = .ok (.if_icmp .ge 147, 3) := dk_162 0 147 (dk_at dksX3_one_0 10 rfl rfl)
theorem dX3_one_13 : decode cX3_one 13 = .ok (.iload 4, 2) := dk_21 4 (dk_at dksX3_one_0 13 rfl rfl)
theorem dX3_one_15 : decode cX3_one 15 = .ok (.iload 7, 2) := dk_21 7 (dk_at dksX3_one_0 15 rfl rfl)
theorem dX3_one_17 : decode cX3_one 17 = .ok (.invokestatic 85, 3) := dk_184 0 85 (dk_at dksX3_one_0 17 rfl rfl)
theorem dX3_one_20 : decode cX3_one 20 = .ok (.ifCond .eq 131, 3) := dk_153 0 131 (dk_at dksX3_one_0 20 rfl rfl)
theorem dX3_one_23 : decode cX3_one 23 = .ok (.aload_n 0, 1) := dk_42 (dk_at dksX3_one_0 23 rfl rfl)
theorem dX3_one_24 : decode cX3_one 24 = .ok (.iload_n 1, 1) := dk_27 (dk_at dksX3_one_1 0 rfl rfl)
theorem dX3_one_25 : decode cX3_one 25 = .ok (.iload_n 2, 1) := dk_28 (dk_at dksX3_one_1 1 rfl rfl)
theorem dX3_one_26 : decode cX3_one 26 = .ok (.iload 7, 2) := dk_21 7 (dk_at dksX3_one_1 2 rfl rfl)
theorem dX3_one_28 : decode cX3_one 28 = .ok (.invokevirtual 263, 3) := dk_182 1 7 (dk_at dksX3_one_1 4 rfl rfl)
theorem dX3_one_31 : decode cX3_one 31 = .ok (.istore 8, 2) := dk_54 8 (dk_at dksX3_one_1 7 rfl rfl)
theorem dX3_one_33 : decode cX3_one 33 = .ok (.aload_n 0, 1) := dk_42 (dk_at dksX3_one_1 9 rfl rfl)
theorem dX3_one_34 : decode cX3_one 34 = .ok (.iload 8, 2) := dk_21 8 (dk_at dksX3_one_1 10 rfl rfl)
theorem dX3_one_36 : decode cX3_one 36 = .ok (.iload 7, 2) := dk_21 7 (dk_at dksX3_one_1 12 rfl rfl)
theorem dX3_one_38 : decode cX3_one 38 = .ok (.invokevirtual 266, 3) := dk_182 1 10 (dk_at dksX3_one_1 14 rfl rfl)
theorem dX3_one_41 : decode cX3_one 41 = .ok (.ifCond .eq 21, 3) := dk_153 0 21 (dk_at dksX3_one_1 17 rfl rfl)
theorem dX3_one_44 : decode cX3_one 44 = .ok (.aload_n 0, 1) := dk_42 (dk_at dksX3_one_1 20 rfl rfl)
theorem dX3_one_45 : decode cX3_one 45 = .ok (.iload 7, 2) := dk_21 7 (dk_at dksX3_one_1 21 rfl rfl)
theorem dX3_one_47 : decode cX3_one 47 = .ok (.invokevirtual 182, 3) := dk_182 0 182 (dk_at dksX3_one_2 0 rfl rfl)
theorem dX3_one_50 : decode cX3_one 50 = .ok (.i2l, 1) := dk_133 (dk_at dksX3_one_2 3 rfl rfl)
theorem dX3_one_51 : decode cX3_one 51 = .ok (.aload_n 0, 1) := dk_42 (dk_at dksX3_one_2 4 rfl rfl)
theorem dX3_one_52 : decode cX3_one 52 = .ok (.iload 7, 2) := dk_21 7 (dk_at dksX3_one_2 5 rfl rfl)
theorem dX3_one_54 : decode cX3_one 54 = .ok (.iconst (-1), 1) := dk_2 (dk_at dksX3_one_2 7 rfl rfl)
theorem dX3_one_55 : decode cX3_one 55 = .ok (.invokevirtual 269, 3) := dk_182 1 13 (dk_at dksX3_one_2 8 rfl rfl)
theorem dX3_one_58 : decode cX3_one 58 = .ok (.lmul, 1) := dk_105 (dk_at dksX3_one_2 11 rfl rfl)
theorem dX3_one_59 : decode cX3_one 59 = .ok (.goto 4, 3) := dk_167 0 4 (dk_at dksX3_one_2 12 rfl rfl)
theorem dX3_one_62 : decode cX3_one 62 = .ok (.lconst 0, 1) := dk_9 (dk_at dksX3_one_2 15 rfl rfl)
theorem dX3_one_63 : decode cX3_one 63 = .ok (.lstore 9, 2) := dk_55 9 (dk_at dksX3_one_2 16 rfl rfl)
theorem dX3_one_65 : decode cX3_one 65 = .ok (.iconst 0, 1) := dk_3 (dk_at dksX3_one_2 18 rfl rfl)
theorem dX3_one_66 : decode cX3_one 66 = .ok (.istore 11, 2) := dk_54 11 (dk_at dksX3_one_2 19 rfl rfl)
theorem dX3_one_68 : decode cX3_one 68 = .ok (.iload 11, 2) := dk_21 11 (dk_at dksX3_one_2 21 rfl rfl)
theorem dX3_one_70 : decode cX3_one 70 = .ok (.aload_n 0, 1) := dk_42 (dk_at dksX3_one_2 23 rfl rfl)
theorem dX3_one_71 : decode cX3_one 71 = .ok (.getfield 38, 3) := dk_180 0 38 (dk_at dksX3_one_3 0 rfl rfl)
theorem dX3_one_74 : decode cX3_one 74 = .ok (.iload 7, 2) := dk_21 7 (dk_at dksX3_one_3 3 rfl rfl)
theorem dX3_one_76 : decode cX3_one 76 = .ok (.iaload, 1) := dk_46 (dk_at dksX3_one_3 5 rfl rfl)
theorem dX3_one_77 : decode cX3_one 77 = .ok (.if_icmp .ge 57, 3) := dk_162 0 57 (dk_at dksX3_one_3 6 rfl rfl)
theorem dX3_one_80 : decode cX3_one 80 = .ok (.aload_n 0, 1) := dk_42 (dk_at dksX3_one_3 9 rfl rfl)
theorem dX3_one_81 : decode cX3_one 81 = .ok (.iload 8, 2) := dk_21 8 (dk_at dksX3_one_3 10 rfl rfl)
theorem dX3_one_83 : decode cX3_one 83 = .ok (.iload 7, 2) := dk_21 7 (dk_at dksX3_one_3 12 rfl rfl)
theorem dX3_one_85 : decode cX3_one 85 = .ok (.invokevirtual 266, 3) := dk_182 1 10 (dk_at dksX3_one_3 14 rfl rfl)
theorem dX3_one_88 : decode cX3_one 88 = .ok (.ifCond .ne 46, 3) := dk_154 0 46 (dk_at dksX3_one_3 17 rfl rfl)
theorem dX3_one_91 : decode cX3_one 91 = .ok (.lload 9, 2) := dk_22 9 (dk_at dksX3_one_3 20 rfl rfl)
theorem dX3_one_93 : decode cX3_one 93 = .ok (.aload_n 0, 1) := dk_42 (dk_at dksX3_one_3 22 rfl rfl)
theorem dX3_one_94 : decode cX3_one 94 = .ok (.getfield 41, 3) := dk_180 0 41 (dk_at dksX3_one_4 0 rfl rfl)
theorem dX3_one_97 : decode cX3_one 97 = .ok (.bipush 16, 2) := dk_16 16 (dk_at dksX3_one_4 3 rfl rfl)
theorem dX3_one_99 : decode cX3_one 99 = .ok (.iload 7, 2) := dk_21 7 (dk_at dksX3_one_4 5 rfl rfl)
theorem dX3_one_101 : decode cX3_one 101 = .ok (.imul, 1) := dk_104 (dk_at dksX3_one_4 7 rfl rfl)
theorem dX3_one_102 : decode cX3_one 102 = .ok (.iconst 4, 1) := dk_7 (dk_at dksX3_one_4 8 rfl rfl)
theorem dX3_one_103 : decode cX3_one 103 = .ok (.iload 11, 2) := dk_21 11 (dk_at dksX3_one_4 9 rfl rfl)
theorem dX3_one_105 : decode cX3_one 105 = .ok (.imul, 1) := dk_104 (dk_at dksX3_one_4 11 rfl rfl)
theorem dX3_one_106 : decode cX3_one 106 = .ok (.iadd, 1) := dk_96 (dk_at dksX3_one_4 12 rfl rfl)
theorem dX3_one_107 : decode cX3_one 107 = .ok (.iaload, 1) := dk_46 (dk_at dksX3_one_4 13 rfl rfl)
theorem dX3_one_108 : decode cX3_one 108 = .ok (.i2l, 1) := dk_133 (dk_at dksX3_one_4 14 rfl rfl)
theorem dX3_one_109 : decode cX3_one 109 = .ok (.aload_n 0, 1) := dk_42 (dk_at dksX3_one_4 15 rfl rfl)
theorem dX3_one_110 : decode cX3_one 110 = .ok (.iload 7, 2) := dk_21 7 (dk_at dksX3_one_4 16 rfl rfl)
theorem dX3_one_112 : decode cX3_one 112 = .ok (.aload_n 0, 1) := dk_42 (dk_at dksX3_one_4 18 rfl rfl)
theorem dX3_one_113 : decode cX3_one 113 = .ok (.iload_n 3, 1) := dk_29 (dk_at dksX3_one_4 19 rfl rfl)
theorem dX3_one_114 : decode cX3_one 114 = .ok (.iload 7, 2) := dk_21 7 (dk_at dksX3_one_4 20 rfl rfl)
theorem dX3_one_116 : decode cX3_one 116 = .ok (.iload 11, 2) := dk_21 11 (dk_at dksX3_one_4 22 rfl rfl)
theorem dX3_one_118 : decode cX3_one 118 = .ok (.invokevirtual 168, 3) := dk_182 0 168 (dk_at dksX3_one_5 0 rfl rfl)
theorem dX3_one_121 : decode cX3_one 121 = .ok (.invokevirtual 269, 3) := dk_182 1 13 (dk_at dksX3_one_5 3 rfl rfl)
theorem dX3_one_124 : decode cX3_one 124 = .ok (.lmul, 1) := dk_105 (dk_at dksX3_one_5 6 rfl rfl)
theorem dX3_one_125 : decode cX3_one 125 = .ok (.ladd, 1) := dk_97 (dk_at dksX3_one_5 7 rfl rfl)
theorem dX3_one_126 : decode cX3_one 126 = .ok (.lstore 9, 2) := dk_55 9 (dk_at dksX3_one_5 8 rfl rfl)
theorem dX3_one_128 : decode cX3_one 128 = .ok (.iinc 11 1, 3) := dk_132 11 1 (dk_at dksX3_one_5 10 rfl rfl)
theorem dX3_one_131 : decode cX3_one 131 = .ok (.goto (-63), 3) := dk_167 255 193 (dk_at dksX3_one_5 13 rfl rfl)
theorem dX3_one_134 : decode cX3_one 134 = .ok (.lload 9, 2) := dk_22 9 (dk_at dksX3_one_5 16 rfl rfl)
theorem dX3_one_136 : decode cX3_one 136 = .ok (.lload 5, 2) := dk_22 5 (dk_at dksX3_one_5 18 rfl rfl)
theorem dX3_one_138 : decode cX3_one 138 = .ok (.lcmp, 1) := dk_148 (dk_at dksX3_one_5 20 rfl rfl)
theorem dX3_one_139 : decode cX3_one 139 = .ok (.ifCond .le 8, 3) := dk_158 0 8 (dk_at dksX3_one_5 21 rfl rfl)
theorem dX3_one_142 : decode cX3_one 142 = .ok (.lload 9, 2) := dk_22 9 (dk_at dksX3_one_6 0 rfl rfl)
theorem dX3_one_144 : decode cX3_one 144 = .ok (.goto 5, 3) := dk_167 0 5 (dk_at dksX3_one_6 2 rfl rfl)
theorem dX3_one_147 : decode cX3_one 147 = .ok (.lload 5, 2) := dk_22 5 (dk_at dksX3_one_6 5 rfl rfl)
theorem dX3_one_149 : decode cX3_one 149 = .ok (.lstore 5, 2) := dk_55 5 (dk_at dksX3_one_6 7 rfl rfl)
theorem dX3_one_151 : decode cX3_one 151 = .ok (.iinc 7 1, 3) := dk_132 7 1 (dk_at dksX3_one_6 9 rfl rfl)
theorem dX3_one_154 : decode cX3_one 154 = .ok (.goto (-148), 3) := dk_167 255 108 (dk_at dksX3_one_6 12 rfl rfl)
theorem dX3_one_157 : decode cX3_one 157 = .ok (.lload 5, 2) := dk_22 5 (dk_at dksX3_one_6 15 rfl rfl)
theorem dX3_one_159 : decode cX3_one 159 = .ok (.lreturn, 1) := dk_173 (dk_at dksX3_one_6 17 rfl rfl)
abbrev cX3_then : ByteArray := prog_12_method_59_code
def yX3_then : MethodName := ⟨RX3, "then", "(IIII)I"⟩
def dkwX3_then_1 : List UInt8 := [180, 0, 41, 16, 16, 28, 104, 7, 29, 104, 96, 4, 96, 46, 96, 172]
abbrev dktX3_then_1 : List UInt8 := dkwX3_then_1 ++ []
def dkwX3_then_0 : List UInt8 := [27, 21, 4, 2, 160, 0, 17, 42, 180, 0, 35, 16, 6, 28, 104, 8, 96, 46, 167, 0, 18, 42]
abbrev dktX3_then_0 : List UInt8 := dkwX3_then_0 ++ dktX3_then_1
theorem dksX3_then_0 : cX3_then.data.toList.drop 0 = dktX3_then_0 := by decide +kernel
theorem dksX3_then_1 : cX3_then.data.toList.drop 22 = dktX3_then_1 := dk_seg dksX3_then_0 22 rfl rfl
theorem dX3_then_0 : decode cX3_then 0 = .ok (.iload_n 1, 1) := dk_27 (dk_at dksX3_then_0 0 rfl rfl)
theorem dX3_then_1 : decode cX3_then 1 = .ok (.iload 4, 2) := dk_21 4 (dk_at dksX3_then_0 1 rfl rfl)
theorem dX3_then_3 : decode cX3_then 3 = .ok (.iconst (-1), 1) := dk_2 (dk_at dksX3_then_0 3 rfl rfl)
theorem dX3_then_4 : decode cX3_then 4 = .ok (.if_icmp .ne 17, 3) := dk_160 0 17 (dk_at dksX3_then_0 4 rfl rfl)
theorem dX3_then_7 : decode cX3_then 7 = .ok (.aload_n 0, 1) := dk_42 (dk_at dksX3_then_0 7 rfl rfl)
theorem dX3_then_8 : decode cX3_then 8 = .ok (.getfield 35, 3) := dk_180 0 35 (dk_at dksX3_then_0 8 rfl rfl)
theorem dX3_then_11 : decode cX3_then 11 = .ok (.bipush 6, 2) := dk_16 6 (dk_at dksX3_then_0 11 rfl rfl)
theorem dX3_then_13 : decode cX3_then 13 = .ok (.iload_n 2, 1) := dk_28 (dk_at dksX3_then_0 13 rfl rfl)
theorem dX3_then_14 : decode cX3_then 14 = .ok (.imul, 1) := dk_104 (dk_at dksX3_then_0 14 rfl rfl)
theorem dX3_then_15 : decode cX3_then 15 = .ok (.iconst 5, 1) := dk_8 (dk_at dksX3_then_0 15 rfl rfl)
theorem dX3_then_16 : decode cX3_then 16 = .ok (.iadd, 1) := dk_96 (dk_at dksX3_then_0 16 rfl rfl)
theorem dX3_then_17 : decode cX3_then 17 = .ok (.iaload, 1) := dk_46 (dk_at dksX3_then_0 17 rfl rfl)
theorem dX3_then_18 : decode cX3_then 18 = .ok (.goto 18, 3) := dk_167 0 18 (dk_at dksX3_then_0 18 rfl rfl)
theorem dX3_then_21 : decode cX3_then 21 = .ok (.aload_n 0, 1) := dk_42 (dk_at dksX3_then_0 21 rfl rfl)
theorem dX3_then_22 : decode cX3_then 22 = .ok (.getfield 41, 3) := dk_180 0 41 (dk_at dksX3_then_1 0 rfl rfl)
theorem dX3_then_25 : decode cX3_then 25 = .ok (.bipush 16, 2) := dk_16 16 (dk_at dksX3_then_1 3 rfl rfl)
theorem dX3_then_27 : decode cX3_then 27 = .ok (.iload_n 2, 1) := dk_28 (dk_at dksX3_then_1 5 rfl rfl)
theorem dX3_then_28 : decode cX3_then 28 = .ok (.imul, 1) := dk_104 (dk_at dksX3_then_1 6 rfl rfl)
theorem dX3_then_29 : decode cX3_then 29 = .ok (.iconst 4, 1) := dk_7 (dk_at dksX3_then_1 7 rfl rfl)
theorem dX3_then_30 : decode cX3_then 30 = .ok (.iload_n 3, 1) := dk_29 (dk_at dksX3_then_1 8 rfl rfl)
theorem dX3_then_31 : decode cX3_then 31 = .ok (.imul, 1) := dk_104 (dk_at dksX3_then_1 9 rfl rfl)
theorem dX3_then_32 : decode cX3_then 32 = .ok (.iadd, 1) := dk_96 (dk_at dksX3_then_1 10 rfl rfl)
theorem dX3_then_33 : decode cX3_then 33 = .ok (.iconst 1, 1) := dk_4 (dk_at dksX3_then_1 11 rfl rfl)
theorem dX3_then_34 : decode cX3_then 34 = .ok (.iadd, 1) := dk_96 (dk_at dksX3_then_1 12 rfl rfl)
theorem dX3_then_35 : decode cX3_then 35 = .ok (.iaload, 1) := dk_46 (dk_at dksX3_then_1 13 rfl rfl)
theorem dX3_then_36 : decode cX3_then 36 = .ok (.iadd, 1) := dk_96 (dk_at dksX3_then_1 14 rfl rfl)
theorem dX3_then_37 : decode cX3_then 37 = .ok (.ireturn, 1) := dk_172 (dk_at dksX3_then_1 15 rfl rfl)
abbrev cX3_next : ByteArray := prog_12_method_69_code
def yX3_next : MethodName := ⟨RX3, "next", "(IIII)I"⟩
def dkwX3_next_3 : List UInt8 := [154, 0, 6, 21, 8, 172, 132, 8, 1, 167, 255, 209, 2, 172]
abbrev dktX3_next_3 : List UInt8 := dkwX3_next_3 ++ []
def dkwX3_next_2 : List UInt8 := [21, 4, 21, 8, 184, 0, 85, 153, 0, 23, 42, 27, 28, 29, 21, 4, 21, 8, 182, 1, 45, 22, 6, 148]
abbrev dktX3_next_2 : List UInt8 := dkwX3_next_2 ++ dktX3_next_3
def dkwX3_next_1 : List UInt8 := [21, 4, 182, 1, 51, 55, 6, 3, 54, 8, 21, 8, 16, 6, 162, 0, 46, 22, 6, 9, 148, 158, 0, 39]
abbrev dktX3_next_1 : List UInt8 := dkwX3_next_1 ++ dktX3_next_2
def dkwX3_next_0 : List UInt8 := [42, 27, 28, 29, 21, 4, 182, 1, 48, 54, 5, 21, 5, 153, 0, 6, 21, 5, 172, 42, 27, 28, 29]
abbrev dktX3_next_0 : List UInt8 := dkwX3_next_0 ++ dktX3_next_1
theorem dksX3_next_0 : cX3_next.data.toList.drop 0 = dktX3_next_0 := by decide +kernel
theorem dksX3_next_1 : cX3_next.data.toList.drop 23 = dktX3_next_1 := dk_seg dksX3_next_0 23 rfl rfl
theorem dksX3_next_2 : cX3_next.data.toList.drop 47 = dktX3_next_2 := dk_seg dksX3_next_1 24 rfl rfl
theorem dksX3_next_3 : cX3_next.data.toList.drop 71 = dktX3_next_3 := dk_seg dksX3_next_2 24 rfl rfl
theorem dX3_next_0 : decode cX3_next 0 = .ok (.aload_n 0, 1) := dk_42 (dk_at dksX3_next_0 0 rfl rfl)
theorem dX3_next_1 : decode cX3_next 1 = .ok (.iload_n 1, 1) := dk_27 (dk_at dksX3_next_0 1 rfl rfl)
theorem dX3_next_2 : decode cX3_next 2 = .ok (.iload_n 2, 1) := dk_28 (dk_at dksX3_next_0 2 rfl rfl)
theorem dX3_next_3 : decode cX3_next 3 = .ok (.iload_n 3, 1) := dk_29 (dk_at dksX3_next_0 3 rfl rfl)
theorem dX3_next_4 : decode cX3_next 4 = .ok (.iload 4, 2) := dk_21 4 (dk_at dksX3_next_0 4 rfl rfl)
theorem dX3_next_6 : decode cX3_next 6 = .ok (.invokevirtual 304, 3) := dk_182 1 48 (dk_at dksX3_next_0 6 rfl rfl)
theorem dX3_next_9 : decode cX3_next 9 = .ok (.istore 5, 2) := dk_54 5 (dk_at dksX3_next_0 9 rfl rfl)
theorem dX3_next_11 : decode cX3_next 11 = .ok (.iload 5, 2) := dk_21 5 (dk_at dksX3_next_0 11 rfl rfl)
theorem dX3_next_13 : decode cX3_next 13 = .ok (.ifCond .eq 6, 3) := dk_153 0 6 (dk_at dksX3_next_0 13 rfl rfl)
theorem dX3_next_16 : decode cX3_next 16 = .ok (.iload 5, 2) := dk_21 5 (dk_at dksX3_next_0 16 rfl rfl)
theorem dX3_next_18 : decode cX3_next 18 = .ok (.ireturn, 1) := dk_172 (dk_at dksX3_next_0 18 rfl rfl)
theorem dX3_next_19 : decode cX3_next 19 = .ok (.aload_n 0, 1) := dk_42 (dk_at dksX3_next_0 19 rfl rfl)
theorem dX3_next_20 : decode cX3_next 20 = .ok (.iload_n 1, 1) := dk_27 (dk_at dksX3_next_0 20 rfl rfl)
theorem dX3_next_21 : decode cX3_next 21 = .ok (.iload_n 2, 1) := dk_28 (dk_at dksX3_next_0 21 rfl rfl)
theorem dX3_next_22 : decode cX3_next 22 = .ok (.iload_n 3, 1) := dk_29 (dk_at dksX3_next_0 22 rfl rfl)
theorem dX3_next_23 : decode cX3_next 23 = .ok (.iload 4, 2) := dk_21 4 (dk_at dksX3_next_1 0 rfl rfl)
theorem dX3_next_25 : decode cX3_next 25 = .ok (.invokevirtual 307, 3) := dk_182 1 51 (dk_at dksX3_next_1 2 rfl rfl)
theorem dX3_next_28 : decode cX3_next 28 = .ok (.lstore 6, 2) := dk_55 6 (dk_at dksX3_next_1 5 rfl rfl)
theorem dX3_next_30 : decode cX3_next 30 = .ok (.iconst 0, 1) := dk_3 (dk_at dksX3_next_1 7 rfl rfl)
theorem dX3_next_31 : decode cX3_next 31 = .ok (.istore 8, 2) := dk_54 8 (dk_at dksX3_next_1 8 rfl rfl)
theorem dX3_next_33 : decode cX3_next 33 = .ok (.iload 8, 2) := dk_21 8 (dk_at dksX3_next_1 10 rfl rfl)
theorem dX3_next_35 : decode cX3_next 35 = .ok (.bipush 6, 2) := dk_16 6 (dk_at dksX3_next_1 12 rfl rfl)
theorem dX3_next_37 : decode cX3_next 37 = .ok (.if_icmp .ge 46, 3) := dk_162 0 46 (dk_at dksX3_next_1 14 rfl rfl)
theorem dX3_next_40 : decode cX3_next 40 = .ok (.lload 6, 2) := dk_22 6 (dk_at dksX3_next_1 17 rfl rfl)
theorem dX3_next_42 : decode cX3_next 42 = .ok (.lconst 0, 1) := dk_9 (dk_at dksX3_next_1 19 rfl rfl)
theorem dX3_next_43 : decode cX3_next 43 = .ok (.lcmp, 1) := dk_148 (dk_at dksX3_next_1 20 rfl rfl)
theorem dX3_next_44 : decode cX3_next 44 = .ok (.ifCond .le 39, 3) := dk_158 0 39 (dk_at dksX3_next_1 21 rfl rfl)
theorem dX3_next_47 : decode cX3_next 47 = .ok (.iload 4, 2) := dk_21 4 (dk_at dksX3_next_2 0 rfl rfl)
theorem dX3_next_49 : decode cX3_next 49 = .ok (.iload 8, 2) := dk_21 8 (dk_at dksX3_next_2 2 rfl rfl)
theorem dX3_next_51 : decode cX3_next 51 = .ok (.invokestatic 85, 3) := dk_184 0 85 (dk_at dksX3_next_2 4 rfl rfl)
theorem dX3_next_54 : decode cX3_next 54 = .ok (.ifCond .eq 23, 3) := dk_153 0 23 (dk_at dksX3_next_2 7 rfl rfl)
theorem dX3_next_57 : decode cX3_next 57 = .ok (.aload_n 0, 1) := dk_42 (dk_at dksX3_next_2 10 rfl rfl)
theorem dX3_next_58 : decode cX3_next 58 = .ok (.iload_n 1, 1) := dk_27 (dk_at dksX3_next_2 11 rfl rfl)
theorem dX3_next_59 : decode cX3_next 59 = .ok (.iload_n 2, 1) := dk_28 (dk_at dksX3_next_2 12 rfl rfl)
theorem dX3_next_60 : decode cX3_next 60 = .ok (.iload_n 3, 1) := dk_29 (dk_at dksX3_next_2 13 rfl rfl)
theorem dX3_next_61 : decode cX3_next 61 = .ok (.iload 4, 2) := dk_21 4 (dk_at dksX3_next_2 14 rfl rfl)
theorem dX3_next_63 : decode cX3_next 63 = .ok (.iload 8, 2) := dk_21 8 (dk_at dksX3_next_2 16 rfl rfl)
theorem dX3_next_65 : decode cX3_next 65 = .ok (.invokevirtual 301, 3) := dk_182 1 45 (dk_at dksX3_next_2 18 rfl rfl)
theorem dX3_next_68 : decode cX3_next 68 = .ok (.lload 6, 2) := dk_22 6 (dk_at dksX3_next_2 21 rfl rfl)
theorem dX3_next_70 : decode cX3_next 70 = .ok (.lcmp, 1) := dk_148 (dk_at dksX3_next_2 23 rfl rfl)
theorem dX3_next_71 : decode cX3_next 71 = .ok (.ifCond .ne 6, 3) := dk_154 0 6 (dk_at dksX3_next_3 0 rfl rfl)
theorem dX3_next_74 : decode cX3_next 74 = .ok (.iload 8, 2) := dk_21 8 (dk_at dksX3_next_3 3 rfl rfl)
theorem dX3_next_76 : decode cX3_next 76 = .ok (.ireturn, 1) := dk_172 (dk_at dksX3_next_3 5 rfl rfl)
theorem dX3_next_77 : decode cX3_next 77 = .ok (.iinc 8 1, 3) := dk_132 8 1 (dk_at dksX3_next_3 6 rfl rfl)
theorem dX3_next_80 : decode cX3_next 80 = .ok (.goto (-47), 3) := dk_167 255 209 (dk_at dksX3_next_3 9 rfl rfl)
theorem dX3_next_83 : decode cX3_next 83 = .ok (.iconst (-1), 1) := dk_2 (dk_at dksX3_next_3 12 rfl rfl)
theorem dX3_next_84 : decode cX3_next 84 = .ok (.ireturn, 1) := dk_172 (dk_at dksX3_next_3 13 rfl rfl)
abbrev cX3_stands : ByteArray := prog_12_method_70_code
def yX3_stands : MethodName := ⟨RX3, "stands", "(II)I"⟩
def dkwX3_stands_5 : List UInt8 := [153, 0, 7, 4, 167, 0, 4, 3, 172]
abbrev dktX3_stands_5 : List UInt8 := dkwX3_stands_5 ++ []
def dkwX3_stands_4 : List UInt8 := [21, 5, 27, 184, 0, 85, 153, 0, 7, 4, 167, 0, 4, 3, 62, 132, 4, 1, 167, 255, 172, 29]
abbrev dktX3_stands_4 : List UInt8 := dkwX3_stands_4 ++ dktX3_stands_5
def dkwX3_stands_3 : List UInt8 := [7, 21, 4, 104, 5, 96, 46, 28, 184, 0, 85, 154, 0, 25, 21, 5, 28, 184, 0, 85, 153, 0, 12]
abbrev dktX3_stands_3 : List UInt8 := dkwX3_stands_3 ++ dktX3_stands_4
def dkwX3_stands_2 : List UInt8 := [153, 0, 62, 42, 180, 0, 41, 7, 21, 4, 104, 6, 96, 46, 54, 5, 29, 153, 0, 43, 42, 180, 0, 41]
abbrev dktX3_stands_2 : List UInt8 := dkwX3_stands_2 ++ dktX3_stands_3
def dkwX3_stands_1 : List UInt8 := [3, 54, 4, 21, 4, 16, 24, 162, 0, 83, 42, 21, 4, 7, 108, 21, 4, 7, 112, 182, 0, 151]
abbrev dktX3_stands_1 : List UInt8 := dkwX3_stands_1 ++ dktX3_stands_2
def dkwX3_stands_0 : List UInt8 := [27, 184, 0, 145, 153, 0, 15, 28, 184, 0, 145, 153, 0, 8, 27, 28, 160, 0, 6, 16, 254, 172, 4, 62]
abbrev dktX3_stands_0 : List UInt8 := dkwX3_stands_0 ++ dktX3_stands_1
theorem dksX3_stands_0 : cX3_stands.data.toList.drop 0 = dktX3_stands_0 := by decide +kernel
theorem dksX3_stands_1 : cX3_stands.data.toList.drop 24 = dktX3_stands_1 := dk_seg dksX3_stands_0 24 rfl rfl
theorem dksX3_stands_2 : cX3_stands.data.toList.drop 46 = dktX3_stands_2 := dk_seg dksX3_stands_1 22 rfl rfl
theorem dksX3_stands_3 : cX3_stands.data.toList.drop 70 = dktX3_stands_3 := dk_seg dksX3_stands_2 24 rfl rfl
theorem dksX3_stands_4 : cX3_stands.data.toList.drop 93 = dktX3_stands_4 := dk_seg dksX3_stands_3 23 rfl rfl
theorem dksX3_stands_5 : cX3_stands.data.toList.drop 115 = dktX3_stands_5 := dk_seg dksX3_stands_4 22 rfl rfl
theorem dX3_stands_0 : decode cX3_stands 0 = .ok (.iload_n 1, 1) := dk_27 (dk_at dksX3_stands_0 0 rfl rfl)
theorem dX3_stands_1 : decode cX3_stands 1 = .ok (.invokestatic 145, 3) := dk_184 0 145 (dk_at dksX3_stands_0 1 rfl rfl)
theorem dX3_stands_4 : decode cX3_stands 4 = .ok (.ifCond .eq 15, 3) := dk_153 0 15 (dk_at dksX3_stands_0 4 rfl rfl)
theorem dX3_stands_7 : decode cX3_stands 7 = .ok (.iload_n 2, 1) := dk_28 (dk_at dksX3_stands_0 7 rfl rfl)
theorem dX3_stands_8 : decode cX3_stands 8 = .ok (.invokestatic 145, 3) := dk_184 0 145 (dk_at dksX3_stands_0 8 rfl rfl)
theorem dX3_stands_11 : decode cX3_stands 11 = .ok (.ifCond .eq 8, 3) := dk_153 0 8 (dk_at dksX3_stands_0 11 rfl rfl)
theorem dX3_stands_14 : decode cX3_stands 14 = .ok (.iload_n 1, 1) := dk_27 (dk_at dksX3_stands_0 14 rfl rfl)
theorem dX3_stands_15 : decode cX3_stands 15 = .ok (.iload_n 2, 1) := dk_28 (dk_at dksX3_stands_0 15 rfl rfl)
theorem dX3_stands_16 : decode cX3_stands 16 = .ok (.if_icmp .ne 6, 3) := dk_160 0 6 (dk_at dksX3_stands_0 16 rfl rfl)
theorem dX3_stands_19 : decode cX3_stands 19 = .ok (.bipush (-2), 2) := dk_16 254 (dk_at dksX3_stands_0 19 rfl rfl)
theorem dX3_stands_21 : decode cX3_stands 21 = .ok (.ireturn, 1) := dk_172 (dk_at dksX3_stands_0 21 rfl rfl)
theorem dX3_stands_22 : decode cX3_stands 22 = .ok (.iconst 1, 1) := dk_4 (dk_at dksX3_stands_0 22 rfl rfl)
theorem dX3_stands_23 : decode cX3_stands 23 = .ok (.istore_n 3, 1) := dk_62 (dk_at dksX3_stands_0 23 rfl rfl)
theorem dX3_stands_24 : decode cX3_stands 24 = .ok (.iconst 0, 1) := dk_3 (dk_at dksX3_stands_1 0 rfl rfl)
theorem dX3_stands_25 : decode cX3_stands 25 = .ok (.istore 4, 2) := dk_54 4 (dk_at dksX3_stands_1 1 rfl rfl)
theorem dX3_stands_27 : decode cX3_stands 27 = .ok (.iload 4, 2) := dk_21 4 (dk_at dksX3_stands_1 3 rfl rfl)
theorem dX3_stands_29 : decode cX3_stands 29 = .ok (.bipush 24, 2) := dk_16 24 (dk_at dksX3_stands_1 5 rfl rfl)
theorem dX3_stands_31 : decode cX3_stands 31 = .ok (.if_icmp .ge 83, 3) := dk_162 0 83 (dk_at dksX3_stands_1 7 rfl rfl)
theorem dX3_stands_34 : decode cX3_stands 34 = .ok (.aload_n 0, 1) := dk_42 (dk_at dksX3_stands_1 10 rfl rfl)
theorem dX3_stands_35 : decode cX3_stands 35 = .ok (.iload 4, 2) := dk_21 4 (dk_at dksX3_stands_1 11 rfl rfl)
theorem dX3_stands_37 : decode cX3_stands 37 = .ok (.iconst 4, 1) := dk_7 (dk_at dksX3_stands_1 13 rfl rfl)
theorem dX3_stands_38 : decode cX3_stands 38 = .ok (.idiv, 1) := dk_108 (dk_at dksX3_stands_1 14 rfl rfl)
theorem dX3_stands_39 : decode cX3_stands 39 = .ok (.iload 4, 2) := dk_21 4 (dk_at dksX3_stands_1 15 rfl rfl)
theorem dX3_stands_41 : decode cX3_stands 41 = .ok (.iconst 4, 1) := dk_7 (dk_at dksX3_stands_1 17 rfl rfl)
theorem dX3_stands_42 : decode cX3_stands 42 = .ok (.irem, 1) := dk_112 (dk_at dksX3_stands_1 18 rfl rfl)
theorem dX3_stands_43 : decode cX3_stands 43 = .ok (.invokevirtual 151, 3) := dk_182 0 151 (dk_at dksX3_stands_1 19 rfl rfl)
theorem dX3_stands_46 : decode cX3_stands 46 = .ok (.ifCond .eq 62, 3) := dk_153 0 62 (dk_at dksX3_stands_2 0 rfl rfl)
theorem dX3_stands_49 : decode cX3_stands 49 = .ok (.aload_n 0, 1) := dk_42 (dk_at dksX3_stands_2 3 rfl rfl)
theorem dX3_stands_50 : decode cX3_stands 50 = .ok (.getfield 41, 3) := dk_180 0 41 (dk_at dksX3_stands_2 4 rfl rfl)
theorem dX3_stands_53 : decode cX3_stands 53 = .ok (.iconst 4, 1) := dk_7 (dk_at dksX3_stands_2 7 rfl rfl)
theorem dX3_stands_54 : decode cX3_stands 54 = .ok (.iload 4, 2) := dk_21 4 (dk_at dksX3_stands_2 8 rfl rfl)
theorem dX3_stands_56 : decode cX3_stands 56 = .ok (.imul, 1) := dk_104 (dk_at dksX3_stands_2 10 rfl rfl)
theorem dX3_stands_57 : decode cX3_stands 57 = .ok (.iconst 3, 1) := dk_6 (dk_at dksX3_stands_2 11 rfl rfl)
theorem dX3_stands_58 : decode cX3_stands 58 = .ok (.iadd, 1) := dk_96 (dk_at dksX3_stands_2 12 rfl rfl)
theorem dX3_stands_59 : decode cX3_stands 59 = .ok (.iaload, 1) := dk_46 (dk_at dksX3_stands_2 13 rfl rfl)
theorem dX3_stands_60 : decode cX3_stands 60 = .ok (.istore 5, 2) := dk_54 5 (dk_at dksX3_stands_2 14 rfl rfl)
theorem dX3_stands_62 : decode cX3_stands 62 = .ok (.iload_n 3, 1) := dk_29 (dk_at dksX3_stands_2 16 rfl rfl)
theorem dX3_stands_63 : decode cX3_stands 63 = .ok (.ifCond .eq 43, 3) := dk_153 0 43 (dk_at dksX3_stands_2 17 rfl rfl)
theorem dX3_stands_66 : decode cX3_stands 66 = .ok (.aload_n 0, 1) := dk_42 (dk_at dksX3_stands_2 20 rfl rfl)
theorem dX3_stands_67 : decode cX3_stands 67 = .ok (.getfield 41, 3) := dk_180 0 41 (dk_at dksX3_stands_2 21 rfl rfl)
theorem dX3_stands_70 : decode cX3_stands 70 = .ok (.iconst 4, 1) := dk_7 (dk_at dksX3_stands_3 0 rfl rfl)
theorem dX3_stands_71 : decode cX3_stands 71 = .ok (.iload 4, 2) := dk_21 4 (dk_at dksX3_stands_3 1 rfl rfl)
theorem dX3_stands_73 : decode cX3_stands 73 = .ok (.imul, 1) := dk_104 (dk_at dksX3_stands_3 3 rfl rfl)
theorem dX3_stands_74 : decode cX3_stands 74 = .ok (.iconst 2, 1) := dk_5 (dk_at dksX3_stands_3 4 rfl rfl)
theorem dX3_stands_75 : decode cX3_stands 75 = .ok (.iadd, 1) := dk_96 (dk_at dksX3_stands_3 5 rfl rfl)
theorem dX3_stands_76 : decode cX3_stands 76 = .ok (.iaload, 1) := dk_46 (dk_at dksX3_stands_3 6 rfl rfl)
theorem dX3_stands_77 : decode cX3_stands 77 = .ok (.iload_n 2, 1) := dk_28 (dk_at dksX3_stands_3 7 rfl rfl)
theorem dX3_stands_78 : decode cX3_stands 78 = .ok (.invokestatic 85, 3) := dk_184 0 85 (dk_at dksX3_stands_3 8 rfl rfl)
theorem dX3_stands_81 : decode cX3_stands 81 = .ok (.ifCond .ne 25, 3) := dk_154 0 25 (dk_at dksX3_stands_3 11 rfl rfl)
theorem dX3_stands_84 : decode cX3_stands 84 = .ok (.iload 5, 2) := dk_21 5 (dk_at dksX3_stands_3 14 rfl rfl)
theorem dX3_stands_86 : decode cX3_stands 86 = .ok (.iload_n 2, 1) := dk_28 (dk_at dksX3_stands_3 16 rfl rfl)
theorem dX3_stands_87 : decode cX3_stands 87 = .ok (.invokestatic 85, 3) := dk_184 0 85 (dk_at dksX3_stands_3 17 rfl rfl)
theorem dX3_stands_90 : decode cX3_stands 90 = .ok (.ifCond .eq 12, 3) := dk_153 0 12 (dk_at dksX3_stands_3 20 rfl rfl)
theorem dX3_stands_93 : decode cX3_stands 93 = .ok (.iload 5, 2) := dk_21 5 (dk_at dksX3_stands_4 0 rfl rfl)
theorem dX3_stands_95 : decode cX3_stands 95 = .ok (.iload_n 1, 1) := dk_27 (dk_at dksX3_stands_4 2 rfl rfl)
theorem dX3_stands_96 : decode cX3_stands 96 = .ok (.invokestatic 85, 3) := dk_184 0 85 (dk_at dksX3_stands_4 3 rfl rfl)
theorem dX3_stands_99 : decode cX3_stands 99 = .ok (.ifCond .eq 7, 3) := dk_153 0 7 (dk_at dksX3_stands_4 6 rfl rfl)
theorem dX3_stands_102 : decode cX3_stands 102 = .ok (.iconst 1, 1) := dk_4 (dk_at dksX3_stands_4 9 rfl rfl)
theorem dX3_stands_103 : decode cX3_stands 103 = .ok (.goto 4, 3) := dk_167 0 4 (dk_at dksX3_stands_4 10 rfl rfl)
theorem dX3_stands_106 : decode cX3_stands 106 = .ok (.iconst 0, 1) := dk_3 (dk_at dksX3_stands_4 13 rfl rfl)
theorem dX3_stands_107 : decode cX3_stands 107 = .ok (.istore_n 3, 1) := dk_62 (dk_at dksX3_stands_4 14 rfl rfl)
theorem dX3_stands_108 : decode cX3_stands 108 = .ok (.iinc 4 1, 3) := dk_132 4 1 (dk_at dksX3_stands_4 15 rfl rfl)
theorem dX3_stands_111 : decode cX3_stands 111 = .ok (.goto (-84), 3) := dk_167 255 172 (dk_at dksX3_stands_4 18 rfl rfl)
theorem dX3_stands_114 : decode cX3_stands 114 = .ok (.iload_n 3, 1) := dk_29 (dk_at dksX3_stands_4 21 rfl rfl)
theorem dX3_stands_115 : decode cX3_stands 115 = .ok (.ifCond .eq 7, 3) := dk_153 0 7 (dk_at dksX3_stands_5 0 rfl rfl)
theorem dX3_stands_118 : decode cX3_stands 118 = .ok (.iconst 1, 1) := dk_4 (dk_at dksX3_stands_5 3 rfl rfl)
theorem dX3_stands_119 : decode cX3_stands 119 = .ok (.goto 4, 3) := dk_167 0 4 (dk_at dksX3_stands_5 4 rfl rfl)
theorem dX3_stands_122 : decode cX3_stands 122 = .ok (.iconst 0, 1) := dk_3 (dk_at dksX3_stands_5 7 rfl rfl)
theorem dX3_stands_123 : decode cX3_stands 123 = .ok (.ireturn, 1) := dk_172 (dk_at dksX3_stands_5 8 rfl rfl)
abbrev cX3_idle : ByteArray := prog_12_method_71_code
def yX3_idle : MethodName := ⟨RX3, "idle", "()I"⟩
def dkwX3_idle_2 : List UInt8 := [3, 128, 60, 132, 2, 1, 167, 255, 206, 17, 0, 255, 27, 2, 130, 126, 172]
abbrev dktX3_idle_2 : List UInt8 := dkwX3_idle_2 ++ []
def dkwX3_idle_1 : List UInt8 := [42, 180, 0, 41, 7, 28, 104, 5, 96, 46, 42, 180, 0, 41, 7, 28, 104, 6, 96, 46, 128, 167, 0, 4]
abbrev dktX3_idle_1 : List UInt8 := dkwX3_idle_1 ++ dktX3_idle_2
def dkwX3_idle_0 : List UInt8 := [3, 60, 3, 61, 28, 16, 24, 162, 0, 50, 27, 42, 28, 7, 108, 28, 7, 112, 182, 0, 151, 153, 0, 27]
abbrev dktX3_idle_0 : List UInt8 := dkwX3_idle_0 ++ dktX3_idle_1
theorem dksX3_idle_0 : cX3_idle.data.toList.drop 0 = dktX3_idle_0 := by decide +kernel
theorem dksX3_idle_1 : cX3_idle.data.toList.drop 24 = dktX3_idle_1 := dk_seg dksX3_idle_0 24 rfl rfl
theorem dksX3_idle_2 : cX3_idle.data.toList.drop 48 = dktX3_idle_2 := dk_seg dksX3_idle_1 24 rfl rfl
theorem dX3_idle_0 : decode cX3_idle 0 = .ok (.iconst 0, 1) := dk_3 (dk_at dksX3_idle_0 0 rfl rfl)
theorem dX3_idle_1 : decode cX3_idle 1 = .ok (.istore_n 1, 1) := dk_60 (dk_at dksX3_idle_0 1 rfl rfl)
theorem dX3_idle_2 : decode cX3_idle 2 = .ok (.iconst 0, 1) := dk_3 (dk_at dksX3_idle_0 2 rfl rfl)
theorem dX3_idle_3 : decode cX3_idle 3 = .ok (.istore_n 2, 1) := dk_61 (dk_at dksX3_idle_0 3 rfl rfl)
theorem dX3_idle_4 : decode cX3_idle 4 = .ok (.iload_n 2, 1) := dk_28 (dk_at dksX3_idle_0 4 rfl rfl)
theorem dX3_idle_5 : decode cX3_idle 5 = .ok (.bipush 24, 2) := dk_16 24 (dk_at dksX3_idle_0 5 rfl rfl)
theorem dX3_idle_7 : decode cX3_idle 7 = .ok (.if_icmp .ge 50, 3) := dk_162 0 50 (dk_at dksX3_idle_0 7 rfl rfl)
theorem dX3_idle_10 : decode cX3_idle 10 = .ok (.iload_n 1, 1) := dk_27 (dk_at dksX3_idle_0 10 rfl rfl)
theorem dX3_idle_11 : decode cX3_idle 11 = .ok (.aload_n 0, 1) := dk_42 (dk_at dksX3_idle_0 11 rfl rfl)
theorem dX3_idle_12 : decode cX3_idle 12 = .ok (.iload_n 2, 1) := dk_28 (dk_at dksX3_idle_0 12 rfl rfl)
theorem dX3_idle_13 : decode cX3_idle 13 = .ok (.iconst 4, 1) := dk_7 (dk_at dksX3_idle_0 13 rfl rfl)
theorem dX3_idle_14 : decode cX3_idle 14 = .ok (.idiv, 1) := dk_108 (dk_at dksX3_idle_0 14 rfl rfl)
theorem dX3_idle_15 : decode cX3_idle 15 = .ok (.iload_n 2, 1) := dk_28 (dk_at dksX3_idle_0 15 rfl rfl)
theorem dX3_idle_16 : decode cX3_idle 16 = .ok (.iconst 4, 1) := dk_7 (dk_at dksX3_idle_0 16 rfl rfl)
theorem dX3_idle_17 : decode cX3_idle 17 = .ok (.irem, 1) := dk_112 (dk_at dksX3_idle_0 17 rfl rfl)
theorem dX3_idle_18 : decode cX3_idle 18 = .ok (.invokevirtual 151, 3) := dk_182 0 151 (dk_at dksX3_idle_0 18 rfl rfl)
theorem dX3_idle_21 : decode cX3_idle 21 = .ok (.ifCond .eq 27, 3) := dk_153 0 27 (dk_at dksX3_idle_0 21 rfl rfl)
theorem dX3_idle_24 : decode cX3_idle 24 = .ok (.aload_n 0, 1) := dk_42 (dk_at dksX3_idle_1 0 rfl rfl)
theorem dX3_idle_25 : decode cX3_idle 25 = .ok (.getfield 41, 3) := dk_180 0 41 (dk_at dksX3_idle_1 1 rfl rfl)
theorem dX3_idle_28 : decode cX3_idle 28 = .ok (.iconst 4, 1) := dk_7 (dk_at dksX3_idle_1 4 rfl rfl)
theorem dX3_idle_29 : decode cX3_idle 29 = .ok (.iload_n 2, 1) := dk_28 (dk_at dksX3_idle_1 5 rfl rfl)
theorem dX3_idle_30 : decode cX3_idle 30 = .ok (.imul, 1) := dk_104 (dk_at dksX3_idle_1 6 rfl rfl)
theorem dX3_idle_31 : decode cX3_idle 31 = .ok (.iconst 2, 1) := dk_5 (dk_at dksX3_idle_1 7 rfl rfl)
theorem dX3_idle_32 : decode cX3_idle 32 = .ok (.iadd, 1) := dk_96 (dk_at dksX3_idle_1 8 rfl rfl)
theorem dX3_idle_33 : decode cX3_idle 33 = .ok (.iaload, 1) := dk_46 (dk_at dksX3_idle_1 9 rfl rfl)
theorem dX3_idle_34 : decode cX3_idle 34 = .ok (.aload_n 0, 1) := dk_42 (dk_at dksX3_idle_1 10 rfl rfl)
theorem dX3_idle_35 : decode cX3_idle 35 = .ok (.getfield 41, 3) := dk_180 0 41 (dk_at dksX3_idle_1 11 rfl rfl)
theorem dX3_idle_38 : decode cX3_idle 38 = .ok (.iconst 4, 1) := dk_7 (dk_at dksX3_idle_1 14 rfl rfl)
theorem dX3_idle_39 : decode cX3_idle 39 = .ok (.iload_n 2, 1) := dk_28 (dk_at dksX3_idle_1 15 rfl rfl)
theorem dX3_idle_40 : decode cX3_idle 40 = .ok (.imul, 1) := dk_104 (dk_at dksX3_idle_1 16 rfl rfl)
theorem dX3_idle_41 : decode cX3_idle 41 = .ok (.iconst 3, 1) := dk_6 (dk_at dksX3_idle_1 17 rfl rfl)
theorem dX3_idle_42 : decode cX3_idle 42 = .ok (.iadd, 1) := dk_96 (dk_at dksX3_idle_1 18 rfl rfl)
theorem dX3_idle_43 : decode cX3_idle 43 = .ok (.iaload, 1) := dk_46 (dk_at dksX3_idle_1 19 rfl rfl)
theorem dX3_idle_44 : decode cX3_idle 44 = .ok (.ior, 1) := dk_128 (dk_at dksX3_idle_1 20 rfl rfl)
theorem dX3_idle_45 : decode cX3_idle 45 = .ok (.goto 4, 3) := dk_167 0 4 (dk_at dksX3_idle_1 21 rfl rfl)
theorem dX3_idle_48 : decode cX3_idle 48 = .ok (.iconst 0, 1) := dk_3 (dk_at dksX3_idle_2 0 rfl rfl)
theorem dX3_idle_49 : decode cX3_idle 49 = .ok (.ior, 1) := dk_128 (dk_at dksX3_idle_2 1 rfl rfl)
theorem dX3_idle_50 : decode cX3_idle 50 = .ok (.istore_n 1, 1) := dk_60 (dk_at dksX3_idle_2 2 rfl rfl)
theorem dX3_idle_51 : decode cX3_idle 51 = .ok (.iinc 2 1, 3) := dk_132 2 1 (dk_at dksX3_idle_2 3 rfl rfl)
theorem dX3_idle_54 : decode cX3_idle 54 = .ok (.goto (-50), 3) := dk_167 255 206 (dk_at dksX3_idle_2 6 rfl rfl)
theorem dX3_idle_57 : decode cX3_idle 57 = .ok (.sipush 255, 3) := dk_17 0 255 (dk_at dksX3_idle_2 9 rfl rfl)
theorem dX3_idle_60 : decode cX3_idle 60 = .ok (.iload_n 1, 1) := dk_27 (dk_at dksX3_idle_2 12 rfl rfl)
theorem dX3_idle_61 : decode cX3_idle 61 = .ok (.iconst (-1), 1) := dk_2 (dk_at dksX3_idle_2 13 rfl rfl)
theorem dX3_idle_62 : decode cX3_idle 62 = .ok (.ixor, 1) := dk_130 (dk_at dksX3_idle_2 14 rfl rfl)
theorem dX3_idle_63 : decode cX3_idle 63 = .ok (.iand, 1) := dk_126 (dk_at dksX3_idle_2 15 rfl rfl)
theorem dX3_idle_64 : decode cX3_idle 64 = .ok (.ireturn, 1) := dk_172 (dk_at dksX3_idle_2 16 rfl rfl)
abbrev cX3_visit : ByteArray := prog_12_method_72_code
def yX3_visit : MethodName := ⟨RX3, "visit", "(III)I"⟩
def dkwX3_visit_4 : List UInt8 := [42, 180, 1, 54, 104, 5, 96, 29, 79, 42, 89, 180, 1, 54, 4, 96, 181, 1, 54, 42, 180, 1, 54, 172]
abbrev dktX3_visit_4 : List UInt8 := dkwX3_visit_4 ++ []
def dkwX3_visit_3 : List UInt8 := [104, 4, 96, 42, 180, 0, 41, 16, 16, 27, 104, 7, 28, 104, 96, 6, 96, 46, 79, 42, 180, 0, 44, 6]
abbrev dktX3_visit_3 : List UInt8 := dkwX3_visit_3 ++ dktX3_visit_4
def dkwX3_visit_2 : List UInt8 := [180, 0, 41, 16, 16, 27, 104, 7, 28, 104, 96, 5, 96, 46, 79, 42, 180, 0, 44, 6, 42, 180, 1, 54]
abbrev dktX3_visit_2 : List UInt8 := dkwX3_visit_2 ++ dktX3_visit_3
def dkwX3_visit_1 : List UInt8 := [180, 1, 54, 16, 16, 160, 0, 6, 16, 251, 172, 42, 180, 0, 44, 6, 42, 180, 1, 54, 104, 42]
abbrev dktX3_visit_1 : List UInt8 := dkwX3_visit_1 ++ dktX3_visit_2
def dkwX3_visit_0 : List UInt8 := [42, 27, 28, 182, 0, 151, 154, 0, 6, 16, 254, 172, 29, 184, 0, 159, 154, 0, 6, 16, 253, 172, 42]
abbrev dktX3_visit_0 : List UInt8 := dkwX3_visit_0 ++ dktX3_visit_1
theorem dksX3_visit_0 : cX3_visit.data.toList.drop 0 = dktX3_visit_0 := by decide +kernel
theorem dksX3_visit_1 : cX3_visit.data.toList.drop 23 = dktX3_visit_1 := dk_seg dksX3_visit_0 23 rfl rfl
theorem dksX3_visit_2 : cX3_visit.data.toList.drop 45 = dktX3_visit_2 := dk_seg dksX3_visit_1 22 rfl rfl
theorem dksX3_visit_3 : cX3_visit.data.toList.drop 69 = dktX3_visit_3 := dk_seg dksX3_visit_2 24 rfl rfl
theorem dksX3_visit_4 : cX3_visit.data.toList.drop 93 = dktX3_visit_4 := dk_seg dksX3_visit_3 24 rfl rfl
theorem dX3_visit_0 : decode cX3_visit 0 = .ok (.aload_n 0, 1) := dk_42 (dk_at dksX3_visit_0 0 rfl rfl)
theorem dX3_visit_1 : decode cX3_visit 1 = .ok (.iload_n 1, 1) := dk_27 (dk_at dksX3_visit_0 1 rfl rfl)
theorem dX3_visit_2 : decode cX3_visit 2 = .ok (.iload_n 2, 1) := dk_28 (dk_at dksX3_visit_0 2 rfl rfl)
theorem dX3_visit_3 : decode cX3_visit 3 = .ok (.invokevirtual 151, 3) := dk_182 0 151 (dk_at dksX3_visit_0 3 rfl rfl)
theorem dX3_visit_6 : decode cX3_visit 6 = .ok (.ifCond .ne 6, 3) := dk_154 0 6 (dk_at dksX3_visit_0 6 rfl rfl)
theorem dX3_visit_9 : decode cX3_visit 9 = .ok (.bipush (-2), 2) := dk_16 254 (dk_at dksX3_visit_0 9 rfl rfl)
theorem dX3_visit_11 : decode cX3_visit 11 = .ok (.ireturn, 1) := dk_172 (dk_at dksX3_visit_0 11 rfl rfl)
theorem dX3_visit_12 : decode cX3_visit 12 = .ok (.iload_n 3, 1) := dk_29 (dk_at dksX3_visit_0 12 rfl rfl)
theorem dX3_visit_13 : decode cX3_visit 13 = .ok (.invokestatic 159, 3) := dk_184 0 159 (dk_at dksX3_visit_0 13 rfl rfl)
theorem dX3_visit_16 : decode cX3_visit 16 = .ok (.ifCond .ne 6, 3) := dk_154 0 6 (dk_at dksX3_visit_0 16 rfl rfl)
theorem dX3_visit_19 : decode cX3_visit 19 = .ok (.bipush (-3), 2) := dk_16 253 (dk_at dksX3_visit_0 19 rfl rfl)
theorem dX3_visit_21 : decode cX3_visit 21 = .ok (.ireturn, 1) := dk_172 (dk_at dksX3_visit_0 21 rfl rfl)
theorem dX3_visit_22 : decode cX3_visit 22 = .ok (.aload_n 0, 1) := dk_42 (dk_at dksX3_visit_0 22 rfl rfl)
theorem dX3_visit_23 : decode cX3_visit 23 = .ok (.getfield 310, 3) := dk_180 1 54 (dk_at dksX3_visit_1 0 rfl rfl)
theorem dX3_visit_26 : decode cX3_visit 26 = .ok (.bipush 16, 2) := dk_16 16 (dk_at dksX3_visit_1 3 rfl rfl)
theorem dX3_visit_28 : decode cX3_visit 28 = .ok (.if_icmp .ne 6, 3) := dk_160 0 6 (dk_at dksX3_visit_1 5 rfl rfl)
theorem dX3_visit_31 : decode cX3_visit 31 = .ok (.bipush (-5), 2) := dk_16 251 (dk_at dksX3_visit_1 8 rfl rfl)
theorem dX3_visit_33 : decode cX3_visit 33 = .ok (.ireturn, 1) := dk_172 (dk_at dksX3_visit_1 10 rfl rfl)
theorem dX3_visit_34 : decode cX3_visit 34 = .ok (.aload_n 0, 1) := dk_42 (dk_at dksX3_visit_1 11 rfl rfl)
theorem dX3_visit_35 : decode cX3_visit 35 = .ok (.getfield 44, 3) := dk_180 0 44 (dk_at dksX3_visit_1 12 rfl rfl)
theorem dX3_visit_38 : decode cX3_visit 38 = .ok (.iconst 3, 1) := dk_6 (dk_at dksX3_visit_1 15 rfl rfl)
theorem dX3_visit_39 : decode cX3_visit 39 = .ok (.aload_n 0, 1) := dk_42 (dk_at dksX3_visit_1 16 rfl rfl)
theorem dX3_visit_40 : decode cX3_visit 40 = .ok (.getfield 310, 3) := dk_180 1 54 (dk_at dksX3_visit_1 17 rfl rfl)
theorem dX3_visit_43 : decode cX3_visit 43 = .ok (.imul, 1) := dk_104 (dk_at dksX3_visit_1 20 rfl rfl)
theorem dX3_visit_44 : decode cX3_visit 44 = .ok (.aload_n 0, 1) := dk_42 (dk_at dksX3_visit_1 21 rfl rfl)
theorem dX3_visit_45 : decode cX3_visit 45 = .ok (.getfield 41, 3) := dk_180 0 41 (dk_at dksX3_visit_2 0 rfl rfl)
theorem dX3_visit_48 : decode cX3_visit 48 = .ok (.bipush 16, 2) := dk_16 16 (dk_at dksX3_visit_2 3 rfl rfl)
theorem dX3_visit_50 : decode cX3_visit 50 = .ok (.iload_n 1, 1) := dk_27 (dk_at dksX3_visit_2 5 rfl rfl)
theorem dX3_visit_51 : decode cX3_visit 51 = .ok (.imul, 1) := dk_104 (dk_at dksX3_visit_2 6 rfl rfl)
theorem dX3_visit_52 : decode cX3_visit 52 = .ok (.iconst 4, 1) := dk_7 (dk_at dksX3_visit_2 7 rfl rfl)
theorem dX3_visit_53 : decode cX3_visit 53 = .ok (.iload_n 2, 1) := dk_28 (dk_at dksX3_visit_2 8 rfl rfl)
theorem dX3_visit_54 : decode cX3_visit 54 = .ok (.imul, 1) := dk_104 (dk_at dksX3_visit_2 9 rfl rfl)
theorem dX3_visit_55 : decode cX3_visit 55 = .ok (.iadd, 1) := dk_96 (dk_at dksX3_visit_2 10 rfl rfl)
theorem dX3_visit_56 : decode cX3_visit 56 = .ok (.iconst 2, 1) := dk_5 (dk_at dksX3_visit_2 11 rfl rfl)
theorem dX3_visit_57 : decode cX3_visit 57 = .ok (.iadd, 1) := dk_96 (dk_at dksX3_visit_2 12 rfl rfl)
theorem dX3_visit_58 : decode cX3_visit 58 = .ok (.iaload, 1) := dk_46 (dk_at dksX3_visit_2 13 rfl rfl)
theorem dX3_visit_59 : decode cX3_visit 59 = .ok (.iastore, 1) := dk_79 (dk_at dksX3_visit_2 14 rfl rfl)
theorem dX3_visit_60 : decode cX3_visit 60 = .ok (.aload_n 0, 1) := dk_42 (dk_at dksX3_visit_2 15 rfl rfl)
theorem dX3_visit_61 : decode cX3_visit 61 = .ok (.getfield 44, 3) := dk_180 0 44 (dk_at dksX3_visit_2 16 rfl rfl)
theorem dX3_visit_64 : decode cX3_visit 64 = .ok (.iconst 3, 1) := dk_6 (dk_at dksX3_visit_2 19 rfl rfl)
theorem dX3_visit_65 : decode cX3_visit 65 = .ok (.aload_n 0, 1) := dk_42 (dk_at dksX3_visit_2 20 rfl rfl)
theorem dX3_visit_66 : decode cX3_visit 66 = .ok (.getfield 310, 3) := dk_180 1 54 (dk_at dksX3_visit_2 21 rfl rfl)
theorem dX3_visit_69 : decode cX3_visit 69 = .ok (.imul, 1) := dk_104 (dk_at dksX3_visit_3 0 rfl rfl)
theorem dX3_visit_70 : decode cX3_visit 70 = .ok (.iconst 1, 1) := dk_4 (dk_at dksX3_visit_3 1 rfl rfl)
theorem dX3_visit_71 : decode cX3_visit 71 = .ok (.iadd, 1) := dk_96 (dk_at dksX3_visit_3 2 rfl rfl)
theorem dX3_visit_72 : decode cX3_visit 72 = .ok (.aload_n 0, 1) := dk_42 (dk_at dksX3_visit_3 3 rfl rfl)
theorem dX3_visit_73 : decode cX3_visit 73 = .ok (.getfield 41, 3) := dk_180 0 41 (dk_at dksX3_visit_3 4 rfl rfl)
theorem dX3_visit_76 : decode cX3_visit 76 = .ok (.bipush 16, 2) := dk_16 16 (dk_at dksX3_visit_3 7 rfl rfl)
theorem dX3_visit_78 : decode cX3_visit 78 = .ok (.iload_n 1, 1) := dk_27 (dk_at dksX3_visit_3 9 rfl rfl)
theorem dX3_visit_79 : decode cX3_visit 79 = .ok (.imul, 1) := dk_104 (dk_at dksX3_visit_3 10 rfl rfl)
theorem dX3_visit_80 : decode cX3_visit 80 = .ok (.iconst 4, 1) := dk_7 (dk_at dksX3_visit_3 11 rfl rfl)
theorem dX3_visit_81 : decode cX3_visit 81 = .ok (.iload_n 2, 1) := dk_28 (dk_at dksX3_visit_3 12 rfl rfl)
theorem dX3_visit_82 : decode cX3_visit 82 = .ok (.imul, 1) := dk_104 (dk_at dksX3_visit_3 13 rfl rfl)
theorem dX3_visit_83 : decode cX3_visit 83 = .ok (.iadd, 1) := dk_96 (dk_at dksX3_visit_3 14 rfl rfl)
theorem dX3_visit_84 : decode cX3_visit 84 = .ok (.iconst 3, 1) := dk_6 (dk_at dksX3_visit_3 15 rfl rfl)
theorem dX3_visit_85 : decode cX3_visit 85 = .ok (.iadd, 1) := dk_96 (dk_at dksX3_visit_3 16 rfl rfl)
theorem dX3_visit_86 : decode cX3_visit 86 = .ok (.iaload, 1) := dk_46 (dk_at dksX3_visit_3 17 rfl rfl)
theorem dX3_visit_87 : decode cX3_visit 87 = .ok (.iastore, 1) := dk_79 (dk_at dksX3_visit_3 18 rfl rfl)
theorem dX3_visit_88 : decode cX3_visit 88 = .ok (.aload_n 0, 1) := dk_42 (dk_at dksX3_visit_3 19 rfl rfl)
theorem dX3_visit_89 : decode cX3_visit 89 = .ok (.getfield 44, 3) := dk_180 0 44 (dk_at dksX3_visit_3 20 rfl rfl)
theorem dX3_visit_92 : decode cX3_visit 92 = .ok (.iconst 3, 1) := dk_6 (dk_at dksX3_visit_3 23 rfl rfl)
theorem dX3_visit_93 : decode cX3_visit 93 = .ok (.aload_n 0, 1) := dk_42 (dk_at dksX3_visit_4 0 rfl rfl)
theorem dX3_visit_94 : decode cX3_visit 94 = .ok (.getfield 310, 3) := dk_180 1 54 (dk_at dksX3_visit_4 1 rfl rfl)
theorem dX3_visit_97 : decode cX3_visit 97 = .ok (.imul, 1) := dk_104 (dk_at dksX3_visit_4 4 rfl rfl)
theorem dX3_visit_98 : decode cX3_visit 98 = .ok (.iconst 2, 1) := dk_5 (dk_at dksX3_visit_4 5 rfl rfl)
theorem dX3_visit_99 : decode cX3_visit 99 = .ok (.iadd, 1) := dk_96 (dk_at dksX3_visit_4 6 rfl rfl)
theorem dX3_visit_100 : decode cX3_visit 100 = .ok (.iload_n 3, 1) := dk_29 (dk_at dksX3_visit_4 7 rfl rfl)
theorem dX3_visit_101 : decode cX3_visit 101 = .ok (.iastore, 1) := dk_79 (dk_at dksX3_visit_4 8 rfl rfl)
theorem dX3_visit_102 : decode cX3_visit 102 = .ok (.aload_n 0, 1) := dk_42 (dk_at dksX3_visit_4 9 rfl rfl)
theorem dX3_visit_103 : decode cX3_visit 103 = .ok (.dup, 1) := dk_89 (dk_at dksX3_visit_4 10 rfl rfl)
theorem dX3_visit_104 : decode cX3_visit 104 = .ok (.getfield 310, 3) := dk_180 1 54 (dk_at dksX3_visit_4 11 rfl rfl)
theorem dX3_visit_107 : decode cX3_visit 107 = .ok (.iconst 1, 1) := dk_4 (dk_at dksX3_visit_4 14 rfl rfl)
theorem dX3_visit_108 : decode cX3_visit 108 = .ok (.iadd, 1) := dk_96 (dk_at dksX3_visit_4 15 rfl rfl)
theorem dX3_visit_109 : decode cX3_visit 109 = .ok (.putfield 310, 3) := dk_181 1 54 (dk_at dksX3_visit_4 16 rfl rfl)
theorem dX3_visit_112 : decode cX3_visit 112 = .ok (.aload_n 0, 1) := dk_42 (dk_at dksX3_visit_4 19 rfl rfl)
theorem dX3_visit_113 : decode cX3_visit 113 = .ok (.getfield 310, 3) := dk_180 1 54 (dk_at dksX3_visit_4 20 rfl rfl)
theorem dX3_visit_116 : decode cX3_visit 116 = .ok (.ireturn, 1) := dk_172 (dk_at dksX3_visit_4 23 rfl rfl)
abbrev cX3_saved : ByteArray := prog_12_method_74_code
def yX3_saved : MethodName := ⟨RX3, "saved", "(I)I"⟩
def dkwX3_saved_0 : List UInt8 := [27, 184, 0, 159, 153, 0, 11, 42, 27, 182, 1, 57, 167, 0, 5, 16, 253, 172]
abbrev dktX3_saved_0 : List UInt8 := dkwX3_saved_0 ++ []
theorem dksX3_saved_0 : cX3_saved.data.toList.drop 0 = dktX3_saved_0 := by decide +kernel
theorem dX3_saved_0 : decode cX3_saved 0 = .ok (.iload_n 1, 1) := dk_27 (dk_at dksX3_saved_0 0 rfl rfl)
theorem dX3_saved_1 : decode cX3_saved 1 = .ok (.invokestatic 159, 3) := dk_184 0 159 (dk_at dksX3_saved_0 1 rfl rfl)
theorem dX3_saved_4 : decode cX3_saved 4 = .ok (.ifCond .eq 11, 3) := dk_153 0 11 (dk_at dksX3_saved_0 4 rfl rfl)
theorem dX3_saved_7 : decode cX3_saved 7 = .ok (.aload_n 0, 1) := dk_42 (dk_at dksX3_saved_0 7 rfl rfl)
theorem dX3_saved_8 : decode cX3_saved 8 = .ok (.iload_n 1, 1) := dk_27 (dk_at dksX3_saved_0 8 rfl rfl)
theorem dX3_saved_9 : decode cX3_saved 9 = .ok (.invokevirtual 313, 3) := dk_182 1 57 (dk_at dksX3_saved_0 9 rfl rfl)
theorem dX3_saved_12 : decode cX3_saved 12 = .ok (.goto 5, 3) := dk_167 0 5 (dk_at dksX3_saved_0 12 rfl rfl)
theorem dX3_saved_15 : decode cX3_saved 15 = .ok (.bipush (-3), 2) := dk_16 253 (dk_at dksX3_saved_0 15 rfl rfl)
theorem dX3_saved_17 : decode cX3_saved 17 = .ok (.ireturn, 1) := dk_172 (dk_at dksX3_saved_0 17 rfl rfl)
abbrev cX3_savedBy : ByteArray := prog_12_method_73_code
def yX3_savedBy : MethodName := ⟨RX3, "savedBy", "(I)I"⟩
def dkwX3_savedBy_3 : List UInt8 := [4, 167, 0, 4, 3, 96, 61, 132, 3, 3, 167, 255, 179, 28, 172]
abbrev dktX3_savedBy_3 : List UInt8 := dkwX3_savedBy_3 ++ []
def dkwX3_savedBy_2 : List UInt8 := [21, 4, 27, 128, 42, 180, 0, 44, 29, 46, 42, 180, 0, 44, 29, 4, 96, 46, 184, 0, 165, 153, 0, 7]
abbrev dktX3_savedBy_2 : List UInt8 := dkwX3_savedBy_2 ++ dktX3_savedBy_3
def dkwX3_savedBy_1 : List UInt8 := [28, 21, 4, 42, 180, 0, 44, 29, 46, 42, 180, 0, 44, 29, 4, 96, 46, 184, 0, 165, 154, 0, 31]
abbrev dktX3_savedBy_1 : List UInt8 := dkwX3_savedBy_1 ++ dktX3_savedBy_2
def dkwX3_savedBy_0 : List UInt8 := [3, 61, 3, 62, 29, 6, 42, 180, 1, 54, 104, 162, 0, 73, 42, 180, 0, 44, 29, 5, 96, 46, 54, 4]
abbrev dktX3_savedBy_0 : List UInt8 := dkwX3_savedBy_0 ++ dktX3_savedBy_1
theorem dksX3_savedBy_0 : cX3_savedBy.data.toList.drop 0 = dktX3_savedBy_0 := by decide +kernel
theorem dksX3_savedBy_1 : cX3_savedBy.data.toList.drop 24 = dktX3_savedBy_1 := dk_seg dksX3_savedBy_0 24 rfl rfl
theorem dksX3_savedBy_2 : cX3_savedBy.data.toList.drop 47 = dktX3_savedBy_2 := dk_seg dksX3_savedBy_1 23 rfl rfl
theorem dksX3_savedBy_3 : cX3_savedBy.data.toList.drop 71 = dktX3_savedBy_3 := dk_seg dksX3_savedBy_2 24 rfl rfl
theorem dX3_savedBy_0 : decode cX3_savedBy 0 = .ok (.iconst 0, 1) := dk_3 (dk_at dksX3_savedBy_0 0 rfl rfl)
theorem dX3_savedBy_1 : decode cX3_savedBy 1 = .ok (.istore_n 2, 1) := dk_61 (dk_at dksX3_savedBy_0 1 rfl rfl)
theorem dX3_savedBy_2 : decode cX3_savedBy 2 = .ok (.iconst 0, 1) := dk_3 (dk_at dksX3_savedBy_0 2 rfl rfl)
theorem dX3_savedBy_3 : decode cX3_savedBy 3 = .ok (.istore_n 3, 1) := dk_62 (dk_at dksX3_savedBy_0 3 rfl rfl)
theorem dX3_savedBy_4 : decode cX3_savedBy 4 = .ok (.iload_n 3, 1) := dk_29 (dk_at dksX3_savedBy_0 4 rfl rfl)
theorem dX3_savedBy_5 : decode cX3_savedBy 5 = .ok (.iconst 3, 1) := dk_6 (dk_at dksX3_savedBy_0 5 rfl rfl)
theorem dX3_savedBy_6 : decode cX3_savedBy 6 = .ok (.aload_n 0, 1) := dk_42 (dk_at dksX3_savedBy_0 6 rfl rfl)
theorem dX3_savedBy_7 : decode cX3_savedBy 7 = .ok (.getfield 310, 3) := dk_180 1 54 (dk_at dksX3_savedBy_0 7 rfl rfl)
theorem dX3_savedBy_10 : decode cX3_savedBy 10 = .ok (.imul, 1) := dk_104 (dk_at dksX3_savedBy_0 10 rfl rfl)
theorem dX3_savedBy_11 : decode cX3_savedBy 11 = .ok (.if_icmp .ge 73, 3) := dk_162 0 73 (dk_at dksX3_savedBy_0 11 rfl rfl)
theorem dX3_savedBy_14 : decode cX3_savedBy 14 = .ok (.aload_n 0, 1) := dk_42 (dk_at dksX3_savedBy_0 14 rfl rfl)
theorem dX3_savedBy_15 : decode cX3_savedBy 15 = .ok (.getfield 44, 3) := dk_180 0 44 (dk_at dksX3_savedBy_0 15 rfl rfl)
theorem dX3_savedBy_18 : decode cX3_savedBy 18 = .ok (.iload_n 3, 1) := dk_29 (dk_at dksX3_savedBy_0 18 rfl rfl)
theorem dX3_savedBy_19 : decode cX3_savedBy 19 = .ok (.iconst 2, 1) := dk_5 (dk_at dksX3_savedBy_0 19 rfl rfl)
theorem dX3_savedBy_20 : decode cX3_savedBy 20 = .ok (.iadd, 1) := dk_96 (dk_at dksX3_savedBy_0 20 rfl rfl)
theorem dX3_savedBy_21 : decode cX3_savedBy 21 = .ok (.iaload, 1) := dk_46 (dk_at dksX3_savedBy_0 21 rfl rfl)
theorem dX3_savedBy_22 : decode cX3_savedBy 22 = .ok (.istore 4, 2) := dk_54 4 (dk_at dksX3_savedBy_0 22 rfl rfl)
theorem dX3_savedBy_24 : decode cX3_savedBy 24 = .ok (.iload_n 2, 1) := dk_28 (dk_at dksX3_savedBy_1 0 rfl rfl)
theorem dX3_savedBy_25 : decode cX3_savedBy 25 = .ok (.iload 4, 2) := dk_21 4 (dk_at dksX3_savedBy_1 1 rfl rfl)
theorem dX3_savedBy_27 : decode cX3_savedBy 27 = .ok (.aload_n 0, 1) := dk_42 (dk_at dksX3_savedBy_1 3 rfl rfl)
theorem dX3_savedBy_28 : decode cX3_savedBy 28 = .ok (.getfield 44, 3) := dk_180 0 44 (dk_at dksX3_savedBy_1 4 rfl rfl)
theorem dX3_savedBy_31 : decode cX3_savedBy 31 = .ok (.iload_n 3, 1) := dk_29 (dk_at dksX3_savedBy_1 7 rfl rfl)
theorem dX3_savedBy_32 : decode cX3_savedBy 32 = .ok (.iaload, 1) := dk_46 (dk_at dksX3_savedBy_1 8 rfl rfl)
theorem dX3_savedBy_33 : decode cX3_savedBy 33 = .ok (.aload_n 0, 1) := dk_42 (dk_at dksX3_savedBy_1 9 rfl rfl)
theorem dX3_savedBy_34 : decode cX3_savedBy 34 = .ok (.getfield 44, 3) := dk_180 0 44 (dk_at dksX3_savedBy_1 10 rfl rfl)
theorem dX3_savedBy_37 : decode cX3_savedBy 37 = .ok (.iload_n 3, 1) := dk_29 (dk_at dksX3_savedBy_1 13 rfl rfl)
theorem dX3_savedBy_38 : decode cX3_savedBy 38 = .ok (.iconst 1, 1) := dk_4 (dk_at dksX3_savedBy_1 14 rfl rfl)
theorem dX3_savedBy_39 : decode cX3_savedBy 39 = .ok (.iadd, 1) := dk_96 (dk_at dksX3_savedBy_1 15 rfl rfl)
theorem dX3_savedBy_40 : decode cX3_savedBy 40 = .ok (.iaload, 1) := dk_46 (dk_at dksX3_savedBy_1 16 rfl rfl)
theorem dX3_savedBy_41 : decode cX3_savedBy 41 = .ok (.invokestatic 165, 3) := dk_184 0 165 (dk_at dksX3_savedBy_1 17 rfl rfl)
theorem dX3_savedBy_44 : decode cX3_savedBy 44 = .ok (.ifCond .ne 31, 3) := dk_154 0 31 (dk_at dksX3_savedBy_1 20 rfl rfl)
theorem dX3_savedBy_47 : decode cX3_savedBy 47 = .ok (.iload 4, 2) := dk_21 4 (dk_at dksX3_savedBy_2 0 rfl rfl)
theorem dX3_savedBy_49 : decode cX3_savedBy 49 = .ok (.iload_n 1, 1) := dk_27 (dk_at dksX3_savedBy_2 2 rfl rfl)
theorem dX3_savedBy_50 : decode cX3_savedBy 50 = .ok (.ior, 1) := dk_128 (dk_at dksX3_savedBy_2 3 rfl rfl)
theorem dX3_savedBy_51 : decode cX3_savedBy 51 = .ok (.aload_n 0, 1) := dk_42 (dk_at dksX3_savedBy_2 4 rfl rfl)
theorem dX3_savedBy_52 : decode cX3_savedBy 52 = .ok (.getfield 44, 3) := dk_180 0 44 (dk_at dksX3_savedBy_2 5 rfl rfl)
theorem dX3_savedBy_55 : decode cX3_savedBy 55 = .ok (.iload_n 3, 1) := dk_29 (dk_at dksX3_savedBy_2 8 rfl rfl)
theorem dX3_savedBy_56 : decode cX3_savedBy 56 = .ok (.iaload, 1) := dk_46 (dk_at dksX3_savedBy_2 9 rfl rfl)
theorem dX3_savedBy_57 : decode cX3_savedBy 57 = .ok (.aload_n 0, 1) := dk_42 (dk_at dksX3_savedBy_2 10 rfl rfl)
theorem dX3_savedBy_58 : decode cX3_savedBy 58 = .ok (.getfield 44, 3) := dk_180 0 44 (dk_at dksX3_savedBy_2 11 rfl rfl)
theorem dX3_savedBy_61 : decode cX3_savedBy 61 = .ok (.iload_n 3, 1) := dk_29 (dk_at dksX3_savedBy_2 14 rfl rfl)
theorem dX3_savedBy_62 : decode cX3_savedBy 62 = .ok (.iconst 1, 1) := dk_4 (dk_at dksX3_savedBy_2 15 rfl rfl)
theorem dX3_savedBy_63 : decode cX3_savedBy 63 = .ok (.iadd, 1) := dk_96 (dk_at dksX3_savedBy_2 16 rfl rfl)
theorem dX3_savedBy_64 : decode cX3_savedBy 64 = .ok (.iaload, 1) := dk_46 (dk_at dksX3_savedBy_2 17 rfl rfl)
theorem dX3_savedBy_65 : decode cX3_savedBy 65 = .ok (.invokestatic 165, 3) := dk_184 0 165 (dk_at dksX3_savedBy_2 18 rfl rfl)
theorem dX3_savedBy_68 : decode cX3_savedBy 68 = .ok (.ifCond .eq 7, 3) := dk_153 0 7 (dk_at dksX3_savedBy_2 21 rfl rfl)
theorem dX3_savedBy_71 : decode cX3_savedBy 71 = .ok (.iconst 1, 1) := dk_4 (dk_at dksX3_savedBy_3 0 rfl rfl)
theorem dX3_savedBy_72 : decode cX3_savedBy 72 = .ok (.goto 4, 3) := dk_167 0 4 (dk_at dksX3_savedBy_3 1 rfl rfl)
theorem dX3_savedBy_75 : decode cX3_savedBy 75 = .ok (.iconst 0, 1) := dk_3 (dk_at dksX3_savedBy_3 4 rfl rfl)
theorem dX3_savedBy_76 : decode cX3_savedBy 76 = .ok (.iadd, 1) := dk_96 (dk_at dksX3_savedBy_3 5 rfl rfl)
theorem dX3_savedBy_77 : decode cX3_savedBy 77 = .ok (.istore_n 2, 1) := dk_61 (dk_at dksX3_savedBy_3 6 rfl rfl)
theorem dX3_savedBy_78 : decode cX3_savedBy 78 = .ok (.iinc 3 3, 3) := dk_132 3 3 (dk_at dksX3_savedBy_3 7 rfl rfl)
theorem dX3_savedBy_81 : decode cX3_savedBy 81 = .ok (.goto (-77), 3) := dk_167 255 179 (dk_at dksX3_savedBy_3 10 rfl rfl)
theorem dX3_savedBy_84 : decode cX3_savedBy 84 = .ok (.iload_n 2, 1) := dk_28 (dk_at dksX3_savedBy_3 13 rfl rfl)
theorem dX3_savedBy_85 : decode cX3_savedBy 85 = .ok (.ireturn, 1) := dk_172 (dk_at dksX3_savedBy_3 14 rfl rfl)
abbrev cX3_most : ByteArray := prog_12_method_76_code
def yX3_most : MethodName := ⟨RX3, "most", "(I)I"⟩
def dkwX3_most_3 : List UInt8 := [132, 3, 1, 167, 255, 202, 28, 172]
abbrev dktX3_most_3 : List UInt8 := dkwX3_most_3 ++ []
def dkwX3_most_2 : List UInt8 := [182, 1, 57, 164, 0, 7, 4, 167, 0, 4, 3, 54, 4, 21, 4, 153, 0, 7, 29, 167, 0, 4, 28, 61]
abbrev dktX3_most_2 : List UInt8 := dkwX3_most_2 ++ dktX3_most_3
def dkwX3_most_1 : List UInt8 := [162, 0, 53, 29, 184, 1, 60, 27, 160, 0, 25, 28, 2, 159, 0, 16, 42, 29, 182, 1, 57, 42, 28]
abbrev dktX3_most_1 : List UInt8 := dkwX3_most_1 ++ dktX3_most_2
def dkwX3_most_0 : List UInt8 := [27, 133, 10, 20, 0, 154, 184, 0, 55, 154, 0, 6, 16, 253, 172, 2, 61, 3, 62, 29, 17, 1, 0]
abbrev dktX3_most_0 : List UInt8 := dkwX3_most_0 ++ dktX3_most_1
theorem dksX3_most_0 : cX3_most.data.toList.drop 0 = dktX3_most_0 := by decide +kernel
theorem dksX3_most_1 : cX3_most.data.toList.drop 23 = dktX3_most_1 := dk_seg dksX3_most_0 23 rfl rfl
theorem dksX3_most_2 : cX3_most.data.toList.drop 46 = dktX3_most_2 := dk_seg dksX3_most_1 23 rfl rfl
theorem dksX3_most_3 : cX3_most.data.toList.drop 70 = dktX3_most_3 := dk_seg dksX3_most_2 24 rfl rfl
theorem dX3_most_0 : decode cX3_most 0 = .ok (.iload_n 1, 1) := dk_27 (dk_at dksX3_most_0 0 rfl rfl)
theorem dX3_most_1 : decode cX3_most 1 = .ok (.i2l, 1) := dk_133 (dk_at dksX3_most_0 1 rfl rfl)
theorem dX3_most_2 : decode cX3_most 2 = .ok (.lconst 1, 1) := dk_10 (dk_at dksX3_most_0 2 rfl rfl)
theorem dX3_most_3 : decode cX3_most 3 = .ok (.ldc2_w 154, 3) := dk_20 0 154 (dk_at dksX3_most_0 3 rfl rfl)
theorem dX3_most_6 : decode cX3_most 6 = .ok (.invokestatic 55, 3) := dk_184 0 55 (dk_at dksX3_most_0 6 rfl rfl)
theorem dX3_most_9 : decode cX3_most 9 = .ok (.ifCond .ne 6, 3) := dk_154 0 6 (dk_at dksX3_most_0 9 rfl rfl)
theorem dX3_most_12 : decode cX3_most 12 = .ok (.bipush (-3), 2) := dk_16 253 (dk_at dksX3_most_0 12 rfl rfl)
theorem dX3_most_14 : decode cX3_most 14 = .ok (.ireturn, 1) := dk_172 (dk_at dksX3_most_0 14 rfl rfl)
theorem dX3_most_15 : decode cX3_most 15 = .ok (.iconst (-1), 1) := dk_2 (dk_at dksX3_most_0 15 rfl rfl)
theorem dX3_most_16 : decode cX3_most 16 = .ok (.istore_n 2, 1) := dk_61 (dk_at dksX3_most_0 16 rfl rfl)
theorem dX3_most_17 : decode cX3_most 17 = .ok (.iconst 0, 1) := dk_3 (dk_at dksX3_most_0 17 rfl rfl)
theorem dX3_most_18 : decode cX3_most 18 = .ok (.istore_n 3, 1) := dk_62 (dk_at dksX3_most_0 18 rfl rfl)
theorem dX3_most_19 : decode cX3_most 19 = .ok (.iload_n 3, 1) := dk_29 (dk_at dksX3_most_0 19 rfl rfl)
theorem dX3_most_20 : decode cX3_most 20 = .ok (.sipush 256, 3) := dk_17 1 0 (dk_at dksX3_most_0 20 rfl rfl)
theorem dX3_most_23 : decode cX3_most 23 = .ok (.if_icmp .ge 53, 3) := dk_162 0 53 (dk_at dksX3_most_1 0 rfl rfl)
theorem dX3_most_26 : decode cX3_most 26 = .ok (.iload_n 3, 1) := dk_29 (dk_at dksX3_most_1 3 rfl rfl)
theorem dX3_most_27 : decode cX3_most 27 = .ok (.invokestatic 316, 3) := dk_184 1 60 (dk_at dksX3_most_1 4 rfl rfl)
theorem dX3_most_30 : decode cX3_most 30 = .ok (.iload_n 1, 1) := dk_27 (dk_at dksX3_most_1 7 rfl rfl)
theorem dX3_most_31 : decode cX3_most 31 = .ok (.if_icmp .ne 25, 3) := dk_160 0 25 (dk_at dksX3_most_1 8 rfl rfl)
theorem dX3_most_34 : decode cX3_most 34 = .ok (.iload_n 2, 1) := dk_28 (dk_at dksX3_most_1 11 rfl rfl)
theorem dX3_most_35 : decode cX3_most 35 = .ok (.iconst (-1), 1) := dk_2 (dk_at dksX3_most_1 12 rfl rfl)
theorem dX3_most_36 : decode cX3_most 36 = .ok (.if_icmp .eq 16, 3) := dk_159 0 16 (dk_at dksX3_most_1 13 rfl rfl)
theorem dX3_most_39 : decode cX3_most 39 = .ok (.aload_n 0, 1) := dk_42 (dk_at dksX3_most_1 16 rfl rfl)
theorem dX3_most_40 : decode cX3_most 40 = .ok (.iload_n 3, 1) := dk_29 (dk_at dksX3_most_1 17 rfl rfl)
theorem dX3_most_41 : decode cX3_most 41 = .ok (.invokevirtual 313, 3) := dk_182 1 57 (dk_at dksX3_most_1 18 rfl rfl)
theorem dX3_most_44 : decode cX3_most 44 = .ok (.aload_n 0, 1) := dk_42 (dk_at dksX3_most_1 21 rfl rfl)
theorem dX3_most_45 : decode cX3_most 45 = .ok (.iload_n 2, 1) := dk_28 (dk_at dksX3_most_1 22 rfl rfl)
theorem dX3_most_46 : decode cX3_most 46 = .ok (.invokevirtual 313, 3) := dk_182 1 57 (dk_at dksX3_most_2 0 rfl rfl)
theorem dX3_most_49 : decode cX3_most 49 = .ok (.if_icmp .le 7, 3) := dk_164 0 7 (dk_at dksX3_most_2 3 rfl rfl)
theorem dX3_most_52 : decode cX3_most 52 = .ok (.iconst 1, 1) := dk_4 (dk_at dksX3_most_2 6 rfl rfl)
theorem dX3_most_53 : decode cX3_most 53 = .ok (.goto 4, 3) := dk_167 0 4 (dk_at dksX3_most_2 7 rfl rfl)
theorem dX3_most_56 : decode cX3_most 56 = .ok (.iconst 0, 1) := dk_3 (dk_at dksX3_most_2 10 rfl rfl)
theorem dX3_most_57 : decode cX3_most 57 = .ok (.istore 4, 2) := dk_54 4 (dk_at dksX3_most_2 11 rfl rfl)
theorem dX3_most_59 : decode cX3_most 59 = .ok (.iload 4, 2) := dk_21 4 (dk_at dksX3_most_2 13 rfl rfl)
theorem dX3_most_61 : decode cX3_most 61 = .ok (.ifCond .eq 7, 3) := dk_153 0 7 (dk_at dksX3_most_2 15 rfl rfl)
theorem dX3_most_64 : decode cX3_most 64 = .ok (.iload_n 3, 1) := dk_29 (dk_at dksX3_most_2 18 rfl rfl)
theorem dX3_most_65 : decode cX3_most 65 = .ok (.goto 4, 3) := dk_167 0 4 (dk_at dksX3_most_2 19 rfl rfl)
theorem dX3_most_68 : decode cX3_most 68 = .ok (.iload_n 2, 1) := dk_28 (dk_at dksX3_most_2 22 rfl rfl)
theorem dX3_most_69 : decode cX3_most 69 = .ok (.istore_n 2, 1) := dk_61 (dk_at dksX3_most_2 23 rfl rfl)
theorem dX3_most_70 : decode cX3_most 70 = .ok (.iinc 3 1, 3) := dk_132 3 1 (dk_at dksX3_most_3 0 rfl rfl)
theorem dX3_most_73 : decode cX3_most 73 = .ok (.goto (-54), 3) := dk_167 255 202 (dk_at dksX3_most_3 3 rfl rfl)
theorem dX3_most_76 : decode cX3_most 76 = .ok (.iload_n 2, 1) := dk_28 (dk_at dksX3_most_3 6 rfl rfl)
theorem dX3_most_77 : decode cX3_most 77 = .ok (.ireturn, 1) := dk_172 (dk_at dksX3_most_3 7 rfl rfl)
abbrev cX3_many : ByteArray := prog_12_method_75_code
def yX3_many : MethodName := ⟨RX3, "many", "(I)I"⟩
def dkwX3_many_1 : List UInt8 := [27, 172]
abbrev dktX3_many_1 : List UInt8 := dkwX3_many_1 ++ []
def dkwX3_many_0 : List UInt8 := [3, 60, 3, 61, 28, 16, 8, 162, 0, 17, 27, 26, 28, 122, 4, 126, 96, 60, 132, 2, 1, 167, 255, 239]
abbrev dktX3_many_0 : List UInt8 := dkwX3_many_0 ++ dktX3_many_1
theorem dksX3_many_0 : cX3_many.data.toList.drop 0 = dktX3_many_0 := by decide +kernel
theorem dksX3_many_1 : cX3_many.data.toList.drop 24 = dktX3_many_1 := dk_seg dksX3_many_0 24 rfl rfl
theorem dX3_many_0 : decode cX3_many 0 = .ok (.iconst 0, 1) := dk_3 (dk_at dksX3_many_0 0 rfl rfl)
theorem dX3_many_1 : decode cX3_many 1 = .ok (.istore_n 1, 1) := dk_60 (dk_at dksX3_many_0 1 rfl rfl)
theorem dX3_many_2 : decode cX3_many 2 = .ok (.iconst 0, 1) := dk_3 (dk_at dksX3_many_0 2 rfl rfl)
theorem dX3_many_3 : decode cX3_many 3 = .ok (.istore_n 2, 1) := dk_61 (dk_at dksX3_many_0 3 rfl rfl)
theorem dX3_many_4 : decode cX3_many 4 = .ok (.iload_n 2, 1) := dk_28 (dk_at dksX3_many_0 4 rfl rfl)
theorem dX3_many_5 : decode cX3_many 5 = .ok (.bipush 8, 2) := dk_16 8 (dk_at dksX3_many_0 5 rfl rfl)
theorem dX3_many_7 : decode cX3_many 7 = .ok (.if_icmp .ge 17, 3) := dk_162 0 17 (dk_at dksX3_many_0 7 rfl rfl)
theorem dX3_many_10 : decode cX3_many 10 = .ok (.iload_n 1, 1) := dk_27 (dk_at dksX3_many_0 10 rfl rfl)
theorem dX3_many_11 : decode cX3_many 11 = .ok (.iload_n 0, 1) := dk_26 (dk_at dksX3_many_0 11 rfl rfl)
theorem dX3_many_12 : decode cX3_many 12 = .ok (.iload_n 2, 1) := dk_28 (dk_at dksX3_many_0 12 rfl rfl)
theorem dX3_many_13 : decode cX3_many 13 = .ok (.ishr, 1) := dk_122 (dk_at dksX3_many_0 13 rfl rfl)
theorem dX3_many_14 : decode cX3_many 14 = .ok (.iconst 1, 1) := dk_4 (dk_at dksX3_many_0 14 rfl rfl)
theorem dX3_many_15 : decode cX3_many 15 = .ok (.iand, 1) := dk_126 (dk_at dksX3_many_0 15 rfl rfl)
theorem dX3_many_16 : decode cX3_many 16 = .ok (.iadd, 1) := dk_96 (dk_at dksX3_many_0 16 rfl rfl)
theorem dX3_many_17 : decode cX3_many 17 = .ok (.istore_n 1, 1) := dk_60 (dk_at dksX3_many_0 17 rfl rfl)
theorem dX3_many_18 : decode cX3_many 18 = .ok (.iinc 2 1, 3) := dk_132 2 1 (dk_at dksX3_many_0 18 rfl rfl)
theorem dX3_many_21 : decode cX3_many 21 = .ok (.goto (-17), 3) := dk_167 255 239 (dk_at dksX3_many_0 21 rfl rfl)
theorem dX3_many_24 : decode cX3_many 24 = .ok (.iload_n 1, 1) := dk_27 (dk_at dksX3_many_1 0 rfl rfl)
theorem dX3_many_25 : decode cX3_many 25 = .ok (.ireturn, 1) := dk_172 (dk_at dksX3_many_1 1 rfl rfl)
abbrev cX3_box : ByteArray := prog_12_method_78_code
def yX3_box : MethodName := ⟨RX3, "box", "(I)I"⟩
def dkwX3_box_4 : List UInt8 := [172]
abbrev dktX3_box_4 : List UInt8 := dkwX3_box_4 ++ []
def dkwX3_box_3 : List UInt8 := [167, 0, 4, 28, 61, 132, 3, 1, 167, 255, 196, 27, 154, 0, 7, 28, 167, 0, 8, 42, 28, 182, 1, 63]
abbrev dktX3_box_3 : List UInt8 := dkwX3_box_3 ++ dktX3_box_4
def dkwX3_box_2 : List UInt8 := [157, 0, 21, 21, 4, 154, 0, 20, 42, 29, 182, 0, 156, 42, 28, 182, 0, 156, 162, 0, 7, 29]
abbrev dktX3_box_2 : List UInt8 := dkwX3_box_2 ++ dktX3_box_3
def dkwX3_box_1 : List UInt8 := [42, 29, 182, 0, 162, 153, 0, 45, 42, 29, 182, 1, 63, 42, 28, 182, 1, 63, 100, 54, 4, 21, 4]
abbrev dktX3_box_1 : List UInt8 := dkwX3_box_1 ++ dktX3_box_2
def dkwX3_box_0 : List UInt8 := [27, 133, 9, 10, 184, 0, 55, 154, 0, 6, 16, 253, 172, 3, 61, 4, 62, 29, 17, 1, 0, 162, 0, 59]
abbrev dktX3_box_0 : List UInt8 := dkwX3_box_0 ++ dktX3_box_1
theorem dksX3_box_0 : cX3_box.data.toList.drop 0 = dktX3_box_0 := by decide +kernel
theorem dksX3_box_1 : cX3_box.data.toList.drop 24 = dktX3_box_1 := dk_seg dksX3_box_0 24 rfl rfl
theorem dksX3_box_2 : cX3_box.data.toList.drop 47 = dktX3_box_2 := dk_seg dksX3_box_1 23 rfl rfl
theorem dksX3_box_3 : cX3_box.data.toList.drop 69 = dktX3_box_3 := dk_seg dksX3_box_2 22 rfl rfl
theorem dksX3_box_4 : cX3_box.data.toList.drop 93 = dktX3_box_4 := dk_seg dksX3_box_3 24 rfl rfl
theorem dX3_box_0 : decode cX3_box 0 = .ok (.iload_n 1, 1) := dk_27 (dk_at dksX3_box_0 0 rfl rfl)
theorem dX3_box_1 : decode cX3_box 1 = .ok (.i2l, 1) := dk_133 (dk_at dksX3_box_0 1 rfl rfl)
theorem dX3_box_2 : decode cX3_box 2 = .ok (.lconst 0, 1) := dk_9 (dk_at dksX3_box_0 2 rfl rfl)
theorem dX3_box_3 : decode cX3_box 3 = .ok (.lconst 1, 1) := dk_10 (dk_at dksX3_box_0 3 rfl rfl)
theorem dX3_box_4 : decode cX3_box 4 = .ok (.invokestatic 55, 3) := dk_184 0 55 (dk_at dksX3_box_0 4 rfl rfl)
theorem dX3_box_7 : decode cX3_box 7 = .ok (.ifCond .ne 6, 3) := dk_154 0 6 (dk_at dksX3_box_0 7 rfl rfl)
theorem dX3_box_10 : decode cX3_box 10 = .ok (.bipush (-3), 2) := dk_16 253 (dk_at dksX3_box_0 10 rfl rfl)
theorem dX3_box_12 : decode cX3_box 12 = .ok (.ireturn, 1) := dk_172 (dk_at dksX3_box_0 12 rfl rfl)
theorem dX3_box_13 : decode cX3_box 13 = .ok (.iconst 0, 1) := dk_3 (dk_at dksX3_box_0 13 rfl rfl)
theorem dX3_box_14 : decode cX3_box 14 = .ok (.istore_n 2, 1) := dk_61 (dk_at dksX3_box_0 14 rfl rfl)
theorem dX3_box_15 : decode cX3_box 15 = .ok (.iconst 1, 1) := dk_4 (dk_at dksX3_box_0 15 rfl rfl)
theorem dX3_box_16 : decode cX3_box 16 = .ok (.istore_n 3, 1) := dk_62 (dk_at dksX3_box_0 16 rfl rfl)
theorem dX3_box_17 : decode cX3_box 17 = .ok (.iload_n 3, 1) := dk_29 (dk_at dksX3_box_0 17 rfl rfl)
theorem dX3_box_18 : decode cX3_box 18 = .ok (.sipush 256, 3) := dk_17 1 0 (dk_at dksX3_box_0 18 rfl rfl)
theorem dX3_box_21 : decode cX3_box 21 = .ok (.if_icmp .ge 59, 3) := dk_162 0 59 (dk_at dksX3_box_0 21 rfl rfl)
theorem dX3_box_24 : decode cX3_box 24 = .ok (.aload_n 0, 1) := dk_42 (dk_at dksX3_box_1 0 rfl rfl)
theorem dX3_box_25 : decode cX3_box 25 = .ok (.iload_n 3, 1) := dk_29 (dk_at dksX3_box_1 1 rfl rfl)
theorem dX3_box_26 : decode cX3_box 26 = .ok (.invokevirtual 162, 3) := dk_182 0 162 (dk_at dksX3_box_1 2 rfl rfl)
theorem dX3_box_29 : decode cX3_box 29 = .ok (.ifCond .eq 45, 3) := dk_153 0 45 (dk_at dksX3_box_1 5 rfl rfl)
theorem dX3_box_32 : decode cX3_box 32 = .ok (.aload_n 0, 1) := dk_42 (dk_at dksX3_box_1 8 rfl rfl)
theorem dX3_box_33 : decode cX3_box 33 = .ok (.iload_n 3, 1) := dk_29 (dk_at dksX3_box_1 9 rfl rfl)
theorem dX3_box_34 : decode cX3_box 34 = .ok (.invokevirtual 319, 3) := dk_182 1 63 (dk_at dksX3_box_1 10 rfl rfl)
theorem dX3_box_37 : decode cX3_box 37 = .ok (.aload_n 0, 1) := dk_42 (dk_at dksX3_box_1 13 rfl rfl)
theorem dX3_box_38 : decode cX3_box 38 = .ok (.iload_n 2, 1) := dk_28 (dk_at dksX3_box_1 14 rfl rfl)
theorem dX3_box_39 : decode cX3_box 39 = .ok (.invokevirtual 319, 3) := dk_182 1 63 (dk_at dksX3_box_1 15 rfl rfl)
theorem dX3_box_42 : decode cX3_box 42 = .ok (.isub, 1) := dk_100 (dk_at dksX3_box_1 18 rfl rfl)
theorem dX3_box_43 : decode cX3_box 43 = .ok (.istore 4, 2) := dk_54 4 (dk_at dksX3_box_1 19 rfl rfl)
theorem dX3_box_45 : decode cX3_box 45 = .ok (.iload 4, 2) := dk_21 4 (dk_at dksX3_box_1 21 rfl rfl)
theorem dX3_box_47 : decode cX3_box 47 = .ok (.ifCond .gt 21, 3) := dk_157 0 21 (dk_at dksX3_box_2 0 rfl rfl)
theorem dX3_box_50 : decode cX3_box 50 = .ok (.iload 4, 2) := dk_21 4 (dk_at dksX3_box_2 3 rfl rfl)
theorem dX3_box_52 : decode cX3_box 52 = .ok (.ifCond .ne 20, 3) := dk_154 0 20 (dk_at dksX3_box_2 5 rfl rfl)
theorem dX3_box_55 : decode cX3_box 55 = .ok (.aload_n 0, 1) := dk_42 (dk_at dksX3_box_2 8 rfl rfl)
theorem dX3_box_56 : decode cX3_box 56 = .ok (.iload_n 3, 1) := dk_29 (dk_at dksX3_box_2 9 rfl rfl)
theorem dX3_box_57 : decode cX3_box 57 = .ok (.invokevirtual 156, 3) := dk_182 0 156 (dk_at dksX3_box_2 10 rfl rfl)
theorem dX3_box_60 : decode cX3_box 60 = .ok (.aload_n 0, 1) := dk_42 (dk_at dksX3_box_2 13 rfl rfl)
theorem dX3_box_61 : decode cX3_box 61 = .ok (.iload_n 2, 1) := dk_28 (dk_at dksX3_box_2 14 rfl rfl)
theorem dX3_box_62 : decode cX3_box 62 = .ok (.invokevirtual 156, 3) := dk_182 0 156 (dk_at dksX3_box_2 15 rfl rfl)
theorem dX3_box_65 : decode cX3_box 65 = .ok (.if_icmp .ge 7, 3) := dk_162 0 7 (dk_at dksX3_box_2 18 rfl rfl)
theorem dX3_box_68 : decode cX3_box 68 = .ok (.iload_n 3, 1) := dk_29 (dk_at dksX3_box_2 21 rfl rfl)
theorem dX3_box_69 : decode cX3_box 69 = .ok (.goto 4, 3) := dk_167 0 4 (dk_at dksX3_box_3 0 rfl rfl)
theorem dX3_box_72 : decode cX3_box 72 = .ok (.iload_n 2, 1) := dk_28 (dk_at dksX3_box_3 3 rfl rfl)
theorem dX3_box_73 : decode cX3_box 73 = .ok (.istore_n 2, 1) := dk_61 (dk_at dksX3_box_3 4 rfl rfl)
theorem dX3_box_74 : decode cX3_box 74 = .ok (.iinc 3 1, 3) := dk_132 3 1 (dk_at dksX3_box_3 5 rfl rfl)
theorem dX3_box_77 : decode cX3_box 77 = .ok (.goto (-60), 3) := dk_167 255 196 (dk_at dksX3_box_3 8 rfl rfl)
theorem dX3_box_80 : decode cX3_box 80 = .ok (.iload_n 1, 1) := dk_27 (dk_at dksX3_box_3 11 rfl rfl)
theorem dX3_box_81 : decode cX3_box 81 = .ok (.ifCond .ne 7, 3) := dk_154 0 7 (dk_at dksX3_box_3 12 rfl rfl)
theorem dX3_box_84 : decode cX3_box 84 = .ok (.iload_n 2, 1) := dk_28 (dk_at dksX3_box_3 15 rfl rfl)
theorem dX3_box_85 : decode cX3_box 85 = .ok (.goto 8, 3) := dk_167 0 8 (dk_at dksX3_box_3 16 rfl rfl)
theorem dX3_box_88 : decode cX3_box 88 = .ok (.aload_n 0, 1) := dk_42 (dk_at dksX3_box_3 19 rfl rfl)
theorem dX3_box_89 : decode cX3_box 89 = .ok (.iload_n 2, 1) := dk_28 (dk_at dksX3_box_3 20 rfl rfl)
theorem dX3_box_90 : decode cX3_box 90 = .ok (.invokevirtual 319, 3) := dk_182 1 63 (dk_at dksX3_box_3 21 rfl rfl)
theorem dX3_box_93 : decode cX3_box 93 = .ok (.ireturn, 1) := dk_172 (dk_at dksX3_box_4 0 rfl rfl)
abbrev cX3_doesFor : ByteArray := prog_12_method_77_code
def yX3_doesFor : MethodName := ⟨RX3, "doesFor", "(I)I"⟩
def dkwX3_doesFor_2 : List UInt8 := [167, 255, 214, 28, 172]
abbrev dktX3_doesFor_2 : List UInt8 := dkwX3_doesFor_2 ++ []
def dkwX3_doesFor_1 : List UInt8 := [180, 0, 44, 29, 4, 96, 46, 184, 0, 165, 153, 0, 7, 4, 167, 0, 4, 3, 96, 61, 132, 3, 3]
abbrev dktX3_doesFor_1 : List UInt8 := dkwX3_doesFor_1 ++ dktX3_doesFor_2
def dkwX3_doesFor_0 : List UInt8 := [3, 61, 3, 62, 29, 6, 42, 180, 1, 54, 104, 162, 0, 38, 28, 27, 42, 180, 0, 44, 29, 46, 42]
abbrev dktX3_doesFor_0 : List UInt8 := dkwX3_doesFor_0 ++ dktX3_doesFor_1
theorem dksX3_doesFor_0 : cX3_doesFor.data.toList.drop 0 = dktX3_doesFor_0 := by decide +kernel
theorem dksX3_doesFor_1 : cX3_doesFor.data.toList.drop 23 = dktX3_doesFor_1 := dk_seg dksX3_doesFor_0 23 rfl rfl
theorem dksX3_doesFor_2 : cX3_doesFor.data.toList.drop 46 = dktX3_doesFor_2 := dk_seg dksX3_doesFor_1 23 rfl rfl
theorem dX3_doesFor_0 : decode cX3_doesFor 0 = .ok (.iconst 0, 1) := dk_3 (dk_at dksX3_doesFor_0 0 rfl rfl)
theorem dX3_doesFor_1 : decode cX3_doesFor 1 = .ok (.istore_n 2, 1) := dk_61 (dk_at dksX3_doesFor_0 1 rfl rfl)
theorem dX3_doesFor_2 : decode cX3_doesFor 2 = .ok (.iconst 0, 1) := dk_3 (dk_at dksX3_doesFor_0 2 rfl rfl)
theorem dX3_doesFor_3 : decode cX3_doesFor 3 = .ok (.istore_n 3, 1) := dk_62 (dk_at dksX3_doesFor_0 3 rfl rfl)
theorem dX3_doesFor_4 : decode cX3_doesFor 4 = .ok (.iload_n 3, 1) := dk_29 (dk_at dksX3_doesFor_0 4 rfl rfl)
theorem dX3_doesFor_5 : decode cX3_doesFor 5 = .ok (.iconst 3, 1) := dk_6 (dk_at dksX3_doesFor_0 5 rfl rfl)
theorem dX3_doesFor_6 : decode cX3_doesFor 6 = .ok (.aload_n 0, 1) := dk_42 (dk_at dksX3_doesFor_0 6 rfl rfl)
theorem dX3_doesFor_7 : decode cX3_doesFor 7 = .ok (.getfield 310, 3) := dk_180 1 54 (dk_at dksX3_doesFor_0 7 rfl rfl)
theorem dX3_doesFor_10 : decode cX3_doesFor 10 = .ok (.imul, 1) := dk_104 (dk_at dksX3_doesFor_0 10 rfl rfl)
theorem dX3_doesFor_11 : decode cX3_doesFor 11 = .ok (.if_icmp .ge 38, 3) := dk_162 0 38 (dk_at dksX3_doesFor_0 11 rfl rfl)
theorem dX3_doesFor_14 : decode cX3_doesFor 14 = .ok (.iload_n 2, 1) := dk_28 (dk_at dksX3_doesFor_0 14 rfl rfl)
theorem dX3_doesFor_15 : decode cX3_doesFor 15 = .ok (.iload_n 1, 1) := dk_27 (dk_at dksX3_doesFor_0 15 rfl rfl)
theorem dX3_doesFor_16 : decode cX3_doesFor 16 = .ok (.aload_n 0, 1) := dk_42 (dk_at dksX3_doesFor_0 16 rfl rfl)
theorem dX3_doesFor_17 : decode cX3_doesFor 17 = .ok (.getfield 44, 3) := dk_180 0 44 (dk_at dksX3_doesFor_0 17 rfl rfl)
theorem dX3_doesFor_20 : decode cX3_doesFor 20 = .ok (.iload_n 3, 1) := dk_29 (dk_at dksX3_doesFor_0 20 rfl rfl)
theorem dX3_doesFor_21 : decode cX3_doesFor 21 = .ok (.iaload, 1) := dk_46 (dk_at dksX3_doesFor_0 21 rfl rfl)
theorem dX3_doesFor_22 : decode cX3_doesFor 22 = .ok (.aload_n 0, 1) := dk_42 (dk_at dksX3_doesFor_0 22 rfl rfl)
theorem dX3_doesFor_23 : decode cX3_doesFor 23 = .ok (.getfield 44, 3) := dk_180 0 44 (dk_at dksX3_doesFor_1 0 rfl rfl)
theorem dX3_doesFor_26 : decode cX3_doesFor 26 = .ok (.iload_n 3, 1) := dk_29 (dk_at dksX3_doesFor_1 3 rfl rfl)
theorem dX3_doesFor_27 : decode cX3_doesFor 27 = .ok (.iconst 1, 1) := dk_4 (dk_at dksX3_doesFor_1 4 rfl rfl)
theorem dX3_doesFor_28 : decode cX3_doesFor 28 = .ok (.iadd, 1) := dk_96 (dk_at dksX3_doesFor_1 5 rfl rfl)
theorem dX3_doesFor_29 : decode cX3_doesFor 29 = .ok (.iaload, 1) := dk_46 (dk_at dksX3_doesFor_1 6 rfl rfl)
theorem dX3_doesFor_30 : decode cX3_doesFor 30 = .ok (.invokestatic 165, 3) := dk_184 0 165 (dk_at dksX3_doesFor_1 7 rfl rfl)
theorem dX3_doesFor_33 : decode cX3_doesFor 33 = .ok (.ifCond .eq 7, 3) := dk_153 0 7 (dk_at dksX3_doesFor_1 10 rfl rfl)
theorem dX3_doesFor_36 : decode cX3_doesFor 36 = .ok (.iconst 1, 1) := dk_4 (dk_at dksX3_doesFor_1 13 rfl rfl)
theorem dX3_doesFor_37 : decode cX3_doesFor 37 = .ok (.goto 4, 3) := dk_167 0 4 (dk_at dksX3_doesFor_1 14 rfl rfl)
theorem dX3_doesFor_40 : decode cX3_doesFor 40 = .ok (.iconst 0, 1) := dk_3 (dk_at dksX3_doesFor_1 17 rfl rfl)
theorem dX3_doesFor_41 : decode cX3_doesFor 41 = .ok (.iadd, 1) := dk_96 (dk_at dksX3_doesFor_1 18 rfl rfl)
theorem dX3_doesFor_42 : decode cX3_doesFor 42 = .ok (.istore_n 2, 1) := dk_61 (dk_at dksX3_doesFor_1 19 rfl rfl)
theorem dX3_doesFor_43 : decode cX3_doesFor 43 = .ok (.iinc 3 3, 3) := dk_132 3 3 (dk_at dksX3_doesFor_1 20 rfl rfl)
theorem dX3_doesFor_46 : decode cX3_doesFor 46 = .ok (.goto (-42), 3) := dk_167 255 214 (dk_at dksX3_doesFor_2 0 rfl rfl)
theorem dX3_doesFor_49 : decode cX3_doesFor 49 = .ok (.iload_n 2, 1) := dk_28 (dk_at dksX3_doesFor_2 3 rfl rfl)
theorem dX3_doesFor_50 : decode cX3_doesFor 50 = .ok (.ireturn, 1) := dk_172 (dk_at dksX3_doesFor_2 4 rfl rfl)
abbrev cX3_run : ByteArray := prog_12_method_79_code
def yX3_run : MethodName := ⟨RX3, "run", "(IIIII)I"⟩
def dkwX3_run_4 : List UInt8 := [21, 5, 5, 160, 0, 10, 42, 180, 0, 212, 167, 0, 7, 42, 180, 0, 206, 172]
abbrev dktX3_run_4 : List UInt8 := dkwX3_run_4 ++ []
def dkwX3_run_3 : List UInt8 := [180, 0, 209, 17, 3, 232, 96, 167, 0, 33, 21, 5, 4, 160, 0, 10, 42, 180, 0, 203, 167, 0, 20]
abbrev dktX3_run_3 : List UInt8 := dkwX3_run_3 ++ dktX3_run_4
def dkwX3_run_2 : List UInt8 := [21, 4, 182, 0, 241, 42, 3, 182, 0, 224, 42, 28, 27, 182, 0, 227, 21, 5, 154, 0, 14, 42]
abbrev dktX3_run_2 : List UInt8 := dkwX3_run_2 ++ dktX3_run_3
def dkwX3_run_1 : List UInt8 := [184, 0, 55, 153, 0, 16, 21, 5, 133, 9, 20, 0, 154, 184, 0, 55, 154, 0, 6, 16, 253, 172, 42, 29]
abbrev dktX3_run_1 : List UInt8 := dkwX3_run_1 ++ dktX3_run_2
def dkwX3_run_0 : List UInt8 := [42, 28, 29, 21, 4, 182, 0, 234, 54, 6, 21, 6, 153, 0, 6, 21, 6, 172, 27, 133, 9, 20, 1, 66]
abbrev dktX3_run_0 : List UInt8 := dkwX3_run_0 ++ dktX3_run_1
theorem dksX3_run_0 : cX3_run.data.toList.drop 0 = dktX3_run_0 := by decide +kernel
theorem dksX3_run_1 : cX3_run.data.toList.drop 24 = dktX3_run_1 := dk_seg dksX3_run_0 24 rfl rfl
theorem dksX3_run_2 : cX3_run.data.toList.drop 48 = dktX3_run_2 := dk_seg dksX3_run_1 24 rfl rfl
theorem dksX3_run_3 : cX3_run.data.toList.drop 70 = dktX3_run_3 := dk_seg dksX3_run_2 22 rfl rfl
theorem dksX3_run_4 : cX3_run.data.toList.drop 93 = dktX3_run_4 := dk_seg dksX3_run_3 23 rfl rfl
theorem dX3_run_0 : decode cX3_run 0 = .ok (.aload_n 0, 1) := dk_42 (dk_at dksX3_run_0 0 rfl rfl)
theorem dX3_run_1 : decode cX3_run 1 = .ok (.iload_n 2, 1) := dk_28 (dk_at dksX3_run_0 1 rfl rfl)
theorem dX3_run_2 : decode cX3_run 2 = .ok (.iload_n 3, 1) := dk_29 (dk_at dksX3_run_0 2 rfl rfl)
theorem dX3_run_3 : decode cX3_run 3 = .ok (.iload 4, 2) := dk_21 4 (dk_at dksX3_run_0 3 rfl rfl)
theorem dX3_run_5 : decode cX3_run 5 = .ok (.invokevirtual 234, 3) := dk_182 0 234 (dk_at dksX3_run_0 5 rfl rfl)
theorem dX3_run_8 : decode cX3_run 8 = .ok (.istore 6, 2) := dk_54 6 (dk_at dksX3_run_0 8 rfl rfl)
theorem dX3_run_10 : decode cX3_run 10 = .ok (.iload 6, 2) := dk_21 6 (dk_at dksX3_run_0 10 rfl rfl)
theorem dX3_run_12 : decode cX3_run 12 = .ok (.ifCond .eq 6, 3) := dk_153 0 6 (dk_at dksX3_run_0 12 rfl rfl)
theorem dX3_run_15 : decode cX3_run 15 = .ok (.iload 6, 2) := dk_21 6 (dk_at dksX3_run_0 15 rfl rfl)
theorem dX3_run_17 : decode cX3_run 17 = .ok (.ireturn, 1) := dk_172 (dk_at dksX3_run_0 17 rfl rfl)
theorem dX3_run_18 : decode cX3_run 18 = .ok (.iload_n 1, 1) := dk_27 (dk_at dksX3_run_0 18 rfl rfl)
theorem dX3_run_19 : decode cX3_run 19 = .ok (.i2l, 1) := dk_133 (dk_at dksX3_run_0 19 rfl rfl)
theorem dX3_run_20 : decode cX3_run 20 = .ok (.lconst 0, 1) := dk_9 (dk_at dksX3_run_0 20 rfl rfl)
theorem dX3_run_21 : decode cX3_run 21 = .ok (.ldc2_w 322, 3) := dk_20 1 66 (dk_at dksX3_run_0 21 rfl rfl)
theorem dX3_run_24 : decode cX3_run 24 = .ok (.invokestatic 55, 3) := dk_184 0 55 (dk_at dksX3_run_1 0 rfl rfl)
theorem dX3_run_27 : decode cX3_run 27 = .ok (.ifCond .eq 16, 3) := dk_153 0 16 (dk_at dksX3_run_1 3 rfl rfl)
theorem dX3_run_30 : decode cX3_run 30 = .ok (.iload 5, 2) := dk_21 5 (dk_at dksX3_run_1 6 rfl rfl)
theorem dX3_run_32 : decode cX3_run 32 = .ok (.i2l, 1) := dk_133 (dk_at dksX3_run_1 8 rfl rfl)
theorem dX3_run_33 : decode cX3_run 33 = .ok (.lconst 0, 1) := dk_9 (dk_at dksX3_run_1 9 rfl rfl)
theorem dX3_run_34 : decode cX3_run 34 = .ok (.ldc2_w 154, 3) := dk_20 0 154 (dk_at dksX3_run_1 10 rfl rfl)
theorem dX3_run_37 : decode cX3_run 37 = .ok (.invokestatic 55, 3) := dk_184 0 55 (dk_at dksX3_run_1 13 rfl rfl)
theorem dX3_run_40 : decode cX3_run 40 = .ok (.ifCond .ne 6, 3) := dk_154 0 6 (dk_at dksX3_run_1 16 rfl rfl)
theorem dX3_run_43 : decode cX3_run 43 = .ok (.bipush (-3), 2) := dk_16 253 (dk_at dksX3_run_1 19 rfl rfl)
theorem dX3_run_45 : decode cX3_run 45 = .ok (.ireturn, 1) := dk_172 (dk_at dksX3_run_1 21 rfl rfl)
theorem dX3_run_46 : decode cX3_run 46 = .ok (.aload_n 0, 1) := dk_42 (dk_at dksX3_run_1 22 rfl rfl)
theorem dX3_run_47 : decode cX3_run 47 = .ok (.iload_n 3, 1) := dk_29 (dk_at dksX3_run_1 23 rfl rfl)
theorem dX3_run_48 : decode cX3_run 48 = .ok (.iload 4, 2) := dk_21 4 (dk_at dksX3_run_2 0 rfl rfl)
theorem dX3_run_50 : decode cX3_run 50 = .ok (.invokevirtual 241, 3) := dk_182 0 241 (dk_at dksX3_run_2 2 rfl rfl)
theorem dX3_run_53 : decode cX3_run 53 = .ok (.aload_n 0, 1) := dk_42 (dk_at dksX3_run_2 5 rfl rfl)
theorem dX3_run_54 : decode cX3_run 54 = .ok (.iconst 0, 1) := dk_3 (dk_at dksX3_run_2 6 rfl rfl)
theorem dX3_run_55 : decode cX3_run 55 = .ok (.invokevirtual 224, 3) := dk_182 0 224 (dk_at dksX3_run_2 7 rfl rfl)
theorem dX3_run_58 : decode cX3_run 58 = .ok (.aload_n 0, 1) := dk_42 (dk_at dksX3_run_2 10 rfl rfl)
theorem dX3_run_59 : decode cX3_run 59 = .ok (.iload_n 2, 1) := dk_28 (dk_at dksX3_run_2 11 rfl rfl)
theorem dX3_run_60 : decode cX3_run 60 = .ok (.iload_n 1, 1) := dk_27 (dk_at dksX3_run_2 12 rfl rfl)
theorem dX3_run_61 : decode cX3_run 61 = .ok (.invokevirtual 227, 3) := dk_182 0 227 (dk_at dksX3_run_2 13 rfl rfl)
theorem dX3_run_64 : decode cX3_run 64 = .ok (.iload 5, 2) := dk_21 5 (dk_at dksX3_run_2 16 rfl rfl)
theorem dX3_run_66 : decode cX3_run 66 = .ok (.ifCond .ne 14, 3) := dk_154 0 14 (dk_at dksX3_run_2 18 rfl rfl)
theorem dX3_run_69 : decode cX3_run 69 = .ok (.aload_n 0, 1) := dk_42 (dk_at dksX3_run_2 21 rfl rfl)
theorem dX3_run_70 : decode cX3_run 70 = .ok (.getfield 209, 3) := dk_180 0 209 (dk_at dksX3_run_3 0 rfl rfl)
theorem dX3_run_73 : decode cX3_run 73 = .ok (.sipush 1000, 3) := dk_17 3 232 (dk_at dksX3_run_3 3 rfl rfl)
theorem dX3_run_76 : decode cX3_run 76 = .ok (.iadd, 1) := dk_96 (dk_at dksX3_run_3 6 rfl rfl)
theorem dX3_run_77 : decode cX3_run 77 = .ok (.goto 33, 3) := dk_167 0 33 (dk_at dksX3_run_3 7 rfl rfl)
theorem dX3_run_80 : decode cX3_run 80 = .ok (.iload 5, 2) := dk_21 5 (dk_at dksX3_run_3 10 rfl rfl)
theorem dX3_run_82 : decode cX3_run 82 = .ok (.iconst 1, 1) := dk_4 (dk_at dksX3_run_3 12 rfl rfl)
theorem dX3_run_83 : decode cX3_run 83 = .ok (.if_icmp .ne 10, 3) := dk_160 0 10 (dk_at dksX3_run_3 13 rfl rfl)
theorem dX3_run_86 : decode cX3_run 86 = .ok (.aload_n 0, 1) := dk_42 (dk_at dksX3_run_3 16 rfl rfl)
theorem dX3_run_87 : decode cX3_run 87 = .ok (.getfield 203, 3) := dk_180 0 203 (dk_at dksX3_run_3 17 rfl rfl)
theorem dX3_run_90 : decode cX3_run 90 = .ok (.goto 20, 3) := dk_167 0 20 (dk_at dksX3_run_3 20 rfl rfl)
theorem dX3_run_93 : decode cX3_run 93 = .ok (.iload 5, 2) := dk_21 5 (dk_at dksX3_run_4 0 rfl rfl)
theorem dX3_run_95 : decode cX3_run 95 = .ok (.iconst 2, 1) := dk_5 (dk_at dksX3_run_4 2 rfl rfl)
theorem dX3_run_96 : decode cX3_run 96 = .ok (.if_icmp .ne 10, 3) := dk_160 0 10 (dk_at dksX3_run_4 3 rfl rfl)
theorem dX3_run_99 : decode cX3_run 99 = .ok (.aload_n 0, 1) := dk_42 (dk_at dksX3_run_4 6 rfl rfl)
theorem dX3_run_100 : decode cX3_run 100 = .ok (.getfield 212, 3) := dk_180 0 212 (dk_at dksX3_run_4 7 rfl rfl)
theorem dX3_run_103 : decode cX3_run 103 = .ok (.goto 7, 3) := dk_167 0 7 (dk_at dksX3_run_4 10 rfl rfl)
theorem dX3_run_106 : decode cX3_run 106 = .ok (.aload_n 0, 1) := dk_42 (dk_at dksX3_run_4 13 rfl rfl)
theorem dX3_run_107 : decode cX3_run 107 = .ok (.getfield 206, 3) := dk_180 0 206 (dk_at dksX3_run_4 14 rfl rfl)
theorem dX3_run_110 : decode cX3_run 110 = .ok (.ireturn, 1) := dk_172 (dk_at dksX3_run_4 17 rfl rfl)
abbrev cX3_count : ByteArray := prog_12_method_80_code
def yX3_count : MethodName := ⟨RX3, "count", "(I)I"⟩
def dkwX3_count_4 : List UInt8 := [180, 0, 29, 172, 16, 253, 172]
abbrev dktX3_count_4 : List UInt8 := dkwX3_count_4 ++ []
def dkwX3_count_3 : List UInt8 := [28, 172, 42, 180, 0, 59, 172, 42, 180, 1, 54, 172, 42, 180, 0, 22, 172, 42, 180, 0, 26, 172, 42]
abbrev dktX3_count_3 : List UInt8 := dkwX3_count_3 ++ dktX3_count_4
def dkwX3_count_2 : List UInt8 := [170, 0, 0, 0, 0, 0, 0, 67, 0, 0, 0, 0, 0, 0, 0, 5, 0, 0, 0, 40, 0, 0, 0, 42, 0, 0, 0, 47, 0, 0, 0, 52, 0, 0, 0, 57, 0, 0, 0, 62]
abbrev dktX3_count_2 : List UInt8 := dkwX3_count_2 ++ dktX3_count_3
def dkwX3_count_1 : List UInt8 := [167, 255, 236, 27]
abbrev dktX3_count_1 : List UInt8 := dkwX3_count_1 ++ dktX3_count_2
def dkwX3_count_0 : List UInt8 := [3, 61, 3, 62, 29, 16, 6, 162, 0, 20, 28, 42, 180, 0, 133, 29, 122, 4, 126, 96, 61, 132, 3, 1]
abbrev dktX3_count_0 : List UInt8 := dkwX3_count_0 ++ dktX3_count_1
theorem dksX3_count_0 : cX3_count.data.toList.drop 0 = dktX3_count_0 := by decide +kernel
theorem dksX3_count_1 : cX3_count.data.toList.drop 24 = dktX3_count_1 := dk_seg dksX3_count_0 24 rfl rfl
theorem dksX3_count_2 : cX3_count.data.toList.drop 28 = dktX3_count_2 := dk_seg dksX3_count_1 4 rfl rfl
theorem dksX3_count_3 : cX3_count.data.toList.drop 68 = dktX3_count_3 := dk_seg dksX3_count_2 40 rfl rfl
theorem dksX3_count_4 : cX3_count.data.toList.drop 91 = dktX3_count_4 := dk_seg dksX3_count_3 23 rfl rfl
theorem dX3_count_0 : decode cX3_count 0 = .ok (.iconst 0, 1) := dk_3 (dk_at dksX3_count_0 0 rfl rfl)
theorem dX3_count_1 : decode cX3_count 1 = .ok (.istore_n 2, 1) := dk_61 (dk_at dksX3_count_0 1 rfl rfl)
theorem dX3_count_2 : decode cX3_count 2 = .ok (.iconst 0, 1) := dk_3 (dk_at dksX3_count_0 2 rfl rfl)
theorem dX3_count_3 : decode cX3_count 3 = .ok (.istore_n 3, 1) := dk_62 (dk_at dksX3_count_0 3 rfl rfl)
theorem dX3_count_4 : decode cX3_count 4 = .ok (.iload_n 3, 1) := dk_29 (dk_at dksX3_count_0 4 rfl rfl)
theorem dX3_count_5 : decode cX3_count 5 = .ok (.bipush 6, 2) := dk_16 6 (dk_at dksX3_count_0 5 rfl rfl)
theorem dX3_count_7 : decode cX3_count 7 = .ok (.if_icmp .ge 20, 3) := dk_162 0 20 (dk_at dksX3_count_0 7 rfl rfl)
theorem dX3_count_10 : decode cX3_count 10 = .ok (.iload_n 2, 1) := dk_28 (dk_at dksX3_count_0 10 rfl rfl)
theorem dX3_count_11 : decode cX3_count 11 = .ok (.aload_n 0, 1) := dk_42 (dk_at dksX3_count_0 11 rfl rfl)
theorem dX3_count_12 : decode cX3_count 12 = .ok (.getfield 133, 3) := dk_180 0 133 (dk_at dksX3_count_0 12 rfl rfl)
theorem dX3_count_15 : decode cX3_count 15 = .ok (.iload_n 3, 1) := dk_29 (dk_at dksX3_count_0 15 rfl rfl)
theorem dX3_count_16 : decode cX3_count 16 = .ok (.ishr, 1) := dk_122 (dk_at dksX3_count_0 16 rfl rfl)
theorem dX3_count_17 : decode cX3_count 17 = .ok (.iconst 1, 1) := dk_4 (dk_at dksX3_count_0 17 rfl rfl)
theorem dX3_count_18 : decode cX3_count 18 = .ok (.iand, 1) := dk_126 (dk_at dksX3_count_0 18 rfl rfl)
theorem dX3_count_19 : decode cX3_count 19 = .ok (.iadd, 1) := dk_96 (dk_at dksX3_count_0 19 rfl rfl)
theorem dX3_count_20 : decode cX3_count 20 = .ok (.istore_n 2, 1) := dk_61 (dk_at dksX3_count_0 20 rfl rfl)
theorem dX3_count_21 : decode cX3_count 21 = .ok (.iinc 3 1, 3) := dk_132 3 1 (dk_at dksX3_count_0 21 rfl rfl)
theorem dX3_count_24 : decode cX3_count 24 = .ok (.goto (-20), 3) := dk_167 255 236 (dk_at dksX3_count_1 0 rfl rfl)
theorem dX3_count_27 : decode cX3_count 27 = .ok (.iload_n 1, 1) := dk_27 (dk_at dksX3_count_1 3 rfl rfl)
theorem dX3_count_28 : decode cX3_count 28 = .ok (.tableswitch 67 0 5 #[40, 42, 47, 52, 57, 62], 40) := by decide +kernel
theorem dX3_count_68 : decode cX3_count 68 = .ok (.iload_n 2, 1) := dk_28 (dk_at dksX3_count_3 0 rfl rfl)
theorem dX3_count_69 : decode cX3_count 69 = .ok (.ireturn, 1) := dk_172 (dk_at dksX3_count_3 1 rfl rfl)
theorem dX3_count_70 : decode cX3_count 70 = .ok (.aload_n 0, 1) := dk_42 (dk_at dksX3_count_3 2 rfl rfl)
theorem dX3_count_71 : decode cX3_count 71 = .ok (.getfield 59, 3) := dk_180 0 59 (dk_at dksX3_count_3 3 rfl rfl)
theorem dX3_count_74 : decode cX3_count 74 = .ok (.ireturn, 1) := dk_172 (dk_at dksX3_count_3 6 rfl rfl)
theorem dX3_count_75 : decode cX3_count 75 = .ok (.aload_n 0, 1) := dk_42 (dk_at dksX3_count_3 7 rfl rfl)
theorem dX3_count_76 : decode cX3_count 76 = .ok (.getfield 310, 3) := dk_180 1 54 (dk_at dksX3_count_3 8 rfl rfl)
theorem dX3_count_79 : decode cX3_count 79 = .ok (.ireturn, 1) := dk_172 (dk_at dksX3_count_3 11 rfl rfl)
theorem dX3_count_80 : decode cX3_count 80 = .ok (.aload_n 0, 1) := dk_42 (dk_at dksX3_count_3 12 rfl rfl)
theorem dX3_count_81 : decode cX3_count 81 = .ok (.getfield 22, 3) := dk_180 0 22 (dk_at dksX3_count_3 13 rfl rfl)
theorem dX3_count_84 : decode cX3_count 84 = .ok (.ireturn, 1) := dk_172 (dk_at dksX3_count_3 16 rfl rfl)
theorem dX3_count_85 : decode cX3_count 85 = .ok (.aload_n 0, 1) := dk_42 (dk_at dksX3_count_3 17 rfl rfl)
theorem dX3_count_86 : decode cX3_count 86 = .ok (.getfield 26, 3) := dk_180 0 26 (dk_at dksX3_count_3 18 rfl rfl)
theorem dX3_count_89 : decode cX3_count 89 = .ok (.ireturn, 1) := dk_172 (dk_at dksX3_count_3 21 rfl rfl)
theorem dX3_count_90 : decode cX3_count 90 = .ok (.aload_n 0, 1) := dk_42 (dk_at dksX3_count_3 22 rfl rfl)
theorem dX3_count_91 : decode cX3_count 91 = .ok (.getfield 29, 3) := dk_180 0 29 (dk_at dksX3_count_4 0 rfl rfl)
theorem dX3_count_94 : decode cX3_count 94 = .ok (.ireturn, 1) := dk_172 (dk_at dksX3_count_4 3 rfl rfl)
theorem dX3_count_95 : decode cX3_count 95 = .ok (.bipush (-3), 2) := dk_16 253 (dk_at dksX3_count_4 4 rfl rfl)
theorem dX3_count_97 : decode cX3_count 97 = .ok (.ireturn, 1) := dk_172 (dk_at dksX3_count_4 6 rfl rfl)
theorem q83 : (Jvm.Cond.initialized "CarryUpModel") ∈ lw_all := lw_g (lw_at lw_m1 7 rfl) rfl
theorem q790 : (Jvm.Cond.selects "CarryUpModel" ({ cls := "java/lang/Object", name := "getClass", desc := "()Ljava/lang/Class;" } : Jvm.MethodName) ({ cls := "java/lang/Object", name := "getClass", desc := "()Ljava/lang/Class;" } : Jvm.MethodName)) ∈ lw_all := lw_g (lw_at lw_m3 234 rfl) rfl
theorem q1109 : (Jvm.Cond.instantiable "CarryUpModel" (31 : Nat)) ∈ lw_all := lw_g (lw_at lw_m5 73 rfl) rfl
theorem q1111 : (Jvm.Cond.instanceMethod ({ cls := "CarryUpModel", name := "<init>", desc := "()V" } : Jvm.MethodName)) ∈ lw_all := lw_g (lw_at lw_m5 75 rfl) rfl
theorem q1112 : (Jvm.Cond.code ({ cls := "CarryUpModel", name := "<init>", desc := "()V" } : Jvm.MethodName) prog_12_method_1_code (2 : Nat) (Option.none : Option Jvm.ClassFile.FieldType)) ∈ lw_all := lw_g (lw_at lw_m5 76 rfl) rfl
theorem q1113 : (Jvm.Cond.methodLink "CarryUpModel" (1 : Nat) ({ cls := "java/lang/Object", name := "<init>", desc := "()V" } : Jvm.MethodName)) ∈ lw_all := lw_g (lw_at lw_m5 77 rfl) rfl
theorem q1114 : (Jvm.Cond.fieldLink "CarryUpModel" (7 : Nat) "CarryUpModel" "text" "[I") ∈ lw_all := lw_g (lw_at lw_m5 78 rfl) rfl
theorem q1115 : (Jvm.Cond.fieldLink "CarryUpModel" (59 : Nat) "CarryUpModel" "length" "I") ∈ lw_all := lw_g (lw_at lw_m5 79 rfl) rfl
theorem q1116 : (Jvm.Cond.fieldLink "CarryUpModel" (13 : Nat) "CarryUpModel" "read" "[I") ∈ lw_all := lw_g (lw_at lw_m5 80 rfl) rfl
theorem q1117 : (Jvm.Cond.fieldLink "CarryUpModel" (77 : Nat) "CarryUpModel" "readMany" "I") ∈ lw_all := lw_g (lw_at lw_m5 81 rfl) rfl
theorem q1118 : (Jvm.Cond.fieldLink "CarryUpModel" (16 : Nat) "CarryUpModel" "weights" "[I") ∈ lw_all := lw_g (lw_at lw_m5 82 rfl) rfl
theorem q1119 : (Jvm.Cond.fieldLink "CarryUpModel" (19 : Nat) "CarryUpModel" "prices" "[I") ∈ lw_all := lw_g (lw_at lw_m5 83 rfl) rfl
theorem q1120 : (Jvm.Cond.fieldLink "CarryUpModel" (130 : Nat) "CarryUpModel" "tools" "I") ∈ lw_all := lw_g (lw_at lw_m5 84 rfl) rfl
theorem q1121 : (Jvm.Cond.fieldLink "CarryUpModel" (22 : Nat) "CarryUpModel" "load" "I") ∈ lw_all := lw_g (lw_at lw_m5 85 rfl) rfl
theorem q1122 : (Jvm.Cond.fieldLink "CarryUpModel" (26 : Nat) "CarryUpModel" "purse" "I") ∈ lw_all := lw_g (lw_at lw_m5 86 rfl) rfl
theorem q1123 : (Jvm.Cond.fieldLink "CarryUpModel" (29 : Nat) "CarryUpModel" "begin" "I") ∈ lw_all := lw_g (lw_at lw_m5 87 rfl) rfl
theorem q1124 : (Jvm.Cond.fieldLink "CarryUpModel" (32 : Nat) "CarryUpModel" "ways" "[I") ∈ lw_all := lw_g (lw_at lw_m5 88 rfl) rfl
theorem q1125 : (Jvm.Cond.fieldLink "CarryUpModel" (133 : Nat) "CarryUpModel" "toldCalls" "I") ∈ lw_all := lw_g (lw_at lw_m5 89 rfl) rfl
theorem q1126 : (Jvm.Cond.fieldLink "CarryUpModel" (35 : Nat) "CarryUpModel" "calls" "[I") ∈ lw_all := lw_g (lw_at lw_m5 90 rfl) rfl
theorem q1127 : (Jvm.Cond.fieldLink "CarryUpModel" (38 : Nat) "CarryUpModel" "sortMany" "[I") ∈ lw_all := lw_g (lw_at lw_m5 91 rfl) rfl
theorem q1128 : (Jvm.Cond.fieldLink "CarryUpModel" (41 : Nat) "CarryUpModel" "sorts" "[I") ∈ lw_all := lw_g (lw_at lw_m5 92 rfl) rfl
theorem q1129 : (Jvm.Cond.fieldLink "CarryUpModel" (44 : Nat) "CarryUpModel" "visits" "[I") ∈ lw_all := lw_g (lw_at lw_m5 93 rfl) rfl
theorem q1130 : (Jvm.Cond.fieldLink "CarryUpModel" (310 : Nat) "CarryUpModel" "visitMany" "I") ∈ lw_all := lw_g (lw_at lw_m5 94 rfl) rfl
theorem q1131 : (Jvm.Cond.fieldLink "CarryUpModel" (64 : Nat) "CarryUpModel" "at" "I") ∈ lw_all := lw_g (lw_at lw_m5 95 rfl) rfl
theorem q1132 : (Jvm.Cond.fieldLink "CarryUpModel" (67 : Nat) "CarryUpModel" "place" "I") ∈ lw_all := lw_g (lw_at lw_m5 96 rfl) rfl
theorem q1133 : (Jvm.Cond.fieldLink "CarryUpModel" (74 : Nat) "CarryUpModel" "end" "I") ∈ lw_all := lw_g (lw_at lw_m5 97 rfl) rfl
theorem q1134 : (Jvm.Cond.fieldLink "CarryUpModel" (47 : Nat) "CarryUpModel" "entries" "[I") ∈ lw_all := lw_g (lw_at lw_m5 98 rfl) rfl
theorem q1135 : (Jvm.Cond.fieldLink "CarryUpModel" (191 : Nat) "CarryUpModel" "entryMany" "I") ∈ lw_all := lw_g (lw_at lw_m5 99 rfl) rfl
theorem q1136 : (Jvm.Cond.fieldLink "CarryUpModel" (194 : Nat) "CarryUpModel" "combos" "I") ∈ lw_all := lw_g (lw_at lw_m5 100 rfl) rfl
theorem q1137 : (Jvm.Cond.fieldLink "CarryUpModel" (197 : Nat) "CarryUpModel" "all" "J") ∈ lw_all := lw_g (lw_at lw_m5 101 rfl) rfl
theorem q1138 : (Jvm.Cond.fieldLink "CarryUpModel" (201 : Nat) "CarryUpModel" "weight" "J") ∈ lw_all := lw_g (lw_at lw_m5 102 rfl) rfl
theorem q1139 : (Jvm.Cond.fieldLink "CarryUpModel" (209 : Nat) "CarryUpModel" "gain" "I") ∈ lw_all := lw_g (lw_at lw_m5 103 rfl) rfl
theorem q1140 : (Jvm.Cond.fieldLink "CarryUpModel" (215 : Nat) "CarryUpModel" "allDone" "Z") ∈ lw_all := lw_g (lw_at lw_m5 104 rfl) rfl
theorem q1141 : (Jvm.Cond.fieldLink "CarryUpModel" (203 : Nat) "CarryUpModel" "minute" "I") ∈ lw_all := lw_g (lw_at lw_m5 105 rfl) rfl
theorem q1142 : (Jvm.Cond.fieldLink "CarryUpModel" (212 : Nat) "CarryUpModel" "doneSet" "I") ∈ lw_all := lw_g (lw_at lw_m5 106 rfl) rfl
theorem q1143 : (Jvm.Cond.fieldLink "CarryUpModel" (206 : Nat) "CarryUpModel" "bagLeft" "I") ∈ lw_all := lw_g (lw_at lw_m5 107 rfl) rfl
theorem q1144 : (Jvm.Cond.fieldLink "CarryUpModel" (50 : Nat) "CarryUpModel" "chosen" "[I") ∈ lw_all := lw_g (lw_at lw_m5 108 rfl) rfl
theorem q1145 : (Jvm.Cond.laysFinal "CarryUpModel" "CarryUpModel" "text" "[I") ∈ lw_all := lw_g (lw_at lw_m5 109 rfl) rfl
theorem q1146 : (Jvm.Cond.soleField "CarryUpModel" "text") ∈ lw_all := lw_g (lw_at lw_m5 110 rfl) rfl
theorem q1147 : (Jvm.Cond.lays "CarryUpModel" "CarryUpModel" "length" "I") ∈ lw_all := lw_g (lw_at lw_m5 111 rfl) rfl
theorem q1148 : (Jvm.Cond.soleField "CarryUpModel" "length") ∈ lw_all := lw_g (lw_at lw_m5 112 rfl) rfl
theorem q1149 : (Jvm.Cond.laysFinal "CarryUpModel" "CarryUpModel" "read" "[I") ∈ lw_all := lw_g (lw_at lw_m5 113 rfl) rfl
theorem q1150 : (Jvm.Cond.soleField "CarryUpModel" "read") ∈ lw_all := lw_g (lw_at lw_m5 114 rfl) rfl
theorem q1151 : (Jvm.Cond.lays "CarryUpModel" "CarryUpModel" "readMany" "I") ∈ lw_all := lw_g (lw_at lw_m5 115 rfl) rfl
theorem q1152 : (Jvm.Cond.soleField "CarryUpModel" "readMany") ∈ lw_all := lw_g (lw_at lw_m5 116 rfl) rfl
theorem q1153 : (Jvm.Cond.laysFinal "CarryUpModel" "CarryUpModel" "weights" "[I") ∈ lw_all := lw_g (lw_at lw_m5 117 rfl) rfl
theorem q1154 : (Jvm.Cond.soleField "CarryUpModel" "weights") ∈ lw_all := lw_g (lw_at lw_m5 118 rfl) rfl
theorem q1155 : (Jvm.Cond.laysFinal "CarryUpModel" "CarryUpModel" "prices" "[I") ∈ lw_all := lw_g (lw_at lw_m5 119 rfl) rfl
theorem q1156 : (Jvm.Cond.soleField "CarryUpModel" "prices") ∈ lw_all := lw_g (lw_at lw_m5 120 rfl) rfl
theorem q1157 : (Jvm.Cond.lays "CarryUpModel" "CarryUpModel" "tools" "I") ∈ lw_all := lw_g (lw_at lw_m5 121 rfl) rfl
theorem q1158 : (Jvm.Cond.soleField "CarryUpModel" "tools") ∈ lw_all := lw_g (lw_at lw_m5 122 rfl) rfl
theorem q1159 : (Jvm.Cond.lays "CarryUpModel" "CarryUpModel" "load" "I") ∈ lw_all := lw_g (lw_at lw_m5 123 rfl) rfl
theorem q1160 : (Jvm.Cond.soleField "CarryUpModel" "load") ∈ lw_all := lw_g (lw_at lw_m5 124 rfl) rfl
theorem q1161 : (Jvm.Cond.lays "CarryUpModel" "CarryUpModel" "purse" "I") ∈ lw_all := lw_g (lw_at lw_m5 125 rfl) rfl
theorem q1162 : (Jvm.Cond.soleField "CarryUpModel" "purse") ∈ lw_all := lw_g (lw_at lw_m5 126 rfl) rfl
theorem q1163 : (Jvm.Cond.lays "CarryUpModel" "CarryUpModel" "begin" "I") ∈ lw_all := lw_g (lw_at lw_m5 127 rfl) rfl
theorem q1164 : (Jvm.Cond.soleField "CarryUpModel" "begin") ∈ lw_all := lw_g (lw_at lw_m5 128 rfl) rfl
theorem q1165 : (Jvm.Cond.laysFinal "CarryUpModel" "CarryUpModel" "ways" "[I") ∈ lw_all := lw_g (lw_at lw_m5 129 rfl) rfl
theorem q1166 : (Jvm.Cond.soleField "CarryUpModel" "ways") ∈ lw_all := lw_g (lw_at lw_m5 130 rfl) rfl
theorem q1167 : (Jvm.Cond.lays "CarryUpModel" "CarryUpModel" "toldCalls" "I") ∈ lw_all := lw_g (lw_at lw_m5 131 rfl) rfl
theorem q1168 : (Jvm.Cond.soleField "CarryUpModel" "toldCalls") ∈ lw_all := lw_g (lw_at lw_m5 132 rfl) rfl
theorem q1169 : (Jvm.Cond.laysFinal "CarryUpModel" "CarryUpModel" "calls" "[I") ∈ lw_all := lw_g (lw_at lw_m5 133 rfl) rfl
theorem q1170 : (Jvm.Cond.soleField "CarryUpModel" "calls") ∈ lw_all := lw_g (lw_at lw_m5 134 rfl) rfl
theorem q1171 : (Jvm.Cond.laysFinal "CarryUpModel" "CarryUpModel" "sortMany" "[I") ∈ lw_all := lw_g (lw_at lw_m5 135 rfl) rfl
theorem q1172 : (Jvm.Cond.soleField "CarryUpModel" "sortMany") ∈ lw_all := lw_g (lw_at lw_m5 136 rfl) rfl
theorem q1173 : (Jvm.Cond.laysFinal "CarryUpModel" "CarryUpModel" "sorts" "[I") ∈ lw_all := lw_g (lw_at lw_m5 137 rfl) rfl
theorem q1174 : (Jvm.Cond.soleField "CarryUpModel" "sorts") ∈ lw_all := lw_g (lw_at lw_m5 138 rfl) rfl
theorem q1175 : (Jvm.Cond.laysFinal "CarryUpModel" "CarryUpModel" "visits" "[I") ∈ lw_all := lw_g (lw_at lw_m5 139 rfl) rfl
theorem q1176 : (Jvm.Cond.soleField "CarryUpModel" "visits") ∈ lw_all := lw_g (lw_at lw_m5 140 rfl) rfl
theorem q1177 : (Jvm.Cond.lays "CarryUpModel" "CarryUpModel" "visitMany" "I") ∈ lw_all := lw_g (lw_at lw_m5 141 rfl) rfl
theorem q1178 : (Jvm.Cond.soleField "CarryUpModel" "visitMany") ∈ lw_all := lw_g (lw_at lw_m5 142 rfl) rfl
theorem q1179 : (Jvm.Cond.lays "CarryUpModel" "CarryUpModel" "at" "I") ∈ lw_all := lw_g (lw_at lw_m5 143 rfl) rfl
theorem q1180 : (Jvm.Cond.soleField "CarryUpModel" "at") ∈ lw_all := lw_g (lw_at lw_m5 144 rfl) rfl
theorem q1181 : (Jvm.Cond.lays "CarryUpModel" "CarryUpModel" "place" "I") ∈ lw_all := lw_g (lw_at lw_m5 145 rfl) rfl
theorem q1182 : (Jvm.Cond.soleField "CarryUpModel" "place") ∈ lw_all := lw_g (lw_at lw_m5 146 rfl) rfl
theorem q1183 : (Jvm.Cond.lays "CarryUpModel" "CarryUpModel" "end" "I") ∈ lw_all := lw_g (lw_at lw_m5 147 rfl) rfl
theorem q1184 : (Jvm.Cond.soleField "CarryUpModel" "end") ∈ lw_all := lw_g (lw_at lw_m5 148 rfl) rfl
theorem q1185 : (Jvm.Cond.laysFinal "CarryUpModel" "CarryUpModel" "entries" "[I") ∈ lw_all := lw_g (lw_at lw_m5 149 rfl) rfl
theorem q1186 : (Jvm.Cond.soleField "CarryUpModel" "entries") ∈ lw_all := lw_g (lw_at lw_m5 150 rfl) rfl
theorem q1187 : (Jvm.Cond.lays "CarryUpModel" "CarryUpModel" "entryMany" "I") ∈ lw_all := lw_g (lw_at lw_m5 151 rfl) rfl
theorem q1188 : (Jvm.Cond.soleField "CarryUpModel" "entryMany") ∈ lw_all := lw_g (lw_at lw_m5 152 rfl) rfl
theorem q1189 : (Jvm.Cond.lays "CarryUpModel" "CarryUpModel" "combos" "I") ∈ lw_all := lw_g (lw_at lw_m5 153 rfl) rfl
theorem q1190 : (Jvm.Cond.soleField "CarryUpModel" "combos") ∈ lw_all := lw_g (lw_at lw_m5 154 rfl) rfl
theorem q1191 : (Jvm.Cond.lays "CarryUpModel" "CarryUpModel" "all" "J") ∈ lw_all := lw_g (lw_at lw_m5 155 rfl) rfl
theorem q1192 : (Jvm.Cond.soleField "CarryUpModel" "all") ∈ lw_all := lw_g (lw_at lw_m5 156 rfl) rfl
theorem q1193 : (Jvm.Cond.lays "CarryUpModel" "CarryUpModel" "weight" "J") ∈ lw_all := lw_g (lw_at lw_m5 157 rfl) rfl
theorem q1194 : (Jvm.Cond.soleField "CarryUpModel" "weight") ∈ lw_all := lw_g (lw_at lw_m5 158 rfl) rfl
theorem q1195 : (Jvm.Cond.lays "CarryUpModel" "CarryUpModel" "gain" "I") ∈ lw_all := lw_g (lw_at lw_m5 159 rfl) rfl
theorem q1196 : (Jvm.Cond.soleField "CarryUpModel" "gain") ∈ lw_all := lw_g (lw_at lw_m5 160 rfl) rfl
theorem q1197 : (Jvm.Cond.lays "CarryUpModel" "CarryUpModel" "allDone" "Z") ∈ lw_all := lw_g (lw_at lw_m5 161 rfl) rfl
theorem q1198 : (Jvm.Cond.soleField "CarryUpModel" "allDone") ∈ lw_all := lw_g (lw_at lw_m5 162 rfl) rfl
theorem q1199 : (Jvm.Cond.lays "CarryUpModel" "CarryUpModel" "minute" "I") ∈ lw_all := lw_g (lw_at lw_m5 163 rfl) rfl
theorem q1200 : (Jvm.Cond.soleField "CarryUpModel" "minute") ∈ lw_all := lw_g (lw_at lw_m5 164 rfl) rfl
theorem q1201 : (Jvm.Cond.lays "CarryUpModel" "CarryUpModel" "doneSet" "I") ∈ lw_all := lw_g (lw_at lw_m5 165 rfl) rfl
theorem q1202 : (Jvm.Cond.soleField "CarryUpModel" "doneSet") ∈ lw_all := lw_g (lw_at lw_m5 166 rfl) rfl
theorem q1203 : (Jvm.Cond.lays "CarryUpModel" "CarryUpModel" "bagLeft" "I") ∈ lw_all := lw_g (lw_at lw_m5 167 rfl) rfl
theorem q1204 : (Jvm.Cond.soleField "CarryUpModel" "bagLeft") ∈ lw_all := lw_g (lw_at lw_m5 168 rfl) rfl
theorem q1205 : (Jvm.Cond.laysFinal "CarryUpModel" "CarryUpModel" "chosen" "[I") ∈ lw_all := lw_g (lw_at lw_m5 169 rfl) rfl
theorem q1206 : (Jvm.Cond.soleField "CarryUpModel" "chosen") ∈ lw_all := lw_g (lw_at lw_m5 170 rfl) rfl
theorem q1207 : (Jvm.Cond.superclass "CarryUpModel" "java/lang/Object") ∈ lw_all := lw_g (lw_at lw_m5 171 rfl) rfl
theorem q1209 : (Jvm.Cond.instanceMethod ({ cls := "CarryUpModel", name := "write", desc := "(JI)I" } : Jvm.MethodName)) ∈ lw_all := lw_g (lw_at lw_m5 173 rfl) rfl
theorem q1210 : (Jvm.Cond.selects "CarryUpModel" ({ cls := "CarryUpModel", name := "write", desc := "(JI)I" } : Jvm.MethodName) ({ cls := "CarryUpModel", name := "write", desc := "(JI)I" } : Jvm.MethodName)) ∈ lw_all := lw_g (lw_at lw_m5 174 rfl) rfl
theorem q1211 : (Jvm.Cond.code ({ cls := "CarryUpModel", name := "write", desc := "(JI)I" } : Jvm.MethodName) prog_12_method_4_code (5 : Nat) (Option.some Jvm.ClassFile.FieldType.int)) ∈ lw_all := lw_g (lw_at lw_m5 175 rfl) rfl
theorem q1212 : (Jvm.Cond.constantLong "CarryUpModel" (53 : Nat) (8 : Int64)) ∈ lw_all := lw_g (lw_at lw_m5 176 rfl) rfl
theorem q1213 : (Jvm.Cond.methodLink "CarryUpModel" (55 : Nat) ({ cls := "CarryUpModel", name := "in", desc := "(JJJ)Z" } : Jvm.MethodName)) ∈ lw_all := lw_g (lw_at lw_m5 177 rfl) rfl
theorem q1214 : (Jvm.Cond.static ({ cls := "CarryUpModel", name := "in", desc := "(JJJ)Z" } : Jvm.MethodName)) ∈ lw_all := lw_g (lw_at lw_m5 178 rfl) rfl
theorem q1215 : (Jvm.Cond.code ({ cls := "CarryUpModel", name := "in", desc := "(JJJ)Z" } : Jvm.MethodName) prog_12_method_2_code (6 : Nat) (Option.some Jvm.ClassFile.FieldType.boolean)) ∈ lw_all := lw_g (lw_at lw_m5 179 rfl) rfl
theorem q1216 : (Jvm.Cond.constantLong "CarryUpModel" (62 : Nat) (255 : Int64)) ∈ lw_all := lw_g (lw_at lw_m5 180 rfl) rfl
theorem q1218 : (Jvm.Cond.instanceMethod ({ cls := "CarryUpModel", name := "erase", desc := "()I" } : Jvm.MethodName)) ∈ lw_all := lw_g (lw_at lw_m5 182 rfl) rfl
theorem q1219 : (Jvm.Cond.selects "CarryUpModel" ({ cls := "CarryUpModel", name := "erase", desc := "()I" } : Jvm.MethodName) ({ cls := "CarryUpModel", name := "erase", desc := "()I" } : Jvm.MethodName)) ∈ lw_all := lw_g (lw_at lw_m5 183 rfl) rfl
theorem q1220 : (Jvm.Cond.code ({ cls := "CarryUpModel", name := "erase", desc := "()I" } : Jvm.MethodName) prog_12_method_5_code (2 : Nat) (Option.some Jvm.ClassFile.FieldType.int)) ∈ lw_all := lw_g (lw_at lw_m5 184 rfl) rfl
theorem q1222 : (Jvm.Cond.instanceMethod ({ cls := "CarryUpModel", name := "fault", desc := "()I" } : Jvm.MethodName)) ∈ lw_all := lw_g (lw_at lw_m5 186 rfl) rfl
theorem q1223 : (Jvm.Cond.selects "CarryUpModel" ({ cls := "CarryUpModel", name := "fault", desc := "()I" } : Jvm.MethodName) ({ cls := "CarryUpModel", name := "fault", desc := "()I" } : Jvm.MethodName)) ∈ lw_all := lw_g (lw_at lw_m5 187 rfl) rfl
theorem q1224 : (Jvm.Cond.code ({ cls := "CarryUpModel", name := "fault", desc := "()I" } : Jvm.MethodName) prog_12_method_16_code (2 : Nat) (Option.some Jvm.ClassFile.FieldType.int)) ∈ lw_all := lw_g (lw_at lw_m5 188 rfl) rfl
theorem q1225 : (Jvm.Cond.methodLink "CarryUpModel" (80 : Nat) ({ cls := "CarryUpModel", name := "token", desc := "()V" } : Jvm.MethodName)) ∈ lw_all := lw_g (lw_at lw_m5 189 rfl) rfl
theorem q1226 : (Jvm.Cond.privateMethod ({ cls := "CarryUpModel", name := "token", desc := "()V" } : Jvm.MethodName)) ∈ lw_tbl := lw_at lw_m5 190 rfl
theorem q1227 : (Jvm.Cond.instanceMethod ({ cls := "CarryUpModel", name := "token", desc := "()V" } : Jvm.MethodName)) ∈ lw_all := lw_g (lw_at lw_m5 191 rfl) rfl
theorem q1228 : (Jvm.Cond.code ({ cls := "CarryUpModel", name := "token", desc := "()V" } : Jvm.MethodName) prog_12_method_7_code (1 : Nat) (Option.none : Option Jvm.ClassFile.FieldType)) ∈ lw_all := lw_g (lw_at lw_m5 192 rfl) rfl
theorem q1229 : (Jvm.Cond.methodLink "CarryUpModel" (70 : Nat) ({ cls := "CarryUpModel", name := "kind", desc := "(I)I" } : Jvm.MethodName)) ∈ lw_all := lw_g (lw_at lw_m5 193 rfl) rfl
theorem q1230 : (Jvm.Cond.static ({ cls := "CarryUpModel", name := "kind", desc := "(I)I" } : Jvm.MethodName)) ∈ lw_all := lw_g (lw_at lw_m5 194 rfl) rfl
theorem q1231 : (Jvm.Cond.code ({ cls := "CarryUpModel", name := "kind", desc := "(I)I" } : Jvm.MethodName) prog_12_method_6_code (1 : Nat) (Option.some Jvm.ClassFile.FieldType.int)) ∈ lw_all := lw_g (lw_at lw_m5 195 rfl) rfl
theorem q1232 : (Jvm.Cond.methodLink "CarryUpModel" (127 : Nat) ({ cls := "CarryUpModel", name := "readsLine", desc := "()Z" } : Jvm.MethodName)) ∈ lw_all := lw_g (lw_at lw_m5 196 rfl) rfl
theorem q1233 : (Jvm.Cond.privateMethod ({ cls := "CarryUpModel", name := "readsLine", desc := "()Z" } : Jvm.MethodName)) ∈ lw_tbl := lw_at lw_m5 197 rfl
theorem q1234 : (Jvm.Cond.instanceMethod ({ cls := "CarryUpModel", name := "readsLine", desc := "()Z" } : Jvm.MethodName)) ∈ lw_all := lw_g (lw_at lw_m5 198 rfl) rfl
theorem q1235 : (Jvm.Cond.code ({ cls := "CarryUpModel", name := "readsLine", desc := "()Z" } : Jvm.MethodName) prog_12_method_15_code (4 : Nat) (Option.some Jvm.ClassFile.FieldType.boolean)) ∈ lw_all := lw_g (lw_at lw_m5 199 rfl) rfl
theorem q1236 : (Jvm.Cond.constant "CarryUpModel" (111 : Nat) (7808276 : Int32)) ∈ lw_all := lw_g (lw_at lw_m5 200 rfl) rfl
theorem q1237 : (Jvm.Cond.methodLink "CarryUpModel" (98 : Nat) ({ cls := "CarryUpModel", name := "isWord", desc := "(II)Z" } : Jvm.MethodName)) ∈ lw_all := lw_g (lw_at lw_m5 201 rfl) rfl
theorem q1238 : (Jvm.Cond.privateMethod ({ cls := "CarryUpModel", name := "isWord", desc := "(II)Z" } : Jvm.MethodName)) ∈ lw_tbl := lw_at lw_m5 202 rfl
theorem q1239 : (Jvm.Cond.instanceMethod ({ cls := "CarryUpModel", name := "isWord", desc := "(II)Z" } : Jvm.MethodName)) ∈ lw_all := lw_g (lw_at lw_m5 203 rfl) rfl
theorem q1240 : (Jvm.Cond.code ({ cls := "CarryUpModel", name := "isWord", desc := "(II)Z" } : Jvm.MethodName) prog_12_method_8_code (5 : Nat) (Option.some Jvm.ClassFile.FieldType.boolean)) ∈ lw_all := lw_g (lw_at lw_m5 204 rfl) rfl
theorem q1241 : (Jvm.Cond.constant "CarryUpModel" (112 : Nat) (132588 : Int32)) ∈ lw_all := lw_g (lw_at lw_m5 205 rfl) rfl
theorem q1242 : (Jvm.Cond.constant "CarryUpModel" (113 : Nat) (5884592 : Int32)) ∈ lw_all := lw_g (lw_at lw_m5 206 rfl) rfl
theorem q1243 : (Jvm.Cond.constant "CarryUpModel" (114 : Nat) (14982306 : Int32)) ∈ lw_all := lw_g (lw_at lw_m5 207 rfl) rfl
theorem q1244 : (Jvm.Cond.constant "CarryUpModel" (115 : Nat) (405539 : Int32)) ∈ lw_all := lw_g (lw_at lw_m5 208 rfl) rfl
theorem q1245 : (Jvm.Cond.constant "CarryUpModel" (116 : Nat) (674291 : Int32)) ∈ lw_all := lw_g (lw_at lw_m5 209 rfl) rfl
theorem q1246 : (Jvm.Cond.methodLink "CarryUpModel" (117 : Nat) ({ cls := "CarryUpModel", name := "readsThing", desc := "()Z" } : Jvm.MethodName)) ∈ lw_all := lw_g (lw_at lw_m5 210 rfl) rfl
theorem q1247 : (Jvm.Cond.privateMethod ({ cls := "CarryUpModel", name := "readsThing", desc := "()Z" } : Jvm.MethodName)) ∈ lw_tbl := lw_at lw_m5 211 rfl
theorem q1248 : (Jvm.Cond.instanceMethod ({ cls := "CarryUpModel", name := "readsThing", desc := "()Z" } : Jvm.MethodName)) ∈ lw_all := lw_g (lw_at lw_m5 212 rfl) rfl
theorem q1249 : (Jvm.Cond.code ({ cls := "CarryUpModel", name := "readsThing", desc := "()Z" } : Jvm.MethodName) prog_12_method_11_code (2 : Nat) (Option.some Jvm.ClassFile.FieldType.boolean)) ∈ lw_all := lw_g (lw_at lw_m5 213 rfl) rfl
theorem q1250 : (Jvm.Cond.constantLong "CarryUpModel" (89 : Nat) (97 : Int64)) ∈ lw_all := lw_g (lw_at lw_m5 214 rfl) rfl
theorem q1251 : (Jvm.Cond.constantLong "CarryUpModel" (91 : Nat) (104 : Int64)) ∈ lw_all := lw_g (lw_at lw_m5 215 rfl) rfl
theorem q1252 : (Jvm.Cond.methodLink "CarryUpModel" (93 : Nat) ({ cls := "CarryUpModel", name := "reads", desc := "(III)Z" } : Jvm.MethodName)) ∈ lw_all := lw_g (lw_at lw_m5 216 rfl) rfl
theorem q1253 : (Jvm.Cond.privateMethod ({ cls := "CarryUpModel", name := "reads", desc := "(III)Z" } : Jvm.MethodName)) ∈ lw_tbl := lw_at lw_m5 217 rfl
theorem q1254 : (Jvm.Cond.instanceMethod ({ cls := "CarryUpModel", name := "reads", desc := "(III)Z" } : Jvm.MethodName)) ∈ lw_all := lw_g (lw_at lw_m5 218 rfl) rfl
theorem q1255 : (Jvm.Cond.code ({ cls := "CarryUpModel", name := "reads", desc := "(III)Z" } : Jvm.MethodName) prog_12_method_9_code (6 : Nat) (Option.some Jvm.ClassFile.FieldType.boolean)) ∈ lw_all := lw_g (lw_at lw_m5 219 rfl) rfl
theorem q1256 : (Jvm.Cond.constant "CarryUpModel" (97 : Nat) (409076 : Int32)) ∈ lw_all := lw_g (lw_at lw_m5 220 rfl) rfl
theorem q1257 : (Jvm.Cond.constant "CarryUpModel" (101 : Nat) (673840 : Int32)) ∈ lw_all := lw_g (lw_at lw_m5 221 rfl) rfl
theorem q1258 : (Jvm.Cond.methodLink "CarryUpModel" (121 : Nat) ({ cls := "CarryUpModel", name := "readsWay", desc := "()Z" } : Jvm.MethodName)) ∈ lw_all := lw_g (lw_at lw_m5 222 rfl) rfl
theorem q1259 : (Jvm.Cond.privateMethod ({ cls := "CarryUpModel", name := "readsWay", desc := "()Z" } : Jvm.MethodName)) ∈ lw_tbl := lw_at lw_m5 223 rfl
theorem q1260 : (Jvm.Cond.instanceMethod ({ cls := "CarryUpModel", name := "readsWay", desc := "()Z" } : Jvm.MethodName)) ∈ lw_all := lw_g (lw_at lw_m5 224 rfl) rfl
theorem q1261 : (Jvm.Cond.code ({ cls := "CarryUpModel", name := "readsWay", desc := "()Z" } : Jvm.MethodName) prog_12_method_12_code (2 : Nat) (Option.some Jvm.ClassFile.FieldType.boolean)) ∈ lw_all := lw_g (lw_at lw_m5 225 rfl) rfl
theorem q1262 : (Jvm.Cond.methodLink "CarryUpModel" (102 : Nat) ({ cls := "CarryUpModel", name := "number", desc := "()I" } : Jvm.MethodName)) ∈ lw_all := lw_g (lw_at lw_m5 226 rfl) rfl
theorem q1263 : (Jvm.Cond.privateMethod ({ cls := "CarryUpModel", name := "number", desc := "()I" } : Jvm.MethodName)) ∈ lw_tbl := lw_at lw_m5 227 rfl
theorem q1264 : (Jvm.Cond.instanceMethod ({ cls := "CarryUpModel", name := "number", desc := "()I" } : Jvm.MethodName)) ∈ lw_all := lw_g (lw_at lw_m5 228 rfl) rfl
theorem q1265 : (Jvm.Cond.code ({ cls := "CarryUpModel", name := "number", desc := "()I" } : Jvm.MethodName) prog_12_method_13_code (3 : Nat) (Option.some Jvm.ClassFile.FieldType.int)) ∈ lw_all := lw_g (lw_at lw_m5 229 rfl) rfl
theorem q1266 : (Jvm.Cond.methodLink "CarryUpModel" (124 : Nat) ({ cls := "CarryUpModel", name := "readsSort", desc := "()Z" } : Jvm.MethodName)) ∈ lw_all := lw_g (lw_at lw_m5 230 rfl) rfl
theorem q1267 : (Jvm.Cond.privateMethod ({ cls := "CarryUpModel", name := "readsSort", desc := "()Z" } : Jvm.MethodName)) ∈ lw_tbl := lw_at lw_m5 231 rfl
theorem q1268 : (Jvm.Cond.instanceMethod ({ cls := "CarryUpModel", name := "readsSort", desc := "()Z" } : Jvm.MethodName)) ∈ lw_all := lw_g (lw_at lw_m5 232 rfl) rfl
theorem q1269 : (Jvm.Cond.code ({ cls := "CarryUpModel", name := "readsSort", desc := "()Z" } : Jvm.MethodName) prog_12_method_14_code (3 : Nat) (Option.some Jvm.ClassFile.FieldType.boolean)) ∈ lw_all := lw_g (lw_at lw_m5 233 rfl) rfl
theorem q1270 : (Jvm.Cond.constant "CarryUpModel" (106 : Nat) (178670 : Int32)) ∈ lw_all := lw_g (lw_at lw_m5 234 rfl) rfl
theorem q1271 : (Jvm.Cond.methodLink "CarryUpModel" (107 : Nat) ({ cls := "CarryUpModel", name := "readsThings", desc := "(I)Z" } : Jvm.MethodName)) ∈ lw_all := lw_g (lw_at lw_m5 235 rfl) rfl
theorem q1272 : (Jvm.Cond.privateMethod ({ cls := "CarryUpModel", name := "readsThings", desc := "(I)Z" } : Jvm.MethodName)) ∈ lw_tbl := lw_at lw_m5 236 rfl
theorem q1273 : (Jvm.Cond.instanceMethod ({ cls := "CarryUpModel", name := "readsThings", desc := "(I)Z" } : Jvm.MethodName)) ∈ lw_all := lw_g (lw_at lw_m5 237 rfl) rfl
theorem q1274 : (Jvm.Cond.code ({ cls := "CarryUpModel", name := "readsThings", desc := "(I)Z" } : Jvm.MethodName) prog_12_method_10_code (5 : Nat) (Option.some Jvm.ClassFile.FieldType.boolean)) ∈ lw_all := lw_g (lw_at lw_m5 238 rfl) rfl
theorem q1275 : (Jvm.Cond.constantLong "CarryUpModel" (83 : Nat) (7 : Int64)) ∈ lw_all := lw_g (lw_at lw_m5 239 rfl) rfl
theorem q1276 : (Jvm.Cond.methodLink "CarryUpModel" (85 : Nat) ({ cls := "CarryUpModel", name := "has", desc := "(II)Z" } : Jvm.MethodName)) ∈ lw_all := lw_g (lw_at lw_m6 0 rfl) rfl
theorem q1277 : (Jvm.Cond.static ({ cls := "CarryUpModel", name := "has", desc := "(II)Z" } : Jvm.MethodName)) ∈ lw_all := lw_g (lw_at lw_m6 1 rfl) rfl
theorem q1278 : (Jvm.Cond.code ({ cls := "CarryUpModel", name := "has", desc := "(II)Z" } : Jvm.MethodName) prog_12_method_3_code (2 : Nat) (Option.some Jvm.ClassFile.FieldType.boolean)) ∈ lw_all := lw_g (lw_at lw_m6 2 rfl) rfl
theorem q1280 : (Jvm.Cond.instanceMethod ({ cls := "CarryUpModel", name := "day", desc := "()I" } : Jvm.MethodName)) ∈ lw_all := lw_g (lw_at lw_m6 4 rfl) rfl
theorem q1281 : (Jvm.Cond.selects "CarryUpModel" ({ cls := "CarryUpModel", name := "day", desc := "()I" } : Jvm.MethodName) ({ cls := "CarryUpModel", name := "day", desc := "()I" } : Jvm.MethodName)) ∈ lw_all := lw_g (lw_at lw_m6 5 rfl) rfl
theorem q1282 : (Jvm.Cond.code ({ cls := "CarryUpModel", name := "day", desc := "()I" } : Jvm.MethodName) prog_12_method_18_code (2 : Nat) (Option.some Jvm.ClassFile.FieldType.int)) ∈ lw_all := lw_g (lw_at lw_m6 6 rfl) rfl
theorem q1283 : (Jvm.Cond.methodLink "CarryUpModel" (136 : Nat) ({ cls := "CarryUpModel", name := "fault", desc := "()I" } : Jvm.MethodName)) ∈ lw_all := lw_g (lw_at lw_m6 7 rfl) rfl
theorem q1284 : (Jvm.Cond.methodLink "CarryUpModel" (139 : Nat) ({ cls := "CarryUpModel", name := "lay", desc := "(I)V" } : Jvm.MethodName)) ∈ lw_all := lw_g (lw_at lw_m6 8 rfl) rfl
theorem q1285 : (Jvm.Cond.privateMethod ({ cls := "CarryUpModel", name := "lay", desc := "(I)V" } : Jvm.MethodName)) ∈ lw_tbl := lw_at lw_m6 9 rfl
theorem q1286 : (Jvm.Cond.instanceMethod ({ cls := "CarryUpModel", name := "lay", desc := "(I)V" } : Jvm.MethodName)) ∈ lw_all := lw_g (lw_at lw_m6 10 rfl) rfl
theorem q1287 : (Jvm.Cond.code ({ cls := "CarryUpModel", name := "lay", desc := "(I)V" } : Jvm.MethodName) prog_12_method_17_code (5 : Nat) (Option.none : Option Jvm.ClassFile.FieldType)) ∈ lw_all := lw_g (lw_at lw_m6 11 rfl) rfl
theorem q1289 : (Jvm.Cond.instanceMethod ({ cls := "CarryUpModel", name := "thing", desc := "(II)I" } : Jvm.MethodName)) ∈ lw_all := lw_g (lw_at lw_m6 13 rfl) rfl
theorem q1290 : (Jvm.Cond.selects "CarryUpModel" ({ cls := "CarryUpModel", name := "thing", desc := "(II)I" } : Jvm.MethodName) ({ cls := "CarryUpModel", name := "thing", desc := "(II)I" } : Jvm.MethodName)) ∈ lw_all := lw_g (lw_at lw_m6 14 rfl) rfl
theorem q1291 : (Jvm.Cond.code ({ cls := "CarryUpModel", name := "thing", desc := "(II)I" } : Jvm.MethodName) prog_12_method_21_code (3 : Nat) (Option.some Jvm.ClassFile.FieldType.int)) ∈ lw_all := lw_g (lw_at lw_m6 15 rfl) rfl
theorem q1292 : (Jvm.Cond.methodLink "CarryUpModel" (145 : Nat) ({ cls := "CarryUpModel", name := "isThing", desc := "(I)Z" } : Jvm.MethodName)) ∈ lw_all := lw_g (lw_at lw_m6 16 rfl) rfl
theorem q1293 : (Jvm.Cond.static ({ cls := "CarryUpModel", name := "isThing", desc := "(I)Z" } : Jvm.MethodName)) ∈ lw_all := lw_g (lw_at lw_m6 17 rfl) rfl
theorem q1294 : (Jvm.Cond.code ({ cls := "CarryUpModel", name := "isThing", desc := "(I)Z" } : Jvm.MethodName) prog_12_method_19_code (1 : Nat) (Option.some Jvm.ClassFile.FieldType.boolean)) ∈ lw_all := lw_g (lw_at lw_m6 18 rfl) rfl
theorem q1296 : (Jvm.Cond.instanceMethod ({ cls := "CarryUpModel", name := "call", desc := "(II)I" } : Jvm.MethodName)) ∈ lw_all := lw_g (lw_at lw_m6 20 rfl) rfl
theorem q1297 : (Jvm.Cond.selects "CarryUpModel" ({ cls := "CarryUpModel", name := "call", desc := "(II)I" } : Jvm.MethodName) ({ cls := "CarryUpModel", name := "call", desc := "(II)I" } : Jvm.MethodName)) ∈ lw_all := lw_g (lw_at lw_m6 21 rfl) rfl
theorem q1298 : (Jvm.Cond.code ({ cls := "CarryUpModel", name := "call", desc := "(II)I" } : Jvm.MethodName) prog_12_method_22_code (3 : Nat) (Option.some Jvm.ClassFile.FieldType.int)) ∈ lw_all := lw_g (lw_at lw_m6 22 rfl) rfl
theorem q1299 : (Jvm.Cond.methodLink "CarryUpModel" (148 : Nat) ({ cls := "CarryUpModel", name := "isCall", desc := "(I)Z" } : Jvm.MethodName)) ∈ lw_all := lw_g (lw_at lw_m6 23 rfl) rfl
theorem q1300 : (Jvm.Cond.privateMethod ({ cls := "CarryUpModel", name := "isCall", desc := "(I)Z" } : Jvm.MethodName)) ∈ lw_tbl := lw_at lw_m6 24 rfl
theorem q1301 : (Jvm.Cond.instanceMethod ({ cls := "CarryUpModel", name := "isCall", desc := "(I)Z" } : Jvm.MethodName)) ∈ lw_all := lw_g (lw_at lw_m6 25 rfl) rfl
theorem q1302 : (Jvm.Cond.code ({ cls := "CarryUpModel", name := "isCall", desc := "(I)Z" } : Jvm.MethodName) prog_12_method_20_code (2 : Nat) (Option.some Jvm.ClassFile.FieldType.boolean)) ∈ lw_all := lw_g (lw_at lw_m6 26 rfl) rfl
theorem q1303 : (Jvm.Cond.constantLong "CarryUpModel" (143 : Nat) (5 : Int64)) ∈ lw_all := lw_g (lw_at lw_m6 27 rfl) rfl
theorem q1305 : (Jvm.Cond.instanceMethod ({ cls := "CarryUpModel", name := "sort", desc := "(III)I" } : Jvm.MethodName)) ∈ lw_all := lw_g (lw_at lw_m6 29 rfl) rfl
theorem q1306 : (Jvm.Cond.selects "CarryUpModel" ({ cls := "CarryUpModel", name := "sort", desc := "(III)I" } : Jvm.MethodName) ({ cls := "CarryUpModel", name := "sort", desc := "(III)I" } : Jvm.MethodName)) ∈ lw_all := lw_g (lw_at lw_m6 30 rfl) rfl
theorem q1307 : (Jvm.Cond.code ({ cls := "CarryUpModel", name := "sort", desc := "(III)I" } : Jvm.MethodName) prog_12_method_24_code (4 : Nat) (Option.some Jvm.ClassFile.FieldType.int)) ∈ lw_all := lw_g (lw_at lw_m6 31 rfl) rfl
theorem q1308 : (Jvm.Cond.methodLink "CarryUpModel" (151 : Nat) ({ cls := "CarryUpModel", name := "isSort", desc := "(II)Z" } : Jvm.MethodName)) ∈ lw_all := lw_g (lw_at lw_m6 32 rfl) rfl
theorem q1309 : (Jvm.Cond.privateMethod ({ cls := "CarryUpModel", name := "isSort", desc := "(II)Z" } : Jvm.MethodName)) ∈ lw_tbl := lw_at lw_m6 33 rfl
theorem q1310 : (Jvm.Cond.instanceMethod ({ cls := "CarryUpModel", name := "isSort", desc := "(II)Z" } : Jvm.MethodName)) ∈ lw_all := lw_g (lw_at lw_m6 34 rfl) rfl
theorem q1311 : (Jvm.Cond.code ({ cls := "CarryUpModel", name := "isSort", desc := "(II)Z" } : Jvm.MethodName) prog_12_method_23_code (3 : Nat) (Option.some Jvm.ClassFile.FieldType.boolean)) ∈ lw_all := lw_g (lw_at lw_m6 35 rfl) rfl
theorem q1312 : (Jvm.Cond.constantLong "CarryUpModel" (154 : Nat) (3 : Int64)) ∈ lw_all := lw_g (lw_at lw_m6 36 rfl) rfl
theorem q1314 : (Jvm.Cond.instanceMethod ({ cls := "CarryUpModel", name := "way", desc := "(II)I" } : Jvm.MethodName)) ∈ lw_all := lw_g (lw_at lw_m6 38 rfl) rfl
theorem q1315 : (Jvm.Cond.selects "CarryUpModel" ({ cls := "CarryUpModel", name := "way", desc := "(II)I" } : Jvm.MethodName) ({ cls := "CarryUpModel", name := "way", desc := "(II)I" } : Jvm.MethodName)) ∈ lw_all := lw_g (lw_at lw_m6 39 rfl) rfl
theorem q1316 : (Jvm.Cond.code ({ cls := "CarryUpModel", name := "way", desc := "(II)I" } : Jvm.MethodName) prog_12_method_25_code (3 : Nat) (Option.some Jvm.ClassFile.FieldType.int)) ∈ lw_all := lw_g (lw_at lw_m6 40 rfl) rfl
theorem q1318 : (Jvm.Cond.instanceMethod ({ cls := "CarryUpModel", name := "may", desc := "(I)I" } : Jvm.MethodName)) ∈ lw_all := lw_g (lw_at lw_m6 42 rfl) rfl
theorem q1319 : (Jvm.Cond.selects "CarryUpModel" ({ cls := "CarryUpModel", name := "may", desc := "(I)I" } : Jvm.MethodName) ({ cls := "CarryUpModel", name := "may", desc := "(I)I" } : Jvm.MethodName)) ∈ lw_all := lw_g (lw_at lw_m6 43 rfl) rfl
theorem q1320 : (Jvm.Cond.code ({ cls := "CarryUpModel", name := "may", desc := "(I)I" } : Jvm.MethodName) prog_12_method_29_code (2 : Nat) (Option.some Jvm.ClassFile.FieldType.int)) ∈ lw_all := lw_g (lw_at lw_m6 44 rfl) rfl
theorem q1321 : (Jvm.Cond.methodLink "CarryUpModel" (159 : Nat) ({ cls := "CarryUpModel", name := "isBag", desc := "(I)Z" } : Jvm.MethodName)) ∈ lw_all := lw_g (lw_at lw_m6 45 rfl) rfl
theorem q1322 : (Jvm.Cond.static ({ cls := "CarryUpModel", name := "isBag", desc := "(I)Z" } : Jvm.MethodName)) ∈ lw_all := lw_g (lw_at lw_m6 46 rfl) rfl
theorem q1323 : (Jvm.Cond.code ({ cls := "CarryUpModel", name := "isBag", desc := "(I)Z" } : Jvm.MethodName) prog_12_method_26_code (1 : Nat) (Option.some Jvm.ClassFile.FieldType.boolean)) ∈ lw_all := lw_g (lw_at lw_m6 47 rfl) rfl
theorem q1324 : (Jvm.Cond.methodLink "CarryUpModel" (162 : Nat) ({ cls := "CarryUpModel", name := "mayBe", desc := "(I)Z" } : Jvm.MethodName)) ∈ lw_all := lw_g (lw_at lw_m6 48 rfl) rfl
theorem q1325 : (Jvm.Cond.privateMethod ({ cls := "CarryUpModel", name := "mayBe", desc := "(I)Z" } : Jvm.MethodName)) ∈ lw_tbl := lw_at lw_m6 49 rfl
theorem q1326 : (Jvm.Cond.instanceMethod ({ cls := "CarryUpModel", name := "mayBe", desc := "(I)Z" } : Jvm.MethodName)) ∈ lw_all := lw_g (lw_at lw_m6 50 rfl) rfl
theorem q1327 : (Jvm.Cond.code ({ cls := "CarryUpModel", name := "mayBe", desc := "(I)Z" } : Jvm.MethodName) prog_12_method_28_code (4 : Nat) (Option.some Jvm.ClassFile.FieldType.boolean)) ∈ lw_all := lw_g (lw_at lw_m6 51 rfl) rfl
theorem q1328 : (Jvm.Cond.methodLink "CarryUpModel" (156 : Nat) ({ cls := "CarryUpModel", name := "weight", desc := "(I)I" } : Jvm.MethodName)) ∈ lw_all := lw_g (lw_at lw_m6 52 rfl) rfl
theorem q1329 : (Jvm.Cond.privateMethod ({ cls := "CarryUpModel", name := "weight", desc := "(I)I" } : Jvm.MethodName)) ∈ lw_tbl := lw_at lw_m6 53 rfl
theorem q1330 : (Jvm.Cond.instanceMethod ({ cls := "CarryUpModel", name := "weight", desc := "(I)I" } : Jvm.MethodName)) ∈ lw_all := lw_g (lw_at lw_m6 54 rfl) rfl
theorem q1331 : (Jvm.Cond.code ({ cls := "CarryUpModel", name := "weight", desc := "(I)I" } : Jvm.MethodName) prog_12_method_27_code (4 : Nat) (Option.some Jvm.ClassFile.FieldType.int)) ∈ lw_all := lw_g (lw_at lw_m6 55 rfl) rfl
theorem q1333 : (Jvm.Cond.instanceMethod ({ cls := "CarryUpModel", name := "does", desc := "(III)I" } : Jvm.MethodName)) ∈ lw_all := lw_g (lw_at lw_m6 57 rfl) rfl
theorem q1334 : (Jvm.Cond.selects "CarryUpModel" ({ cls := "CarryUpModel", name := "does", desc := "(III)I" } : Jvm.MethodName) ({ cls := "CarryUpModel", name := "does", desc := "(III)I" } : Jvm.MethodName)) ∈ lw_all := lw_g (lw_at lw_m6 58 rfl) rfl
theorem q1335 : (Jvm.Cond.code ({ cls := "CarryUpModel", name := "does", desc := "(III)I" } : Jvm.MethodName) prog_12_method_32_code (4 : Nat) (Option.some Jvm.ClassFile.FieldType.int)) ∈ lw_all := lw_g (lw_at lw_m6 59 rfl) rfl
theorem q1336 : (Jvm.Cond.methodLink "CarryUpModel" (168 : Nat) ({ cls := "CarryUpModel", name := "leftOf", desc := "(III)I" } : Jvm.MethodName)) ∈ lw_all := lw_g (lw_at lw_m6 60 rfl) rfl
theorem q1337 : (Jvm.Cond.privateMethod ({ cls := "CarryUpModel", name := "leftOf", desc := "(III)I" } : Jvm.MethodName)) ∈ lw_tbl := lw_at lw_m6 61 rfl
theorem q1338 : (Jvm.Cond.instanceMethod ({ cls := "CarryUpModel", name := "leftOf", desc := "(III)I" } : Jvm.MethodName)) ∈ lw_all := lw_g (lw_at lw_m6 62 rfl) rfl
theorem q1339 : (Jvm.Cond.code ({ cls := "CarryUpModel", name := "leftOf", desc := "(III)I" } : Jvm.MethodName) prog_12_method_31_code (9 : Nat) (Option.some Jvm.ClassFile.FieldType.int)) ∈ lw_all := lw_g (lw_at lw_m6 63 rfl) rfl
theorem q1340 : (Jvm.Cond.methodLink "CarryUpModel" (165 : Nat) ({ cls := "CarryUpModel", name := "fits", desc := "(III)Z" } : Jvm.MethodName)) ∈ lw_all := lw_g (lw_at lw_m6 64 rfl) rfl
theorem q1341 : (Jvm.Cond.static ({ cls := "CarryUpModel", name := "fits", desc := "(III)Z" } : Jvm.MethodName)) ∈ lw_all := lw_g (lw_at lw_m6 65 rfl) rfl
theorem q1342 : (Jvm.Cond.code ({ cls := "CarryUpModel", name := "fits", desc := "(III)Z" } : Jvm.MethodName) prog_12_method_30_code (3 : Nat) (Option.some Jvm.ClassFile.FieldType.boolean)) ∈ lw_all := lw_g (lw_at lw_m6 66 rfl) rfl
theorem q1344 : (Jvm.Cond.instanceMethod ({ cls := "CarryUpModel", name := "chance", desc := "(III)I" } : Jvm.MethodName)) ∈ lw_all := lw_g (lw_at lw_m6 68 rfl) rfl
theorem q1345 : (Jvm.Cond.selects "CarryUpModel" ({ cls := "CarryUpModel", name := "chance", desc := "(III)I" } : Jvm.MethodName) ({ cls := "CarryUpModel", name := "chance", desc := "(III)I" } : Jvm.MethodName)) ∈ lw_all := lw_g (lw_at lw_m6 69 rfl) rfl
theorem q1346 : (Jvm.Cond.code ({ cls := "CarryUpModel", name := "chance", desc := "(III)I" } : Jvm.MethodName) prog_12_method_38_code (6 : Nat) (Option.some Jvm.ClassFile.FieldType.int)) ∈ lw_all := lw_g (lw_at lw_m6 70 rfl) rfl
theorem q1347 : (Jvm.Cond.methodLink "CarryUpModel" (176 : Nat) ({ cls := "CarryUpModel", name := "isUsable", desc := "(I)Z" } : Jvm.MethodName)) ∈ lw_all := lw_g (lw_at lw_m6 71 rfl) rfl
theorem q1348 : (Jvm.Cond.privateMethod ({ cls := "CarryUpModel", name := "isUsable", desc := "(I)Z" } : Jvm.MethodName)) ∈ lw_tbl := lw_at lw_m6 72 rfl
theorem q1349 : (Jvm.Cond.instanceMethod ({ cls := "CarryUpModel", name := "isUsable", desc := "(I)Z" } : Jvm.MethodName)) ∈ lw_all := lw_g (lw_at lw_m6 73 rfl) rfl
theorem q1350 : (Jvm.Cond.code ({ cls := "CarryUpModel", name := "isUsable", desc := "(I)Z" } : Jvm.MethodName) prog_12_method_34_code (2 : Nat) (Option.some Jvm.ClassFile.FieldType.boolean)) ∈ lw_all := lw_g (lw_at lw_m6 74 rfl) rfl
theorem q1351 : (Jvm.Cond.methodLink "CarryUpModel" (179 : Nat) ({ cls := "CarryUpModel", name := "isPart", desc := "(I)Z" } : Jvm.MethodName)) ∈ lw_all := lw_g (lw_at lw_m6 75 rfl) rfl
theorem q1352 : (Jvm.Cond.static ({ cls := "CarryUpModel", name := "isPart", desc := "(I)Z" } : Jvm.MethodName)) ∈ lw_all := lw_g (lw_at lw_m6 76 rfl) rfl
theorem q1353 : (Jvm.Cond.code ({ cls := "CarryUpModel", name := "isPart", desc := "(I)Z" } : Jvm.MethodName) prog_12_method_37_code (1 : Nat) (Option.some Jvm.ClassFile.FieldType.boolean)) ∈ lw_all := lw_g (lw_at lw_m6 77 rfl) rfl
theorem q1354 : (Jvm.Cond.methodLink "CarryUpModel" (182 : Nat) ({ cls := "CarryUpModel", name := "totalOf", desc := "(I)I" } : Jvm.MethodName)) ∈ lw_all := lw_g (lw_at lw_m6 78 rfl) rfl
theorem q1355 : (Jvm.Cond.privateMethod ({ cls := "CarryUpModel", name := "totalOf", desc := "(I)I" } : Jvm.MethodName)) ∈ lw_tbl := lw_at lw_m6 79 rfl
theorem q1356 : (Jvm.Cond.instanceMethod ({ cls := "CarryUpModel", name := "totalOf", desc := "(I)I" } : Jvm.MethodName)) ∈ lw_all := lw_g (lw_at lw_m6 80 rfl) rfl
theorem q1357 : (Jvm.Cond.code ({ cls := "CarryUpModel", name := "totalOf", desc := "(I)I" } : Jvm.MethodName) prog_12_method_33_code (4 : Nat) (Option.some Jvm.ClassFile.FieldType.int)) ∈ lw_all := lw_g (lw_at lw_m6 81 rfl) rfl
theorem q1358 : (Jvm.Cond.methodLink "CarryUpModel" (185 : Nat) ({ cls := "CarryUpModel", name := "lowest", desc := "(JJI)J" } : Jvm.MethodName)) ∈ lw_all := lw_g (lw_at lw_m6 82 rfl) rfl
theorem q1359 : (Jvm.Cond.static ({ cls := "CarryUpModel", name := "lowest", desc := "(JJI)J" } : Jvm.MethodName)) ∈ lw_all := lw_g (lw_at lw_m6 83 rfl) rfl
theorem q1360 : (Jvm.Cond.code ({ cls := "CarryUpModel", name := "lowest", desc := "(JJI)J" } : Jvm.MethodName) prog_12_method_36_code (7 : Nat) (Option.some Jvm.ClassFile.FieldType.long)) ∈ lw_all := lw_g (lw_at lw_m6 84 rfl) rfl
theorem q1361 : (Jvm.Cond.methodLink "CarryUpModel" (172 : Nat) ({ cls := "CarryUpModel", name := "divisor", desc := "(JJ)J" } : Jvm.MethodName)) ∈ lw_all := lw_g (lw_at lw_m6 85 rfl) rfl
theorem q1362 : (Jvm.Cond.static ({ cls := "CarryUpModel", name := "divisor", desc := "(JJ)J" } : Jvm.MethodName)) ∈ lw_all := lw_g (lw_at lw_m6 86 rfl) rfl
theorem q1363 : (Jvm.Cond.code ({ cls := "CarryUpModel", name := "divisor", desc := "(JJ)J" } : Jvm.MethodName) prog_12_method_35_code (10 : Nat) (Option.some Jvm.ClassFile.FieldType.long)) ∈ lw_all := lw_g (lw_at lw_m6 87 rfl) rfl
theorem q1365 : (Jvm.Cond.instanceMethod ({ cls := "CarryUpModel", name := "mean", desc := "(IIII)J" } : Jvm.MethodName)) ∈ lw_all := lw_g (lw_at lw_m6 89 rfl) rfl
theorem q1366 : (Jvm.Cond.selects "CarryUpModel" ({ cls := "CarryUpModel", name := "mean", desc := "(IIII)J" } : Jvm.MethodName) ({ cls := "CarryUpModel", name := "mean", desc := "(IIII)J" } : Jvm.MethodName)) ∈ lw_all := lw_g (lw_at lw_m6 90 rfl) rfl
theorem q1367 : (Jvm.Cond.code ({ cls := "CarryUpModel", name := "mean", desc := "(IIII)J" } : Jvm.MethodName) prog_12_method_47_code (6 : Nat) (Option.some Jvm.ClassFile.FieldType.long)) ∈ lw_all := lw_g (lw_at lw_m6 91 rfl) rfl
theorem q1368 : (Jvm.Cond.methodLink "CarryUpModel" (234 : Nat) ({ cls := "CarryUpModel", name := "refusesBag", desc := "(III)I" } : Jvm.MethodName)) ∈ lw_all := lw_g (lw_at lw_m6 92 rfl) rfl
theorem q1369 : (Jvm.Cond.privateMethod ({ cls := "CarryUpModel", name := "refusesBag", desc := "(III)I" } : Jvm.MethodName)) ∈ lw_tbl := lw_at lw_m6 93 rfl
theorem q1370 : (Jvm.Cond.instanceMethod ({ cls := "CarryUpModel", name := "refusesBag", desc := "(III)I" } : Jvm.MethodName)) ∈ lw_all := lw_g (lw_at lw_m6 94 rfl) rfl
theorem q1371 : (Jvm.Cond.code ({ cls := "CarryUpModel", name := "refusesBag", desc := "(III)I" } : Jvm.MethodName) prog_12_method_46_code (5 : Nat) (Option.some Jvm.ClassFile.FieldType.int)) ∈ lw_all := lw_g (lw_at lw_m6 95 rfl) rfl
theorem q1372 : (Jvm.Cond.methodLink "CarryUpModel" (231 : Nat) ({ cls := "CarryUpModel", name := "refuses", desc := "(II)I" } : Jvm.MethodName)) ∈ lw_all := lw_g (lw_at lw_m6 96 rfl) rfl
theorem q1373 : (Jvm.Cond.privateMethod ({ cls := "CarryUpModel", name := "refuses", desc := "(II)I" } : Jvm.MethodName)) ∈ lw_tbl := lw_at lw_m6 97 rfl
theorem q1374 : (Jvm.Cond.instanceMethod ({ cls := "CarryUpModel", name := "refuses", desc := "(II)I" } : Jvm.MethodName)) ∈ lw_all := lw_g (lw_at lw_m6 98 rfl) rfl
theorem q1375 : (Jvm.Cond.code ({ cls := "CarryUpModel", name := "refuses", desc := "(II)I" } : Jvm.MethodName) prog_12_method_39_code (7 : Nat) (Option.some Jvm.ClassFile.FieldType.int)) ∈ lw_all := lw_g (lw_at lw_m6 99 rfl) rfl
theorem q1376 : (Jvm.Cond.constantLong "CarryUpModel" (189 : Nat) (6 : Int64)) ∈ lw_all := lw_g (lw_at lw_m6 100 rfl) rfl
theorem q1377 : (Jvm.Cond.constantLong "CarryUpModel" (237 : Nat) (-8999999999999999998 : Int64)) ∈ lw_all := lw_g (lw_at lw_m6 101 rfl) rfl
theorem q1378 : (Jvm.Cond.constantLong "CarryUpModel" (239 : Nat) (-8999999999999999997 : Int64)) ∈ lw_all := lw_g (lw_at lw_m6 102 rfl) rfl
theorem q1379 : (Jvm.Cond.methodLink "CarryUpModel" (241 : Nat) ({ cls := "CarryUpModel", name := "layRow", desc := "(II)V" } : Jvm.MethodName)) ∈ lw_all := lw_g (lw_at lw_m6 103 rfl) rfl
theorem q1380 : (Jvm.Cond.privateMethod ({ cls := "CarryUpModel", name := "layRow", desc := "(II)V" } : Jvm.MethodName)) ∈ lw_tbl := lw_at lw_m6 104 rfl
theorem q1381 : (Jvm.Cond.instanceMethod ({ cls := "CarryUpModel", name := "layRow", desc := "(II)V" } : Jvm.MethodName)) ∈ lw_all := lw_g (lw_at lw_m6 105 rfl) rfl
theorem q1382 : (Jvm.Cond.code ({ cls := "CarryUpModel", name := "layRow", desc := "(II)V" } : Jvm.MethodName) prog_12_method_40_code (5 : Nat) (Option.none : Option Jvm.ClassFile.FieldType)) ∈ lw_all := lw_g (lw_at lw_m6 106 rfl) rfl
theorem q1383 : (Jvm.Cond.methodLink "CarryUpModel" (244 : Nat) ({ cls := "CarryUpModel", name := "meanOf", desc := "(III)J" } : Jvm.MethodName)) ∈ lw_all := lw_g (lw_at lw_m6 107 rfl) rfl
theorem q1384 : (Jvm.Cond.privateMethod ({ cls := "CarryUpModel", name := "meanOf", desc := "(III)J" } : Jvm.MethodName)) ∈ lw_tbl := lw_at lw_m6 108 rfl
theorem q1385 : (Jvm.Cond.instanceMethod ({ cls := "CarryUpModel", name := "meanOf", desc := "(III)J" } : Jvm.MethodName)) ∈ lw_all := lw_g (lw_at lw_m6 109 rfl) rfl
theorem q1386 : (Jvm.Cond.code ({ cls := "CarryUpModel", name := "meanOf", desc := "(III)J" } : Jvm.MethodName) prog_12_method_44_code (7 : Nat) (Option.some Jvm.ClassFile.FieldType.long)) ∈ lw_all := lw_g (lw_at lw_m6 110 rfl) rfl
theorem q1387 : (Jvm.Cond.methodLink "CarryUpModel" (224 : Nat) ({ cls := "CarryUpModel", name := "layChosen", desc := "(I)V" } : Jvm.MethodName)) ∈ lw_all := lw_g (lw_at lw_m6 111 rfl) rfl
theorem q1388 : (Jvm.Cond.privateMethod ({ cls := "CarryUpModel", name := "layChosen", desc := "(I)V" } : Jvm.MethodName)) ∈ lw_tbl := lw_at lw_m6 112 rfl
theorem q1389 : (Jvm.Cond.instanceMethod ({ cls := "CarryUpModel", name := "layChosen", desc := "(I)V" } : Jvm.MethodName)) ∈ lw_all := lw_g (lw_at lw_m6 113 rfl) rfl
theorem q1390 : (Jvm.Cond.code ({ cls := "CarryUpModel", name := "layChosen", desc := "(I)V" } : Jvm.MethodName) prog_12_method_41_code (5 : Nat) (Option.none : Option Jvm.ClassFile.FieldType)) ∈ lw_all := lw_g (lw_at lw_m6 114 rfl) rfl
theorem q1391 : (Jvm.Cond.methodLink "CarryUpModel" (227 : Nat) ({ cls := "CarryUpModel", name := "go", desc := "(II)V" } : Jvm.MethodName)) ∈ lw_all := lw_g (lw_at lw_m6 115 rfl) rfl
theorem q1392 : (Jvm.Cond.privateMethod ({ cls := "CarryUpModel", name := "go", desc := "(II)V" } : Jvm.MethodName)) ∈ lw_tbl := lw_at lw_m6 116 rfl
theorem q1393 : (Jvm.Cond.instanceMethod ({ cls := "CarryUpModel", name := "go", desc := "(II)V" } : Jvm.MethodName)) ∈ lw_all := lw_g (lw_at lw_m6 117 rfl) rfl
theorem q1394 : (Jvm.Cond.code ({ cls := "CarryUpModel", name := "go", desc := "(II)V" } : Jvm.MethodName) prog_12_method_42_code (12 : Nat) (Option.none : Option Jvm.ClassFile.FieldType)) ∈ lw_all := lw_g (lw_at lw_m6 118 rfl) rfl
theorem q1395 : (Jvm.Cond.constant "CarryUpModel" (219 : Nat) (65536 : Int32)) ∈ lw_all := lw_g (lw_at lw_m6 119 rfl) rfl
theorem q1396 : (Jvm.Cond.methodLink "CarryUpModel" (220 : Nat) ({ cls := "CarryUpModel", name := "sortBy", desc := "(II)I" } : Jvm.MethodName)) ∈ lw_all := lw_g (lw_at lw_m6 120 rfl) rfl
theorem q1397 : (Jvm.Cond.privateMethod ({ cls := "CarryUpModel", name := "sortBy", desc := "(II)I" } : Jvm.MethodName)) ∈ lw_tbl := lw_at lw_m6 121 rfl
theorem q1398 : (Jvm.Cond.instanceMethod ({ cls := "CarryUpModel", name := "sortBy", desc := "(II)I" } : Jvm.MethodName)) ∈ lw_all := lw_g (lw_at lw_m6 122 rfl) rfl
theorem q1399 : (Jvm.Cond.code ({ cls := "CarryUpModel", name := "sortBy", desc := "(II)I" } : Jvm.MethodName) prog_12_method_43_code (5 : Nat) (Option.some Jvm.ClassFile.FieldType.int)) ∈ lw_all := lw_g (lw_at lw_m6 123 rfl) rfl
theorem q1401 : (Jvm.Cond.instanceMethod ({ cls := "CarryUpModel", name := "all", desc := "(IIII)J" } : Jvm.MethodName)) ∈ lw_all := lw_g (lw_at lw_m6 125 rfl) rfl
theorem q1402 : (Jvm.Cond.selects "CarryUpModel" ({ cls := "CarryUpModel", name := "all", desc := "(IIII)J" } : Jvm.MethodName) ({ cls := "CarryUpModel", name := "all", desc := "(IIII)J" } : Jvm.MethodName)) ∈ lw_all := lw_g (lw_at lw_m6 126 rfl) rfl
theorem q1403 : (Jvm.Cond.code ({ cls := "CarryUpModel", name := "all", desc := "(IIII)J" } : Jvm.MethodName) prog_12_method_48_code (6 : Nat) (Option.some Jvm.ClassFile.FieldType.long)) ∈ lw_all := lw_g (lw_at lw_m6 127 rfl) rfl
theorem q1404 : (Jvm.Cond.constantLong "CarryUpModel" (248 : Nat) (-2 : Int64)) ∈ lw_all := lw_g (lw_at lw_m6 128 rfl) rfl
theorem q1405 : (Jvm.Cond.constantLong "CarryUpModel" (250 : Nat) (-3 : Int64)) ∈ lw_all := lw_g (lw_at lw_m6 129 rfl) rfl
theorem q1406 : (Jvm.Cond.methodLink "CarryUpModel" (252 : Nat) ({ cls := "CarryUpModel", name := "doneOf", desc := "(I)J" } : Jvm.MethodName)) ∈ lw_all := lw_g (lw_at lw_m6 130 rfl) rfl
theorem q1407 : (Jvm.Cond.privateMethod ({ cls := "CarryUpModel", name := "doneOf", desc := "(I)J" } : Jvm.MethodName)) ∈ lw_tbl := lw_at lw_m6 131 rfl
theorem q1408 : (Jvm.Cond.instanceMethod ({ cls := "CarryUpModel", name := "doneOf", desc := "(I)J" } : Jvm.MethodName)) ∈ lw_all := lw_g (lw_at lw_m6 132 rfl) rfl
theorem q1409 : (Jvm.Cond.code ({ cls := "CarryUpModel", name := "doneOf", desc := "(I)J" } : Jvm.MethodName) prog_12_method_45_code (5 : Nat) (Option.some Jvm.ClassFile.FieldType.long)) ∈ lw_all := lw_g (lw_at lw_m6 133 rfl) rfl
theorem q1411 : (Jvm.Cond.instanceMethod ({ cls := "CarryUpModel", name := "end", desc := "(III)I" } : Jvm.MethodName)) ∈ lw_all := lw_g (lw_at lw_m6 135 rfl) rfl
theorem q1412 : (Jvm.Cond.selects "CarryUpModel" ({ cls := "CarryUpModel", name := "end", desc := "(III)I" } : Jvm.MethodName) ({ cls := "CarryUpModel", name := "end", desc := "(III)I" } : Jvm.MethodName)) ∈ lw_all := lw_g (lw_at lw_m6 136 rfl) rfl
theorem q1413 : (Jvm.Cond.code ({ cls := "CarryUpModel", name := "end", desc := "(III)I" } : Jvm.MethodName) prog_12_method_49_code (7 : Nat) (Option.some Jvm.ClassFile.FieldType.int)) ∈ lw_all := lw_g (lw_at lw_m6 137 rfl) rfl
theorem q1415 : (Jvm.Cond.instanceMethod ({ cls := "CarryUpModel", name := "best", desc := "(II)I" } : Jvm.MethodName)) ∈ lw_all := lw_g (lw_at lw_m6 139 rfl) rfl
theorem q1416 : (Jvm.Cond.selects "CarryUpModel" ({ cls := "CarryUpModel", name := "best", desc := "(II)I" } : Jvm.MethodName) ({ cls := "CarryUpModel", name := "best", desc := "(II)I" } : Jvm.MethodName)) ∈ lw_all := lw_g (lw_at lw_m6 140 rfl) rfl
theorem q1417 : (Jvm.Cond.code ({ cls := "CarryUpModel", name := "best", desc := "(II)I" } : Jvm.MethodName) prog_12_method_51_code (4 : Nat) (Option.some Jvm.ClassFile.FieldType.int)) ∈ lw_all := lw_g (lw_at lw_m6 141 rfl) rfl
theorem q1418 : (Jvm.Cond.methodLink "CarryUpModel" (256 : Nat) ({ cls := "CarryUpModel", name := "bestBag", desc := "()I" } : Jvm.MethodName)) ∈ lw_all := lw_g (lw_at lw_m6 142 rfl) rfl
theorem q1419 : (Jvm.Cond.privateMethod ({ cls := "CarryUpModel", name := "bestBag", desc := "()I" } : Jvm.MethodName)) ∈ lw_tbl := lw_at lw_m6 143 rfl
theorem q1420 : (Jvm.Cond.instanceMethod ({ cls := "CarryUpModel", name := "bestBag", desc := "()I" } : Jvm.MethodName)) ∈ lw_all := lw_g (lw_at lw_m6 144 rfl) rfl
theorem q1421 : (Jvm.Cond.code ({ cls := "CarryUpModel", name := "bestBag", desc := "()I" } : Jvm.MethodName) prog_12_method_50_code (8 : Nat) (Option.some Jvm.ClassFile.FieldType.int)) ∈ lw_all := lw_g (lw_at lw_m6 145 rfl) rfl
theorem q1423 : (Jvm.Cond.instanceMethod ({ cls := "CarryUpModel", name := "sure", desc := "(IIII)I" } : Jvm.MethodName)) ∈ lw_all := lw_g (lw_at lw_m6 147 rfl) rfl
theorem q1424 : (Jvm.Cond.selects "CarryUpModel" ({ cls := "CarryUpModel", name := "sure", desc := "(IIII)I" } : Jvm.MethodName) ({ cls := "CarryUpModel", name := "sure", desc := "(IIII)I" } : Jvm.MethodName)) ∈ lw_all := lw_g (lw_at lw_m6 148 rfl) rfl
theorem q1425 : (Jvm.Cond.code ({ cls := "CarryUpModel", name := "sure", desc := "(IIII)I" } : Jvm.MethodName) prog_12_method_52_code (9 : Nat) (Option.some Jvm.ClassFile.FieldType.int)) ∈ lw_all := lw_g (lw_at lw_m6 149 rfl) rfl
theorem q1426 : (Jvm.Cond.constantLong "CarryUpModel" (259 : Nat) (99 : Int64)) ∈ lw_all := lw_g (lw_at lw_m6 150 rfl) rfl
theorem q1428 : (Jvm.Cond.instanceMethod ({ cls := "CarryUpModel", name := "know", desc := "(IIII)J" } : Jvm.MethodName)) ∈ lw_all := lw_g (lw_at lw_m6 152 rfl) rfl
theorem q1429 : (Jvm.Cond.selects "CarryUpModel" ({ cls := "CarryUpModel", name := "know", desc := "(IIII)J" } : Jvm.MethodName) ({ cls := "CarryUpModel", name := "know", desc := "(IIII)J" } : Jvm.MethodName)) ∈ lw_all := lw_g (lw_at lw_m6 153 rfl) rfl
theorem q1430 : (Jvm.Cond.code ({ cls := "CarryUpModel", name := "know", desc := "(IIII)J" } : Jvm.MethodName) prog_12_method_53_code (15 : Nat) (Option.some Jvm.ClassFile.FieldType.long)) ∈ lw_all := lw_g (lw_at lw_m6 154 rfl) rfl
theorem q1431 : (Jvm.Cond.constantLong "CarryUpModel" (261 : Nat) (-9000000000000000000 : Int64)) ∈ lw_all := lw_g (lw_at lw_m6 155 rfl) rfl
theorem q1433 : (Jvm.Cond.instanceMethod ({ cls := "CarryUpModel", name := "both", desc := "(II)I" } : Jvm.MethodName)) ∈ lw_all := lw_g (lw_at lw_m6 157 rfl) rfl
theorem q1434 : (Jvm.Cond.selects "CarryUpModel" ({ cls := "CarryUpModel", name := "both", desc := "(II)I" } : Jvm.MethodName) ({ cls := "CarryUpModel", name := "both", desc := "(II)I" } : Jvm.MethodName)) ∈ lw_all := lw_g (lw_at lw_m6 158 rfl) rfl
theorem q1435 : (Jvm.Cond.code ({ cls := "CarryUpModel", name := "both", desc := "(II)I" } : Jvm.MethodName) prog_12_method_54_code (16 : Nat) (Option.some Jvm.ClassFile.FieldType.int)) ∈ lw_all := lw_g (lw_at lw_m6 159 rfl) rfl
theorem q1437 : (Jvm.Cond.instanceMethod ({ cls := "CarryUpModel", name := "value", desc := "(IIIII)J" } : Jvm.MethodName)) ∈ lw_all := lw_g (lw_at lw_m6 161 rfl) rfl
theorem q1438 : (Jvm.Cond.selects "CarryUpModel" ({ cls := "CarryUpModel", name := "value", desc := "(IIIII)J" } : Jvm.MethodName) ({ cls := "CarryUpModel", name := "value", desc := "(IIIII)J" } : Jvm.MethodName)) ∈ lw_all := lw_g (lw_at lw_m6 162 rfl) rfl
theorem q1439 : (Jvm.Cond.code ({ cls := "CarryUpModel", name := "value", desc := "(IIIII)J" } : Jvm.MethodName) prog_12_method_68_code (7 : Nat) (Option.some Jvm.ClassFile.FieldType.long)) ∈ lw_all := lw_g (lw_at lw_m6 163 rfl) rfl
theorem q1440 : (Jvm.Cond.methodLink "CarryUpModel" (304 : Nat) ({ cls := "CarryUpModel", name := "refusesNow", desc := "(IIII)I" } : Jvm.MethodName)) ∈ lw_all := lw_g (lw_at lw_m6 164 rfl) rfl
theorem q1441 : (Jvm.Cond.privateMethod ({ cls := "CarryUpModel", name := "refusesNow", desc := "(IIII)I" } : Jvm.MethodName)) ∈ lw_tbl := lw_at lw_m6 165 rfl
theorem q1442 : (Jvm.Cond.instanceMethod ({ cls := "CarryUpModel", name := "refusesNow", desc := "(IIII)I" } : Jvm.MethodName)) ∈ lw_all := lw_g (lw_at lw_m6 166 rfl) rfl
theorem q1443 : (Jvm.Cond.code ({ cls := "CarryUpModel", name := "refusesNow", desc := "(IIII)I" } : Jvm.MethodName) prog_12_method_66_code (8 : Nat) (Option.some Jvm.ClassFile.FieldType.int)) ∈ lw_all := lw_g (lw_at lw_m6 167 rfl) rfl
theorem q1444 : (Jvm.Cond.constantLong "CarryUpModel" (297 : Nat) (63 : Int64)) ∈ lw_all := lw_g (lw_at lw_m6 168 rfl) rfl
theorem q1445 : (Jvm.Cond.constantLong "CarryUpModel" (299 : Nat) (1439 : Int64)) ∈ lw_all := lw_g (lw_at lw_m6 169 rfl) rfl
theorem q1446 : (Jvm.Cond.methodLink "CarryUpModel" (307 : Nat) ({ cls := "CarryUpModel", name := "valueOf", desc := "(IIII)J" } : Jvm.MethodName)) ∈ lw_all := lw_g (lw_at lw_m6 170 rfl) rfl
theorem q1447 : (Jvm.Cond.privateMethod ({ cls := "CarryUpModel", name := "valueOf", desc := "(IIII)J" } : Jvm.MethodName)) ∈ lw_tbl := lw_at lw_m6 171 rfl
theorem q1448 : (Jvm.Cond.instanceMethod ({ cls := "CarryUpModel", name := "valueOf", desc := "(IIII)J" } : Jvm.MethodName)) ∈ lw_all := lw_g (lw_at lw_m6 172 rfl) rfl
theorem q1449 : (Jvm.Cond.code ({ cls := "CarryUpModel", name := "valueOf", desc := "(IIII)J" } : Jvm.MethodName) prog_12_method_67_code (10 : Nat) (Option.some Jvm.ClassFile.FieldType.long)) ∈ lw_all := lw_g (lw_at lw_m6 173 rfl) rfl
theorem q1450 : (Jvm.Cond.methodLink "CarryUpModel" (301 : Nat) ({ cls := "CarryUpModel", name := "going", desc := "(IIIII)J" } : Jvm.MethodName)) ∈ lw_all := lw_g (lw_at lw_m6 174 rfl) rfl
theorem q1451 : (Jvm.Cond.privateMethod ({ cls := "CarryUpModel", name := "going", desc := "(IIIII)J" } : Jvm.MethodName)) ∈ lw_tbl := lw_at lw_m6 175 rfl
theorem q1452 : (Jvm.Cond.instanceMethod ({ cls := "CarryUpModel", name := "going", desc := "(IIIII)J" } : Jvm.MethodName)) ∈ lw_all := lw_g (lw_at lw_m6 176 rfl) rfl
theorem q1453 : (Jvm.Cond.code ({ cls := "CarryUpModel", name := "going", desc := "(IIIII)J" } : Jvm.MethodName) prog_12_method_65_code (14 : Nat) (Option.some Jvm.ClassFile.FieldType.long)) ∈ lw_all := lw_g (lw_at lw_m6 177 rfl) rfl
theorem q1454 : (Jvm.Cond.methodLink "CarryUpModel" (263 : Nat) ({ cls := "CarryUpModel", name := "arrival", desc := "(III)I" } : Jvm.MethodName)) ∈ lw_all := lw_g (lw_at lw_m6 178 rfl) rfl
theorem q1455 : (Jvm.Cond.privateMethod ({ cls := "CarryUpModel", name := "arrival", desc := "(III)I" } : Jvm.MethodName)) ∈ lw_tbl := lw_at lw_m6 179 rfl
theorem q1456 : (Jvm.Cond.instanceMethod ({ cls := "CarryUpModel", name := "arrival", desc := "(III)I" } : Jvm.MethodName)) ∈ lw_all := lw_g (lw_at lw_m6 180 rfl) rfl
theorem q1457 : (Jvm.Cond.code ({ cls := "CarryUpModel", name := "arrival", desc := "(III)I" } : Jvm.MethodName) prog_12_method_56_code (5 : Nat) (Option.some Jvm.ClassFile.FieldType.int)) ∈ lw_all := lw_g (lw_at lw_m6 181 rfl) rfl
theorem q1458 : (Jvm.Cond.methodLink "CarryUpModel" (273 : Nat) ({ cls := "CarryUpModel", name := "totals", desc := "(I)J" } : Jvm.MethodName)) ∈ lw_all := lw_g (lw_at lw_m6 182 rfl) rfl
theorem q1459 : (Jvm.Cond.privateMethod ({ cls := "CarryUpModel", name := "totals", desc := "(I)J" } : Jvm.MethodName)) ∈ lw_tbl := lw_at lw_m6 183 rfl
theorem q1460 : (Jvm.Cond.instanceMethod ({ cls := "CarryUpModel", name := "totals", desc := "(I)J" } : Jvm.MethodName)) ∈ lw_all := lw_g (lw_at lw_m6 184 rfl) rfl
theorem q1461 : (Jvm.Cond.code ({ cls := "CarryUpModel", name := "totals", desc := "(I)J" } : Jvm.MethodName) prog_12_method_55_code (5 : Nat) (Option.some Jvm.ClassFile.FieldType.long)) ∈ lw_all := lw_g (lw_at lw_m6 185 rfl) rfl
theorem q1462 : (Jvm.Cond.methodLink "CarryUpModel" (266 : Nat) ({ cls := "CarryUpModel", name := "isLate", desc := "(II)Z" } : Jvm.MethodName)) ∈ lw_all := lw_g (lw_at lw_m6 186 rfl) rfl
theorem q1463 : (Jvm.Cond.privateMethod ({ cls := "CarryUpModel", name := "isLate", desc := "(II)Z" } : Jvm.MethodName)) ∈ lw_tbl := lw_at lw_m6 187 rfl
theorem q1464 : (Jvm.Cond.instanceMethod ({ cls := "CarryUpModel", name := "isLate", desc := "(II)Z" } : Jvm.MethodName)) ∈ lw_all := lw_g (lw_at lw_m6 188 rfl) rfl
theorem q1465 : (Jvm.Cond.code ({ cls := "CarryUpModel", name := "isLate", desc := "(II)Z" } : Jvm.MethodName) prog_12_method_57_code (3 : Nat) (Option.some Jvm.ClassFile.FieldType.boolean)) ∈ lw_all := lw_g (lw_at lw_m6 189 rfl) rfl
theorem q1466 : (Jvm.Cond.methodLink "CarryUpModel" (269 : Nat) ({ cls := "CarryUpModel", name := "got", desc := "(II)J" } : Jvm.MethodName)) ∈ lw_all := lw_g (lw_at lw_m6 190 rfl) rfl
theorem q1467 : (Jvm.Cond.privateMethod ({ cls := "CarryUpModel", name := "got", desc := "(II)J" } : Jvm.MethodName)) ∈ lw_tbl := lw_at lw_m6 191 rfl
theorem q1468 : (Jvm.Cond.instanceMethod ({ cls := "CarryUpModel", name := "got", desc := "(II)J" } : Jvm.MethodName)) ∈ lw_all := lw_g (lw_at lw_m6 192 rfl) rfl
theorem q1469 : (Jvm.Cond.code ({ cls := "CarryUpModel", name := "got", desc := "(II)J" } : Jvm.MethodName) prog_12_method_58_code (3 : Nat) (Option.some Jvm.ClassFile.FieldType.long)) ∈ lw_all := lw_g (lw_at lw_m6 193 rfl) rfl
theorem q1470 : (Jvm.Cond.methodLink "CarryUpModel" (294 : Nat) ({ cls := "CarryUpModel", name := "three", desc := "(IIII)J" } : Jvm.MethodName)) ∈ lw_all := lw_g (lw_at lw_m6 194 rfl) rfl
theorem q1471 : (Jvm.Cond.privateMethod ({ cls := "CarryUpModel", name := "three", desc := "(IIII)J" } : Jvm.MethodName)) ∈ lw_tbl := lw_at lw_m6 195 rfl
theorem q1472 : (Jvm.Cond.instanceMethod ({ cls := "CarryUpModel", name := "three", desc := "(IIII)J" } : Jvm.MethodName)) ∈ lw_all := lw_g (lw_at lw_m6 196 rfl) rfl
theorem q1473 : (Jvm.Cond.code ({ cls := "CarryUpModel", name := "three", desc := "(IIII)J" } : Jvm.MethodName) prog_12_method_64_code (10 : Nat) (Option.some Jvm.ClassFile.FieldType.long)) ∈ lw_all := lw_g (lw_at lw_m6 197 rfl) rfl
theorem q1474 : (Jvm.Cond.methodLink "CarryUpModel" (291 : Nat) ({ cls := "CarryUpModel", name := "goThree", desc := "(IIIII)J" } : Jvm.MethodName)) ∈ lw_all := lw_g (lw_at lw_m6 198 rfl) rfl
theorem q1475 : (Jvm.Cond.privateMethod ({ cls := "CarryUpModel", name := "goThree", desc := "(IIIII)J" } : Jvm.MethodName)) ∈ lw_tbl := lw_at lw_m6 199 rfl
theorem q1476 : (Jvm.Cond.instanceMethod ({ cls := "CarryUpModel", name := "goThree", desc := "(IIIII)J" } : Jvm.MethodName)) ∈ lw_all := lw_g (lw_at lw_m6 200 rfl) rfl
theorem q1477 : (Jvm.Cond.code ({ cls := "CarryUpModel", name := "goThree", desc := "(IIIII)J" } : Jvm.MethodName) prog_12_method_63_code (14 : Nat) (Option.some Jvm.ClassFile.FieldType.long)) ∈ lw_all := lw_g (lw_at lw_m6 201 rfl) rfl
theorem q1478 : (Jvm.Cond.methodLink "CarryUpModel" (288 : Nat) ({ cls := "CarryUpModel", name := "two", desc := "(IIII)J" } : Jvm.MethodName)) ∈ lw_all := lw_g (lw_at lw_m6 202 rfl) rfl
theorem q1479 : (Jvm.Cond.privateMethod ({ cls := "CarryUpModel", name := "two", desc := "(IIII)J" } : Jvm.MethodName)) ∈ lw_tbl := lw_at lw_m6 203 rfl
theorem q1480 : (Jvm.Cond.instanceMethod ({ cls := "CarryUpModel", name := "two", desc := "(IIII)J" } : Jvm.MethodName)) ∈ lw_all := lw_g (lw_at lw_m6 204 rfl) rfl
theorem q1481 : (Jvm.Cond.code ({ cls := "CarryUpModel", name := "two", desc := "(IIII)J" } : Jvm.MethodName) prog_12_method_62_code (10 : Nat) (Option.some Jvm.ClassFile.FieldType.long)) ∈ lw_all := lw_g (lw_at lw_m6 205 rfl) rfl
theorem q1482 : (Jvm.Cond.methodLink "CarryUpModel" (284 : Nat) ({ cls := "CarryUpModel", name := "goTwo", desc := "(IIIII)J" } : Jvm.MethodName)) ∈ lw_all := lw_g (lw_at lw_m6 206 rfl) rfl
theorem q1483 : (Jvm.Cond.privateMethod ({ cls := "CarryUpModel", name := "goTwo", desc := "(IIIII)J" } : Jvm.MethodName)) ∈ lw_tbl := lw_at lw_m6 207 rfl
theorem q1484 : (Jvm.Cond.instanceMethod ({ cls := "CarryUpModel", name := "goTwo", desc := "(IIIII)J" } : Jvm.MethodName)) ∈ lw_all := lw_g (lw_at lw_m6 208 rfl) rfl
theorem q1485 : (Jvm.Cond.code ({ cls := "CarryUpModel", name := "goTwo", desc := "(IIIII)J" } : Jvm.MethodName) prog_12_method_61_code (14 : Nat) (Option.some Jvm.ClassFile.FieldType.long)) ∈ lw_all := lw_g (lw_at lw_m6 209 rfl) rfl
theorem q1486 : (Jvm.Cond.methodLink "CarryUpModel" (276 : Nat) ({ cls := "CarryUpModel", name := "one", desc := "(IIII)J" } : Jvm.MethodName)) ∈ lw_all := lw_g (lw_at lw_m6 210 rfl) rfl
theorem q1487 : (Jvm.Cond.privateMethod ({ cls := "CarryUpModel", name := "one", desc := "(IIII)J" } : Jvm.MethodName)) ∈ lw_tbl := lw_at lw_m6 211 rfl
theorem q1488 : (Jvm.Cond.instanceMethod ({ cls := "CarryUpModel", name := "one", desc := "(IIII)J" } : Jvm.MethodName)) ∈ lw_all := lw_g (lw_at lw_m6 212 rfl) rfl
theorem q1489 : (Jvm.Cond.code ({ cls := "CarryUpModel", name := "one", desc := "(IIII)J" } : Jvm.MethodName) prog_12_method_60_code (12 : Nat) (Option.some Jvm.ClassFile.FieldType.long)) ∈ lw_all := lw_g (lw_at lw_m6 213 rfl) rfl
theorem q1490 : (Jvm.Cond.methodLink "CarryUpModel" (280 : Nat) ({ cls := "CarryUpModel", name := "then", desc := "(IIII)I" } : Jvm.MethodName)) ∈ lw_all := lw_g (lw_at lw_m6 214 rfl) rfl
theorem q1491 : (Jvm.Cond.privateMethod ({ cls := "CarryUpModel", name := "then", desc := "(IIII)I" } : Jvm.MethodName)) ∈ lw_tbl := lw_at lw_m6 215 rfl
theorem q1492 : (Jvm.Cond.instanceMethod ({ cls := "CarryUpModel", name := "then", desc := "(IIII)I" } : Jvm.MethodName)) ∈ lw_all := lw_g (lw_at lw_m6 216 rfl) rfl
theorem q1493 : (Jvm.Cond.code ({ cls := "CarryUpModel", name := "then", desc := "(IIII)I" } : Jvm.MethodName) prog_12_method_59_code (5 : Nat) (Option.some Jvm.ClassFile.FieldType.int)) ∈ lw_all := lw_g (lw_at lw_m6 217 rfl) rfl
theorem q1495 : (Jvm.Cond.instanceMethod ({ cls := "CarryUpModel", name := "next", desc := "(IIII)I" } : Jvm.MethodName)) ∈ lw_all := lw_g (lw_at lw_m6 219 rfl) rfl
theorem q1496 : (Jvm.Cond.selects "CarryUpModel" ({ cls := "CarryUpModel", name := "next", desc := "(IIII)I" } : Jvm.MethodName) ({ cls := "CarryUpModel", name := "next", desc := "(IIII)I" } : Jvm.MethodName)) ∈ lw_all := lw_g (lw_at lw_m6 220 rfl) rfl
theorem q1497 : (Jvm.Cond.code ({ cls := "CarryUpModel", name := "next", desc := "(IIII)I" } : Jvm.MethodName) prog_12_method_69_code (9 : Nat) (Option.some Jvm.ClassFile.FieldType.int)) ∈ lw_all := lw_g (lw_at lw_m6 221 rfl) rfl
theorem q1499 : (Jvm.Cond.instanceMethod ({ cls := "CarryUpModel", name := "stands", desc := "(II)I" } : Jvm.MethodName)) ∈ lw_all := lw_g (lw_at lw_m6 223 rfl) rfl
theorem q1500 : (Jvm.Cond.selects "CarryUpModel" ({ cls := "CarryUpModel", name := "stands", desc := "(II)I" } : Jvm.MethodName) ({ cls := "CarryUpModel", name := "stands", desc := "(II)I" } : Jvm.MethodName)) ∈ lw_all := lw_g (lw_at lw_m6 224 rfl) rfl
theorem q1501 : (Jvm.Cond.code ({ cls := "CarryUpModel", name := "stands", desc := "(II)I" } : Jvm.MethodName) prog_12_method_70_code (6 : Nat) (Option.some Jvm.ClassFile.FieldType.int)) ∈ lw_all := lw_g (lw_at lw_m6 225 rfl) rfl
theorem q1503 : (Jvm.Cond.instanceMethod ({ cls := "CarryUpModel", name := "idle", desc := "()I" } : Jvm.MethodName)) ∈ lw_all := lw_g (lw_at lw_m6 227 rfl) rfl
theorem q1504 : (Jvm.Cond.selects "CarryUpModel" ({ cls := "CarryUpModel", name := "idle", desc := "()I" } : Jvm.MethodName) ({ cls := "CarryUpModel", name := "idle", desc := "()I" } : Jvm.MethodName)) ∈ lw_all := lw_g (lw_at lw_m6 228 rfl) rfl
theorem q1505 : (Jvm.Cond.code ({ cls := "CarryUpModel", name := "idle", desc := "()I" } : Jvm.MethodName) prog_12_method_71_code (3 : Nat) (Option.some Jvm.ClassFile.FieldType.int)) ∈ lw_all := lw_g (lw_at lw_m6 229 rfl) rfl
theorem q1507 : (Jvm.Cond.instanceMethod ({ cls := "CarryUpModel", name := "visit", desc := "(III)I" } : Jvm.MethodName)) ∈ lw_all := lw_g (lw_at lw_m6 231 rfl) rfl
theorem q1508 : (Jvm.Cond.selects "CarryUpModel" ({ cls := "CarryUpModel", name := "visit", desc := "(III)I" } : Jvm.MethodName) ({ cls := "CarryUpModel", name := "visit", desc := "(III)I" } : Jvm.MethodName)) ∈ lw_all := lw_g (lw_at lw_m6 232 rfl) rfl
theorem q1509 : (Jvm.Cond.code ({ cls := "CarryUpModel", name := "visit", desc := "(III)I" } : Jvm.MethodName) prog_12_method_72_code (4 : Nat) (Option.some Jvm.ClassFile.FieldType.int)) ∈ lw_all := lw_g (lw_at lw_m6 233 rfl) rfl
theorem q1511 : (Jvm.Cond.instanceMethod ({ cls := "CarryUpModel", name := "saved", desc := "(I)I" } : Jvm.MethodName)) ∈ lw_all := lw_g (lw_at lw_m6 235 rfl) rfl
theorem q1512 : (Jvm.Cond.selects "CarryUpModel" ({ cls := "CarryUpModel", name := "saved", desc := "(I)I" } : Jvm.MethodName) ({ cls := "CarryUpModel", name := "saved", desc := "(I)I" } : Jvm.MethodName)) ∈ lw_all := lw_g (lw_at lw_m6 236 rfl) rfl
theorem q1513 : (Jvm.Cond.code ({ cls := "CarryUpModel", name := "saved", desc := "(I)I" } : Jvm.MethodName) prog_12_method_74_code (2 : Nat) (Option.some Jvm.ClassFile.FieldType.int)) ∈ lw_all := lw_g (lw_at lw_m6 237 rfl) rfl
theorem q1514 : (Jvm.Cond.methodLink "CarryUpModel" (313 : Nat) ({ cls := "CarryUpModel", name := "savedBy", desc := "(I)I" } : Jvm.MethodName)) ∈ lw_all := lw_g (lw_at lw_m6 238 rfl) rfl
theorem q1515 : (Jvm.Cond.privateMethod ({ cls := "CarryUpModel", name := "savedBy", desc := "(I)I" } : Jvm.MethodName)) ∈ lw_tbl := lw_at lw_m6 239 rfl
theorem q1516 : (Jvm.Cond.instanceMethod ({ cls := "CarryUpModel", name := "savedBy", desc := "(I)I" } : Jvm.MethodName)) ∈ lw_all := lw_g (lw_at lw_m7 0 rfl) rfl
theorem q1517 : (Jvm.Cond.code ({ cls := "CarryUpModel", name := "savedBy", desc := "(I)I" } : Jvm.MethodName) prog_12_method_73_code (5 : Nat) (Option.some Jvm.ClassFile.FieldType.int)) ∈ lw_all := lw_g (lw_at lw_m7 1 rfl) rfl
theorem q1519 : (Jvm.Cond.instanceMethod ({ cls := "CarryUpModel", name := "most", desc := "(I)I" } : Jvm.MethodName)) ∈ lw_all := lw_g (lw_at lw_m7 3 rfl) rfl
theorem q1520 : (Jvm.Cond.selects "CarryUpModel" ({ cls := "CarryUpModel", name := "most", desc := "(I)I" } : Jvm.MethodName) ({ cls := "CarryUpModel", name := "most", desc := "(I)I" } : Jvm.MethodName)) ∈ lw_all := lw_g (lw_at lw_m7 4 rfl) rfl
theorem q1521 : (Jvm.Cond.code ({ cls := "CarryUpModel", name := "most", desc := "(I)I" } : Jvm.MethodName) prog_12_method_76_code (5 : Nat) (Option.some Jvm.ClassFile.FieldType.int)) ∈ lw_all := lw_g (lw_at lw_m7 5 rfl) rfl
theorem q1522 : (Jvm.Cond.methodLink "CarryUpModel" (316 : Nat) ({ cls := "CarryUpModel", name := "many", desc := "(I)I" } : Jvm.MethodName)) ∈ lw_all := lw_g (lw_at lw_m7 6 rfl) rfl
theorem q1523 : (Jvm.Cond.static ({ cls := "CarryUpModel", name := "many", desc := "(I)I" } : Jvm.MethodName)) ∈ lw_all := lw_g (lw_at lw_m7 7 rfl) rfl
theorem q1524 : (Jvm.Cond.code ({ cls := "CarryUpModel", name := "many", desc := "(I)I" } : Jvm.MethodName) prog_12_method_75_code (3 : Nat) (Option.some Jvm.ClassFile.FieldType.int)) ∈ lw_all := lw_g (lw_at lw_m7 8 rfl) rfl
theorem q1526 : (Jvm.Cond.instanceMethod ({ cls := "CarryUpModel", name := "box", desc := "(I)I" } : Jvm.MethodName)) ∈ lw_all := lw_g (lw_at lw_m7 10 rfl) rfl
theorem q1527 : (Jvm.Cond.selects "CarryUpModel" ({ cls := "CarryUpModel", name := "box", desc := "(I)I" } : Jvm.MethodName) ({ cls := "CarryUpModel", name := "box", desc := "(I)I" } : Jvm.MethodName)) ∈ lw_all := lw_g (lw_at lw_m7 11 rfl) rfl
theorem q1528 : (Jvm.Cond.code ({ cls := "CarryUpModel", name := "box", desc := "(I)I" } : Jvm.MethodName) prog_12_method_78_code (5 : Nat) (Option.some Jvm.ClassFile.FieldType.int)) ∈ lw_all := lw_g (lw_at lw_m7 12 rfl) rfl
theorem q1529 : (Jvm.Cond.methodLink "CarryUpModel" (319 : Nat) ({ cls := "CarryUpModel", name := "doesFor", desc := "(I)I" } : Jvm.MethodName)) ∈ lw_all := lw_g (lw_at lw_m7 13 rfl) rfl
theorem q1530 : (Jvm.Cond.privateMethod ({ cls := "CarryUpModel", name := "doesFor", desc := "(I)I" } : Jvm.MethodName)) ∈ lw_tbl := lw_at lw_m7 14 rfl
theorem q1531 : (Jvm.Cond.instanceMethod ({ cls := "CarryUpModel", name := "doesFor", desc := "(I)I" } : Jvm.MethodName)) ∈ lw_all := lw_g (lw_at lw_m7 15 rfl) rfl
theorem q1532 : (Jvm.Cond.code ({ cls := "CarryUpModel", name := "doesFor", desc := "(I)I" } : Jvm.MethodName) prog_12_method_77_code (4 : Nat) (Option.some Jvm.ClassFile.FieldType.int)) ∈ lw_all := lw_g (lw_at lw_m7 16 rfl) rfl
theorem q1534 : (Jvm.Cond.instanceMethod ({ cls := "CarryUpModel", name := "run", desc := "(IIIII)I" } : Jvm.MethodName)) ∈ lw_all := lw_g (lw_at lw_m7 18 rfl) rfl
theorem q1535 : (Jvm.Cond.selects "CarryUpModel" ({ cls := "CarryUpModel", name := "run", desc := "(IIIII)I" } : Jvm.MethodName) ({ cls := "CarryUpModel", name := "run", desc := "(IIIII)I" } : Jvm.MethodName)) ∈ lw_all := lw_g (lw_at lw_m7 19 rfl) rfl
theorem q1536 : (Jvm.Cond.code ({ cls := "CarryUpModel", name := "run", desc := "(IIIII)I" } : Jvm.MethodName) prog_12_method_79_code (7 : Nat) (Option.some Jvm.ClassFile.FieldType.int)) ∈ lw_all := lw_g (lw_at lw_m7 20 rfl) rfl
theorem q1537 : (Jvm.Cond.constantLong "CarryUpModel" (322 : Nat) (65535 : Int64)) ∈ lw_all := lw_g (lw_at lw_m7 21 rfl) rfl
theorem q1539 : (Jvm.Cond.instanceMethod ({ cls := "CarryUpModel", name := "count", desc := "(I)I" } : Jvm.MethodName)) ∈ lw_all := lw_g (lw_at lw_m7 23 rfl) rfl
theorem q1540 : (Jvm.Cond.selects "CarryUpModel" ({ cls := "CarryUpModel", name := "count", desc := "(I)I" } : Jvm.MethodName) ({ cls := "CarryUpModel", name := "count", desc := "(I)I" } : Jvm.MethodName)) ∈ lw_all := lw_g (lw_at lw_m7 24 rfl) rfl
theorem q1541 : (Jvm.Cond.code ({ cls := "CarryUpModel", name := "count", desc := "(I)I" } : Jvm.MethodName) prog_12_method_80_code (4 : Nat) (Option.some Jvm.ClassFile.FieldType.int)) ∈ lw_all := lw_g (lw_at lw_m7 25 rfl) rfl
theorem q1557 : (Jvm.Cond.castable "CarryUpModel" "java/lang/Object") ∈ lw_tbl := lw_at lw_m7 41 rfl
theorem in_X3 : ∀ w ∈ wsX30, w ∈ lw_all := lw_in wsX30 [1145, 1147, 1149, 1151, 1153, 1155, 1157, 1159, 1161, 1163, 1165, 1167, 1169, 1171, 1173, 1175, 1177, 1179, 1181, 1183, 1185, 1187, 1189, 1191, 1193, 1195, 1197, 1199, 1201, 1203, 1205] (by decide +kernel) (by decide +kernel)
