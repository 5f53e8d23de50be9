/-! CoincideBench -/
set_option maxRecDepth 100000
def RX0 : String := "CoincideBench"
def TX0 : u_T := fun k => match k with
  | 0 => ("CoincideBench", "lattices", "Ljava/util/ArrayList;", true)
  | 1 => ("CoincideBench", "lines", "I", false)
  | 2 => ("CoincideBench", "tape", "[B", true)
  | 3 => ("CoincideBench", "taped", "I", false)
  | 4 => ("CoincideBench", "faultKind", "I", false)
  | 5 => ("CoincideBench", "faultPlace", "I", false)
  | 6 => ("CoincideBench", "plane", "[I", true)
  | 7 => ("CoincideBench", "both", "LCoincideBench$Small;", true)
  | 8 => ("CoincideBench", "turn", "[[I", true)
  | 9 => ("CoincideBench", "turnedAt", "[[J", true)
  | 10 => ("CoincideBench", "turnsFound", "I", false)
  | 11 => ("CoincideBench", "turnFound", "I", false)
  | 12 => ("CoincideBench", "orders", "[[I", true)
  | 13 => ("CoincideBench", "refused", "LCoincideBench$Refused;", false)
  | _ => ("CoincideBench", "acts", "Ljava/util/ArrayList;", true)
def tyX0 : Nat → FieldType := fun k => match k with
  | 0 => .object "java/util/ArrayList"
  | 1 => .int
  | 2 => .array .byte
  | 3 => .int
  | 4 => .int
  | 5 => .int
  | 6 => .array .int
  | 7 => .object "CoincideBench$Small"
  | 8 => .array (.array .int)
  | 9 => .array (.array .long)
  | 10 => .int
  | 11 => .int
  | 12 => .array (.array .int)
  | 13 => .object "CoincideBench$Refused"
  | _ => .object "java/util/ArrayList"
abbrev wsX00 : List Cond := u_ws RX0 TX0 15
set_option maxRecDepth 100000 in
theorem nmX0 : ∀ a, a < 15 → ∀ b, b < 15 → a ≠ b → (TX0 a).2.1 ≠ (TX0 b).2.1 := by decide +kernel
set_option maxRecDepth 100000 in
theorem tyX0_ok : ∀ k, k < 15 → parseFieldDescriptor (TX0 k).2.2.1 = some (tyX0 k) := by decide +kernel
abbrev cX0_init : ByteArray := prog_1_method_4_code
def yX0_init : MethodName := ⟨RX0, "<init>", "()V"⟩
def dkwX0_init_8 : List UInt8 := [89, 16, 20, 183, 0, 21, 181, 0, 63, 177]
abbrev dktX0_init_8 : List UInt8 := dkwX0_init_8 ++ []
def dkwX0_init_7 : List UInt8 := [8, 6, 188, 10, 89, 3, 5, 79, 89, 4, 4, 79, 89, 5, 3, 79, 83, 181, 0, 60, 42, 187, 0, 19]
abbrev dktX0_init_7 : List UInt8 := dkwX0_init_7 ++ dktX0_init_8
def dkwX0_init_6 : List UInt8 := [89, 5, 3, 79, 83, 89, 7, 6, 188, 10, 89, 3, 5, 79, 89, 4, 3, 79, 89, 5, 4, 79, 83, 89]
abbrev dktX0_init_6 : List UInt8 := dkwX0_init_6 ++ dktX0_init_7
def dkwX0_init_5 : List UInt8 := [4, 79, 89, 4, 3, 79, 89, 5, 5, 79, 83, 89, 6, 6, 188, 10, 89, 3, 4, 79, 89, 4, 5, 79]
abbrev dktX0_init_5 : List UInt8 := dkwX0_init_5 ++ dktX0_init_6
def dkwX0_init_4 : List UInt8 := [4, 6, 188, 10, 89, 3, 3, 79, 89, 4, 5, 79, 89, 5, 4, 79, 83, 89, 5, 6, 188, 10, 89, 3]
abbrev dktX0_init_4 : List UInt8 := dkwX0_init_4 ++ dktX0_init_5
def dkwX0_init_3 : List UInt8 := [16, 6, 189, 0, 59, 89, 3, 6, 188, 10, 89, 3, 3, 79, 89, 4, 4, 79, 89, 5, 5, 79, 83, 89]
abbrev dktX0_init_3 : List UInt8 := dkwX0_init_3 ++ dktX0_init_4
def dkwX0_init_2 : List UInt8 := [181, 0, 45, 42, 6, 6, 197, 0, 49, 2, 181, 0, 51, 42, 6, 6, 197, 0, 54, 2, 181, 0, 56, 42]
abbrev dktX0_init_2 : List UInt8 := dkwX0_init_2 ++ dktX0_init_3
def dkwX0_init_1 : List UInt8 := [181, 0, 28, 42, 2, 181, 0, 32, 42, 6, 188, 10, 181, 0, 36, 42, 187, 0, 40, 89, 10, 183, 0, 42]
abbrev dktX0_init_1 : List UInt8 := dkwX0_init_1 ++ dktX0_init_2
def dkwX0_init_0 : List UInt8 := [42, 183, 0, 13, 42, 187, 0, 19, 89, 8, 183, 0, 21, 181, 0, 24, 42, 17, 1, 244, 188, 8]
abbrev dktX0_init_0 : List UInt8 := dkwX0_init_0 ++ dktX0_init_1
theorem dksX0_init_0 : cX0_init.data.toList.drop 0 = dktX0_init_0 := by decide +kernel
theorem dksX0_init_1 : cX0_init.data.toList.drop 22 = dktX0_init_1 := dk_seg dksX0_init_0 22 rfl rfl
theorem dksX0_init_2 : cX0_init.data.toList.drop 46 = dktX0_init_2 := dk_seg dksX0_init_1 24 rfl rfl
theorem dksX0_init_3 : cX0_init.data.toList.drop 70 = dktX0_init_3 := dk_seg dksX0_init_2 24 rfl rfl
theorem dksX0_init_4 : cX0_init.data.toList.drop 94 = dktX0_init_4 := dk_seg dksX0_init_3 24 rfl rfl
theorem dksX0_init_5 : cX0_init.data.toList.drop 118 = dktX0_init_5 := dk_seg dksX0_init_4 24 rfl rfl
theorem dksX0_init_6 : cX0_init.data.toList.drop 142 = dktX0_init_6 := dk_seg dksX0_init_5 24 rfl rfl
theorem dksX0_init_7 : cX0_init.data.toList.drop 166 = dktX0_init_7 := dk_seg dksX0_init_6 24 rfl rfl
theorem dksX0_init_8 : cX0_init.data.toList.drop 190 = dktX0_init_8 := dk_seg dksX0_init_7 24 rfl rfl
theorem dX0_init_0 : decode cX0_init 0 = .ok (.aload_n 0, 1) := dk_42 (dk_at dksX0_init_0 0 rfl rfl)
theorem dX0_init_1 : decode cX0_init 1 = .ok (.invokespecial 13, 3) := dk_183 0 13 (dk_at dksX0_init_0 1 rfl rfl)
theorem dX0_init_4 : decode cX0_init 4 = .ok (.aload_n 0, 1) := dk_42 (dk_at dksX0_init_0 4 rfl rfl)
theorem dX0_init_5 : decode cX0_init 5 = .ok (.new 19, 3) := dk_187 0 19 (dk_at dksX0_init_0 5 rfl rfl)
theorem dX0_init_8 : decode cX0_init 8 = .ok (.dup, 1) := dk_89 (dk_at dksX0_init_0 8 rfl rfl)
theorem dX0_init_9 : decode cX0_init 9 = .ok (.iconst 5, 1) := dk_8 (dk_at dksX0_init_0 9 rfl rfl)
theorem dX0_init_10 : decode cX0_init 10 = .ok (.invokespecial 21, 3) := dk_183 0 21 (dk_at dksX0_init_0 10 rfl rfl)
theorem dX0_init_13 : decode cX0_init 13 = .ok (.putfield 24, 3) := dk_181 0 24 (dk_at dksX0_init_0 13 rfl rfl)
theorem dX0_init_16 : decode cX0_init 16 = .ok (.aload_n 0, 1) := dk_42 (dk_at dksX0_init_0 16 rfl rfl)
theorem dX0_init_17 : decode cX0_init 17 = .ok (.sipush 500, 3) := dk_17 1 244 (dk_at dksX0_init_0 17 rfl rfl)
theorem dX0_init_20 : decode cX0_init 20 = .ok (.newarray .byte, 2) := dk_188_8 (dk_at dksX0_init_0 20 rfl rfl)
theorem dX0_init_22 : decode cX0_init 22 = .ok (.putfield 28, 3) := dk_181 0 28 (dk_at dksX0_init_1 0 rfl rfl)
theorem dX0_init_25 : decode cX0_init 25 = .ok (.aload_n 0, 1) := dk_42 (dk_at dksX0_init_1 3 rfl rfl)
theorem dX0_init_26 : decode cX0_init 26 = .ok (.iconst (-1), 1) := dk_2 (dk_at dksX0_init_1 4 rfl rfl)
theorem dX0_init_27 : decode cX0_init 27 = .ok (.putfield 32, 3) := dk_181 0 32 (dk_at dksX0_init_1 5 rfl rfl)
theorem dX0_init_30 : decode cX0_init 30 = .ok (.aload_n 0, 1) := dk_42 (dk_at dksX0_init_1 8 rfl rfl)
theorem dX0_init_31 : decode cX0_init 31 = .ok (.iconst 3, 1) := dk_6 (dk_at dksX0_init_1 9 rfl rfl)
theorem dX0_init_32 : decode cX0_init 32 = .ok (.newarray .int, 2) := dk_188_10 (dk_at dksX0_init_1 10 rfl rfl)
theorem dX0_init_34 : decode cX0_init 34 = .ok (.putfield 36, 3) := dk_181 0 36 (dk_at dksX0_init_1 12 rfl rfl)
theorem dX0_init_37 : decode cX0_init 37 = .ok (.aload_n 0, 1) := dk_42 (dk_at dksX0_init_1 15 rfl rfl)
theorem dX0_init_38 : decode cX0_init 38 = .ok (.new 40, 3) := dk_187 0 40 (dk_at dksX0_init_1 16 rfl rfl)
theorem dX0_init_41 : decode cX0_init 41 = .ok (.dup, 1) := dk_89 (dk_at dksX0_init_1 19 rfl rfl)
theorem dX0_init_42 : decode cX0_init 42 = .ok (.lconst 1, 1) := dk_10 (dk_at dksX0_init_1 20 rfl rfl)
theorem dX0_init_43 : decode cX0_init 43 = .ok (.invokespecial 42, 3) := dk_183 0 42 (dk_at dksX0_init_1 21 rfl rfl)
theorem dX0_init_46 : decode cX0_init 46 = .ok (.putfield 45, 3) := dk_181 0 45 (dk_at dksX0_init_2 0 rfl rfl)
theorem dX0_init_49 : decode cX0_init 49 = .ok (.aload_n 0, 1) := dk_42 (dk_at dksX0_init_2 3 rfl rfl)
theorem dX0_init_50 : decode cX0_init 50 = .ok (.iconst 3, 1) := dk_6 (dk_at dksX0_init_2 4 rfl rfl)
theorem dX0_init_51 : decode cX0_init 51 = .ok (.iconst 3, 1) := dk_6 (dk_at dksX0_init_2 5 rfl rfl)
theorem dX0_init_52 : decode cX0_init 52 = .ok (.multianewarray 49 2, 4) := by decide +kernel
theorem dX0_init_56 : decode cX0_init 56 = .ok (.putfield 51, 3) := dk_181 0 51 (dk_at dksX0_init_2 10 rfl rfl)
theorem dX0_init_59 : decode cX0_init 59 = .ok (.aload_n 0, 1) := dk_42 (dk_at dksX0_init_2 13 rfl rfl)
theorem dX0_init_60 : decode cX0_init 60 = .ok (.iconst 3, 1) := dk_6 (dk_at dksX0_init_2 14 rfl rfl)
theorem dX0_init_61 : decode cX0_init 61 = .ok (.iconst 3, 1) := dk_6 (dk_at dksX0_init_2 15 rfl rfl)
theorem dX0_init_62 : decode cX0_init 62 = .ok (.multianewarray 54 2, 4) := by decide +kernel
theorem dX0_init_66 : decode cX0_init 66 = .ok (.putfield 56, 3) := dk_181 0 56 (dk_at dksX0_init_2 20 rfl rfl)
theorem dX0_init_69 : decode cX0_init 69 = .ok (.aload_n 0, 1) := dk_42 (dk_at dksX0_init_2 23 rfl rfl)
theorem dX0_init_70 : decode cX0_init 70 = .ok (.bipush 6, 2) := dk_16 6 (dk_at dksX0_init_3 0 rfl rfl)
theorem dX0_init_72 : decode cX0_init 72 = .ok (.anewarray 59, 3) := dk_189 0 59 (dk_at dksX0_init_3 2 rfl rfl)
theorem dX0_init_75 : decode cX0_init 75 = .ok (.dup, 1) := dk_89 (dk_at dksX0_init_3 5 rfl rfl)
theorem dX0_init_76 : decode cX0_init 76 = .ok (.iconst 0, 1) := dk_3 (dk_at dksX0_init_3 6 rfl rfl)
theorem dX0_init_77 : decode cX0_init 77 = .ok (.iconst 3, 1) := dk_6 (dk_at dksX0_init_3 7 rfl rfl)
theorem dX0_init_78 : decode cX0_init 78 = .ok (.newarray .int, 2) := dk_188_10 (dk_at dksX0_init_3 8 rfl rfl)
theorem dX0_init_80 : decode cX0_init 80 = .ok (.dup, 1) := dk_89 (dk_at dksX0_init_3 10 rfl rfl)
theorem dX0_init_81 : decode cX0_init 81 = .ok (.iconst 0, 1) := dk_3 (dk_at dksX0_init_3 11 rfl rfl)
theorem dX0_init_82 : decode cX0_init 82 = .ok (.iconst 0, 1) := dk_3 (dk_at dksX0_init_3 12 rfl rfl)
theorem dX0_init_83 : decode cX0_init 83 = .ok (.iastore, 1) := dk_79 (dk_at dksX0_init_3 13 rfl rfl)
theorem dX0_init_84 : decode cX0_init 84 = .ok (.dup, 1) := dk_89 (dk_at dksX0_init_3 14 rfl rfl)
theorem dX0_init_85 : decode cX0_init 85 = .ok (.iconst 1, 1) := dk_4 (dk_at dksX0_init_3 15 rfl rfl)
theorem dX0_init_86 : decode cX0_init 86 = .ok (.iconst 1, 1) := dk_4 (dk_at dksX0_init_3 16 rfl rfl)
theorem dX0_init_87 : decode cX0_init 87 = .ok (.iastore, 1) := dk_79 (dk_at dksX0_init_3 17 rfl rfl)
theorem dX0_init_88 : decode cX0_init 88 = .ok (.dup, 1) := dk_89 (dk_at dksX0_init_3 18 rfl rfl)
theorem dX0_init_89 : decode cX0_init 89 = .ok (.iconst 2, 1) := dk_5 (dk_at dksX0_init_3 19 rfl rfl)
theorem dX0_init_90 : decode cX0_init 90 = .ok (.iconst 2, 1) := dk_5 (dk_at dksX0_init_3 20 rfl rfl)
theorem dX0_init_91 : decode cX0_init 91 = .ok (.iastore, 1) := dk_79 (dk_at dksX0_init_3 21 rfl rfl)
theorem dX0_init_92 : decode cX0_init 92 = .ok (.aastore, 1) := dk_83 (dk_at dksX0_init_3 22 rfl rfl)
theorem dX0_init_93 : decode cX0_init 93 = .ok (.dup, 1) := dk_89 (dk_at dksX0_init_3 23 rfl rfl)
theorem dX0_init_94 : decode cX0_init 94 = .ok (.iconst 1, 1) := dk_4 (dk_at dksX0_init_4 0 rfl rfl)
theorem dX0_init_95 : decode cX0_init 95 = .ok (.iconst 3, 1) := dk_6 (dk_at dksX0_init_4 1 rfl rfl)
theorem dX0_init_96 : decode cX0_init 96 = .ok (.newarray .int, 2) := dk_188_10 (dk_at dksX0_init_4 2 rfl rfl)
theorem dX0_init_98 : decode cX0_init 98 = .ok (.dup, 1) := dk_89 (dk_at dksX0_init_4 4 rfl rfl)
theorem dX0_init_99 : decode cX0_init 99 = .ok (.iconst 0, 1) := dk_3 (dk_at dksX0_init_4 5 rfl rfl)
theorem dX0_init_100 : decode cX0_init 100 = .ok (.iconst 0, 1) := dk_3 (dk_at dksX0_init_4 6 rfl rfl)
theorem dX0_init_101 : decode cX0_init 101 = .ok (.iastore, 1) := dk_79 (dk_at dksX0_init_4 7 rfl rfl)
theorem dX0_init_102 : decode cX0_init 102 = .ok (.dup, 1) := dk_89 (dk_at dksX0_init_4 8 rfl rfl)
theorem dX0_init_103 : decode cX0_init 103 = .ok (.iconst 1, 1) := dk_4 (dk_at dksX0_init_4 9 rfl rfl)
theorem dX0_init_104 : decode cX0_init 104 = .ok (.iconst 2, 1) := dk_5 (dk_at dksX0_init_4 10 rfl rfl)
theorem dX0_init_105 : decode cX0_init 105 = .ok (.iastore, 1) := dk_79 (dk_at dksX0_init_4 11 rfl rfl)
theorem dX0_init_106 : decode cX0_init 106 = .ok (.dup, 1) := dk_89 (dk_at dksX0_init_4 12 rfl rfl)
theorem dX0_init_107 : decode cX0_init 107 = .ok (.iconst 2, 1) := dk_5 (dk_at dksX0_init_4 13 rfl rfl)
theorem dX0_init_108 : decode cX0_init 108 = .ok (.iconst 1, 1) := dk_4 (dk_at dksX0_init_4 14 rfl rfl)
theorem dX0_init_109 : decode cX0_init 109 = .ok (.iastore, 1) := dk_79 (dk_at dksX0_init_4 15 rfl rfl)
theorem dX0_init_110 : decode cX0_init 110 = .ok (.aastore, 1) := dk_83 (dk_at dksX0_init_4 16 rfl rfl)
theorem dX0_init_111 : decode cX0_init 111 = .ok (.dup, 1) := dk_89 (dk_at dksX0_init_4 17 rfl rfl)
theorem dX0_init_112 : decode cX0_init 112 = .ok (.iconst 2, 1) := dk_5 (dk_at dksX0_init_4 18 rfl rfl)
theorem dX0_init_113 : decode cX0_init 113 = .ok (.iconst 3, 1) := dk_6 (dk_at dksX0_init_4 19 rfl rfl)
theorem dX0_init_114 : decode cX0_init 114 = .ok (.newarray .int, 2) := dk_188_10 (dk_at dksX0_init_4 20 rfl rfl)
theorem dX0_init_116 : decode cX0_init 116 = .ok (.dup, 1) := dk_89 (dk_at dksX0_init_4 22 rfl rfl)
theorem dX0_init_117 : decode cX0_init 117 = .ok (.iconst 0, 1) := dk_3 (dk_at dksX0_init_4 23 rfl rfl)
theorem dX0_init_118 : decode cX0_init 118 = .ok (.iconst 1, 1) := dk_4 (dk_at dksX0_init_5 0 rfl rfl)
theorem dX0_init_119 : decode cX0_init 119 = .ok (.iastore, 1) := dk_79 (dk_at dksX0_init_5 1 rfl rfl)
theorem dX0_init_120 : decode cX0_init 120 = .ok (.dup, 1) := dk_89 (dk_at dksX0_init_5 2 rfl rfl)
theorem dX0_init_121 : decode cX0_init 121 = .ok (.iconst 1, 1) := dk_4 (dk_at dksX0_init_5 3 rfl rfl)
theorem dX0_init_122 : decode cX0_init 122 = .ok (.iconst 0, 1) := dk_3 (dk_at dksX0_init_5 4 rfl rfl)
theorem dX0_init_123 : decode cX0_init 123 = .ok (.iastore, 1) := dk_79 (dk_at dksX0_init_5 5 rfl rfl)
theorem dX0_init_124 : decode cX0_init 124 = .ok (.dup, 1) := dk_89 (dk_at dksX0_init_5 6 rfl rfl)
theorem dX0_init_125 : decode cX0_init 125 = .ok (.iconst 2, 1) := dk_5 (dk_at dksX0_init_5 7 rfl rfl)
theorem dX0_init_126 : decode cX0_init 126 = .ok (.iconst 2, 1) := dk_5 (dk_at dksX0_init_5 8 rfl rfl)
theorem dX0_init_127 : decode cX0_init 127 = .ok (.iastore, 1) := dk_79 (dk_at dksX0_init_5 9 rfl rfl)
theorem dX0_init_128 : decode cX0_init 128 = .ok (.aastore, 1) := dk_83 (dk_at dksX0_init_5 10 rfl rfl)
theorem dX0_init_129 : decode cX0_init 129 = .ok (.dup, 1) := dk_89 (dk_at dksX0_init_5 11 rfl rfl)
theorem dX0_init_130 : decode cX0_init 130 = .ok (.iconst 3, 1) := dk_6 (dk_at dksX0_init_5 12 rfl rfl)
theorem dX0_init_131 : decode cX0_init 131 = .ok (.iconst 3, 1) := dk_6 (dk_at dksX0_init_5 13 rfl rfl)
theorem dX0_init_132 : decode cX0_init 132 = .ok (.newarray .int, 2) := dk_188_10 (dk_at dksX0_init_5 14 rfl rfl)
theorem dX0_init_134 : decode cX0_init 134 = .ok (.dup, 1) := dk_89 (dk_at dksX0_init_5 16 rfl rfl)
theorem dX0_init_135 : decode cX0_init 135 = .ok (.iconst 0, 1) := dk_3 (dk_at dksX0_init_5 17 rfl rfl)
theorem dX0_init_136 : decode cX0_init 136 = .ok (.iconst 1, 1) := dk_4 (dk_at dksX0_init_5 18 rfl rfl)
theorem dX0_init_137 : decode cX0_init 137 = .ok (.iastore, 1) := dk_79 (dk_at dksX0_init_5 19 rfl rfl)
theorem dX0_init_138 : decode cX0_init 138 = .ok (.dup, 1) := dk_89 (dk_at dksX0_init_5 20 rfl rfl)
theorem dX0_init_139 : decode cX0_init 139 = .ok (.iconst 1, 1) := dk_4 (dk_at dksX0_init_5 21 rfl rfl)
theorem dX0_init_140 : decode cX0_init 140 = .ok (.iconst 2, 1) := dk_5 (dk_at dksX0_init_5 22 rfl rfl)
theorem dX0_init_141 : decode cX0_init 141 = .ok (.iastore, 1) := dk_79 (dk_at dksX0_init_5 23 rfl rfl)
theorem dX0_init_142 : decode cX0_init 142 = .ok (.dup, 1) := dk_89 (dk_at dksX0_init_6 0 rfl rfl)
theorem dX0_init_143 : decode cX0_init 143 = .ok (.iconst 2, 1) := dk_5 (dk_at dksX0_init_6 1 rfl rfl)
theorem dX0_init_144 : decode cX0_init 144 = .ok (.iconst 0, 1) := dk_3 (dk_at dksX0_init_6 2 rfl rfl)
theorem dX0_init_145 : decode cX0_init 145 = .ok (.iastore, 1) := dk_79 (dk_at dksX0_init_6 3 rfl rfl)
theorem dX0_init_146 : decode cX0_init 146 = .ok (.aastore, 1) := dk_83 (dk_at dksX0_init_6 4 rfl rfl)
theorem dX0_init_147 : decode cX0_init 147 = .ok (.dup, 1) := dk_89 (dk_at dksX0_init_6 5 rfl rfl)
theorem dX0_init_148 : decode cX0_init 148 = .ok (.iconst 4, 1) := dk_7 (dk_at dksX0_init_6 6 rfl rfl)
theorem dX0_init_149 : decode cX0_init 149 = .ok (.iconst 3, 1) := dk_6 (dk_at dksX0_init_6 7 rfl rfl)
theorem dX0_init_150 : decode cX0_init 150 = .ok (.newarray .int, 2) := dk_188_10 (dk_at dksX0_init_6 8 rfl rfl)
theorem dX0_init_152 : decode cX0_init 152 = .ok (.dup, 1) := dk_89 (dk_at dksX0_init_6 10 rfl rfl)
theorem dX0_init_153 : decode cX0_init 153 = .ok (.iconst 0, 1) := dk_3 (dk_at dksX0_init_6 11 rfl rfl)
theorem dX0_init_154 : decode cX0_init 154 = .ok (.iconst 2, 1) := dk_5 (dk_at dksX0_init_6 12 rfl rfl)
theorem dX0_init_155 : decode cX0_init 155 = .ok (.iastore, 1) := dk_79 (dk_at dksX0_init_6 13 rfl rfl)
theorem dX0_init_156 : decode cX0_init 156 = .ok (.dup, 1) := dk_89 (dk_at dksX0_init_6 14 rfl rfl)
theorem dX0_init_157 : decode cX0_init 157 = .ok (.iconst 1, 1) := dk_4 (dk_at dksX0_init_6 15 rfl rfl)
theorem dX0_init_158 : decode cX0_init 158 = .ok (.iconst 0, 1) := dk_3 (dk_at dksX0_init_6 16 rfl rfl)
theorem dX0_init_159 : decode cX0_init 159 = .ok (.iastore, 1) := dk_79 (dk_at dksX0_init_6 17 rfl rfl)
theorem dX0_init_160 : decode cX0_init 160 = .ok (.dup, 1) := dk_89 (dk_at dksX0_init_6 18 rfl rfl)
theorem dX0_init_161 : decode cX0_init 161 = .ok (.iconst 2, 1) := dk_5 (dk_at dksX0_init_6 19 rfl rfl)
theorem dX0_init_162 : decode cX0_init 162 = .ok (.iconst 1, 1) := dk_4 (dk_at dksX0_init_6 20 rfl rfl)
theorem dX0_init_163 : decode cX0_init 163 = .ok (.iastore, 1) := dk_79 (dk_at dksX0_init_6 21 rfl rfl)
theorem dX0_init_164 : decode cX0_init 164 = .ok (.aastore, 1) := dk_83 (dk_at dksX0_init_6 22 rfl rfl)
theorem dX0_init_165 : decode cX0_init 165 = .ok (.dup, 1) := dk_89 (dk_at dksX0_init_6 23 rfl rfl)
theorem dX0_init_166 : decode cX0_init 166 = .ok (.iconst 5, 1) := dk_8 (dk_at dksX0_init_7 0 rfl rfl)
theorem dX0_init_167 : decode cX0_init 167 = .ok (.iconst 3, 1) := dk_6 (dk_at dksX0_init_7 1 rfl rfl)
theorem dX0_init_168 : decode cX0_init 168 = .ok (.newarray .int, 2) := dk_188_10 (dk_at dksX0_init_7 2 rfl rfl)
theorem dX0_init_170 : decode cX0_init 170 = .ok (.dup, 1) := dk_89 (dk_at dksX0_init_7 4 rfl rfl)
theorem dX0_init_171 : decode cX0_init 171 = .ok (.iconst 0, 1) := dk_3 (dk_at dksX0_init_7 5 rfl rfl)
theorem dX0_init_172 : decode cX0_init 172 = .ok (.iconst 2, 1) := dk_5 (dk_at dksX0_init_7 6 rfl rfl)
theorem dX0_init_173 : decode cX0_init 173 = .ok (.iastore, 1) := dk_79 (dk_at dksX0_init_7 7 rfl rfl)
theorem dX0_init_174 : decode cX0_init 174 = .ok (.dup, 1) := dk_89 (dk_at dksX0_init_7 8 rfl rfl)
theorem dX0_init_175 : decode cX0_init 175 = .ok (.iconst 1, 1) := dk_4 (dk_at dksX0_init_7 9 rfl rfl)
theorem dX0_init_176 : decode cX0_init 176 = .ok (.iconst 1, 1) := dk_4 (dk_at dksX0_init_7 10 rfl rfl)
theorem dX0_init_177 : decode cX0_init 177 = .ok (.iastore, 1) := dk_79 (dk_at dksX0_init_7 11 rfl rfl)
theorem dX0_init_178 : decode cX0_init 178 = .ok (.dup, 1) := dk_89 (dk_at dksX0_init_7 12 rfl rfl)
theorem dX0_init_179 : decode cX0_init 179 = .ok (.iconst 2, 1) := dk_5 (dk_at dksX0_init_7 13 rfl rfl)
theorem dX0_init_180 : decode cX0_init 180 = .ok (.iconst 0, 1) := dk_3 (dk_at dksX0_init_7 14 rfl rfl)
theorem dX0_init_181 : decode cX0_init 181 = .ok (.iastore, 1) := dk_79 (dk_at dksX0_init_7 15 rfl rfl)
theorem dX0_init_182 : decode cX0_init 182 = .ok (.aastore, 1) := dk_83 (dk_at dksX0_init_7 16 rfl rfl)
theorem dX0_init_183 : decode cX0_init 183 = .ok (.putfield 60, 3) := dk_181 0 60 (dk_at dksX0_init_7 17 rfl rfl)
theorem dX0_init_186 : decode cX0_init 186 = .ok (.aload_n 0, 1) := dk_42 (dk_at dksX0_init_7 20 rfl rfl)
theorem dX0_init_187 : decode cX0_init 187 = .ok (.new 19, 3) := dk_187 0 19 (dk_at dksX0_init_7 21 rfl rfl)
theorem dX0_init_190 : decode cX0_init 190 = .ok (.dup, 1) := dk_89 (dk_at dksX0_init_8 0 rfl rfl)
theorem dX0_init_191 : decode cX0_init 191 = .ok (.bipush 20, 2) := dk_16 20 (dk_at dksX0_init_8 1 rfl rfl)
theorem dX0_init_193 : decode cX0_init 193 = .ok (.invokespecial 21, 3) := dk_183 0 21 (dk_at dksX0_init_8 3 rfl rfl)
theorem dX0_init_196 : decode cX0_init 196 = .ok (.putfield 63, 3) := dk_181 0 63 (dk_at dksX0_init_8 6 rfl rfl)
theorem dX0_init_199 : decode cX0_init 199 = .ok (.return_, 1) := dk_177 (dk_at dksX0_init_8 9 rfl rfl)
abbrev cX0_feed : ByteArray := prog_1_method_5_code
def yX0_feed : MethodName := ⟨RX0, "feed", "(IIIII)I"⟩
def dkwX0_feed_2 : List UInt8 := [172]
abbrev dktX0_feed_2 : List UInt8 := dkwX0_feed_2 ++ []
def dkwX0_feed_1 : List UInt8 := [182, 0, 69, 42, 29, 182, 0, 69, 42, 21, 4, 182, 0, 69, 42, 21, 5, 182, 0, 69, 42, 180, 0, 66]
abbrev dktX0_feed_1 : List UInt8 := dkwX0_feed_1 ++ dktX0_feed_2
def dkwX0_feed_0 : List UInt8 := [42, 180, 0, 66, 16, 20, 96, 17, 1, 244, 164, 0, 5, 2, 172, 42, 27, 182, 0, 69, 42, 28]
abbrev dktX0_feed_0 : List UInt8 := dkwX0_feed_0 ++ dktX0_feed_1
theorem dksX0_feed_0 : cX0_feed.data.toList.drop 0 = dktX0_feed_0 := by decide +kernel
theorem dksX0_feed_1 : cX0_feed.data.toList.drop 22 = dktX0_feed_1 := dk_seg dksX0_feed_0 22 rfl rfl
theorem dksX0_feed_2 : cX0_feed.data.toList.drop 46 = dktX0_feed_2 := dk_seg dksX0_feed_1 24 rfl rfl
theorem dX0_feed_0 : decode cX0_feed 0 = .ok (.aload_n 0, 1) := dk_42 (dk_at dksX0_feed_0 0 rfl rfl)
theorem dX0_feed_1 : decode cX0_feed 1 = .ok (.getfield 66, 3) := dk_180 0 66 (dk_at dksX0_feed_0 1 rfl rfl)
theorem dX0_feed_4 : decode cX0_feed 4 = .ok (.bipush 20, 2) := dk_16 20 (dk_at dksX0_feed_0 4 rfl rfl)
theorem dX0_feed_6 : decode cX0_feed 6 = .ok (.iadd, 1) := dk_96 (dk_at dksX0_feed_0 6 rfl rfl)
theorem dX0_feed_7 : decode cX0_feed 7 = .ok (.sipush 500, 3) := dk_17 1 244 (dk_at dksX0_feed_0 7 rfl rfl)
theorem dX0_feed_10 : decode cX0_feed 10 = .ok (.if_icmp .le 5, 3) := dk_164 0 5 (dk_at dksX0_feed_0 10 rfl rfl)
theorem dX0_feed_13 : decode cX0_feed 13 = .ok (.iconst (-1), 1) := dk_2 (dk_at dksX0_feed_0 13 rfl rfl)
theorem dX0_feed_14 : decode cX0_feed 14 = .ok (.ireturn, 1) := dk_172 (dk_at dksX0_feed_0 14 rfl rfl)
theorem dX0_feed_15 : decode cX0_feed 15 = .ok (.aload_n 0, 1) := dk_42 (dk_at dksX0_feed_0 15 rfl rfl)
theorem dX0_feed_16 : decode cX0_feed 16 = .ok (.iload_n 1, 1) := dk_27 (dk_at dksX0_feed_0 16 rfl rfl)
theorem dX0_feed_17 : decode cX0_feed 17 = .ok (.invokevirtual 69, 3) := dk_182 0 69 (dk_at dksX0_feed_0 17 rfl rfl)
theorem dX0_feed_20 : decode cX0_feed 20 = .ok (.aload_n 0, 1) := dk_42 (dk_at dksX0_feed_0 20 rfl rfl)
theorem dX0_feed_21 : decode cX0_feed 21 = .ok (.iload_n 2, 1) := dk_28 (dk_at dksX0_feed_0 21 rfl rfl)
theorem dX0_feed_22 : decode cX0_feed 22 = .ok (.invokevirtual 69, 3) := dk_182 0 69 (dk_at dksX0_feed_1 0 rfl rfl)
theorem dX0_feed_25 : decode cX0_feed 25 = .ok (.aload_n 0, 1) := dk_42 (dk_at dksX0_feed_1 3 rfl rfl)
theorem dX0_feed_26 : decode cX0_feed 26 = .ok (.iload_n 3, 1) := dk_29 (dk_at dksX0_feed_1 4 rfl rfl)
theorem dX0_feed_27 : decode cX0_feed 27 = .ok (.invokevirtual 69, 3) := dk_182 0 69 (dk_at dksX0_feed_1 5 rfl rfl)
theorem dX0_feed_30 : decode cX0_feed 30 = .ok (.aload_n 0, 1) := dk_42 (dk_at dksX0_feed_1 8 rfl rfl)
theorem dX0_feed_31 : decode cX0_feed 31 = .ok (.iload 4, 2) := dk_21 4 (dk_at dksX0_feed_1 9 rfl rfl)
theorem dX0_feed_33 : decode cX0_feed 33 = .ok (.invokevirtual 69, 3) := dk_182 0 69 (dk_at dksX0_feed_1 11 rfl rfl)
theorem dX0_feed_36 : decode cX0_feed 36 = .ok (.aload_n 0, 1) := dk_42 (dk_at dksX0_feed_1 14 rfl rfl)
theorem dX0_feed_37 : decode cX0_feed 37 = .ok (.iload 5, 2) := dk_21 5 (dk_at dksX0_feed_1 15 rfl rfl)
theorem dX0_feed_39 : decode cX0_feed 39 = .ok (.invokevirtual 69, 3) := dk_182 0 69 (dk_at dksX0_feed_1 17 rfl rfl)
theorem dX0_feed_42 : decode cX0_feed 42 = .ok (.aload_n 0, 1) := dk_42 (dk_at dksX0_feed_1 20 rfl rfl)
theorem dX0_feed_43 : decode cX0_feed 43 = .ok (.getfield 66, 3) := dk_180 0 66 (dk_at dksX0_feed_1 21 rfl rfl)
theorem dX0_feed_46 : decode cX0_feed 46 = .ok (.ireturn, 1) := dk_172 (dk_at dksX0_feed_2 0 rfl rfl)
abbrev cX0_puts : ByteArray := prog_1_method_6_code
def yX0_puts : MethodName := ⟨RX0, "puts", "(I)V"⟩
def dkwX0_puts_1 : List UInt8 := [180, 0, 66, 4, 96, 181, 0, 66, 132, 2, 248, 167, 255, 226, 177]
abbrev dktX0_puts_1 : List UInt8 := dkwX0_puts_1 ++ []
def dkwX0_puts_0 : List UInt8 := [16, 24, 61, 28, 155, 0, 32, 42, 180, 0, 28, 42, 180, 0, 66, 27, 28, 122, 145, 84, 42, 89]
abbrev dktX0_puts_0 : List UInt8 := dkwX0_puts_0 ++ dktX0_puts_1
theorem dksX0_puts_0 : cX0_puts.data.toList.drop 0 = dktX0_puts_0 := by decide +kernel
theorem dksX0_puts_1 : cX0_puts.data.toList.drop 22 = dktX0_puts_1 := dk_seg dksX0_puts_0 22 rfl rfl
theorem dX0_puts_0 : decode cX0_puts 0 = .ok (.bipush 24, 2) := dk_16 24 (dk_at dksX0_puts_0 0 rfl rfl)
theorem dX0_puts_2 : decode cX0_puts 2 = .ok (.istore_n 2, 1) := dk_61 (dk_at dksX0_puts_0 2 rfl rfl)
theorem dX0_puts_3 : decode cX0_puts 3 = .ok (.iload_n 2, 1) := dk_28 (dk_at dksX0_puts_0 3 rfl rfl)
theorem dX0_puts_4 : decode cX0_puts 4 = .ok (.ifCond .lt 32, 3) := dk_155 0 32 (dk_at dksX0_puts_0 4 rfl rfl)
theorem dX0_puts_7 : decode cX0_puts 7 = .ok (.aload_n 0, 1) := dk_42 (dk_at dksX0_puts_0 7 rfl rfl)
theorem dX0_puts_8 : decode cX0_puts 8 = .ok (.getfield 28, 3) := dk_180 0 28 (dk_at dksX0_puts_0 8 rfl rfl)
theorem dX0_puts_11 : decode cX0_puts 11 = .ok (.aload_n 0, 1) := dk_42 (dk_at dksX0_puts_0 11 rfl rfl)
theorem dX0_puts_12 : decode cX0_puts 12 = .ok (.getfield 66, 3) := dk_180 0 66 (dk_at dksX0_puts_0 12 rfl rfl)
theorem dX0_puts_15 : decode cX0_puts 15 = .ok (.iload_n 1, 1) := dk_27 (dk_at dksX0_puts_0 15 rfl rfl)
theorem dX0_puts_16 : decode cX0_puts 16 = .ok (.iload_n 2, 1) := dk_28 (dk_at dksX0_puts_0 16 rfl rfl)
theorem dX0_puts_17 : decode cX0_puts 17 = .ok (.ishr, 1) := dk_122 (dk_at dksX0_puts_0 17 rfl rfl)
theorem dX0_puts_18 : decode cX0_puts 18 = .ok (.i2b, 1) := dk_145 (dk_at dksX0_puts_0 18 rfl rfl)
theorem dX0_puts_19 : decode cX0_puts 19 = .ok (.bastore, 1) := dk_84 (dk_at dksX0_puts_0 19 rfl rfl)
theorem dX0_puts_20 : decode cX0_puts 20 = .ok (.aload_n 0, 1) := dk_42 (dk_at dksX0_puts_0 20 rfl rfl)
theorem dX0_puts_21 : decode cX0_puts 21 = .ok (.dup, 1) := dk_89 (dk_at dksX0_puts_0 21 rfl rfl)
theorem dX0_puts_22 : decode cX0_puts 22 = .ok (.getfield 66, 3) := dk_180 0 66 (dk_at dksX0_puts_1 0 rfl rfl)
theorem dX0_puts_25 : decode cX0_puts 25 = .ok (.iconst 1, 1) := dk_4 (dk_at dksX0_puts_1 3 rfl rfl)
theorem dX0_puts_26 : decode cX0_puts 26 = .ok (.iadd, 1) := dk_96 (dk_at dksX0_puts_1 4 rfl rfl)
theorem dX0_puts_27 : decode cX0_puts 27 = .ok (.putfield 66, 3) := dk_181 0 66 (dk_at dksX0_puts_1 5 rfl rfl)
theorem dX0_puts_30 : decode cX0_puts 30 = .ok (.iinc 2 (-8), 3) := dk_132 2 248 (dk_at dksX0_puts_1 8 rfl rfl)
theorem dX0_puts_33 : decode cX0_puts 33 = .ok (.goto (-30), 3) := dk_167 255 226 (dk_at dksX0_puts_1 11 rfl rfl)
theorem dX0_puts_36 : decode cX0_puts 36 = .ok (.return_, 1) := dk_177 (dk_at dksX0_puts_1 14 rfl rfl)
abbrev cX0_end : ByteArray := prog_1_method_7_code
def yX0_end : MethodName := ⟨RX0, "end", "(I)I"⟩
def dkwX0_end_0 : List UInt8 := [27, 133, 9, 42, 180, 0, 66, 133, 184, 0, 72, 154, 0, 5, 2, 172, 42, 27, 181, 0, 66, 27, 172]
abbrev dktX0_end_0 : List UInt8 := dkwX0_end_0 ++ []
theorem dksX0_end_0 : cX0_end.data.toList.drop 0 = dktX0_end_0 := by decide +kernel
theorem dX0_end_0 : decode cX0_end 0 = .ok (.iload_n 1, 1) := dk_27 (dk_at dksX0_end_0 0 rfl rfl)
theorem dX0_end_1 : decode cX0_end 1 = .ok (.i2l, 1) := dk_133 (dk_at dksX0_end_0 1 rfl rfl)
theorem dX0_end_2 : decode cX0_end 2 = .ok (.lconst 0, 1) := dk_9 (dk_at dksX0_end_0 2 rfl rfl)
theorem dX0_end_3 : decode cX0_end 3 = .ok (.aload_n 0, 1) := dk_42 (dk_at dksX0_end_0 3 rfl rfl)
theorem dX0_end_4 : decode cX0_end 4 = .ok (.getfield 66, 3) := dk_180 0 66 (dk_at dksX0_end_0 4 rfl rfl)
theorem dX0_end_7 : decode cX0_end 7 = .ok (.i2l, 1) := dk_133 (dk_at dksX0_end_0 7 rfl rfl)
theorem dX0_end_8 : decode cX0_end 8 = .ok (.invokestatic 72, 3) := dk_184 0 72 (dk_at dksX0_end_0 8 rfl rfl)
theorem dX0_end_11 : decode cX0_end 11 = .ok (.ifCond .ne 5, 3) := dk_154 0 5 (dk_at dksX0_end_0 11 rfl rfl)
theorem dX0_end_14 : decode cX0_end 14 = .ok (.iconst (-1), 1) := dk_2 (dk_at dksX0_end_0 14 rfl rfl)
theorem dX0_end_15 : decode cX0_end 15 = .ok (.ireturn, 1) := dk_172 (dk_at dksX0_end_0 15 rfl rfl)
theorem dX0_end_16 : decode cX0_end 16 = .ok (.aload_n 0, 1) := dk_42 (dk_at dksX0_end_0 16 rfl rfl)
theorem dX0_end_17 : decode cX0_end 17 = .ok (.iload_n 1, 1) := dk_27 (dk_at dksX0_end_0 17 rfl rfl)
theorem dX0_end_18 : decode cX0_end 18 = .ok (.putfield 66, 3) := dk_181 0 66 (dk_at dksX0_end_0 18 rfl rfl)
theorem dX0_end_21 : decode cX0_end 21 = .ok (.iload_n 1, 1) := dk_27 (dk_at dksX0_end_0 21 rfl rfl)
theorem dX0_end_22 : decode cX0_end 22 = .ok (.ireturn, 1) := dk_172 (dk_at dksX0_end_0 22 rfl rfl)
abbrev cX0_isIn : ByteArray := prog_1_method_1_code
def yX0_isIn : MethodName := ⟨RX0, "isIn", "(JJJ)Z"⟩
def dkwX0_isIn_0 : List UInt8 := [30, 32, 148, 155, 0, 14, 30, 22, 4, 148, 157, 0, 7, 4, 167, 0, 4, 3, 172]
abbrev dktX0_isIn_0 : List UInt8 := dkwX0_isIn_0 ++ []
theorem dksX0_isIn_0 : cX0_isIn.data.toList.drop 0 = dktX0_isIn_0 := by decide +kernel
theorem dX0_isIn_0 : decode cX0_isIn 0 = .ok (.lload_n 0, 1) := dk_30 (dk_at dksX0_isIn_0 0 rfl rfl)
theorem dX0_isIn_1 : decode cX0_isIn 1 = .ok (.lload_n 2, 1) := dk_32 (dk_at dksX0_isIn_0 1 rfl rfl)
theorem dX0_isIn_2 : decode cX0_isIn 2 = .ok (.lcmp, 1) := dk_148 (dk_at dksX0_isIn_0 2 rfl rfl)
theorem dX0_isIn_3 : decode cX0_isIn 3 = .ok (.ifCond .lt 14, 3) := dk_155 0 14 (dk_at dksX0_isIn_0 3 rfl rfl)
theorem dX0_isIn_6 : decode cX0_isIn 6 = .ok (.lload_n 0, 1) := dk_30 (dk_at dksX0_isIn_0 6 rfl rfl)
theorem dX0_isIn_7 : decode cX0_isIn 7 = .ok (.lload 4, 2) := dk_22 4 (dk_at dksX0_isIn_0 7 rfl rfl)
theorem dX0_isIn_9 : decode cX0_isIn 9 = .ok (.lcmp, 1) := dk_148 (dk_at dksX0_isIn_0 9 rfl rfl)
theorem dX0_isIn_10 : decode cX0_isIn 10 = .ok (.ifCond .gt 7, 3) := dk_157 0 7 (dk_at dksX0_isIn_0 10 rfl rfl)
theorem dX0_isIn_13 : decode cX0_isIn 13 = .ok (.iconst 1, 1) := dk_4 (dk_at dksX0_isIn_0 13 rfl rfl)
theorem dX0_isIn_14 : decode cX0_isIn 14 = .ok (.goto 4, 3) := dk_167 0 4 (dk_at dksX0_isIn_0 14 rfl rfl)
theorem dX0_isIn_17 : decode cX0_isIn 17 = .ok (.iconst 0, 1) := dk_3 (dk_at dksX0_isIn_0 17 rfl rfl)
theorem dX0_isIn_18 : decode cX0_isIn 18 = .ok (.ireturn, 1) := dk_172 (dk_at dksX0_isIn_0 18 rfl rfl)
abbrev cX0_lattices : ByteArray := prog_1_method_8_code
def yX0_lattices : MethodName := ⟨RX0, "lattices", "()I"⟩
def dkwX0_lattices_4 : List UInt8 := [61, 42, 3, 181, 0, 66, 28, 172, 78, 42, 3, 181, 0, 66, 45, 191]
abbrev dktX0_lattices_4 : List UInt8 := dkwX0_lattices_4 ++ []
def dkwX0_lattices_3 : List UInt8 := [181, 0, 66, 28, 172, 76, 42, 43, 180, 0, 109, 181, 0, 76, 42, 43, 180, 0, 112, 181, 0, 32, 16, 252]
abbrev dktX0_lattices_3 : List UInt8 := dkwX0_lattices_3 ++ dktX0_lattices_4
def dkwX0_lattices_2 : List UInt8 := [181, 0, 100, 42, 180, 0, 63, 182, 0, 87, 42, 1, 181, 0, 103, 42, 180, 0, 100, 61, 42, 3]
abbrev dktX0_lattices_2 : List UInt8 := dkwX0_lattices_2 ++ dktX0_lattices_3
def dkwX0_lattices_1 : List UInt8 := [180, 0, 24, 182, 0, 87, 42, 180, 0, 24, 43, 180, 0, 90, 182, 0, 93, 87, 42, 43, 180, 0, 97]
abbrev dktX0_lattices_1 : List UInt8 := dkwX0_lattices_1 ++ dktX0_lattices_2
def dkwX0_lattices_0 : List UInt8 := [42, 3, 181, 0, 76, 42, 2, 181, 0, 32, 187, 0, 79, 89, 42, 183, 0, 81, 76, 43, 182, 0, 84, 42]
abbrev dktX0_lattices_0 : List UInt8 := dkwX0_lattices_0 ++ dktX0_lattices_1
theorem dksX0_lattices_0 : cX0_lattices.data.toList.drop 0 = dktX0_lattices_0 := by decide +kernel
theorem dksX0_lattices_1 : cX0_lattices.data.toList.drop 24 = dktX0_lattices_1 := dk_seg dksX0_lattices_0 24 rfl rfl
theorem dksX0_lattices_2 : cX0_lattices.data.toList.drop 47 = dktX0_lattices_2 := dk_seg dksX0_lattices_1 23 rfl rfl
theorem dksX0_lattices_3 : cX0_lattices.data.toList.drop 69 = dktX0_lattices_3 := dk_seg dksX0_lattices_2 22 rfl rfl
theorem dksX0_lattices_4 : cX0_lattices.data.toList.drop 93 = dktX0_lattices_4 := dk_seg dksX0_lattices_3 24 rfl rfl
theorem dX0_lattices_0 : decode cX0_lattices 0 = .ok (.aload_n 0, 1) := dk_42 (dk_at dksX0_lattices_0 0 rfl rfl)
theorem dX0_lattices_1 : decode cX0_lattices 1 = .ok (.iconst 0, 1) := dk_3 (dk_at dksX0_lattices_0 1 rfl rfl)
theorem dX0_lattices_2 : decode cX0_lattices 2 = .ok (.putfield 76, 3) := dk_181 0 76 (dk_at dksX0_lattices_0 2 rfl rfl)
theorem dX0_lattices_5 : decode cX0_lattices 5 = .ok (.aload_n 0, 1) := dk_42 (dk_at dksX0_lattices_0 5 rfl rfl)
theorem dX0_lattices_6 : decode cX0_lattices 6 = .ok (.iconst (-1), 1) := dk_2 (dk_at dksX0_lattices_0 6 rfl rfl)
theorem dX0_lattices_7 : decode cX0_lattices 7 = .ok (.putfield 32, 3) := dk_181 0 32 (dk_at dksX0_lattices_0 7 rfl rfl)
theorem dX0_lattices_10 : decode cX0_lattices 10 = .ok (.new 79, 3) := dk_187 0 79 (dk_at dksX0_lattices_0 10 rfl rfl)
theorem dX0_lattices_13 : decode cX0_lattices 13 = .ok (.dup, 1) := dk_89 (dk_at dksX0_lattices_0 13 rfl rfl)
theorem dX0_lattices_14 : decode cX0_lattices 14 = .ok (.aload_n 0, 1) := dk_42 (dk_at dksX0_lattices_0 14 rfl rfl)
theorem dX0_lattices_15 : decode cX0_lattices 15 = .ok (.invokespecial 81, 3) := dk_183 0 81 (dk_at dksX0_lattices_0 15 rfl rfl)
theorem dX0_lattices_18 : decode cX0_lattices 18 = .ok (.astore_n 1, 1) := dk_76 (dk_at dksX0_lattices_0 18 rfl rfl)
theorem dX0_lattices_19 : decode cX0_lattices 19 = .ok (.aload_n 1, 1) := dk_43 (dk_at dksX0_lattices_0 19 rfl rfl)
theorem dX0_lattices_20 : decode cX0_lattices 20 = .ok (.invokevirtual 84, 3) := dk_182 0 84 (dk_at dksX0_lattices_0 20 rfl rfl)
theorem dX0_lattices_23 : decode cX0_lattices 23 = .ok (.aload_n 0, 1) := dk_42 (dk_at dksX0_lattices_0 23 rfl rfl)
theorem dX0_lattices_24 : decode cX0_lattices 24 = .ok (.getfield 24, 3) := dk_180 0 24 (dk_at dksX0_lattices_1 0 rfl rfl)
theorem dX0_lattices_27 : decode cX0_lattices 27 = .ok (.invokevirtual 87, 3) := dk_182 0 87 (dk_at dksX0_lattices_1 3 rfl rfl)
theorem dX0_lattices_30 : decode cX0_lattices 30 = .ok (.aload_n 0, 1) := dk_42 (dk_at dksX0_lattices_1 6 rfl rfl)
theorem dX0_lattices_31 : decode cX0_lattices 31 = .ok (.getfield 24, 3) := dk_180 0 24 (dk_at dksX0_lattices_1 7 rfl rfl)
theorem dX0_lattices_34 : decode cX0_lattices 34 = .ok (.aload_n 1, 1) := dk_43 (dk_at dksX0_lattices_1 10 rfl rfl)
theorem dX0_lattices_35 : decode cX0_lattices 35 = .ok (.getfield 90, 3) := dk_180 0 90 (dk_at dksX0_lattices_1 11 rfl rfl)
theorem dX0_lattices_38 : decode cX0_lattices 38 = .ok (.invokevirtual 93, 3) := dk_182 0 93 (dk_at dksX0_lattices_1 14 rfl rfl)
theorem dX0_lattices_41 : decode cX0_lattices 41 = .ok (.pop, 1) := dk_87 (dk_at dksX0_lattices_1 17 rfl rfl)
theorem dX0_lattices_42 : decode cX0_lattices 42 = .ok (.aload_n 0, 1) := dk_42 (dk_at dksX0_lattices_1 18 rfl rfl)
theorem dX0_lattices_43 : decode cX0_lattices 43 = .ok (.aload_n 1, 1) := dk_43 (dk_at dksX0_lattices_1 19 rfl rfl)
theorem dX0_lattices_44 : decode cX0_lattices 44 = .ok (.getfield 97, 3) := dk_180 0 97 (dk_at dksX0_lattices_1 20 rfl rfl)
theorem dX0_lattices_47 : decode cX0_lattices 47 = .ok (.putfield 100, 3) := dk_181 0 100 (dk_at dksX0_lattices_2 0 rfl rfl)
theorem dX0_lattices_50 : decode cX0_lattices 50 = .ok (.aload_n 0, 1) := dk_42 (dk_at dksX0_lattices_2 3 rfl rfl)
theorem dX0_lattices_51 : decode cX0_lattices 51 = .ok (.getfield 63, 3) := dk_180 0 63 (dk_at dksX0_lattices_2 4 rfl rfl)
theorem dX0_lattices_54 : decode cX0_lattices 54 = .ok (.invokevirtual 87, 3) := dk_182 0 87 (dk_at dksX0_lattices_2 7 rfl rfl)
theorem dX0_lattices_57 : decode cX0_lattices 57 = .ok (.aload_n 0, 1) := dk_42 (dk_at dksX0_lattices_2 10 rfl rfl)
theorem dX0_lattices_58 : decode cX0_lattices 58 = .ok (.aconst_null, 1) := dk_1 (dk_at dksX0_lattices_2 11 rfl rfl)
theorem dX0_lattices_59 : decode cX0_lattices 59 = .ok (.putfield 103, 3) := dk_181 0 103 (dk_at dksX0_lattices_2 12 rfl rfl)
theorem dX0_lattices_62 : decode cX0_lattices 62 = .ok (.aload_n 0, 1) := dk_42 (dk_at dksX0_lattices_2 15 rfl rfl)
theorem dX0_lattices_63 : decode cX0_lattices 63 = .ok (.getfield 100, 3) := dk_180 0 100 (dk_at dksX0_lattices_2 16 rfl rfl)
theorem dX0_lattices_66 : decode cX0_lattices 66 = .ok (.istore_n 2, 1) := dk_61 (dk_at dksX0_lattices_2 19 rfl rfl)
theorem dX0_lattices_67 : decode cX0_lattices 67 = .ok (.aload_n 0, 1) := dk_42 (dk_at dksX0_lattices_2 20 rfl rfl)
theorem dX0_lattices_68 : decode cX0_lattices 68 = .ok (.iconst 0, 1) := dk_3 (dk_at dksX0_lattices_2 21 rfl rfl)
theorem dX0_lattices_69 : decode cX0_lattices 69 = .ok (.putfield 66, 3) := dk_181 0 66 (dk_at dksX0_lattices_3 0 rfl rfl)
theorem dX0_lattices_72 : decode cX0_lattices 72 = .ok (.iload_n 2, 1) := dk_28 (dk_at dksX0_lattices_3 3 rfl rfl)
theorem dX0_lattices_73 : decode cX0_lattices 73 = .ok (.ireturn, 1) := dk_172 (dk_at dksX0_lattices_3 4 rfl rfl)
theorem dX0_lattices_74 : decode cX0_lattices 74 = .ok (.astore_n 1, 1) := dk_76 (dk_at dksX0_lattices_3 5 rfl rfl)
theorem dX0_lattices_75 : decode cX0_lattices 75 = .ok (.aload_n 0, 1) := dk_42 (dk_at dksX0_lattices_3 6 rfl rfl)
theorem dX0_lattices_76 : decode cX0_lattices 76 = .ok (.aload_n 1, 1) := dk_43 (dk_at dksX0_lattices_3 7 rfl rfl)
theorem dX0_lattices_77 : decode cX0_lattices 77 = .ok (.getfield 109, 3) := dk_180 0 109 (dk_at dksX0_lattices_3 8 rfl rfl)
theorem dX0_lattices_80 : decode cX0_lattices 80 = .ok (.putfield 76, 3) := dk_181 0 76 (dk_at dksX0_lattices_3 11 rfl rfl)
theorem dX0_lattices_83 : decode cX0_lattices 83 = .ok (.aload_n 0, 1) := dk_42 (dk_at dksX0_lattices_3 14 rfl rfl)
theorem dX0_lattices_84 : decode cX0_lattices 84 = .ok (.aload_n 1, 1) := dk_43 (dk_at dksX0_lattices_3 15 rfl rfl)
theorem dX0_lattices_85 : decode cX0_lattices 85 = .ok (.getfield 112, 3) := dk_180 0 112 (dk_at dksX0_lattices_3 16 rfl rfl)
theorem dX0_lattices_88 : decode cX0_lattices 88 = .ok (.putfield 32, 3) := dk_181 0 32 (dk_at dksX0_lattices_3 19 rfl rfl)
theorem dX0_lattices_91 : decode cX0_lattices 91 = .ok (.bipush (-4), 2) := dk_16 252 (dk_at dksX0_lattices_3 22 rfl rfl)
theorem dX0_lattices_93 : decode cX0_lattices 93 = .ok (.istore_n 2, 1) := dk_61 (dk_at dksX0_lattices_4 0 rfl rfl)
theorem dX0_lattices_94 : decode cX0_lattices 94 = .ok (.aload_n 0, 1) := dk_42 (dk_at dksX0_lattices_4 1 rfl rfl)
theorem dX0_lattices_95 : decode cX0_lattices 95 = .ok (.iconst 0, 1) := dk_3 (dk_at dksX0_lattices_4 2 rfl rfl)
theorem dX0_lattices_96 : decode cX0_lattices 96 = .ok (.putfield 66, 3) := dk_181 0 66 (dk_at dksX0_lattices_4 3 rfl rfl)
theorem dX0_lattices_99 : decode cX0_lattices 99 = .ok (.iload_n 2, 1) := dk_28 (dk_at dksX0_lattices_4 6 rfl rfl)
theorem dX0_lattices_100 : decode cX0_lattices 100 = .ok (.ireturn, 1) := dk_172 (dk_at dksX0_lattices_4 7 rfl rfl)
theorem dX0_lattices_101 : decode cX0_lattices 101 = .ok (.astore_n 3, 1) := dk_78 (dk_at dksX0_lattices_4 8 rfl rfl)
theorem dX0_lattices_102 : decode cX0_lattices 102 = .ok (.aload_n 0, 1) := dk_42 (dk_at dksX0_lattices_4 9 rfl rfl)
theorem dX0_lattices_103 : decode cX0_lattices 103 = .ok (.iconst 0, 1) := dk_3 (dk_at dksX0_lattices_4 10 rfl rfl)
theorem dX0_lattices_104 : decode cX0_lattices 104 = .ok (.putfield 66, 3) := dk_181 0 66 (dk_at dksX0_lattices_4 11 rfl rfl)
theorem dX0_lattices_107 : decode cX0_lattices 107 = .ok (.aload_n 3, 1) := dk_45 (dk_at dksX0_lattices_4 14 rfl rfl)
theorem dX0_lattices_108 : decode cX0_lattices 108 = .ok (.athrow, 1) := dk_191 (dk_at dksX0_lattices_4 15 rfl rfl)
abbrev cX0_fault : ByteArray := prog_1_method_9_code
def yX0_fault : MethodName := ⟨RX0, "fault", "(I)I"⟩
def dkwX0_fault_1 : List UInt8 := [172]
abbrev dktX0_fault_1 : List UInt8 := dkwX0_fault_1 ++ []
def dkwX0_fault_0 : List UInt8 := [27, 154, 0, 10, 42, 180, 0, 76, 167, 0, 16, 27, 4, 160, 0, 10, 42, 180, 0, 32, 167, 0, 4, 2]
abbrev dktX0_fault_0 : List UInt8 := dkwX0_fault_0 ++ dktX0_fault_1
theorem dksX0_fault_0 : cX0_fault.data.toList.drop 0 = dktX0_fault_0 := by decide +kernel
theorem dksX0_fault_1 : cX0_fault.data.toList.drop 24 = dktX0_fault_1 := dk_seg dksX0_fault_0 24 rfl rfl
theorem dX0_fault_0 : decode cX0_fault 0 = .ok (.iload_n 1, 1) := dk_27 (dk_at dksX0_fault_0 0 rfl rfl)
theorem dX0_fault_1 : decode cX0_fault 1 = .ok (.ifCond .ne 10, 3) := dk_154 0 10 (dk_at dksX0_fault_0 1 rfl rfl)
theorem dX0_fault_4 : decode cX0_fault 4 = .ok (.aload_n 0, 1) := dk_42 (dk_at dksX0_fault_0 4 rfl rfl)
theorem dX0_fault_5 : decode cX0_fault 5 = .ok (.getfield 76, 3) := dk_180 0 76 (dk_at dksX0_fault_0 5 rfl rfl)
theorem dX0_fault_8 : decode cX0_fault 8 = .ok (.goto 16, 3) := dk_167 0 16 (dk_at dksX0_fault_0 8 rfl rfl)
theorem dX0_fault_11 : decode cX0_fault 11 = .ok (.iload_n 1, 1) := dk_27 (dk_at dksX0_fault_0 11 rfl rfl)
theorem dX0_fault_12 : decode cX0_fault 12 = .ok (.iconst 1, 1) := dk_4 (dk_at dksX0_fault_0 12 rfl rfl)
theorem dX0_fault_13 : decode cX0_fault 13 = .ok (.if_icmp .ne 10, 3) := dk_160 0 10 (dk_at dksX0_fault_0 13 rfl rfl)
theorem dX0_fault_16 : decode cX0_fault 16 = .ok (.aload_n 0, 1) := dk_42 (dk_at dksX0_fault_0 16 rfl rfl)
theorem dX0_fault_17 : decode cX0_fault 17 = .ok (.getfield 32, 3) := dk_180 0 32 (dk_at dksX0_fault_0 17 rfl rfl)
theorem dX0_fault_20 : decode cX0_fault 20 = .ok (.goto 4, 3) := dk_167 0 4 (dk_at dksX0_fault_0 20 rfl rfl)
theorem dX0_fault_23 : decode cX0_fault 23 = .ok (.iconst (-1), 1) := dk_2 (dk_at dksX0_fault_0 23 rfl rfl)
theorem dX0_fault_24 : decode cX0_fault 24 = .ok (.ireturn, 1) := dk_172 (dk_at dksX0_fault_1 0 rfl rfl)
abbrev cX0_count : ByteArray := prog_1_method_10_code
def yX0_count : MethodName := ⟨RX0, "count", "(I)I"⟩
def dkwX0_count_5 : List UInt8 := [180, 0, 66, 172, 2, 172]
abbrev dktX0_count_5 : List UInt8 := dkwX0_count_5 ++ []
def dkwX0_count_4 : List UInt8 := [132, 3, 1, 167, 255, 217, 28, 172, 42, 180, 0, 63, 182, 0, 115, 172, 42, 180, 0, 100, 172, 42]
abbrev dktX0_count_4 : List UInt8 := dkwX0_count_4 ++ dktX0_count_5
def dkwX0_count_3 : List UInt8 := [42, 180, 0, 24, 29, 182, 0, 119, 192, 0, 123, 182, 0, 125, 153, 0, 7, 4, 167, 0, 4, 3, 96, 61]
abbrev dktX0_count_3 : List UInt8 := dkwX0_count_3 ++ dktX0_count_4
def dkwX0_count_2 : List UInt8 := [42, 180, 0, 24, 182, 0, 115, 172, 3, 61, 3, 62, 29, 42, 180, 0, 24, 182, 0, 115, 162, 0, 34, 28]
abbrev dktX0_count_2 : List UInt8 := dkwX0_count_2 ++ dktX0_count_3
def dkwX0_count_1 : List UInt8 := [170, 0, 0, 0, 0, 0, 109, 0, 0, 0, 0, 0, 0, 0, 4, 0, 0, 0, 35, 0, 0, 0, 43, 0, 0, 0, 91, 0, 0, 0, 99, 0, 0, 0, 104]
abbrev dktX0_count_1 : List UInt8 := dkwX0_count_1 ++ dktX0_count_2
def dkwX0_count_0 : List UInt8 := [27]
abbrev dktX0_count_0 : List UInt8 := dkwX0_count_0 ++ dktX0_count_1
theorem dksX0_count_0 : cX0_count.data.toList.drop 0 = dktX0_count_0 := by decide +kernel
theorem dksX0_count_1 : cX0_count.data.toList.drop 1 = dktX0_count_1 := dk_seg dksX0_count_0 1 rfl rfl
theorem dksX0_count_2 : cX0_count.data.toList.drop 36 = dktX0_count_2 := dk_seg dksX0_count_1 35 rfl rfl
theorem dksX0_count_3 : cX0_count.data.toList.drop 60 = dktX0_count_3 := dk_seg dksX0_count_2 24 rfl rfl
theorem dksX0_count_4 : cX0_count.data.toList.drop 84 = dktX0_count_4 := dk_seg dksX0_count_3 24 rfl rfl
theorem dksX0_count_5 : cX0_count.data.toList.drop 106 = dktX0_count_5 := dk_seg dksX0_count_4 22 rfl rfl
theorem dX0_count_0 : decode cX0_count 0 = .ok (.iload_n 1, 1) := dk_27 (dk_at dksX0_count_0 0 rfl rfl)
theorem dX0_count_1 : decode cX0_count 1 = .ok (.tableswitch 109 0 4 #[35, 43, 91, 99, 104], 35) := by decide +kernel
theorem dX0_count_36 : decode cX0_count 36 = .ok (.aload_n 0, 1) := dk_42 (dk_at dksX0_count_2 0 rfl rfl)
theorem dX0_count_37 : decode cX0_count 37 = .ok (.getfield 24, 3) := dk_180 0 24 (dk_at dksX0_count_2 1 rfl rfl)
theorem dX0_count_40 : decode cX0_count 40 = .ok (.invokevirtual 115, 3) := dk_182 0 115 (dk_at dksX0_count_2 4 rfl rfl)
theorem dX0_count_43 : decode cX0_count 43 = .ok (.ireturn, 1) := dk_172 (dk_at dksX0_count_2 7 rfl rfl)
theorem dX0_count_44 : decode cX0_count 44 = .ok (.iconst 0, 1) := dk_3 (dk_at dksX0_count_2 8 rfl rfl)
theorem dX0_count_45 : decode cX0_count 45 = .ok (.istore_n 2, 1) := dk_61 (dk_at dksX0_count_2 9 rfl rfl)
theorem dX0_count_46 : decode cX0_count 46 = .ok (.iconst 0, 1) := dk_3 (dk_at dksX0_count_2 10 rfl rfl)
theorem dX0_count_47 : decode cX0_count 47 = .ok (.istore_n 3, 1) := dk_62 (dk_at dksX0_count_2 11 rfl rfl)
theorem dX0_count_48 : decode cX0_count 48 = .ok (.iload_n 3, 1) := dk_29 (dk_at dksX0_count_2 12 rfl rfl)
theorem dX0_count_49 : decode cX0_count 49 = .ok (.aload_n 0, 1) := dk_42 (dk_at dksX0_count_2 13 rfl rfl)
theorem dX0_count_50 : decode cX0_count 50 = .ok (.getfield 24, 3) := dk_180 0 24 (dk_at dksX0_count_2 14 rfl rfl)
theorem dX0_count_53 : decode cX0_count 53 = .ok (.invokevirtual 115, 3) := dk_182 0 115 (dk_at dksX0_count_2 17 rfl rfl)
theorem dX0_count_56 : decode cX0_count 56 = .ok (.if_icmp .ge 34, 3) := dk_162 0 34 (dk_at dksX0_count_2 20 rfl rfl)
theorem dX0_count_59 : decode cX0_count 59 = .ok (.iload_n 2, 1) := dk_28 (dk_at dksX0_count_2 23 rfl rfl)
theorem dX0_count_60 : decode cX0_count 60 = .ok (.aload_n 0, 1) := dk_42 (dk_at dksX0_count_3 0 rfl rfl)
theorem dX0_count_61 : decode cX0_count 61 = .ok (.getfield 24, 3) := dk_180 0 24 (dk_at dksX0_count_3 1 rfl rfl)
theorem dX0_count_64 : decode cX0_count 64 = .ok (.iload_n 3, 1) := dk_29 (dk_at dksX0_count_3 4 rfl rfl)
theorem dX0_count_65 : decode cX0_count 65 = .ok (.invokevirtual 119, 3) := dk_182 0 119 (dk_at dksX0_count_3 5 rfl rfl)
theorem dX0_count_68 : decode cX0_count 68 = .ok (.checkcast 123, 3) := dk_192 0 123 (dk_at dksX0_count_3 8 rfl rfl)
theorem dX0_count_71 : decode cX0_count 71 = .ok (.invokevirtual 125, 3) := dk_182 0 125 (dk_at dksX0_count_3 11 rfl rfl)
theorem dX0_count_74 : decode cX0_count 74 = .ok (.ifCond .eq 7, 3) := dk_153 0 7 (dk_at dksX0_count_3 14 rfl rfl)
theorem dX0_count_77 : decode cX0_count 77 = .ok (.iconst 1, 1) := dk_4 (dk_at dksX0_count_3 17 rfl rfl)
theorem dX0_count_78 : decode cX0_count 78 = .ok (.goto 4, 3) := dk_167 0 4 (dk_at dksX0_count_3 18 rfl rfl)
theorem dX0_count_81 : decode cX0_count 81 = .ok (.iconst 0, 1) := dk_3 (dk_at dksX0_count_3 21 rfl rfl)
theorem dX0_count_82 : decode cX0_count 82 = .ok (.iadd, 1) := dk_96 (dk_at dksX0_count_3 22 rfl rfl)
theorem dX0_count_83 : decode cX0_count 83 = .ok (.istore_n 2, 1) := dk_61 (dk_at dksX0_count_3 23 rfl rfl)
theorem dX0_count_84 : decode cX0_count 84 = .ok (.iinc 3 1, 3) := dk_132 3 1 (dk_at dksX0_count_4 0 rfl rfl)
theorem dX0_count_87 : decode cX0_count 87 = .ok (.goto (-39), 3) := dk_167 255 217 (dk_at dksX0_count_4 3 rfl rfl)
theorem dX0_count_90 : decode cX0_count 90 = .ok (.iload_n 2, 1) := dk_28 (dk_at dksX0_count_4 6 rfl rfl)
theorem dX0_count_91 : decode cX0_count 91 = .ok (.ireturn, 1) := dk_172 (dk_at dksX0_count_4 7 rfl rfl)
theorem dX0_count_92 : decode cX0_count 92 = .ok (.aload_n 0, 1) := dk_42 (dk_at dksX0_count_4 8 rfl rfl)
theorem dX0_count_93 : decode cX0_count 93 = .ok (.getfield 63, 3) := dk_180 0 63 (dk_at dksX0_count_4 9 rfl rfl)
theorem dX0_count_96 : decode cX0_count 96 = .ok (.invokevirtual 115, 3) := dk_182 0 115 (dk_at dksX0_count_4 12 rfl rfl)
theorem dX0_count_99 : decode cX0_count 99 = .ok (.ireturn, 1) := dk_172 (dk_at dksX0_count_4 15 rfl rfl)
theorem dX0_count_100 : decode cX0_count 100 = .ok (.aload_n 0, 1) := dk_42 (dk_at dksX0_count_4 16 rfl rfl)
theorem dX0_count_101 : decode cX0_count 101 = .ok (.getfield 100, 3) := dk_180 0 100 (dk_at dksX0_count_4 17 rfl rfl)
theorem dX0_count_104 : decode cX0_count 104 = .ok (.ireturn, 1) := dk_172 (dk_at dksX0_count_4 20 rfl rfl)
theorem dX0_count_105 : decode cX0_count 105 = .ok (.aload_n 0, 1) := dk_42 (dk_at dksX0_count_4 21 rfl rfl)
theorem dX0_count_106 : decode cX0_count 106 = .ok (.getfield 66, 3) := dk_180 0 66 (dk_at dksX0_count_5 0 rfl rfl)
theorem dX0_count_109 : decode cX0_count 109 = .ok (.ireturn, 1) := dk_172 (dk_at dksX0_count_5 3 rfl rfl)
theorem dX0_count_110 : decode cX0_count 110 = .ok (.iconst (-1), 1) := dk_2 (dk_at dksX0_count_5 4 rfl rfl)
theorem dX0_count_111 : decode cX0_count 111 = .ok (.ireturn, 1) := dk_172 (dk_at dksX0_count_5 5 rfl rfl)
abbrev cX0_row : ByteArray := prog_1_method_15_code
def yX0_row : MethodName := ⟨RX0, "row", "(III)I"⟩
def dkwX0_row_1 : List UInt8 := [47, 136, 167, 0, 6, 17, 252, 24, 172]
abbrev dktX0_row_1 : List UInt8 := dkwX0_row_1 ++ []
def dkwX0_row_0 : List UInt8 := [42, 27, 28, 29, 182, 0, 138, 153, 0, 22, 42, 27, 182, 0, 142, 182, 0, 146, 180, 0, 150, 28, 50, 29]
abbrev dktX0_row_0 : List UInt8 := dkwX0_row_0 ++ dktX0_row_1
theorem dksX0_row_0 : cX0_row.data.toList.drop 0 = dktX0_row_0 := by decide +kernel
theorem dksX0_row_1 : cX0_row.data.toList.drop 24 = dktX0_row_1 := dk_seg dksX0_row_0 24 rfl rfl
theorem dX0_row_0 : decode cX0_row 0 = .ok (.aload_n 0, 1) := dk_42 (dk_at dksX0_row_0 0 rfl rfl)
theorem dX0_row_1 : decode cX0_row 1 = .ok (.iload_n 1, 1) := dk_27 (dk_at dksX0_row_0 1 rfl rfl)
theorem dX0_row_2 : decode cX0_row 2 = .ok (.iload_n 2, 1) := dk_28 (dk_at dksX0_row_0 2 rfl rfl)
theorem dX0_row_3 : decode cX0_row 3 = .ok (.iload_n 3, 1) := dk_29 (dk_at dksX0_row_0 3 rfl rfl)
theorem dX0_row_4 : decode cX0_row 4 = .ok (.invokevirtual 138, 3) := dk_182 0 138 (dk_at dksX0_row_0 4 rfl rfl)
theorem dX0_row_7 : decode cX0_row 7 = .ok (.ifCond .eq 22, 3) := dk_153 0 22 (dk_at dksX0_row_0 7 rfl rfl)
theorem dX0_row_10 : decode cX0_row 10 = .ok (.aload_n 0, 1) := dk_42 (dk_at dksX0_row_0 10 rfl rfl)
theorem dX0_row_11 : decode cX0_row 11 = .ok (.iload_n 1, 1) := dk_27 (dk_at dksX0_row_0 11 rfl rfl)
theorem dX0_row_12 : decode cX0_row 12 = .ok (.invokevirtual 142, 3) := dk_182 0 142 (dk_at dksX0_row_0 12 rfl rfl)
theorem dX0_row_15 : decode cX0_row 15 = .ok (.invokevirtual 146, 3) := dk_182 0 146 (dk_at dksX0_row_0 15 rfl rfl)
theorem dX0_row_18 : decode cX0_row 18 = .ok (.getfield 150, 3) := dk_180 0 150 (dk_at dksX0_row_0 18 rfl rfl)
theorem dX0_row_21 : decode cX0_row 21 = .ok (.iload_n 2, 1) := dk_28 (dk_at dksX0_row_0 21 rfl rfl)
theorem dX0_row_22 : decode cX0_row 22 = .ok (.aaload, 1) := dk_50 (dk_at dksX0_row_0 22 rfl rfl)
theorem dX0_row_23 : decode cX0_row 23 = .ok (.iload_n 3, 1) := dk_29 (dk_at dksX0_row_0 23 rfl rfl)
theorem dX0_row_24 : decode cX0_row 24 = .ok (.laload, 1) := dk_47 (dk_at dksX0_row_1 0 rfl rfl)
theorem dX0_row_25 : decode cX0_row 25 = .ok (.l2i, 1) := dk_136 (dk_at dksX0_row_1 1 rfl rfl)
theorem dX0_row_26 : decode cX0_row 26 = .ok (.goto 6, 3) := dk_167 0 6 (dk_at dksX0_row_1 2 rfl rfl)
theorem dX0_row_29 : decode cX0_row 29 = .ok (.sipush (-1000), 3) := dk_17 252 24 (dk_at dksX0_row_1 5 rfl rfl)
theorem dX0_row_32 : decode cX0_row 32 = .ok (.ireturn, 1) := dk_172 (dk_at dksX0_row_1 8 rfl rfl)
abbrev cX0_isAt : ByteArray := prog_1_method_13_code
def yX0_isAt : MethodName := ⟨RX0, "isAt", "(III)Z"⟩
def dkwX0_isAt_1 : List UInt8 := [167, 0, 4, 3, 172]
abbrev dktX0_isAt_1 : List UInt8 := dkwX0_isAt_1 ++ []
def dkwX0_isAt_0 : List UInt8 := [42, 27, 182, 0, 131, 153, 0, 21, 28, 184, 0, 135, 153, 0, 14, 29, 184, 0, 135, 153, 0, 7, 4]
abbrev dktX0_isAt_0 : List UInt8 := dkwX0_isAt_0 ++ dktX0_isAt_1
theorem dksX0_isAt_0 : cX0_isAt.data.toList.drop 0 = dktX0_isAt_0 := by decide +kernel
theorem dksX0_isAt_1 : cX0_isAt.data.toList.drop 23 = dktX0_isAt_1 := dk_seg dksX0_isAt_0 23 rfl rfl
theorem dX0_isAt_0 : decode cX0_isAt 0 = .ok (.aload_n 0, 1) := dk_42 (dk_at dksX0_isAt_0 0 rfl rfl)
theorem dX0_isAt_1 : decode cX0_isAt 1 = .ok (.iload_n 1, 1) := dk_27 (dk_at dksX0_isAt_0 1 rfl rfl)
theorem dX0_isAt_2 : decode cX0_isAt 2 = .ok (.invokevirtual 131, 3) := dk_182 0 131 (dk_at dksX0_isAt_0 2 rfl rfl)
theorem dX0_isAt_5 : decode cX0_isAt 5 = .ok (.ifCond .eq 21, 3) := dk_153 0 21 (dk_at dksX0_isAt_0 5 rfl rfl)
theorem dX0_isAt_8 : decode cX0_isAt 8 = .ok (.iload_n 2, 1) := dk_28 (dk_at dksX0_isAt_0 8 rfl rfl)
theorem dX0_isAt_9 : decode cX0_isAt 9 = .ok (.invokestatic 135, 3) := dk_184 0 135 (dk_at dksX0_isAt_0 9 rfl rfl)
theorem dX0_isAt_12 : decode cX0_isAt 12 = .ok (.ifCond .eq 14, 3) := dk_153 0 14 (dk_at dksX0_isAt_0 12 rfl rfl)
theorem dX0_isAt_15 : decode cX0_isAt 15 = .ok (.iload_n 3, 1) := dk_29 (dk_at dksX0_isAt_0 15 rfl rfl)
theorem dX0_isAt_16 : decode cX0_isAt 16 = .ok (.invokestatic 135, 3) := dk_184 0 135 (dk_at dksX0_isAt_0 16 rfl rfl)
theorem dX0_isAt_19 : decode cX0_isAt 19 = .ok (.ifCond .eq 7, 3) := dk_153 0 7 (dk_at dksX0_isAt_0 19 rfl rfl)
theorem dX0_isAt_22 : decode cX0_isAt 22 = .ok (.iconst 1, 1) := dk_4 (dk_at dksX0_isAt_0 22 rfl rfl)
theorem dX0_isAt_23 : decode cX0_isAt 23 = .ok (.goto 4, 3) := dk_167 0 4 (dk_at dksX0_isAt_1 0 rfl rfl)
theorem dX0_isAt_26 : decode cX0_isAt 26 = .ok (.iconst 0, 1) := dk_3 (dk_at dksX0_isAt_1 3 rfl rfl)
theorem dX0_isAt_27 : decode cX0_isAt 27 = .ok (.ireturn, 1) := dk_172 (dk_at dksX0_isAt_1 4 rfl rfl)
abbrev cX0_isLattice : ByteArray := prog_1_method_11_code
def yX0_isLattice : MethodName := ⟨RX0, "isLattice", "(I)Z"⟩
def dkwX0_isLattice_0 : List UInt8 := [27, 133, 9, 42, 180, 0, 24, 182, 0, 115, 4, 100, 133, 184, 0, 72, 172]
abbrev dktX0_isLattice_0 : List UInt8 := dkwX0_isLattice_0 ++ []
theorem dksX0_isLattice_0 : cX0_isLattice.data.toList.drop 0 = dktX0_isLattice_0 := by decide +kernel
theorem dX0_isLattice_0 : decode cX0_isLattice 0 = .ok (.iload_n 1, 1) := dk_27 (dk_at dksX0_isLattice_0 0 rfl rfl)
theorem dX0_isLattice_1 : decode cX0_isLattice 1 = .ok (.i2l, 1) := dk_133 (dk_at dksX0_isLattice_0 1 rfl rfl)
theorem dX0_isLattice_2 : decode cX0_isLattice 2 = .ok (.lconst 0, 1) := dk_9 (dk_at dksX0_isLattice_0 2 rfl rfl)
theorem dX0_isLattice_3 : decode cX0_isLattice 3 = .ok (.aload_n 0, 1) := dk_42 (dk_at dksX0_isLattice_0 3 rfl rfl)
theorem dX0_isLattice_4 : decode cX0_isLattice 4 = .ok (.getfield 24, 3) := dk_180 0 24 (dk_at dksX0_isLattice_0 4 rfl rfl)
theorem dX0_isLattice_7 : decode cX0_isLattice 7 = .ok (.invokevirtual 115, 3) := dk_182 0 115 (dk_at dksX0_isLattice_0 7 rfl rfl)
theorem dX0_isLattice_10 : decode cX0_isLattice 10 = .ok (.iconst 1, 1) := dk_4 (dk_at dksX0_isLattice_0 10 rfl rfl)
theorem dX0_isLattice_11 : decode cX0_isLattice 11 = .ok (.isub, 1) := dk_100 (dk_at dksX0_isLattice_0 11 rfl rfl)
theorem dX0_isLattice_12 : decode cX0_isLattice 12 = .ok (.i2l, 1) := dk_133 (dk_at dksX0_isLattice_0 12 rfl rfl)
theorem dX0_isLattice_13 : decode cX0_isLattice 13 = .ok (.invokestatic 72, 3) := dk_184 0 72 (dk_at dksX0_isLattice_0 13 rfl rfl)
theorem dX0_isLattice_16 : decode cX0_isLattice 16 = .ok (.ireturn, 1) := dk_172 (dk_at dksX0_isLattice_0 16 rfl rfl)
abbrev cX0_isSide : ByteArray := prog_1_method_12_code
def yX0_isSide : MethodName := ⟨RX0, "isSide", "(I)Z"⟩
def dkwX0_isSide_0 : List UInt8 := [26, 133, 9, 20, 0, 129, 184, 0, 72, 172]
abbrev dktX0_isSide_0 : List UInt8 := dkwX0_isSide_0 ++ []
theorem dksX0_isSide_0 : cX0_isSide.data.toList.drop 0 = dktX0_isSide_0 := by decide +kernel
theorem dX0_isSide_0 : decode cX0_isSide 0 = .ok (.iload_n 0, 1) := dk_26 (dk_at dksX0_isSide_0 0 rfl rfl)
theorem dX0_isSide_1 : decode cX0_isSide 1 = .ok (.i2l, 1) := dk_133 (dk_at dksX0_isSide_0 1 rfl rfl)
theorem dX0_isSide_2 : decode cX0_isSide 2 = .ok (.lconst 0, 1) := dk_9 (dk_at dksX0_isSide_0 2 rfl rfl)
theorem dX0_isSide_3 : decode cX0_isSide 3 = .ok (.ldc2_w 129, 3) := dk_20 0 129 (dk_at dksX0_isSide_0 3 rfl rfl)
theorem dX0_isSide_6 : decode cX0_isSide 6 = .ok (.invokestatic 72, 3) := dk_184 0 72 (dk_at dksX0_isSide_0 6 rfl rfl)
theorem dX0_isSide_9 : decode cX0_isSide 9 = .ok (.ireturn, 1) := dk_172 (dk_at dksX0_isSide_0 9 rfl rfl)
abbrev cX0_at : ByteArray := prog_1_method_14_code
def yX0_at : MethodName := ⟨RX0, "at", "(I)LCoincideBench$Lattice;"⟩
def dkwX0_at_0 : List UInt8 := [42, 180, 0, 24, 27, 182, 0, 119, 192, 0, 123, 176]
abbrev dktX0_at_0 : List UInt8 := dkwX0_at_0 ++ []
theorem dksX0_at_0 : cX0_at.data.toList.drop 0 = dktX0_at_0 := by decide +kernel
theorem dX0_at_0 : decode cX0_at 0 = .ok (.aload_n 0, 1) := dk_42 (dk_at dksX0_at_0 0 rfl rfl)
theorem dX0_at_1 : decode cX0_at 1 = .ok (.getfield 24, 3) := dk_180 0 24 (dk_at dksX0_at_0 1 rfl rfl)
theorem dX0_at_4 : decode cX0_at 4 = .ok (.iload_n 1, 1) := dk_27 (dk_at dksX0_at_0 4 rfl rfl)
theorem dX0_at_5 : decode cX0_at 5 = .ok (.invokevirtual 119, 3) := dk_182 0 119 (dk_at dksX0_at_0 5 rfl rfl)
theorem dX0_at_8 : decode cX0_at 8 = .ok (.checkcast 123, 3) := dk_192 0 123 (dk_at dksX0_at_0 8 rfl rfl)
theorem dX0_at_11 : decode cX0_at 11 = .ok (.areturn, 1) := dk_176 (dk_at dksX0_at_0 11 rfl rfl)
abbrev cX0_divisor : ByteArray := prog_1_method_2_code
def yX0_divisor : MethodName := ⟨RX0, "divisor", "(JJ)J"⟩
def dkwX0_divisor_0 : List UInt8 := [32, 9, 148, 154, 0, 10, 30, 184, 0, 1, 167, 0, 10, 32, 30, 32, 113, 184, 0, 7, 173]
abbrev dktX0_divisor_0 : List UInt8 := dkwX0_divisor_0 ++ []
theorem dksX0_divisor_0 : cX0_divisor.data.toList.drop 0 = dktX0_divisor_0 := by decide +kernel
theorem dX0_divisor_0 : decode cX0_divisor 0 = .ok (.lload_n 2, 1) := dk_32 (dk_at dksX0_divisor_0 0 rfl rfl)
theorem dX0_divisor_1 : decode cX0_divisor 1 = .ok (.lconst 0, 1) := dk_9 (dk_at dksX0_divisor_0 1 rfl rfl)
theorem dX0_divisor_2 : decode cX0_divisor 2 = .ok (.lcmp, 1) := dk_148 (dk_at dksX0_divisor_0 2 rfl rfl)
theorem dX0_divisor_3 : decode cX0_divisor 3 = .ok (.ifCond .ne 10, 3) := dk_154 0 10 (dk_at dksX0_divisor_0 3 rfl rfl)
theorem dX0_divisor_6 : decode cX0_divisor 6 = .ok (.lload_n 0, 1) := dk_30 (dk_at dksX0_divisor_0 6 rfl rfl)
theorem dX0_divisor_7 : decode cX0_divisor 7 = .ok (.invokestatic 1, 3) := dk_184 0 1 (dk_at dksX0_divisor_0 7 rfl rfl)
theorem dX0_divisor_10 : decode cX0_divisor 10 = .ok (.goto 10, 3) := dk_167 0 10 (dk_at dksX0_divisor_0 10 rfl rfl)
theorem dX0_divisor_13 : decode cX0_divisor 13 = .ok (.lload_n 2, 1) := dk_32 (dk_at dksX0_divisor_0 13 rfl rfl)
theorem dX0_divisor_14 : decode cX0_divisor 14 = .ok (.lload_n 0, 1) := dk_30 (dk_at dksX0_divisor_0 14 rfl rfl)
theorem dX0_divisor_15 : decode cX0_divisor 15 = .ok (.lload_n 2, 1) := dk_32 (dk_at dksX0_divisor_0 15 rfl rfl)
theorem dX0_divisor_16 : decode cX0_divisor 16 = .ok (.lrem, 1) := dk_113 (dk_at dksX0_divisor_0 16 rfl rfl)
theorem dX0_divisor_17 : decode cX0_divisor 17 = .ok (.invokestatic 7, 3) := dk_184 0 7 (dk_at dksX0_divisor_0 17 rfl rfl)
theorem dX0_divisor_20 : decode cX0_divisor 20 = .ok (.lreturn, 1) := dk_173 (dk_at dksX0_divisor_0 20 rfl rfl)
abbrev cX0_over : ByteArray := prog_1_method_16_code
def yX0_over : MethodName := ⟨RX0, "over", "(I)I"⟩
def dkwX0_over_0 : List UInt8 := [42, 27, 182, 0, 131, 153, 0, 15, 42, 27, 182, 0, 142, 182, 0, 154, 136, 167, 0, 5, 16, 254, 172]
abbrev dktX0_over_0 : List UInt8 := dkwX0_over_0 ++ []
theorem dksX0_over_0 : cX0_over.data.toList.drop 0 = dktX0_over_0 := by decide +kernel
theorem dX0_over_0 : decode cX0_over 0 = .ok (.aload_n 0, 1) := dk_42 (dk_at dksX0_over_0 0 rfl rfl)
theorem dX0_over_1 : decode cX0_over 1 = .ok (.iload_n 1, 1) := dk_27 (dk_at dksX0_over_0 1 rfl rfl)
theorem dX0_over_2 : decode cX0_over 2 = .ok (.invokevirtual 131, 3) := dk_182 0 131 (dk_at dksX0_over_0 2 rfl rfl)
theorem dX0_over_5 : decode cX0_over 5 = .ok (.ifCond .eq 15, 3) := dk_153 0 15 (dk_at dksX0_over_0 5 rfl rfl)
theorem dX0_over_8 : decode cX0_over 8 = .ok (.aload_n 0, 1) := dk_42 (dk_at dksX0_over_0 8 rfl rfl)
theorem dX0_over_9 : decode cX0_over 9 = .ok (.iload_n 1, 1) := dk_27 (dk_at dksX0_over_0 9 rfl rfl)
theorem dX0_over_10 : decode cX0_over 10 = .ok (.invokevirtual 142, 3) := dk_182 0 142 (dk_at dksX0_over_0 10 rfl rfl)
theorem dX0_over_13 : decode cX0_over 13 = .ok (.invokevirtual 154, 3) := dk_182 0 154 (dk_at dksX0_over_0 13 rfl rfl)
theorem dX0_over_16 : decode cX0_over 16 = .ok (.l2i, 1) := dk_136 (dk_at dksX0_over_0 16 rfl rfl)
theorem dX0_over_17 : decode cX0_over 17 = .ok (.goto 5, 3) := dk_167 0 5 (dk_at dksX0_over_0 17 rfl rfl)
theorem dX0_over_20 : decode cX0_over 20 = .ok (.bipush (-2), 2) := dk_16 254 (dk_at dksX0_over_0 20 rfl rfl)
theorem dX0_over_22 : decode cX0_over 22 = .ok (.ireturn, 1) := dk_172 (dk_at dksX0_over_0 22 rfl rfl)
abbrev cX0_hermite : ByteArray := prog_1_method_17_code
def yX0_hermite : MethodName := ⟨RX0, "hermite", "(III)J"⟩
def dkwX0_hermite_1 : List UInt8 := [183, 0, 160, 180, 0, 163, 180, 0, 150, 28, 50, 29, 47, 167, 0, 6, 20, 0, 166, 173]
abbrev dktX0_hermite_1 : List UInt8 := dkwX0_hermite_1 ++ []
def dkwX0_hermite_0 : List UInt8 := [42, 27, 28, 29, 182, 0, 138, 153, 0, 31, 187, 0, 158, 89, 42, 27, 182, 0, 142, 182, 0, 146]
abbrev dktX0_hermite_0 : List UInt8 := dkwX0_hermite_0 ++ dktX0_hermite_1
theorem dksX0_hermite_0 : cX0_hermite.data.toList.drop 0 = dktX0_hermite_0 := by decide +kernel
theorem dksX0_hermite_1 : cX0_hermite.data.toList.drop 22 = dktX0_hermite_1 := dk_seg dksX0_hermite_0 22 rfl rfl
theorem dX0_hermite_0 : decode cX0_hermite 0 = .ok (.aload_n 0, 1) := dk_42 (dk_at dksX0_hermite_0 0 rfl rfl)
theorem dX0_hermite_1 : decode cX0_hermite 1 = .ok (.iload_n 1, 1) := dk_27 (dk_at dksX0_hermite_0 1 rfl rfl)
theorem dX0_hermite_2 : decode cX0_hermite 2 = .ok (.iload_n 2, 1) := dk_28 (dk_at dksX0_hermite_0 2 rfl rfl)
theorem dX0_hermite_3 : decode cX0_hermite 3 = .ok (.iload_n 3, 1) := dk_29 (dk_at dksX0_hermite_0 3 rfl rfl)
theorem dX0_hermite_4 : decode cX0_hermite 4 = .ok (.invokevirtual 138, 3) := dk_182 0 138 (dk_at dksX0_hermite_0 4 rfl rfl)
theorem dX0_hermite_7 : decode cX0_hermite 7 = .ok (.ifCond .eq 31, 3) := dk_153 0 31 (dk_at dksX0_hermite_0 7 rfl rfl)
theorem dX0_hermite_10 : decode cX0_hermite 10 = .ok (.new 158, 3) := dk_187 0 158 (dk_at dksX0_hermite_0 10 rfl rfl)
theorem dX0_hermite_13 : decode cX0_hermite 13 = .ok (.dup, 1) := dk_89 (dk_at dksX0_hermite_0 13 rfl rfl)
theorem dX0_hermite_14 : decode cX0_hermite 14 = .ok (.aload_n 0, 1) := dk_42 (dk_at dksX0_hermite_0 14 rfl rfl)
theorem dX0_hermite_15 : decode cX0_hermite 15 = .ok (.iload_n 1, 1) := dk_27 (dk_at dksX0_hermite_0 15 rfl rfl)
theorem dX0_hermite_16 : decode cX0_hermite 16 = .ok (.invokevirtual 142, 3) := dk_182 0 142 (dk_at dksX0_hermite_0 16 rfl rfl)
theorem dX0_hermite_19 : decode cX0_hermite 19 = .ok (.invokevirtual 146, 3) := dk_182 0 146 (dk_at dksX0_hermite_0 19 rfl rfl)
theorem dX0_hermite_22 : decode cX0_hermite 22 = .ok (.invokespecial 160, 3) := dk_183 0 160 (dk_at dksX0_hermite_1 0 rfl rfl)
theorem dX0_hermite_25 : decode cX0_hermite 25 = .ok (.getfield 163, 3) := dk_180 0 163 (dk_at dksX0_hermite_1 3 rfl rfl)
theorem dX0_hermite_28 : decode cX0_hermite 28 = .ok (.getfield 150, 3) := dk_180 0 150 (dk_at dksX0_hermite_1 6 rfl rfl)
theorem dX0_hermite_31 : decode cX0_hermite 31 = .ok (.iload_n 2, 1) := dk_28 (dk_at dksX0_hermite_1 9 rfl rfl)
theorem dX0_hermite_32 : decode cX0_hermite 32 = .ok (.aaload, 1) := dk_50 (dk_at dksX0_hermite_1 10 rfl rfl)
theorem dX0_hermite_33 : decode cX0_hermite 33 = .ok (.iload_n 3, 1) := dk_29 (dk_at dksX0_hermite_1 11 rfl rfl)
theorem dX0_hermite_34 : decode cX0_hermite 34 = .ok (.laload, 1) := dk_47 (dk_at dksX0_hermite_1 12 rfl rfl)
theorem dX0_hermite_35 : decode cX0_hermite 35 = .ok (.goto 6, 3) := dk_167 0 6 (dk_at dksX0_hermite_1 13 rfl rfl)
theorem dX0_hermite_38 : decode cX0_hermite 38 = .ok (.ldc2_w 166, 3) := dk_20 0 166 (dk_at dksX0_hermite_1 16 rfl rfl)
theorem dX0_hermite_41 : decode cX0_hermite 41 = .ok (.lreturn, 1) := dk_173 (dk_at dksX0_hermite_1 19 rfl rfl)
abbrev cX0_steps : ByteArray := prog_1_method_18_code
def yX0_steps : MethodName := ⟨RX0, "steps", "(I)I"⟩
def dkwX0_steps_1 : List UInt8 := [180, 0, 168, 182, 0, 115, 167, 0, 5, 16, 254, 172]
abbrev dktX0_steps_1 : List UInt8 := dkwX0_steps_1 ++ []
def dkwX0_steps_0 : List UInt8 := [42, 27, 182, 0, 131, 153, 0, 27, 187, 0, 158, 89, 42, 27, 182, 0, 142, 182, 0, 146, 183, 0, 160]
abbrev dktX0_steps_0 : List UInt8 := dkwX0_steps_0 ++ dktX0_steps_1
theorem dksX0_steps_0 : cX0_steps.data.toList.drop 0 = dktX0_steps_0 := by decide +kernel
theorem dksX0_steps_1 : cX0_steps.data.toList.drop 23 = dktX0_steps_1 := dk_seg dksX0_steps_0 23 rfl rfl
theorem dX0_steps_0 : decode cX0_steps 0 = .ok (.aload_n 0, 1) := dk_42 (dk_at dksX0_steps_0 0 rfl rfl)
theorem dX0_steps_1 : decode cX0_steps 1 = .ok (.iload_n 1, 1) := dk_27 (dk_at dksX0_steps_0 1 rfl rfl)
theorem dX0_steps_2 : decode cX0_steps 2 = .ok (.invokevirtual 131, 3) := dk_182 0 131 (dk_at dksX0_steps_0 2 rfl rfl)
theorem dX0_steps_5 : decode cX0_steps 5 = .ok (.ifCond .eq 27, 3) := dk_153 0 27 (dk_at dksX0_steps_0 5 rfl rfl)
theorem dX0_steps_8 : decode cX0_steps 8 = .ok (.new 158, 3) := dk_187 0 158 (dk_at dksX0_steps_0 8 rfl rfl)
theorem dX0_steps_11 : decode cX0_steps 11 = .ok (.dup, 1) := dk_89 (dk_at dksX0_steps_0 11 rfl rfl)
theorem dX0_steps_12 : decode cX0_steps 12 = .ok (.aload_n 0, 1) := dk_42 (dk_at dksX0_steps_0 12 rfl rfl)
theorem dX0_steps_13 : decode cX0_steps 13 = .ok (.iload_n 1, 1) := dk_27 (dk_at dksX0_steps_0 13 rfl rfl)
theorem dX0_steps_14 : decode cX0_steps 14 = .ok (.invokevirtual 142, 3) := dk_182 0 142 (dk_at dksX0_steps_0 14 rfl rfl)
theorem dX0_steps_17 : decode cX0_steps 17 = .ok (.invokevirtual 146, 3) := dk_182 0 146 (dk_at dksX0_steps_0 17 rfl rfl)
theorem dX0_steps_20 : decode cX0_steps 20 = .ok (.invokespecial 160, 3) := dk_183 0 160 (dk_at dksX0_steps_0 20 rfl rfl)
theorem dX0_steps_23 : decode cX0_steps 23 = .ok (.getfield 168, 3) := dk_180 0 168 (dk_at dksX0_steps_1 0 rfl rfl)
theorem dX0_steps_26 : decode cX0_steps 26 = .ok (.invokevirtual 115, 3) := dk_182 0 115 (dk_at dksX0_steps_1 3 rfl rfl)
theorem dX0_steps_29 : decode cX0_steps 29 = .ok (.goto 5, 3) := dk_167 0 5 (dk_at dksX0_steps_1 6 rfl rfl)
theorem dX0_steps_32 : decode cX0_steps 32 = .ok (.bipush (-2), 2) := dk_16 254 (dk_at dksX0_steps_1 9 rfl rfl)
theorem dX0_steps_34 : decode cX0_steps 34 = .ok (.ireturn, 1) := dk_172 (dk_at dksX0_steps_1 11 rfl rfl)
abbrev cX0_step : ByteArray := prog_1_method_19_code
def yX0_step : MethodName := ⟨RX0, "step", "(III)I"⟩
def dkwX0_step_6 : List UInt8 := [172]
abbrev dktX0_step_6 : List UInt8 := dkwX0_step_6 ++ []
def dkwX0_step_5 : List UInt8 := [25, 5, 180, 0, 176, 172, 25, 5, 180, 0, 177, 172, 25, 5, 180, 0, 180, 172, 25, 5, 180, 0, 183, 136]
abbrev dktX0_step_5 : List UInt8 := dkwX0_step_5 ++ dktX0_step_6
def dkwX0_step_4 : List UInt8 := [170, 0, 0, 0, 43, 0, 0, 0, 0, 0, 0, 0, 2, 0, 0, 0, 25, 0, 0, 0, 31, 0, 0, 0, 37]
abbrev dktX0_step_4 : List UInt8 := dkwX0_step_4 ++ dktX0_step_5
def dkwX0_step_3 : List UInt8 := [192, 0, 174, 58, 5, 29]
abbrev dktX0_step_3 : List UInt8 := dkwX0_step_3 ++ dktX0_step_4
def dkwX0_step_2 : List UInt8 := [25, 4, 182, 0, 115, 4, 100, 133, 184, 0, 72, 154, 0, 6, 18, 173, 172, 25, 4, 28, 182, 0, 119]
abbrev dktX0_step_2 : List UInt8 := dkwX0_step_2 ++ dktX0_step_3
def dkwX0_step_1 : List UInt8 := [187, 0, 158, 89, 42, 27, 182, 0, 142, 182, 0, 146, 183, 0, 160, 180, 0, 168, 58, 4, 28, 133, 9]
abbrev dktX0_step_1 : List UInt8 := dkwX0_step_1 ++ dktX0_step_2
def dkwX0_step_0 : List UInt8 := [42, 27, 182, 0, 131, 153, 0, 15, 29, 133, 9, 20, 0, 171, 184, 0, 72, 154, 0, 6, 18, 173, 172]
abbrev dktX0_step_0 : List UInt8 := dkwX0_step_0 ++ dktX0_step_1
theorem dksX0_step_0 : cX0_step.data.toList.drop 0 = dktX0_step_0 := by decide +kernel
theorem dksX0_step_1 : cX0_step.data.toList.drop 23 = dktX0_step_1 := dk_seg dksX0_step_0 23 rfl rfl
theorem dksX0_step_2 : cX0_step.data.toList.drop 46 = dktX0_step_2 := dk_seg dksX0_step_1 23 rfl rfl
theorem dksX0_step_3 : cX0_step.data.toList.drop 69 = dktX0_step_3 := dk_seg dksX0_step_2 23 rfl rfl
theorem dksX0_step_4 : cX0_step.data.toList.drop 75 = dktX0_step_4 := dk_seg dksX0_step_3 6 rfl rfl
theorem dksX0_step_5 : cX0_step.data.toList.drop 100 = dktX0_step_5 := dk_seg dksX0_step_4 25 rfl rfl
theorem dksX0_step_6 : cX0_step.data.toList.drop 124 = dktX0_step_6 := dk_seg dksX0_step_5 24 rfl rfl
theorem dX0_step_0 : decode cX0_step 0 = .ok (.aload_n 0, 1) := dk_42 (dk_at dksX0_step_0 0 rfl rfl)
theorem dX0_step_1 : decode cX0_step 1 = .ok (.iload_n 1, 1) := dk_27 (dk_at dksX0_step_0 1 rfl rfl)
theorem dX0_step_2 : decode cX0_step 2 = .ok (.invokevirtual 131, 3) := dk_182 0 131 (dk_at dksX0_step_0 2 rfl rfl)
theorem dX0_step_5 : decode cX0_step 5 = .ok (.ifCond .eq 15, 3) := dk_153 0 15 (dk_at dksX0_step_0 5 rfl rfl)
theorem dX0_step_8 : decode cX0_step 8 = .ok (.iload_n 3, 1) := dk_29 (dk_at dksX0_step_0 8 rfl rfl)
theorem dX0_step_9 : decode cX0_step 9 = .ok (.i2l, 1) := dk_133 (dk_at dksX0_step_0 9 rfl rfl)
theorem dX0_step_10 : decode cX0_step 10 = .ok (.lconst 0, 1) := dk_9 (dk_at dksX0_step_0 10 rfl rfl)
theorem dX0_step_11 : decode cX0_step 11 = .ok (.ldc2_w 171, 3) := dk_20 0 171 (dk_at dksX0_step_0 11 rfl rfl)
theorem dX0_step_14 : decode cX0_step 14 = .ok (.invokestatic 72, 3) := dk_184 0 72 (dk_at dksX0_step_0 14 rfl rfl)
theorem dX0_step_17 : decode cX0_step 17 = .ok (.ifCond .ne 6, 3) := dk_154 0 6 (dk_at dksX0_step_0 17 rfl rfl)
theorem dX0_step_20 : decode cX0_step 20 = .ok (.ldc 173, 2) := dk_18 173 (dk_at dksX0_step_0 20 rfl rfl)
theorem dX0_step_22 : decode cX0_step 22 = .ok (.ireturn, 1) := dk_172 (dk_at dksX0_step_0 22 rfl rfl)
theorem dX0_step_23 : decode cX0_step 23 = .ok (.new 158, 3) := dk_187 0 158 (dk_at dksX0_step_1 0 rfl rfl)
theorem dX0_step_26 : decode cX0_step 26 = .ok (.dup, 1) := dk_89 (dk_at dksX0_step_1 3 rfl rfl)
theorem dX0_step_27 : decode cX0_step 27 = .ok (.aload_n 0, 1) := dk_42 (dk_at dksX0_step_1 4 rfl rfl)
theorem dX0_step_28 : decode cX0_step 28 = .ok (.iload_n 1, 1) := dk_27 (dk_at dksX0_step_1 5 rfl rfl)
theorem dX0_step_29 : decode cX0_step 29 = .ok (.invokevirtual 142, 3) := dk_182 0 142 (dk_at dksX0_step_1 6 rfl rfl)
theorem dX0_step_32 : decode cX0_step 32 = .ok (.invokevirtual 146, 3) := dk_182 0 146 (dk_at dksX0_step_1 9 rfl rfl)
theorem dX0_step_35 : decode cX0_step 35 = .ok (.invokespecial 160, 3) := dk_183 0 160 (dk_at dksX0_step_1 12 rfl rfl)
theorem dX0_step_38 : decode cX0_step 38 = .ok (.getfield 168, 3) := dk_180 0 168 (dk_at dksX0_step_1 15 rfl rfl)
theorem dX0_step_41 : decode cX0_step 41 = .ok (.astore 4, 2) := dk_58 4 (dk_at dksX0_step_1 18 rfl rfl)
theorem dX0_step_43 : decode cX0_step 43 = .ok (.iload_n 2, 1) := dk_28 (dk_at dksX0_step_1 20 rfl rfl)
theorem dX0_step_44 : decode cX0_step 44 = .ok (.i2l, 1) := dk_133 (dk_at dksX0_step_1 21 rfl rfl)
theorem dX0_step_45 : decode cX0_step 45 = .ok (.lconst 0, 1) := dk_9 (dk_at dksX0_step_1 22 rfl rfl)
theorem dX0_step_46 : decode cX0_step 46 = .ok (.aload 4, 2) := dk_25 4 (dk_at dksX0_step_2 0 rfl rfl)
theorem dX0_step_48 : decode cX0_step 48 = .ok (.invokevirtual 115, 3) := dk_182 0 115 (dk_at dksX0_step_2 2 rfl rfl)
theorem dX0_step_51 : decode cX0_step 51 = .ok (.iconst 1, 1) := dk_4 (dk_at dksX0_step_2 5 rfl rfl)
theorem dX0_step_52 : decode cX0_step 52 = .ok (.isub, 1) := dk_100 (dk_at dksX0_step_2 6 rfl rfl)
theorem dX0_step_53 : decode cX0_step 53 = .ok (.i2l, 1) := dk_133 (dk_at dksX0_step_2 7 rfl rfl)
theorem dX0_step_54 : decode cX0_step 54 = .ok (.invokestatic 72, 3) := dk_184 0 72 (dk_at dksX0_step_2 8 rfl rfl)
theorem dX0_step_57 : decode cX0_step 57 = .ok (.ifCond .ne 6, 3) := dk_154 0 6 (dk_at dksX0_step_2 11 rfl rfl)
theorem dX0_step_60 : decode cX0_step 60 = .ok (.ldc 173, 2) := dk_18 173 (dk_at dksX0_step_2 14 rfl rfl)
theorem dX0_step_62 : decode cX0_step 62 = .ok (.ireturn, 1) := dk_172 (dk_at dksX0_step_2 16 rfl rfl)
theorem dX0_step_63 : decode cX0_step 63 = .ok (.aload 4, 2) := dk_25 4 (dk_at dksX0_step_2 17 rfl rfl)
theorem dX0_step_65 : decode cX0_step 65 = .ok (.iload_n 2, 1) := dk_28 (dk_at dksX0_step_2 19 rfl rfl)
theorem dX0_step_66 : decode cX0_step 66 = .ok (.invokevirtual 119, 3) := dk_182 0 119 (dk_at dksX0_step_2 20 rfl rfl)
theorem dX0_step_69 : decode cX0_step 69 = .ok (.checkcast 174, 3) := dk_192 0 174 (dk_at dksX0_step_3 0 rfl rfl)
theorem dX0_step_72 : decode cX0_step 72 = .ok (.astore 5, 2) := dk_58 5 (dk_at dksX0_step_3 3 rfl rfl)
theorem dX0_step_74 : decode cX0_step 74 = .ok (.iload_n 3, 1) := dk_29 (dk_at dksX0_step_3 5 rfl rfl)
theorem dX0_step_75 : decode cX0_step 75 = .ok (.tableswitch 43 0 2 #[25, 31, 37], 25) := by decide +kernel
theorem dX0_step_100 : decode cX0_step 100 = .ok (.aload 5, 2) := dk_25 5 (dk_at dksX0_step_5 0 rfl rfl)
theorem dX0_step_102 : decode cX0_step 102 = .ok (.getfield 176, 3) := dk_180 0 176 (dk_at dksX0_step_5 2 rfl rfl)
theorem dX0_step_105 : decode cX0_step 105 = .ok (.ireturn, 1) := dk_172 (dk_at dksX0_step_5 5 rfl rfl)
theorem dX0_step_106 : decode cX0_step 106 = .ok (.aload 5, 2) := dk_25 5 (dk_at dksX0_step_5 6 rfl rfl)
theorem dX0_step_108 : decode cX0_step 108 = .ok (.getfield 177, 3) := dk_180 0 177 (dk_at dksX0_step_5 8 rfl rfl)
theorem dX0_step_111 : decode cX0_step 111 = .ok (.ireturn, 1) := dk_172 (dk_at dksX0_step_5 11 rfl rfl)
theorem dX0_step_112 : decode cX0_step 112 = .ok (.aload 5, 2) := dk_25 5 (dk_at dksX0_step_5 12 rfl rfl)
theorem dX0_step_114 : decode cX0_step 114 = .ok (.getfield 180, 3) := dk_180 0 180 (dk_at dksX0_step_5 14 rfl rfl)
theorem dX0_step_117 : decode cX0_step 117 = .ok (.ireturn, 1) := dk_172 (dk_at dksX0_step_5 17 rfl rfl)
theorem dX0_step_118 : decode cX0_step 118 = .ok (.aload 5, 2) := dk_25 5 (dk_at dksX0_step_5 18 rfl rfl)
theorem dX0_step_120 : decode cX0_step 120 = .ok (.getfield 183, 3) := dk_180 0 183 (dk_at dksX0_step_5 20 rfl rfl)
theorem dX0_step_123 : decode cX0_step 123 = .ok (.l2i, 1) := dk_136 (dk_at dksX0_step_5 23 rfl rfl)
theorem dX0_step_124 : decode cX0_step 124 = .ok (.ireturn, 1) := dk_172 (dk_at dksX0_step_6 0 rfl rfl)
abbrev cX0_volume : ByteArray := prog_1_method_22_code
def yX0_volume : MethodName := ⟨RX0, "volume", "(II)J"⟩
def dkwX0_volume_2 : List UInt8 := [184, 0, 195, 173]
abbrev dktX0_volume_2 : List UInt8 := dkwX0_volume_2 ++ []
def dkwX0_volume_1 : List UInt8 := [182, 0, 154, 66, 42, 27, 182, 0, 142, 182, 0, 146, 182, 0, 192, 184, 0, 1, 33, 33, 105, 33, 105, 28]
abbrev dktX0_volume_1 : List UInt8 := dkwX0_volume_1 ++ dktX0_volume_2
def dkwX0_volume_0 : List UInt8 := [42, 27, 182, 0, 131, 153, 0, 10, 28, 184, 0, 187, 154, 0, 7, 20, 0, 190, 173, 42, 27, 182, 0, 142]
abbrev dktX0_volume_0 : List UInt8 := dkwX0_volume_0 ++ dktX0_volume_1
theorem dksX0_volume_0 : cX0_volume.data.toList.drop 0 = dktX0_volume_0 := by decide +kernel
theorem dksX0_volume_1 : cX0_volume.data.toList.drop 24 = dktX0_volume_1 := dk_seg dksX0_volume_0 24 rfl rfl
theorem dksX0_volume_2 : cX0_volume.data.toList.drop 48 = dktX0_volume_2 := dk_seg dksX0_volume_1 24 rfl rfl
theorem dX0_volume_0 : decode cX0_volume 0 = .ok (.aload_n 0, 1) := dk_42 (dk_at dksX0_volume_0 0 rfl rfl)
theorem dX0_volume_1 : decode cX0_volume 1 = .ok (.iload_n 1, 1) := dk_27 (dk_at dksX0_volume_0 1 rfl rfl)
theorem dX0_volume_2 : decode cX0_volume 2 = .ok (.invokevirtual 131, 3) := dk_182 0 131 (dk_at dksX0_volume_0 2 rfl rfl)
theorem dX0_volume_5 : decode cX0_volume 5 = .ok (.ifCond .eq 10, 3) := dk_153 0 10 (dk_at dksX0_volume_0 5 rfl rfl)
theorem dX0_volume_8 : decode cX0_volume 8 = .ok (.iload_n 2, 1) := dk_28 (dk_at dksX0_volume_0 8 rfl rfl)
theorem dX0_volume_9 : decode cX0_volume 9 = .ok (.invokestatic 187, 3) := dk_184 0 187 (dk_at dksX0_volume_0 9 rfl rfl)
theorem dX0_volume_12 : decode cX0_volume 12 = .ok (.ifCond .ne 7, 3) := dk_154 0 7 (dk_at dksX0_volume_0 12 rfl rfl)
theorem dX0_volume_15 : decode cX0_volume 15 = .ok (.ldc2_w 190, 3) := dk_20 0 190 (dk_at dksX0_volume_0 15 rfl rfl)
theorem dX0_volume_18 : decode cX0_volume 18 = .ok (.lreturn, 1) := dk_173 (dk_at dksX0_volume_0 18 rfl rfl)
theorem dX0_volume_19 : decode cX0_volume 19 = .ok (.aload_n 0, 1) := dk_42 (dk_at dksX0_volume_0 19 rfl rfl)
theorem dX0_volume_20 : decode cX0_volume 20 = .ok (.iload_n 1, 1) := dk_27 (dk_at dksX0_volume_0 20 rfl rfl)
theorem dX0_volume_21 : decode cX0_volume 21 = .ok (.invokevirtual 142, 3) := dk_182 0 142 (dk_at dksX0_volume_0 21 rfl rfl)
theorem dX0_volume_24 : decode cX0_volume 24 = .ok (.invokevirtual 154, 3) := dk_182 0 154 (dk_at dksX0_volume_1 0 rfl rfl)
theorem dX0_volume_27 : decode cX0_volume 27 = .ok (.lstore_n 3, 1) := dk_66 (dk_at dksX0_volume_1 3 rfl rfl)
theorem dX0_volume_28 : decode cX0_volume 28 = .ok (.aload_n 0, 1) := dk_42 (dk_at dksX0_volume_1 4 rfl rfl)
theorem dX0_volume_29 : decode cX0_volume 29 = .ok (.iload_n 1, 1) := dk_27 (dk_at dksX0_volume_1 5 rfl rfl)
theorem dX0_volume_30 : decode cX0_volume 30 = .ok (.invokevirtual 142, 3) := dk_182 0 142 (dk_at dksX0_volume_1 6 rfl rfl)
theorem dX0_volume_33 : decode cX0_volume 33 = .ok (.invokevirtual 146, 3) := dk_182 0 146 (dk_at dksX0_volume_1 9 rfl rfl)
theorem dX0_volume_36 : decode cX0_volume 36 = .ok (.invokevirtual 192, 3) := dk_182 0 192 (dk_at dksX0_volume_1 12 rfl rfl)
theorem dX0_volume_39 : decode cX0_volume 39 = .ok (.invokestatic 1, 3) := dk_184 0 1 (dk_at dksX0_volume_1 15 rfl rfl)
theorem dX0_volume_42 : decode cX0_volume 42 = .ok (.lload_n 3, 1) := dk_33 (dk_at dksX0_volume_1 18 rfl rfl)
theorem dX0_volume_43 : decode cX0_volume 43 = .ok (.lload_n 3, 1) := dk_33 (dk_at dksX0_volume_1 19 rfl rfl)
theorem dX0_volume_44 : decode cX0_volume 44 = .ok (.lmul, 1) := dk_105 (dk_at dksX0_volume_1 20 rfl rfl)
theorem dX0_volume_45 : decode cX0_volume 45 = .ok (.lload_n 3, 1) := dk_33 (dk_at dksX0_volume_1 21 rfl rfl)
theorem dX0_volume_46 : decode cX0_volume 46 = .ok (.lmul, 1) := dk_105 (dk_at dksX0_volume_1 22 rfl rfl)
theorem dX0_volume_47 : decode cX0_volume 47 = .ok (.iload_n 2, 1) := dk_28 (dk_at dksX0_volume_1 23 rfl rfl)
theorem dX0_volume_48 : decode cX0_volume 48 = .ok (.invokestatic 195, 3) := dk_184 0 195 (dk_at dksX0_volume_2 0 rfl rfl)
theorem dX0_volume_51 : decode cX0_volume 51 = .ok (.lreturn, 1) := dk_173 (dk_at dksX0_volume_2 3 rfl rfl)
abbrev cX0_isPart : ByteArray := prog_1_method_21_code
def yX0_isPart : MethodName := ⟨RX0, "isPart", "(I)Z"⟩
def dkwX0_isPart_0 : List UInt8 := [26, 133, 9, 10, 184, 0, 72, 172]
abbrev dktX0_isPart_0 : List UInt8 := dkwX0_isPart_0 ++ []
theorem dksX0_isPart_0 : cX0_isPart.data.toList.drop 0 = dktX0_isPart_0 := by decide +kernel
theorem dX0_isPart_0 : decode cX0_isPart 0 = .ok (.iload_n 0, 1) := dk_26 (dk_at dksX0_isPart_0 0 rfl rfl)
theorem dX0_isPart_1 : decode cX0_isPart 1 = .ok (.i2l, 1) := dk_133 (dk_at dksX0_isPart_0 1 rfl rfl)
theorem dX0_isPart_2 : decode cX0_isPart 2 = .ok (.lconst 0, 1) := dk_9 (dk_at dksX0_isPart_0 2 rfl rfl)
theorem dX0_isPart_3 : decode cX0_isPart 3 = .ok (.lconst 1, 1) := dk_10 (dk_at dksX0_isPart_0 3 rfl rfl)
theorem dX0_isPart_4 : decode cX0_isPart 4 = .ok (.invokestatic 72, 3) := dk_184 0 72 (dk_at dksX0_isPart_0 4 rfl rfl)
theorem dX0_isPart_7 : decode cX0_isPart 7 = .ok (.ireturn, 1) := dk_172 (dk_at dksX0_isPart_0 7 rfl rfl)
abbrev cX0_part : ByteArray := prog_1_method_20_code
def yX0_part : MethodName := ⟨RX0, "part", "(JJI)J"⟩
def dkwX0_part_0 : List UInt8 := [21, 4, 154, 0, 7, 30, 167, 0, 4, 32, 30, 32, 184, 0, 7, 109, 173]
abbrev dktX0_part_0 : List UInt8 := dkwX0_part_0 ++ []
theorem dksX0_part_0 : cX0_part.data.toList.drop 0 = dktX0_part_0 := by decide +kernel
theorem dX0_part_0 : decode cX0_part 0 = .ok (.iload 4, 2) := dk_21 4 (dk_at dksX0_part_0 0 rfl rfl)
theorem dX0_part_2 : decode cX0_part 2 = .ok (.ifCond .ne 7, 3) := dk_154 0 7 (dk_at dksX0_part_0 2 rfl rfl)
theorem dX0_part_5 : decode cX0_part 5 = .ok (.lload_n 0, 1) := dk_30 (dk_at dksX0_part_0 5 rfl rfl)
theorem dX0_part_6 : decode cX0_part 6 = .ok (.goto 4, 3) := dk_167 0 4 (dk_at dksX0_part_0 6 rfl rfl)
theorem dX0_part_9 : decode cX0_part 9 = .ok (.lload_n 2, 1) := dk_32 (dk_at dksX0_part_0 9 rfl rfl)
theorem dX0_part_10 : decode cX0_part 10 = .ok (.lload_n 0, 1) := dk_30 (dk_at dksX0_part_0 10 rfl rfl)
theorem dX0_part_11 : decode cX0_part 11 = .ok (.lload_n 2, 1) := dk_32 (dk_at dksX0_part_0 11 rfl rfl)
theorem dX0_part_12 : decode cX0_part 12 = .ok (.invokestatic 7, 3) := dk_184 0 7 (dk_at dksX0_part_0 12 rfl rfl)
theorem dX0_part_15 : decode cX0_part 15 = .ok (.ldiv, 1) := dk_109 (dk_at dksX0_part_0 15 rfl rfl)
theorem dX0_part_16 : decode cX0_part 16 = .ok (.lreturn, 1) := dk_173 (dk_at dksX0_part_0 16 rfl rfl)
abbrev cX0_smith : ByteArray := prog_1_method_23_code
def yX0_smith : MethodName := ⟨RX0, "smith", "(II)J"⟩
def dkwX0_smith_1 : List UInt8 := [182, 0, 199, 167, 0, 6, 20, 0, 190, 173]
abbrev dktX0_smith_1 : List UInt8 := dkwX0_smith_1 ++ []
def dkwX0_smith_0 : List UInt8 := [42, 27, 182, 0, 131, 153, 0, 25, 28, 184, 0, 135, 153, 0, 18, 42, 27, 182, 0, 142, 182, 0, 146, 28]
abbrev dktX0_smith_0 : List UInt8 := dkwX0_smith_0 ++ dktX0_smith_1
theorem dksX0_smith_0 : cX0_smith.data.toList.drop 0 = dktX0_smith_0 := by decide +kernel
theorem dksX0_smith_1 : cX0_smith.data.toList.drop 24 = dktX0_smith_1 := dk_seg dksX0_smith_0 24 rfl rfl
theorem dX0_smith_0 : decode cX0_smith 0 = .ok (.aload_n 0, 1) := dk_42 (dk_at dksX0_smith_0 0 rfl rfl)
theorem dX0_smith_1 : decode cX0_smith 1 = .ok (.iload_n 1, 1) := dk_27 (dk_at dksX0_smith_0 1 rfl rfl)
theorem dX0_smith_2 : decode cX0_smith 2 = .ok (.invokevirtual 131, 3) := dk_182 0 131 (dk_at dksX0_smith_0 2 rfl rfl)
theorem dX0_smith_5 : decode cX0_smith 5 = .ok (.ifCond .eq 25, 3) := dk_153 0 25 (dk_at dksX0_smith_0 5 rfl rfl)
theorem dX0_smith_8 : decode cX0_smith 8 = .ok (.iload_n 2, 1) := dk_28 (dk_at dksX0_smith_0 8 rfl rfl)
theorem dX0_smith_9 : decode cX0_smith 9 = .ok (.invokestatic 135, 3) := dk_184 0 135 (dk_at dksX0_smith_0 9 rfl rfl)
theorem dX0_smith_12 : decode cX0_smith 12 = .ok (.ifCond .eq 18, 3) := dk_153 0 18 (dk_at dksX0_smith_0 12 rfl rfl)
theorem dX0_smith_15 : decode cX0_smith 15 = .ok (.aload_n 0, 1) := dk_42 (dk_at dksX0_smith_0 15 rfl rfl)
theorem dX0_smith_16 : decode cX0_smith 16 = .ok (.iload_n 1, 1) := dk_27 (dk_at dksX0_smith_0 16 rfl rfl)
theorem dX0_smith_17 : decode cX0_smith 17 = .ok (.invokevirtual 142, 3) := dk_182 0 142 (dk_at dksX0_smith_0 17 rfl rfl)
theorem dX0_smith_20 : decode cX0_smith 20 = .ok (.invokevirtual 146, 3) := dk_182 0 146 (dk_at dksX0_smith_0 20 rfl rfl)
theorem dX0_smith_23 : decode cX0_smith 23 = .ok (.iload_n 2, 1) := dk_28 (dk_at dksX0_smith_0 23 rfl rfl)
theorem dX0_smith_24 : decode cX0_smith 24 = .ok (.invokevirtual 199, 3) := dk_182 0 199 (dk_at dksX0_smith_1 0 rfl rfl)
theorem dX0_smith_27 : decode cX0_smith 27 = .ok (.goto 6, 3) := dk_167 0 6 (dk_at dksX0_smith_1 3 rfl rfl)
theorem dX0_smith_30 : decode cX0_smith 30 = .ok (.ldc2_w 190, 3) := dk_20 0 190 (dk_at dksX0_smith_1 6 rfl rfl)
theorem dX0_smith_33 : decode cX0_smith 33 = .ok (.lreturn, 1) := dk_173 (dk_at dksX0_smith_1 9 rfl rfl)
abbrev cX0_has : ByteArray := prog_1_method_26_code
def yX0_has : MethodName := ⟨RX0, "has", "(IIIII)I"⟩
def dkwX0_has_2 : List UInt8 := [133, 184, 0, 216, 153, 0, 7, 4, 167, 0, 4, 3, 172]
abbrev dktX0_has_2 : List UInt8 := dkwX0_has_2 ++ []
def dkwX0_has_1 : List UInt8 := [27, 182, 0, 142, 182, 0, 146, 42, 27, 182, 0, 142, 182, 0, 154, 28, 133, 29, 133, 21, 4, 133, 21, 5]
abbrev dktX0_has_1 : List UInt8 := dkwX0_has_1 ++ dktX0_has_2
def dkwX0_has_0 : List UInt8 := [42, 27, 182, 0, 131, 153, 0, 15, 28, 29, 21, 4, 21, 5, 184, 0, 212, 154, 0, 6, 16, 254, 172, 42]
abbrev dktX0_has_0 : List UInt8 := dkwX0_has_0 ++ dktX0_has_1
theorem dksX0_has_0 : cX0_has.data.toList.drop 0 = dktX0_has_0 := by decide +kernel
theorem dksX0_has_1 : cX0_has.data.toList.drop 24 = dktX0_has_1 := dk_seg dksX0_has_0 24 rfl rfl
theorem dksX0_has_2 : cX0_has.data.toList.drop 48 = dktX0_has_2 := dk_seg dksX0_has_1 24 rfl rfl
theorem dX0_has_0 : decode cX0_has 0 = .ok (.aload_n 0, 1) := dk_42 (dk_at dksX0_has_0 0 rfl rfl)
theorem dX0_has_1 : decode cX0_has 1 = .ok (.iload_n 1, 1) := dk_27 (dk_at dksX0_has_0 1 rfl rfl)
theorem dX0_has_2 : decode cX0_has 2 = .ok (.invokevirtual 131, 3) := dk_182 0 131 (dk_at dksX0_has_0 2 rfl rfl)
theorem dX0_has_5 : decode cX0_has 5 = .ok (.ifCond .eq 15, 3) := dk_153 0 15 (dk_at dksX0_has_0 5 rfl rfl)
theorem dX0_has_8 : decode cX0_has 8 = .ok (.iload_n 2, 1) := dk_28 (dk_at dksX0_has_0 8 rfl rfl)
theorem dX0_has_9 : decode cX0_has 9 = .ok (.iload_n 3, 1) := dk_29 (dk_at dksX0_has_0 9 rfl rfl)
theorem dX0_has_10 : decode cX0_has 10 = .ok (.iload 4, 2) := dk_21 4 (dk_at dksX0_has_0 10 rfl rfl)
theorem dX0_has_12 : decode cX0_has 12 = .ok (.iload 5, 2) := dk_21 5 (dk_at dksX0_has_0 12 rfl rfl)
theorem dX0_has_14 : decode cX0_has 14 = .ok (.invokestatic 212, 3) := dk_184 0 212 (dk_at dksX0_has_0 14 rfl rfl)
theorem dX0_has_17 : decode cX0_has 17 = .ok (.ifCond .ne 6, 3) := dk_154 0 6 (dk_at dksX0_has_0 17 rfl rfl)
theorem dX0_has_20 : decode cX0_has 20 = .ok (.bipush (-2), 2) := dk_16 254 (dk_at dksX0_has_0 20 rfl rfl)
theorem dX0_has_22 : decode cX0_has 22 = .ok (.ireturn, 1) := dk_172 (dk_at dksX0_has_0 22 rfl rfl)
theorem dX0_has_23 : decode cX0_has 23 = .ok (.aload_n 0, 1) := dk_42 (dk_at dksX0_has_0 23 rfl rfl)
theorem dX0_has_24 : decode cX0_has 24 = .ok (.iload_n 1, 1) := dk_27 (dk_at dksX0_has_1 0 rfl rfl)
theorem dX0_has_25 : decode cX0_has 25 = .ok (.invokevirtual 142, 3) := dk_182 0 142 (dk_at dksX0_has_1 1 rfl rfl)
theorem dX0_has_28 : decode cX0_has 28 = .ok (.invokevirtual 146, 3) := dk_182 0 146 (dk_at dksX0_has_1 4 rfl rfl)
theorem dX0_has_31 : decode cX0_has 31 = .ok (.aload_n 0, 1) := dk_42 (dk_at dksX0_has_1 7 rfl rfl)
theorem dX0_has_32 : decode cX0_has 32 = .ok (.iload_n 1, 1) := dk_27 (dk_at dksX0_has_1 8 rfl rfl)
theorem dX0_has_33 : decode cX0_has 33 = .ok (.invokevirtual 142, 3) := dk_182 0 142 (dk_at dksX0_has_1 9 rfl rfl)
theorem dX0_has_36 : decode cX0_has 36 = .ok (.invokevirtual 154, 3) := dk_182 0 154 (dk_at dksX0_has_1 12 rfl rfl)
theorem dX0_has_39 : decode cX0_has 39 = .ok (.iload_n 2, 1) := dk_28 (dk_at dksX0_has_1 15 rfl rfl)
theorem dX0_has_40 : decode cX0_has 40 = .ok (.i2l, 1) := dk_133 (dk_at dksX0_has_1 16 rfl rfl)
theorem dX0_has_41 : decode cX0_has 41 = .ok (.iload_n 3, 1) := dk_29 (dk_at dksX0_has_1 17 rfl rfl)
theorem dX0_has_42 : decode cX0_has 42 = .ok (.i2l, 1) := dk_133 (dk_at dksX0_has_1 18 rfl rfl)
theorem dX0_has_43 : decode cX0_has 43 = .ok (.iload 4, 2) := dk_21 4 (dk_at dksX0_has_1 19 rfl rfl)
theorem dX0_has_45 : decode cX0_has 45 = .ok (.i2l, 1) := dk_133 (dk_at dksX0_has_1 21 rfl rfl)
theorem dX0_has_46 : decode cX0_has 46 = .ok (.iload 5, 2) := dk_21 5 (dk_at dksX0_has_1 22 rfl rfl)
theorem dX0_has_48 : decode cX0_has 48 = .ok (.i2l, 1) := dk_133 (dk_at dksX0_has_2 0 rfl rfl)
theorem dX0_has_49 : decode cX0_has 49 = .ok (.invokestatic 216, 3) := dk_184 0 216 (dk_at dksX0_has_2 1 rfl rfl)
theorem dX0_has_52 : decode cX0_has 52 = .ok (.ifCond .eq 7, 3) := dk_153 0 7 (dk_at dksX0_has_2 4 rfl rfl)
theorem dX0_has_55 : decode cX0_has 55 = .ok (.iconst 1, 1) := dk_4 (dk_at dksX0_has_2 7 rfl rfl)
theorem dX0_has_56 : decode cX0_has 56 = .ok (.goto 4, 3) := dk_167 0 4 (dk_at dksX0_has_2 8 rfl rfl)
theorem dX0_has_59 : decode cX0_has 59 = .ok (.iconst 0, 1) := dk_3 (dk_at dksX0_has_2 11 rfl rfl)
theorem dX0_has_60 : decode cX0_has 60 = .ok (.ireturn, 1) := dk_172 (dk_at dksX0_has_2 12 rfl rfl)
abbrev cX0_isPoint : ByteArray := prog_1_method_25_code
def yX0_isPoint : MethodName := ⟨RX0, "isPoint", "(IIII)Z"⟩
def dkwX0_isPoint_2 : List UInt8 := [20, 0, 210, 184, 0, 72, 153, 0, 7, 4, 167, 0, 4, 3, 172]
abbrev dktX0_isPoint_2 : List UInt8 := dkwX0_isPoint_2 ++ []
def dkwX0_isPoint_1 : List UInt8 := [184, 0, 72, 153, 0, 33, 28, 133, 20, 0, 206, 20, 0, 208, 184, 0, 72, 153, 0, 19, 29, 133, 10]
abbrev dktX0_isPoint_1 : List UInt8 := dkwX0_isPoint_1 ++ dktX0_isPoint_2
def dkwX0_isPoint_0 : List UInt8 := [26, 133, 20, 0, 206, 20, 0, 208, 184, 0, 72, 153, 0, 47, 27, 133, 20, 0, 206, 20, 0, 208]
abbrev dktX0_isPoint_0 : List UInt8 := dkwX0_isPoint_0 ++ dktX0_isPoint_1
theorem dksX0_isPoint_0 : cX0_isPoint.data.toList.drop 0 = dktX0_isPoint_0 := by decide +kernel
theorem dksX0_isPoint_1 : cX0_isPoint.data.toList.drop 22 = dktX0_isPoint_1 := dk_seg dksX0_isPoint_0 22 rfl rfl
theorem dksX0_isPoint_2 : cX0_isPoint.data.toList.drop 45 = dktX0_isPoint_2 := dk_seg dksX0_isPoint_1 23 rfl rfl
theorem dX0_isPoint_0 : decode cX0_isPoint 0 = .ok (.iload_n 0, 1) := dk_26 (dk_at dksX0_isPoint_0 0 rfl rfl)
theorem dX0_isPoint_1 : decode cX0_isPoint 1 = .ok (.i2l, 1) := dk_133 (dk_at dksX0_isPoint_0 1 rfl rfl)
theorem dX0_isPoint_2 : decode cX0_isPoint 2 = .ok (.ldc2_w 206, 3) := dk_20 0 206 (dk_at dksX0_isPoint_0 2 rfl rfl)
theorem dX0_isPoint_5 : decode cX0_isPoint 5 = .ok (.ldc2_w 208, 3) := dk_20 0 208 (dk_at dksX0_isPoint_0 5 rfl rfl)
theorem dX0_isPoint_8 : decode cX0_isPoint 8 = .ok (.invokestatic 72, 3) := dk_184 0 72 (dk_at dksX0_isPoint_0 8 rfl rfl)
theorem dX0_isPoint_11 : decode cX0_isPoint 11 = .ok (.ifCond .eq 47, 3) := dk_153 0 47 (dk_at dksX0_isPoint_0 11 rfl rfl)
theorem dX0_isPoint_14 : decode cX0_isPoint 14 = .ok (.iload_n 1, 1) := dk_27 (dk_at dksX0_isPoint_0 14 rfl rfl)
theorem dX0_isPoint_15 : decode cX0_isPoint 15 = .ok (.i2l, 1) := dk_133 (dk_at dksX0_isPoint_0 15 rfl rfl)
theorem dX0_isPoint_16 : decode cX0_isPoint 16 = .ok (.ldc2_w 206, 3) := dk_20 0 206 (dk_at dksX0_isPoint_0 16 rfl rfl)
theorem dX0_isPoint_19 : decode cX0_isPoint 19 = .ok (.ldc2_w 208, 3) := dk_20 0 208 (dk_at dksX0_isPoint_0 19 rfl rfl)
theorem dX0_isPoint_22 : decode cX0_isPoint 22 = .ok (.invokestatic 72, 3) := dk_184 0 72 (dk_at dksX0_isPoint_1 0 rfl rfl)
theorem dX0_isPoint_25 : decode cX0_isPoint 25 = .ok (.ifCond .eq 33, 3) := dk_153 0 33 (dk_at dksX0_isPoint_1 3 rfl rfl)
theorem dX0_isPoint_28 : decode cX0_isPoint 28 = .ok (.iload_n 2, 1) := dk_28 (dk_at dksX0_isPoint_1 6 rfl rfl)
theorem dX0_isPoint_29 : decode cX0_isPoint 29 = .ok (.i2l, 1) := dk_133 (dk_at dksX0_isPoint_1 7 rfl rfl)
theorem dX0_isPoint_30 : decode cX0_isPoint 30 = .ok (.ldc2_w 206, 3) := dk_20 0 206 (dk_at dksX0_isPoint_1 8 rfl rfl)
theorem dX0_isPoint_33 : decode cX0_isPoint 33 = .ok (.ldc2_w 208, 3) := dk_20 0 208 (dk_at dksX0_isPoint_1 11 rfl rfl)
theorem dX0_isPoint_36 : decode cX0_isPoint 36 = .ok (.invokestatic 72, 3) := dk_184 0 72 (dk_at dksX0_isPoint_1 14 rfl rfl)
theorem dX0_isPoint_39 : decode cX0_isPoint 39 = .ok (.ifCond .eq 19, 3) := dk_153 0 19 (dk_at dksX0_isPoint_1 17 rfl rfl)
theorem dX0_isPoint_42 : decode cX0_isPoint 42 = .ok (.iload_n 3, 1) := dk_29 (dk_at dksX0_isPoint_1 20 rfl rfl)
theorem dX0_isPoint_43 : decode cX0_isPoint 43 = .ok (.i2l, 1) := dk_133 (dk_at dksX0_isPoint_1 21 rfl rfl)
theorem dX0_isPoint_44 : decode cX0_isPoint 44 = .ok (.lconst 1, 1) := dk_10 (dk_at dksX0_isPoint_1 22 rfl rfl)
theorem dX0_isPoint_45 : decode cX0_isPoint 45 = .ok (.ldc2_w 210, 3) := dk_20 0 210 (dk_at dksX0_isPoint_2 0 rfl rfl)
theorem dX0_isPoint_48 : decode cX0_isPoint 48 = .ok (.invokestatic 72, 3) := dk_184 0 72 (dk_at dksX0_isPoint_2 3 rfl rfl)
theorem dX0_isPoint_51 : decode cX0_isPoint 51 = .ok (.ifCond .eq 7, 3) := dk_153 0 7 (dk_at dksX0_isPoint_2 6 rfl rfl)
theorem dX0_isPoint_54 : decode cX0_isPoint 54 = .ok (.iconst 1, 1) := dk_4 (dk_at dksX0_isPoint_2 9 rfl rfl)
theorem dX0_isPoint_55 : decode cX0_isPoint 55 = .ok (.goto 4, 3) := dk_167 0 4 (dk_at dksX0_isPoint_2 10 rfl rfl)
theorem dX0_isPoint_58 : decode cX0_isPoint 58 = .ok (.iconst 0, 1) := dk_3 (dk_at dksX0_isPoint_2 13 rfl rfl)
theorem dX0_isPoint_59 : decode cX0_isPoint 59 = .ok (.ireturn, 1) := dk_172 (dk_at dksX0_isPoint_2 14 rfl rfl)
abbrev cX0_have : ByteArray := prog_1_method_24_code
def yX0_have : MethodName := ⟨RX0, "have", "(LCoincideBench$Rows;JJJJJ)Z"⟩
def dkwX0_have_3 : List UInt8 := [153, 0, 5, 3, 172, 132, 14, 1, 167, 255, 195, 4, 172]
abbrev dktX0_have_3 : List UInt8 := dkwX0_have_3 ++ []
def dkwX0_have_2 : List UInt8 := [105, 97, 22, 7, 25, 11, 180, 0, 150, 5, 50, 21, 14, 47, 105, 97, 31, 105, 22, 12, 113, 9, 148]
abbrev dktX0_have_2 : List UInt8 := dkwX0_have_2 ++ dktX0_have_3
def dkwX0_have_1 : List UInt8 := [33, 25, 11, 180, 0, 150, 3, 50, 21, 14, 47, 105, 22, 5, 25, 11, 180, 0, 150, 4, 50, 21, 14, 47]
abbrev dktX0_have_1 : List UInt8 := dkwX0_have_1 ++ dktX0_have_2
def dkwX0_have_0 : List UInt8 := [42, 182, 0, 203, 58, 11, 22, 9, 42, 182, 0, 192, 105, 55, 12, 3, 54, 14, 21, 14, 6, 162, 0, 61]
abbrev dktX0_have_0 : List UInt8 := dkwX0_have_0 ++ dktX0_have_1
theorem dksX0_have_0 : cX0_have.data.toList.drop 0 = dktX0_have_0 := by decide +kernel
theorem dksX0_have_1 : cX0_have.data.toList.drop 24 = dktX0_have_1 := dk_seg dksX0_have_0 24 rfl rfl
theorem dksX0_have_2 : cX0_have.data.toList.drop 48 = dktX0_have_2 := dk_seg dksX0_have_1 24 rfl rfl
theorem dksX0_have_3 : cX0_have.data.toList.drop 71 = dktX0_have_3 := dk_seg dksX0_have_2 23 rfl rfl
theorem dX0_have_0 : decode cX0_have 0 = .ok (.aload_n 0, 1) := dk_42 (dk_at dksX0_have_0 0 rfl rfl)
theorem dX0_have_1 : decode cX0_have 1 = .ok (.invokevirtual 203, 3) := dk_182 0 203 (dk_at dksX0_have_0 1 rfl rfl)
theorem dX0_have_4 : decode cX0_have 4 = .ok (.astore 11, 2) := dk_58 11 (dk_at dksX0_have_0 4 rfl rfl)
theorem dX0_have_6 : decode cX0_have 6 = .ok (.lload 9, 2) := dk_22 9 (dk_at dksX0_have_0 6 rfl rfl)
theorem dX0_have_8 : decode cX0_have 8 = .ok (.aload_n 0, 1) := dk_42 (dk_at dksX0_have_0 8 rfl rfl)
theorem dX0_have_9 : decode cX0_have 9 = .ok (.invokevirtual 192, 3) := dk_182 0 192 (dk_at dksX0_have_0 9 rfl rfl)
theorem dX0_have_12 : decode cX0_have 12 = .ok (.lmul, 1) := dk_105 (dk_at dksX0_have_0 12 rfl rfl)
theorem dX0_have_13 : decode cX0_have 13 = .ok (.lstore 12, 2) := dk_55 12 (dk_at dksX0_have_0 13 rfl rfl)
theorem dX0_have_15 : decode cX0_have 15 = .ok (.iconst 0, 1) := dk_3 (dk_at dksX0_have_0 15 rfl rfl)
theorem dX0_have_16 : decode cX0_have 16 = .ok (.istore 14, 2) := dk_54 14 (dk_at dksX0_have_0 16 rfl rfl)
theorem dX0_have_18 : decode cX0_have 18 = .ok (.iload 14, 2) := dk_21 14 (dk_at dksX0_have_0 18 rfl rfl)
theorem dX0_have_20 : decode cX0_have 20 = .ok (.iconst 3, 1) := dk_6 (dk_at dksX0_have_0 20 rfl rfl)
theorem dX0_have_21 : decode cX0_have 21 = .ok (.if_icmp .ge 61, 3) := dk_162 0 61 (dk_at dksX0_have_0 21 rfl rfl)
theorem dX0_have_24 : decode cX0_have 24 = .ok (.lload_n 3, 1) := dk_33 (dk_at dksX0_have_1 0 rfl rfl)
theorem dX0_have_25 : decode cX0_have 25 = .ok (.aload 11, 2) := dk_25 11 (dk_at dksX0_have_1 1 rfl rfl)
theorem dX0_have_27 : decode cX0_have 27 = .ok (.getfield 150, 3) := dk_180 0 150 (dk_at dksX0_have_1 3 rfl rfl)
theorem dX0_have_30 : decode cX0_have 30 = .ok (.iconst 0, 1) := dk_3 (dk_at dksX0_have_1 6 rfl rfl)
theorem dX0_have_31 : decode cX0_have 31 = .ok (.aaload, 1) := dk_50 (dk_at dksX0_have_1 7 rfl rfl)
theorem dX0_have_32 : decode cX0_have 32 = .ok (.iload 14, 2) := dk_21 14 (dk_at dksX0_have_1 8 rfl rfl)
theorem dX0_have_34 : decode cX0_have 34 = .ok (.laload, 1) := dk_47 (dk_at dksX0_have_1 10 rfl rfl)
theorem dX0_have_35 : decode cX0_have 35 = .ok (.lmul, 1) := dk_105 (dk_at dksX0_have_1 11 rfl rfl)
theorem dX0_have_36 : decode cX0_have 36 = .ok (.lload 5, 2) := dk_22 5 (dk_at dksX0_have_1 12 rfl rfl)
theorem dX0_have_38 : decode cX0_have 38 = .ok (.aload 11, 2) := dk_25 11 (dk_at dksX0_have_1 14 rfl rfl)
theorem dX0_have_40 : decode cX0_have 40 = .ok (.getfield 150, 3) := dk_180 0 150 (dk_at dksX0_have_1 16 rfl rfl)
theorem dX0_have_43 : decode cX0_have 43 = .ok (.iconst 1, 1) := dk_4 (dk_at dksX0_have_1 19 rfl rfl)
theorem dX0_have_44 : decode cX0_have 44 = .ok (.aaload, 1) := dk_50 (dk_at dksX0_have_1 20 rfl rfl)
theorem dX0_have_45 : decode cX0_have 45 = .ok (.iload 14, 2) := dk_21 14 (dk_at dksX0_have_1 21 rfl rfl)
theorem dX0_have_47 : decode cX0_have 47 = .ok (.laload, 1) := dk_47 (dk_at dksX0_have_1 23 rfl rfl)
theorem dX0_have_48 : decode cX0_have 48 = .ok (.lmul, 1) := dk_105 (dk_at dksX0_have_2 0 rfl rfl)
theorem dX0_have_49 : decode cX0_have 49 = .ok (.ladd, 1) := dk_97 (dk_at dksX0_have_2 1 rfl rfl)
theorem dX0_have_50 : decode cX0_have 50 = .ok (.lload 7, 2) := dk_22 7 (dk_at dksX0_have_2 2 rfl rfl)
theorem dX0_have_52 : decode cX0_have 52 = .ok (.aload 11, 2) := dk_25 11 (dk_at dksX0_have_2 4 rfl rfl)
theorem dX0_have_54 : decode cX0_have 54 = .ok (.getfield 150, 3) := dk_180 0 150 (dk_at dksX0_have_2 6 rfl rfl)
theorem dX0_have_57 : decode cX0_have 57 = .ok (.iconst 2, 1) := dk_5 (dk_at dksX0_have_2 9 rfl rfl)
theorem dX0_have_58 : decode cX0_have 58 = .ok (.aaload, 1) := dk_50 (dk_at dksX0_have_2 10 rfl rfl)
theorem dX0_have_59 : decode cX0_have 59 = .ok (.iload 14, 2) := dk_21 14 (dk_at dksX0_have_2 11 rfl rfl)
theorem dX0_have_61 : decode cX0_have 61 = .ok (.laload, 1) := dk_47 (dk_at dksX0_have_2 13 rfl rfl)
theorem dX0_have_62 : decode cX0_have 62 = .ok (.lmul, 1) := dk_105 (dk_at dksX0_have_2 14 rfl rfl)
theorem dX0_have_63 : decode cX0_have 63 = .ok (.ladd, 1) := dk_97 (dk_at dksX0_have_2 15 rfl rfl)
theorem dX0_have_64 : decode cX0_have 64 = .ok (.lload_n 1, 1) := dk_31 (dk_at dksX0_have_2 16 rfl rfl)
theorem dX0_have_65 : decode cX0_have 65 = .ok (.lmul, 1) := dk_105 (dk_at dksX0_have_2 17 rfl rfl)
theorem dX0_have_66 : decode cX0_have 66 = .ok (.lload 12, 2) := dk_22 12 (dk_at dksX0_have_2 18 rfl rfl)
theorem dX0_have_68 : decode cX0_have 68 = .ok (.lrem, 1) := dk_113 (dk_at dksX0_have_2 20 rfl rfl)
theorem dX0_have_69 : decode cX0_have 69 = .ok (.lconst 0, 1) := dk_9 (dk_at dksX0_have_2 21 rfl rfl)
theorem dX0_have_70 : decode cX0_have 70 = .ok (.lcmp, 1) := dk_148 (dk_at dksX0_have_2 22 rfl rfl)
theorem dX0_have_71 : decode cX0_have 71 = .ok (.ifCond .eq 5, 3) := dk_153 0 5 (dk_at dksX0_have_3 0 rfl rfl)
theorem dX0_have_74 : decode cX0_have 74 = .ok (.iconst 0, 1) := dk_3 (dk_at dksX0_have_3 3 rfl rfl)
theorem dX0_have_75 : decode cX0_have 75 = .ok (.ireturn, 1) := dk_172 (dk_at dksX0_have_3 4 rfl rfl)
theorem dX0_have_76 : decode cX0_have 76 = .ok (.iinc 14 1, 3) := dk_132 14 1 (dk_at dksX0_have_3 5 rfl rfl)
theorem dX0_have_79 : decode cX0_have 79 = .ok (.goto (-61), 3) := dk_167 255 195 (dk_at dksX0_have_3 8 rfl rfl)
theorem dX0_have_82 : decode cX0_have 82 = .ok (.iconst 1, 1) := dk_4 (dk_at dksX0_have_3 11 rfl rfl)
theorem dX0_have_83 : decode cX0_have 83 = .ok (.ireturn, 1) := dk_172 (dk_at dksX0_have_3 12 rfl rfl)
abbrev cX0_inside : ByteArray := prog_1_method_28_code
def yX0_inside : MethodName := ⟨RX0, "inside", "(II)I"⟩
def dkwX0_inside_4 : List UInt8 := [132, 5, 1, 167, 255, 185, 4, 172]
abbrev dktX0_inside_4 : List UInt8 := dkwX0_inside_4 ++ []
def dkwX0_inside_3 : List UInt8 := [180, 0, 150, 21, 5, 50, 5, 47, 42, 27, 182, 0, 142, 182, 0, 154, 184, 0, 216, 154, 0, 5, 3, 172]
abbrev dktX0_inside_3 : List UInt8 := dkwX0_inside_3 ++ dktX0_inside_4
def dkwX0_inside_2 : List UInt8 := [25, 4, 180, 0, 150, 21, 5, 50, 3, 47, 25, 4, 180, 0, 150, 21, 5, 50, 4, 47, 25, 4]
abbrev dktX0_inside_2 : List UInt8 := dkwX0_inside_2 ++ dktX0_inside_3
def dkwX0_inside_1 : List UInt8 := [54, 5, 21, 5, 6, 162, 0, 71, 42, 28, 182, 0, 142, 182, 0, 146, 42, 28, 182, 0, 142, 182, 0, 154]
abbrev dktX0_inside_1 : List UInt8 := dkwX0_inside_1 ++ dktX0_inside_2
def dkwX0_inside_0 : List UInt8 := [42, 27, 28, 182, 0, 220, 62, 29, 156, 0, 5, 29, 172, 42, 27, 182, 0, 142, 182, 0, 146, 58, 4, 3]
abbrev dktX0_inside_0 : List UInt8 := dkwX0_inside_0 ++ dktX0_inside_1
theorem dksX0_inside_0 : cX0_inside.data.toList.drop 0 = dktX0_inside_0 := by decide +kernel
theorem dksX0_inside_1 : cX0_inside.data.toList.drop 24 = dktX0_inside_1 := dk_seg dksX0_inside_0 24 rfl rfl
theorem dksX0_inside_2 : cX0_inside.data.toList.drop 48 = dktX0_inside_2 := dk_seg dksX0_inside_1 24 rfl rfl
theorem dksX0_inside_3 : cX0_inside.data.toList.drop 70 = dktX0_inside_3 := dk_seg dksX0_inside_2 22 rfl rfl
theorem dksX0_inside_4 : cX0_inside.data.toList.drop 94 = dktX0_inside_4 := dk_seg dksX0_inside_3 24 rfl rfl
theorem dX0_inside_0 : decode cX0_inside 0 = .ok (.aload_n 0, 1) := dk_42 (dk_at dksX0_inside_0 0 rfl rfl)
theorem dX0_inside_1 : decode cX0_inside 1 = .ok (.iload_n 1, 1) := dk_27 (dk_at dksX0_inside_0 1 rfl rfl)
theorem dX0_inside_2 : decode cX0_inside 2 = .ok (.iload_n 2, 1) := dk_28 (dk_at dksX0_inside_0 2 rfl rfl)
theorem dX0_inside_3 : decode cX0_inside 3 = .ok (.invokevirtual 220, 3) := dk_182 0 220 (dk_at dksX0_inside_0 3 rfl rfl)
theorem dX0_inside_6 : decode cX0_inside 6 = .ok (.istore_n 3, 1) := dk_62 (dk_at dksX0_inside_0 6 rfl rfl)
theorem dX0_inside_7 : decode cX0_inside 7 = .ok (.iload_n 3, 1) := dk_29 (dk_at dksX0_inside_0 7 rfl rfl)
theorem dX0_inside_8 : decode cX0_inside 8 = .ok (.ifCond .ge 5, 3) := dk_156 0 5 (dk_at dksX0_inside_0 8 rfl rfl)
theorem dX0_inside_11 : decode cX0_inside 11 = .ok (.iload_n 3, 1) := dk_29 (dk_at dksX0_inside_0 11 rfl rfl)
theorem dX0_inside_12 : decode cX0_inside 12 = .ok (.ireturn, 1) := dk_172 (dk_at dksX0_inside_0 12 rfl rfl)
theorem dX0_inside_13 : decode cX0_inside 13 = .ok (.aload_n 0, 1) := dk_42 (dk_at dksX0_inside_0 13 rfl rfl)
theorem dX0_inside_14 : decode cX0_inside 14 = .ok (.iload_n 1, 1) := dk_27 (dk_at dksX0_inside_0 14 rfl rfl)
theorem dX0_inside_15 : decode cX0_inside 15 = .ok (.invokevirtual 142, 3) := dk_182 0 142 (dk_at dksX0_inside_0 15 rfl rfl)
theorem dX0_inside_18 : decode cX0_inside 18 = .ok (.invokevirtual 146, 3) := dk_182 0 146 (dk_at dksX0_inside_0 18 rfl rfl)
theorem dX0_inside_21 : decode cX0_inside 21 = .ok (.astore 4, 2) := dk_58 4 (dk_at dksX0_inside_0 21 rfl rfl)
theorem dX0_inside_23 : decode cX0_inside 23 = .ok (.iconst 0, 1) := dk_3 (dk_at dksX0_inside_0 23 rfl rfl)
theorem dX0_inside_24 : decode cX0_inside 24 = .ok (.istore 5, 2) := dk_54 5 (dk_at dksX0_inside_1 0 rfl rfl)
theorem dX0_inside_26 : decode cX0_inside 26 = .ok (.iload 5, 2) := dk_21 5 (dk_at dksX0_inside_1 2 rfl rfl)
theorem dX0_inside_28 : decode cX0_inside 28 = .ok (.iconst 3, 1) := dk_6 (dk_at dksX0_inside_1 4 rfl rfl)
theorem dX0_inside_29 : decode cX0_inside 29 = .ok (.if_icmp .ge 71, 3) := dk_162 0 71 (dk_at dksX0_inside_1 5 rfl rfl)
theorem dX0_inside_32 : decode cX0_inside 32 = .ok (.aload_n 0, 1) := dk_42 (dk_at dksX0_inside_1 8 rfl rfl)
theorem dX0_inside_33 : decode cX0_inside 33 = .ok (.iload_n 2, 1) := dk_28 (dk_at dksX0_inside_1 9 rfl rfl)
theorem dX0_inside_34 : decode cX0_inside 34 = .ok (.invokevirtual 142, 3) := dk_182 0 142 (dk_at dksX0_inside_1 10 rfl rfl)
theorem dX0_inside_37 : decode cX0_inside 37 = .ok (.invokevirtual 146, 3) := dk_182 0 146 (dk_at dksX0_inside_1 13 rfl rfl)
theorem dX0_inside_40 : decode cX0_inside 40 = .ok (.aload_n 0, 1) := dk_42 (dk_at dksX0_inside_1 16 rfl rfl)
theorem dX0_inside_41 : decode cX0_inside 41 = .ok (.iload_n 2, 1) := dk_28 (dk_at dksX0_inside_1 17 rfl rfl)
theorem dX0_inside_42 : decode cX0_inside 42 = .ok (.invokevirtual 142, 3) := dk_182 0 142 (dk_at dksX0_inside_1 18 rfl rfl)
theorem dX0_inside_45 : decode cX0_inside 45 = .ok (.invokevirtual 154, 3) := dk_182 0 154 (dk_at dksX0_inside_1 21 rfl rfl)
theorem dX0_inside_48 : decode cX0_inside 48 = .ok (.aload 4, 2) := dk_25 4 (dk_at dksX0_inside_2 0 rfl rfl)
theorem dX0_inside_50 : decode cX0_inside 50 = .ok (.getfield 150, 3) := dk_180 0 150 (dk_at dksX0_inside_2 2 rfl rfl)
theorem dX0_inside_53 : decode cX0_inside 53 = .ok (.iload 5, 2) := dk_21 5 (dk_at dksX0_inside_2 5 rfl rfl)
theorem dX0_inside_55 : decode cX0_inside 55 = .ok (.aaload, 1) := dk_50 (dk_at dksX0_inside_2 7 rfl rfl)
theorem dX0_inside_56 : decode cX0_inside 56 = .ok (.iconst 0, 1) := dk_3 (dk_at dksX0_inside_2 8 rfl rfl)
theorem dX0_inside_57 : decode cX0_inside 57 = .ok (.laload, 1) := dk_47 (dk_at dksX0_inside_2 9 rfl rfl)
theorem dX0_inside_58 : decode cX0_inside 58 = .ok (.aload 4, 2) := dk_25 4 (dk_at dksX0_inside_2 10 rfl rfl)
theorem dX0_inside_60 : decode cX0_inside 60 = .ok (.getfield 150, 3) := dk_180 0 150 (dk_at dksX0_inside_2 12 rfl rfl)
theorem dX0_inside_63 : decode cX0_inside 63 = .ok (.iload 5, 2) := dk_21 5 (dk_at dksX0_inside_2 15 rfl rfl)
theorem dX0_inside_65 : decode cX0_inside 65 = .ok (.aaload, 1) := dk_50 (dk_at dksX0_inside_2 17 rfl rfl)
theorem dX0_inside_66 : decode cX0_inside 66 = .ok (.iconst 1, 1) := dk_4 (dk_at dksX0_inside_2 18 rfl rfl)
theorem dX0_inside_67 : decode cX0_inside 67 = .ok (.laload, 1) := dk_47 (dk_at dksX0_inside_2 19 rfl rfl)
theorem dX0_inside_68 : decode cX0_inside 68 = .ok (.aload 4, 2) := dk_25 4 (dk_at dksX0_inside_2 20 rfl rfl)
theorem dX0_inside_70 : decode cX0_inside 70 = .ok (.getfield 150, 3) := dk_180 0 150 (dk_at dksX0_inside_3 0 rfl rfl)
theorem dX0_inside_73 : decode cX0_inside 73 = .ok (.iload 5, 2) := dk_21 5 (dk_at dksX0_inside_3 3 rfl rfl)
theorem dX0_inside_75 : decode cX0_inside 75 = .ok (.aaload, 1) := dk_50 (dk_at dksX0_inside_3 5 rfl rfl)
theorem dX0_inside_76 : decode cX0_inside 76 = .ok (.iconst 2, 1) := dk_5 (dk_at dksX0_inside_3 6 rfl rfl)
theorem dX0_inside_77 : decode cX0_inside 77 = .ok (.laload, 1) := dk_47 (dk_at dksX0_inside_3 7 rfl rfl)
theorem dX0_inside_78 : decode cX0_inside 78 = .ok (.aload_n 0, 1) := dk_42 (dk_at dksX0_inside_3 8 rfl rfl)
theorem dX0_inside_79 : decode cX0_inside 79 = .ok (.iload_n 1, 1) := dk_27 (dk_at dksX0_inside_3 9 rfl rfl)
theorem dX0_inside_80 : decode cX0_inside 80 = .ok (.invokevirtual 142, 3) := dk_182 0 142 (dk_at dksX0_inside_3 10 rfl rfl)
theorem dX0_inside_83 : decode cX0_inside 83 = .ok (.invokevirtual 154, 3) := dk_182 0 154 (dk_at dksX0_inside_3 13 rfl rfl)
theorem dX0_inside_86 : decode cX0_inside 86 = .ok (.invokestatic 216, 3) := dk_184 0 216 (dk_at dksX0_inside_3 16 rfl rfl)
theorem dX0_inside_89 : decode cX0_inside 89 = .ok (.ifCond .ne 5, 3) := dk_154 0 5 (dk_at dksX0_inside_3 19 rfl rfl)
theorem dX0_inside_92 : decode cX0_inside 92 = .ok (.iconst 0, 1) := dk_3 (dk_at dksX0_inside_3 22 rfl rfl)
theorem dX0_inside_93 : decode cX0_inside 93 = .ok (.ireturn, 1) := dk_172 (dk_at dksX0_inside_3 23 rfl rfl)
theorem dX0_inside_94 : decode cX0_inside 94 = .ok (.iinc 5 1, 3) := dk_132 5 1 (dk_at dksX0_inside_4 0 rfl rfl)
theorem dX0_inside_97 : decode cX0_inside 97 = .ok (.goto (-71), 3) := dk_167 255 185 (dk_at dksX0_inside_4 3 rfl rfl)
theorem dX0_inside_100 : decode cX0_inside 100 = .ok (.iconst 1, 1) := dk_4 (dk_at dksX0_inside_4 6 rfl rfl)
theorem dX0_inside_101 : decode cX0_inside 101 = .ok (.ireturn, 1) := dk_172 (dk_at dksX0_inside_4 7 rfl rfl)
abbrev cX0_asks : ByteArray := prog_1_method_27_code
def yX0_asks : MethodName := ⟨RX0, "asks", "(II)I"⟩
def dkwX0_asks_1 : List UInt8 := [182, 0, 125, 153, 0, 19, 42, 28, 182, 0, 142, 182, 0, 125, 153, 0, 8, 16, 253, 167, 0, 4, 3, 172]
abbrev dktX0_asks_1 : List UInt8 := dkwX0_asks_1 ++ []
def dkwX0_asks_0 : List UInt8 := [42, 27, 182, 0, 131, 153, 0, 11, 42, 28, 182, 0, 131, 154, 0, 6, 16, 254, 172, 42, 27, 182, 0, 142]
abbrev dktX0_asks_0 : List UInt8 := dkwX0_asks_0 ++ dktX0_asks_1
theorem dksX0_asks_0 : cX0_asks.data.toList.drop 0 = dktX0_asks_0 := by decide +kernel
theorem dksX0_asks_1 : cX0_asks.data.toList.drop 24 = dktX0_asks_1 := dk_seg dksX0_asks_0 24 rfl rfl
theorem dX0_asks_0 : decode cX0_asks 0 = .ok (.aload_n 0, 1) := dk_42 (dk_at dksX0_asks_0 0 rfl rfl)
theorem dX0_asks_1 : decode cX0_asks 1 = .ok (.iload_n 1, 1) := dk_27 (dk_at dksX0_asks_0 1 rfl rfl)
theorem dX0_asks_2 : decode cX0_asks 2 = .ok (.invokevirtual 131, 3) := dk_182 0 131 (dk_at dksX0_asks_0 2 rfl rfl)
theorem dX0_asks_5 : decode cX0_asks 5 = .ok (.ifCond .eq 11, 3) := dk_153 0 11 (dk_at dksX0_asks_0 5 rfl rfl)
theorem dX0_asks_8 : decode cX0_asks 8 = .ok (.aload_n 0, 1) := dk_42 (dk_at dksX0_asks_0 8 rfl rfl)
theorem dX0_asks_9 : decode cX0_asks 9 = .ok (.iload_n 2, 1) := dk_28 (dk_at dksX0_asks_0 9 rfl rfl)
theorem dX0_asks_10 : decode cX0_asks 10 = .ok (.invokevirtual 131, 3) := dk_182 0 131 (dk_at dksX0_asks_0 10 rfl rfl)
theorem dX0_asks_13 : decode cX0_asks 13 = .ok (.ifCond .ne 6, 3) := dk_154 0 6 (dk_at dksX0_asks_0 13 rfl rfl)
theorem dX0_asks_16 : decode cX0_asks 16 = .ok (.bipush (-2), 2) := dk_16 254 (dk_at dksX0_asks_0 16 rfl rfl)
theorem dX0_asks_18 : decode cX0_asks 18 = .ok (.ireturn, 1) := dk_172 (dk_at dksX0_asks_0 18 rfl rfl)
theorem dX0_asks_19 : decode cX0_asks 19 = .ok (.aload_n 0, 1) := dk_42 (dk_at dksX0_asks_0 19 rfl rfl)
theorem dX0_asks_20 : decode cX0_asks 20 = .ok (.iload_n 1, 1) := dk_27 (dk_at dksX0_asks_0 20 rfl rfl)
theorem dX0_asks_21 : decode cX0_asks 21 = .ok (.invokevirtual 142, 3) := dk_182 0 142 (dk_at dksX0_asks_0 21 rfl rfl)
theorem dX0_asks_24 : decode cX0_asks 24 = .ok (.invokevirtual 125, 3) := dk_182 0 125 (dk_at dksX0_asks_1 0 rfl rfl)
theorem dX0_asks_27 : decode cX0_asks 27 = .ok (.ifCond .eq 19, 3) := dk_153 0 19 (dk_at dksX0_asks_1 3 rfl rfl)
theorem dX0_asks_30 : decode cX0_asks 30 = .ok (.aload_n 0, 1) := dk_42 (dk_at dksX0_asks_1 6 rfl rfl)
theorem dX0_asks_31 : decode cX0_asks 31 = .ok (.iload_n 2, 1) := dk_28 (dk_at dksX0_asks_1 7 rfl rfl)
theorem dX0_asks_32 : decode cX0_asks 32 = .ok (.invokevirtual 142, 3) := dk_182 0 142 (dk_at dksX0_asks_1 8 rfl rfl)
theorem dX0_asks_35 : decode cX0_asks 35 = .ok (.invokevirtual 125, 3) := dk_182 0 125 (dk_at dksX0_asks_1 11 rfl rfl)
theorem dX0_asks_38 : decode cX0_asks 38 = .ok (.ifCond .eq 8, 3) := dk_153 0 8 (dk_at dksX0_asks_1 14 rfl rfl)
theorem dX0_asks_41 : decode cX0_asks 41 = .ok (.bipush (-3), 2) := dk_16 253 (dk_at dksX0_asks_1 17 rfl rfl)
theorem dX0_asks_43 : decode cX0_asks 43 = .ok (.goto 4, 3) := dk_167 0 4 (dk_at dksX0_asks_1 19 rfl rfl)
theorem dX0_asks_46 : decode cX0_asks 46 = .ok (.iconst 0, 1) := dk_3 (dk_at dksX0_asks_1 22 rfl rfl)
theorem dX0_asks_47 : decode cX0_asks 47 = .ok (.ireturn, 1) := dk_172 (dk_at dksX0_asks_1 23 rfl rfl)
abbrev cX0_meetOver : ByteArray := prog_1_method_33_code
def yX0_meetOver : MethodName := ⟨RX0, "meetOver", "(II)I"⟩
def dkwX0_meetOver_1 : List UInt8 := [136, 172]
abbrev dktX0_meetOver_1 : List UInt8 := dkwX0_meetOver_1 ++ []
def dkwX0_meetOver_0 : List UInt8 := [42, 27, 28, 182, 0, 220, 62, 29, 156, 0, 7, 29, 167, 0, 13, 42, 27, 28, 182, 1, 3, 180, 1, 7]
abbrev dktX0_meetOver_0 : List UInt8 := dkwX0_meetOver_0 ++ dktX0_meetOver_1
theorem dksX0_meetOver_0 : cX0_meetOver.data.toList.drop 0 = dktX0_meetOver_0 := by decide +kernel
theorem dksX0_meetOver_1 : cX0_meetOver.data.toList.drop 24 = dktX0_meetOver_1 := dk_seg dksX0_meetOver_0 24 rfl rfl
theorem dX0_meetOver_0 : decode cX0_meetOver 0 = .ok (.aload_n 0, 1) := dk_42 (dk_at dksX0_meetOver_0 0 rfl rfl)
theorem dX0_meetOver_1 : decode cX0_meetOver 1 = .ok (.iload_n 1, 1) := dk_27 (dk_at dksX0_meetOver_0 1 rfl rfl)
theorem dX0_meetOver_2 : decode cX0_meetOver 2 = .ok (.iload_n 2, 1) := dk_28 (dk_at dksX0_meetOver_0 2 rfl rfl)
theorem dX0_meetOver_3 : decode cX0_meetOver 3 = .ok (.invokevirtual 220, 3) := dk_182 0 220 (dk_at dksX0_meetOver_0 3 rfl rfl)
theorem dX0_meetOver_6 : decode cX0_meetOver 6 = .ok (.istore_n 3, 1) := dk_62 (dk_at dksX0_meetOver_0 6 rfl rfl)
theorem dX0_meetOver_7 : decode cX0_meetOver 7 = .ok (.iload_n 3, 1) := dk_29 (dk_at dksX0_meetOver_0 7 rfl rfl)
theorem dX0_meetOver_8 : decode cX0_meetOver 8 = .ok (.ifCond .ge 7, 3) := dk_156 0 7 (dk_at dksX0_meetOver_0 8 rfl rfl)
theorem dX0_meetOver_11 : decode cX0_meetOver 11 = .ok (.iload_n 3, 1) := dk_29 (dk_at dksX0_meetOver_0 11 rfl rfl)
theorem dX0_meetOver_12 : decode cX0_meetOver 12 = .ok (.goto 13, 3) := dk_167 0 13 (dk_at dksX0_meetOver_0 12 rfl rfl)
theorem dX0_meetOver_15 : decode cX0_meetOver 15 = .ok (.aload_n 0, 1) := dk_42 (dk_at dksX0_meetOver_0 15 rfl rfl)
theorem dX0_meetOver_16 : decode cX0_meetOver 16 = .ok (.iload_n 1, 1) := dk_27 (dk_at dksX0_meetOver_0 16 rfl rfl)
theorem dX0_meetOver_17 : decode cX0_meetOver 17 = .ok (.iload_n 2, 1) := dk_28 (dk_at dksX0_meetOver_0 17 rfl rfl)
theorem dX0_meetOver_18 : decode cX0_meetOver 18 = .ok (.invokevirtual 259, 3) := dk_182 1 3 (dk_at dksX0_meetOver_0 18 rfl rfl)
theorem dX0_meetOver_21 : decode cX0_meetOver 21 = .ok (.getfield 263, 3) := dk_180 1 7 (dk_at dksX0_meetOver_0 21 rfl rfl)
theorem dX0_meetOver_24 : decode cX0_meetOver 24 = .ok (.l2i, 1) := dk_136 (dk_at dksX0_meetOver_1 0 rfl rfl)
theorem dX0_meetOver_25 : decode cX0_meetOver 25 = .ok (.ireturn, 1) := dk_172 (dk_at dksX0_meetOver_1 1 rfl rfl)
abbrev cX0_meetOf : ByteArray := prog_1_method_32_code
def yX0_meetOf : MethodName := ⟨RX0, "meetOf", "(II)LCoincideBench$Both;"⟩
def dkwX0_meetOf_9 : List UInt8 := [182, 0, 238, 187, 0, 241, 89, 25, 13, 180, 0, 243, 33, 183, 0, 246, 176]
abbrev dktX0_meetOf_9 : List UInt8 := dkwX0_meetOf_9 ++ []
def dkwX0_meetOf_8 : List UInt8 := [182, 0, 199, 184, 0, 224, 183, 0, 42, 58, 13, 25, 13, 25, 12, 180, 0, 243, 25, 5, 182, 0, 249]
abbrev dktX0_meetOf_8 : List UInt8 := dkwX0_meetOf_8 ++ dktX0_meetOf_9
def dkwX0_meetOf_7 : List UInt8 := [182, 0, 252, 132, 13, 1, 167, 255, 212, 187, 0, 40, 89, 25, 5, 5, 182, 0, 199, 25, 6, 5]
abbrev dktX0_meetOf_7 : List UInt8 := dkwX0_meetOf_7 ++ dktX0_meetOf_8
def dkwX0_meetOf_6 : List UInt8 := [50, 21, 13, 47, 25, 11, 180, 0, 150, 4, 50, 21, 13, 47, 25, 11, 180, 0, 150, 5, 50, 21, 13, 47]
abbrev dktX0_meetOf_6 : List UInt8 := dkwX0_meetOf_6 ++ dktX0_meetOf_7
def dkwX0_meetOf_5 : List UInt8 := [22, 7, 183, 0, 42, 58, 12, 3, 54, 13, 21, 13, 6, 162, 0, 44, 25, 12, 25, 11, 180, 0, 150, 3]
abbrev dktX0_meetOf_5 : List UInt8 := dkwX0_meetOf_5 ++ dktX0_meetOf_6
def dkwX0_meetOf_4 : List UInt8 := [50, 21, 11, 47, 182, 0, 252, 132, 11, 1, 167, 255, 212, 25, 10, 182, 1, 0, 58, 11, 187, 0, 40, 89]
abbrev dktX0_meetOf_4 : List UInt8 := dkwX0_meetOf_4 ++ dktX0_meetOf_5
def dkwX0_meetOf_3 : List UInt8 := [180, 0, 150, 3, 50, 21, 11, 47, 25, 9, 180, 0, 150, 4, 50, 21, 11, 47, 25, 9, 180, 0, 150, 5]
abbrev dktX0_meetOf_3 : List UInt8 := dkwX0_meetOf_3 ++ dktX0_meetOf_4
def dkwX0_meetOf_2 : List UInt8 := [187, 0, 40, 89, 22, 7, 183, 0, 42, 58, 10, 3, 54, 11, 21, 11, 6, 162, 0, 44, 25, 10, 25, 9]
abbrev dktX0_meetOf_2 : List UInt8 := dkwX0_meetOf_2 ++ dktX0_meetOf_3
def dkwX0_meetOf_1 : List UInt8 := [25, 6, 182, 0, 192, 184, 0, 1, 55, 7, 25, 5, 25, 6, 182, 0, 203, 182, 0, 249, 58, 9]
abbrev dktX0_meetOf_1 : List UInt8 := dkwX0_meetOf_1 ++ dktX0_meetOf_2
def dkwX0_meetOf_0 : List UInt8 := [42, 27, 28, 182, 0, 230, 66, 42, 27, 33, 182, 0, 234, 58, 5, 42, 28, 33, 182, 0, 234, 58, 6]
abbrev dktX0_meetOf_0 : List UInt8 := dkwX0_meetOf_0 ++ dktX0_meetOf_1
theorem dksX0_meetOf_0 : cX0_meetOf.data.toList.drop 0 = dktX0_meetOf_0 := by decide +kernel
theorem dksX0_meetOf_1 : cX0_meetOf.data.toList.drop 23 = dktX0_meetOf_1 := dk_seg dksX0_meetOf_0 23 rfl rfl
theorem dksX0_meetOf_2 : cX0_meetOf.data.toList.drop 45 = dktX0_meetOf_2 := dk_seg dksX0_meetOf_1 22 rfl rfl
theorem dksX0_meetOf_3 : cX0_meetOf.data.toList.drop 69 = dktX0_meetOf_3 := dk_seg dksX0_meetOf_2 24 rfl rfl
theorem dksX0_meetOf_4 : cX0_meetOf.data.toList.drop 93 = dktX0_meetOf_4 := dk_seg dksX0_meetOf_3 24 rfl rfl
theorem dksX0_meetOf_5 : cX0_meetOf.data.toList.drop 117 = dktX0_meetOf_5 := dk_seg dksX0_meetOf_4 24 rfl rfl
theorem dksX0_meetOf_6 : cX0_meetOf.data.toList.drop 141 = dktX0_meetOf_6 := dk_seg dksX0_meetOf_5 24 rfl rfl
theorem dksX0_meetOf_7 : cX0_meetOf.data.toList.drop 165 = dktX0_meetOf_7 := dk_seg dksX0_meetOf_6 24 rfl rfl
theorem dksX0_meetOf_8 : cX0_meetOf.data.toList.drop 187 = dktX0_meetOf_8 := dk_seg dksX0_meetOf_7 22 rfl rfl
theorem dksX0_meetOf_9 : cX0_meetOf.data.toList.drop 210 = dktX0_meetOf_9 := dk_seg dksX0_meetOf_8 23 rfl rfl
theorem dX0_meetOf_0 : decode cX0_meetOf 0 = .ok (.aload_n 0, 1) := dk_42 (dk_at dksX0_meetOf_0 0 rfl rfl)
theorem dX0_meetOf_1 : decode cX0_meetOf 1 = .ok (.iload_n 1, 1) := dk_27 (dk_at dksX0_meetOf_0 1 rfl rfl)
theorem dX0_meetOf_2 : decode cX0_meetOf 2 = .ok (.iload_n 2, 1) := dk_28 (dk_at dksX0_meetOf_0 2 rfl rfl)
theorem dX0_meetOf_3 : decode cX0_meetOf 3 = .ok (.invokevirtual 230, 3) := dk_182 0 230 (dk_at dksX0_meetOf_0 3 rfl rfl)
theorem dX0_meetOf_6 : decode cX0_meetOf 6 = .ok (.lstore_n 3, 1) := dk_66 (dk_at dksX0_meetOf_0 6 rfl rfl)
theorem dX0_meetOf_7 : decode cX0_meetOf 7 = .ok (.aload_n 0, 1) := dk_42 (dk_at dksX0_meetOf_0 7 rfl rfl)
theorem dX0_meetOf_8 : decode cX0_meetOf 8 = .ok (.iload_n 1, 1) := dk_27 (dk_at dksX0_meetOf_0 8 rfl rfl)
theorem dX0_meetOf_9 : decode cX0_meetOf 9 = .ok (.lload_n 3, 1) := dk_33 (dk_at dksX0_meetOf_0 9 rfl rfl)
theorem dX0_meetOf_10 : decode cX0_meetOf 10 = .ok (.invokevirtual 234, 3) := dk_182 0 234 (dk_at dksX0_meetOf_0 10 rfl rfl)
theorem dX0_meetOf_13 : decode cX0_meetOf 13 = .ok (.astore 5, 2) := dk_58 5 (dk_at dksX0_meetOf_0 13 rfl rfl)
theorem dX0_meetOf_15 : decode cX0_meetOf 15 = .ok (.aload_n 0, 1) := dk_42 (dk_at dksX0_meetOf_0 15 rfl rfl)
theorem dX0_meetOf_16 : decode cX0_meetOf 16 = .ok (.iload_n 2, 1) := dk_28 (dk_at dksX0_meetOf_0 16 rfl rfl)
theorem dX0_meetOf_17 : decode cX0_meetOf 17 = .ok (.lload_n 3, 1) := dk_33 (dk_at dksX0_meetOf_0 17 rfl rfl)
theorem dX0_meetOf_18 : decode cX0_meetOf 18 = .ok (.invokevirtual 234, 3) := dk_182 0 234 (dk_at dksX0_meetOf_0 18 rfl rfl)
theorem dX0_meetOf_21 : decode cX0_meetOf 21 = .ok (.astore 6, 2) := dk_58 6 (dk_at dksX0_meetOf_0 21 rfl rfl)
theorem dX0_meetOf_23 : decode cX0_meetOf 23 = .ok (.aload 6, 2) := dk_25 6 (dk_at dksX0_meetOf_1 0 rfl rfl)
theorem dX0_meetOf_25 : decode cX0_meetOf 25 = .ok (.invokevirtual 192, 3) := dk_182 0 192 (dk_at dksX0_meetOf_1 2 rfl rfl)
theorem dX0_meetOf_28 : decode cX0_meetOf 28 = .ok (.invokestatic 1, 3) := dk_184 0 1 (dk_at dksX0_meetOf_1 5 rfl rfl)
theorem dX0_meetOf_31 : decode cX0_meetOf 31 = .ok (.lstore 7, 2) := dk_55 7 (dk_at dksX0_meetOf_1 8 rfl rfl)
theorem dX0_meetOf_33 : decode cX0_meetOf 33 = .ok (.aload 5, 2) := dk_25 5 (dk_at dksX0_meetOf_1 10 rfl rfl)
theorem dX0_meetOf_35 : decode cX0_meetOf 35 = .ok (.aload 6, 2) := dk_25 6 (dk_at dksX0_meetOf_1 12 rfl rfl)
theorem dX0_meetOf_37 : decode cX0_meetOf 37 = .ok (.invokevirtual 203, 3) := dk_182 0 203 (dk_at dksX0_meetOf_1 14 rfl rfl)
theorem dX0_meetOf_40 : decode cX0_meetOf 40 = .ok (.invokevirtual 249, 3) := dk_182 0 249 (dk_at dksX0_meetOf_1 17 rfl rfl)
theorem dX0_meetOf_43 : decode cX0_meetOf 43 = .ok (.astore 9, 2) := dk_58 9 (dk_at dksX0_meetOf_1 20 rfl rfl)
theorem dX0_meetOf_45 : decode cX0_meetOf 45 = .ok (.new 40, 3) := dk_187 0 40 (dk_at dksX0_meetOf_2 0 rfl rfl)
theorem dX0_meetOf_48 : decode cX0_meetOf 48 = .ok (.dup, 1) := dk_89 (dk_at dksX0_meetOf_2 3 rfl rfl)
theorem dX0_meetOf_49 : decode cX0_meetOf 49 = .ok (.lload 7, 2) := dk_22 7 (dk_at dksX0_meetOf_2 4 rfl rfl)
theorem dX0_meetOf_51 : decode cX0_meetOf 51 = .ok (.invokespecial 42, 3) := dk_183 0 42 (dk_at dksX0_meetOf_2 6 rfl rfl)
theorem dX0_meetOf_54 : decode cX0_meetOf 54 = .ok (.astore 10, 2) := dk_58 10 (dk_at dksX0_meetOf_2 9 rfl rfl)
theorem dX0_meetOf_56 : decode cX0_meetOf 56 = .ok (.iconst 0, 1) := dk_3 (dk_at dksX0_meetOf_2 11 rfl rfl)
theorem dX0_meetOf_57 : decode cX0_meetOf 57 = .ok (.istore 11, 2) := dk_54 11 (dk_at dksX0_meetOf_2 12 rfl rfl)
theorem dX0_meetOf_59 : decode cX0_meetOf 59 = .ok (.iload 11, 2) := dk_21 11 (dk_at dksX0_meetOf_2 14 rfl rfl)
theorem dX0_meetOf_61 : decode cX0_meetOf 61 = .ok (.iconst 3, 1) := dk_6 (dk_at dksX0_meetOf_2 16 rfl rfl)
theorem dX0_meetOf_62 : decode cX0_meetOf 62 = .ok (.if_icmp .ge 44, 3) := dk_162 0 44 (dk_at dksX0_meetOf_2 17 rfl rfl)
theorem dX0_meetOf_65 : decode cX0_meetOf 65 = .ok (.aload 10, 2) := dk_25 10 (dk_at dksX0_meetOf_2 20 rfl rfl)
theorem dX0_meetOf_67 : decode cX0_meetOf 67 = .ok (.aload 9, 2) := dk_25 9 (dk_at dksX0_meetOf_2 22 rfl rfl)
theorem dX0_meetOf_69 : decode cX0_meetOf 69 = .ok (.getfield 150, 3) := dk_180 0 150 (dk_at dksX0_meetOf_3 0 rfl rfl)
theorem dX0_meetOf_72 : decode cX0_meetOf 72 = .ok (.iconst 0, 1) := dk_3 (dk_at dksX0_meetOf_3 3 rfl rfl)
theorem dX0_meetOf_73 : decode cX0_meetOf 73 = .ok (.aaload, 1) := dk_50 (dk_at dksX0_meetOf_3 4 rfl rfl)
theorem dX0_meetOf_74 : decode cX0_meetOf 74 = .ok (.iload 11, 2) := dk_21 11 (dk_at dksX0_meetOf_3 5 rfl rfl)
theorem dX0_meetOf_76 : decode cX0_meetOf 76 = .ok (.laload, 1) := dk_47 (dk_at dksX0_meetOf_3 7 rfl rfl)
theorem dX0_meetOf_77 : decode cX0_meetOf 77 = .ok (.aload 9, 2) := dk_25 9 (dk_at dksX0_meetOf_3 8 rfl rfl)
theorem dX0_meetOf_79 : decode cX0_meetOf 79 = .ok (.getfield 150, 3) := dk_180 0 150 (dk_at dksX0_meetOf_3 10 rfl rfl)
theorem dX0_meetOf_82 : decode cX0_meetOf 82 = .ok (.iconst 1, 1) := dk_4 (dk_at dksX0_meetOf_3 13 rfl rfl)
theorem dX0_meetOf_83 : decode cX0_meetOf 83 = .ok (.aaload, 1) := dk_50 (dk_at dksX0_meetOf_3 14 rfl rfl)
theorem dX0_meetOf_84 : decode cX0_meetOf 84 = .ok (.iload 11, 2) := dk_21 11 (dk_at dksX0_meetOf_3 15 rfl rfl)
theorem dX0_meetOf_86 : decode cX0_meetOf 86 = .ok (.laload, 1) := dk_47 (dk_at dksX0_meetOf_3 17 rfl rfl)
theorem dX0_meetOf_87 : decode cX0_meetOf 87 = .ok (.aload 9, 2) := dk_25 9 (dk_at dksX0_meetOf_3 18 rfl rfl)
theorem dX0_meetOf_89 : decode cX0_meetOf 89 = .ok (.getfield 150, 3) := dk_180 0 150 (dk_at dksX0_meetOf_3 20 rfl rfl)
theorem dX0_meetOf_92 : decode cX0_meetOf 92 = .ok (.iconst 2, 1) := dk_5 (dk_at dksX0_meetOf_3 23 rfl rfl)
theorem dX0_meetOf_93 : decode cX0_meetOf 93 = .ok (.aaload, 1) := dk_50 (dk_at dksX0_meetOf_4 0 rfl rfl)
theorem dX0_meetOf_94 : decode cX0_meetOf 94 = .ok (.iload 11, 2) := dk_21 11 (dk_at dksX0_meetOf_4 1 rfl rfl)
theorem dX0_meetOf_96 : decode cX0_meetOf 96 = .ok (.laload, 1) := dk_47 (dk_at dksX0_meetOf_4 3 rfl rfl)
theorem dX0_meetOf_97 : decode cX0_meetOf 97 = .ok (.invokevirtual 252, 3) := dk_182 0 252 (dk_at dksX0_meetOf_4 4 rfl rfl)
theorem dX0_meetOf_100 : decode cX0_meetOf 100 = .ok (.iinc 11 1, 3) := dk_132 11 1 (dk_at dksX0_meetOf_4 7 rfl rfl)
theorem dX0_meetOf_103 : decode cX0_meetOf 103 = .ok (.goto (-44), 3) := dk_167 255 212 (dk_at dksX0_meetOf_4 10 rfl rfl)
theorem dX0_meetOf_106 : decode cX0_meetOf 106 = .ok (.aload 10, 2) := dk_25 10 (dk_at dksX0_meetOf_4 13 rfl rfl)
theorem dX0_meetOf_108 : decode cX0_meetOf 108 = .ok (.invokevirtual 256, 3) := dk_182 1 0 (dk_at dksX0_meetOf_4 15 rfl rfl)
theorem dX0_meetOf_111 : decode cX0_meetOf 111 = .ok (.astore 11, 2) := dk_58 11 (dk_at dksX0_meetOf_4 18 rfl rfl)
theorem dX0_meetOf_113 : decode cX0_meetOf 113 = .ok (.new 40, 3) := dk_187 0 40 (dk_at dksX0_meetOf_4 20 rfl rfl)
theorem dX0_meetOf_116 : decode cX0_meetOf 116 = .ok (.dup, 1) := dk_89 (dk_at dksX0_meetOf_4 23 rfl rfl)
theorem dX0_meetOf_117 : decode cX0_meetOf 117 = .ok (.lload 7, 2) := dk_22 7 (dk_at dksX0_meetOf_5 0 rfl rfl)
theorem dX0_meetOf_119 : decode cX0_meetOf 119 = .ok (.invokespecial 42, 3) := dk_183 0 42 (dk_at dksX0_meetOf_5 2 rfl rfl)
theorem dX0_meetOf_122 : decode cX0_meetOf 122 = .ok (.astore 12, 2) := dk_58 12 (dk_at dksX0_meetOf_5 5 rfl rfl)
theorem dX0_meetOf_124 : decode cX0_meetOf 124 = .ok (.iconst 0, 1) := dk_3 (dk_at dksX0_meetOf_5 7 rfl rfl)
theorem dX0_meetOf_125 : decode cX0_meetOf 125 = .ok (.istore 13, 2) := dk_54 13 (dk_at dksX0_meetOf_5 8 rfl rfl)
theorem dX0_meetOf_127 : decode cX0_meetOf 127 = .ok (.iload 13, 2) := dk_21 13 (dk_at dksX0_meetOf_5 10 rfl rfl)
theorem dX0_meetOf_129 : decode cX0_meetOf 129 = .ok (.iconst 3, 1) := dk_6 (dk_at dksX0_meetOf_5 12 rfl rfl)
theorem dX0_meetOf_130 : decode cX0_meetOf 130 = .ok (.if_icmp .ge 44, 3) := dk_162 0 44 (dk_at dksX0_meetOf_5 13 rfl rfl)
theorem dX0_meetOf_133 : decode cX0_meetOf 133 = .ok (.aload 12, 2) := dk_25 12 (dk_at dksX0_meetOf_5 16 rfl rfl)
theorem dX0_meetOf_135 : decode cX0_meetOf 135 = .ok (.aload 11, 2) := dk_25 11 (dk_at dksX0_meetOf_5 18 rfl rfl)
theorem dX0_meetOf_137 : decode cX0_meetOf 137 = .ok (.getfield 150, 3) := dk_180 0 150 (dk_at dksX0_meetOf_5 20 rfl rfl)
theorem dX0_meetOf_140 : decode cX0_meetOf 140 = .ok (.iconst 0, 1) := dk_3 (dk_at dksX0_meetOf_5 23 rfl rfl)
theorem dX0_meetOf_141 : decode cX0_meetOf 141 = .ok (.aaload, 1) := dk_50 (dk_at dksX0_meetOf_6 0 rfl rfl)
theorem dX0_meetOf_142 : decode cX0_meetOf 142 = .ok (.iload 13, 2) := dk_21 13 (dk_at dksX0_meetOf_6 1 rfl rfl)
theorem dX0_meetOf_144 : decode cX0_meetOf 144 = .ok (.laload, 1) := dk_47 (dk_at dksX0_meetOf_6 3 rfl rfl)
theorem dX0_meetOf_145 : decode cX0_meetOf 145 = .ok (.aload 11, 2) := dk_25 11 (dk_at dksX0_meetOf_6 4 rfl rfl)
theorem dX0_meetOf_147 : decode cX0_meetOf 147 = .ok (.getfield 150, 3) := dk_180 0 150 (dk_at dksX0_meetOf_6 6 rfl rfl)
theorem dX0_meetOf_150 : decode cX0_meetOf 150 = .ok (.iconst 1, 1) := dk_4 (dk_at dksX0_meetOf_6 9 rfl rfl)
theorem dX0_meetOf_151 : decode cX0_meetOf 151 = .ok (.aaload, 1) := dk_50 (dk_at dksX0_meetOf_6 10 rfl rfl)
theorem dX0_meetOf_152 : decode cX0_meetOf 152 = .ok (.iload 13, 2) := dk_21 13 (dk_at dksX0_meetOf_6 11 rfl rfl)
theorem dX0_meetOf_154 : decode cX0_meetOf 154 = .ok (.laload, 1) := dk_47 (dk_at dksX0_meetOf_6 13 rfl rfl)
theorem dX0_meetOf_155 : decode cX0_meetOf 155 = .ok (.aload 11, 2) := dk_25 11 (dk_at dksX0_meetOf_6 14 rfl rfl)
theorem dX0_meetOf_157 : decode cX0_meetOf 157 = .ok (.getfield 150, 3) := dk_180 0 150 (dk_at dksX0_meetOf_6 16 rfl rfl)
theorem dX0_meetOf_160 : decode cX0_meetOf 160 = .ok (.iconst 2, 1) := dk_5 (dk_at dksX0_meetOf_6 19 rfl rfl)
theorem dX0_meetOf_161 : decode cX0_meetOf 161 = .ok (.aaload, 1) := dk_50 (dk_at dksX0_meetOf_6 20 rfl rfl)
theorem dX0_meetOf_162 : decode cX0_meetOf 162 = .ok (.iload 13, 2) := dk_21 13 (dk_at dksX0_meetOf_6 21 rfl rfl)
theorem dX0_meetOf_164 : decode cX0_meetOf 164 = .ok (.laload, 1) := dk_47 (dk_at dksX0_meetOf_6 23 rfl rfl)
theorem dX0_meetOf_165 : decode cX0_meetOf 165 = .ok (.invokevirtual 252, 3) := dk_182 0 252 (dk_at dksX0_meetOf_7 0 rfl rfl)
theorem dX0_meetOf_168 : decode cX0_meetOf 168 = .ok (.iinc 13 1, 3) := dk_132 13 1 (dk_at dksX0_meetOf_7 3 rfl rfl)
theorem dX0_meetOf_171 : decode cX0_meetOf 171 = .ok (.goto (-44), 3) := dk_167 255 212 (dk_at dksX0_meetOf_7 6 rfl rfl)
theorem dX0_meetOf_174 : decode cX0_meetOf 174 = .ok (.new 40, 3) := dk_187 0 40 (dk_at dksX0_meetOf_7 9 rfl rfl)
theorem dX0_meetOf_177 : decode cX0_meetOf 177 = .ok (.dup, 1) := dk_89 (dk_at dksX0_meetOf_7 12 rfl rfl)
theorem dX0_meetOf_178 : decode cX0_meetOf 178 = .ok (.aload 5, 2) := dk_25 5 (dk_at dksX0_meetOf_7 13 rfl rfl)
theorem dX0_meetOf_180 : decode cX0_meetOf 180 = .ok (.iconst 2, 1) := dk_5 (dk_at dksX0_meetOf_7 15 rfl rfl)
theorem dX0_meetOf_181 : decode cX0_meetOf 181 = .ok (.invokevirtual 199, 3) := dk_182 0 199 (dk_at dksX0_meetOf_7 16 rfl rfl)
theorem dX0_meetOf_184 : decode cX0_meetOf 184 = .ok (.aload 6, 2) := dk_25 6 (dk_at dksX0_meetOf_7 19 rfl rfl)
theorem dX0_meetOf_186 : decode cX0_meetOf 186 = .ok (.iconst 2, 1) := dk_5 (dk_at dksX0_meetOf_7 21 rfl rfl)
theorem dX0_meetOf_187 : decode cX0_meetOf 187 = .ok (.invokevirtual 199, 3) := dk_182 0 199 (dk_at dksX0_meetOf_8 0 rfl rfl)
theorem dX0_meetOf_190 : decode cX0_meetOf 190 = .ok (.invokestatic 224, 3) := dk_184 0 224 (dk_at dksX0_meetOf_8 3 rfl rfl)
theorem dX0_meetOf_193 : decode cX0_meetOf 193 = .ok (.invokespecial 42, 3) := dk_183 0 42 (dk_at dksX0_meetOf_8 6 rfl rfl)
theorem dX0_meetOf_196 : decode cX0_meetOf 196 = .ok (.astore 13, 2) := dk_58 13 (dk_at dksX0_meetOf_8 9 rfl rfl)
theorem dX0_meetOf_198 : decode cX0_meetOf 198 = .ok (.aload 13, 2) := dk_25 13 (dk_at dksX0_meetOf_8 11 rfl rfl)
theorem dX0_meetOf_200 : decode cX0_meetOf 200 = .ok (.aload 12, 2) := dk_25 12 (dk_at dksX0_meetOf_8 13 rfl rfl)
theorem dX0_meetOf_202 : decode cX0_meetOf 202 = .ok (.getfield 243, 3) := dk_180 0 243 (dk_at dksX0_meetOf_8 15 rfl rfl)
theorem dX0_meetOf_205 : decode cX0_meetOf 205 = .ok (.aload 5, 2) := dk_25 5 (dk_at dksX0_meetOf_8 18 rfl rfl)
theorem dX0_meetOf_207 : decode cX0_meetOf 207 = .ok (.invokevirtual 249, 3) := dk_182 0 249 (dk_at dksX0_meetOf_8 20 rfl rfl)
theorem dX0_meetOf_210 : decode cX0_meetOf 210 = .ok (.invokevirtual 238, 3) := dk_182 0 238 (dk_at dksX0_meetOf_9 0 rfl rfl)
theorem dX0_meetOf_213 : decode cX0_meetOf 213 = .ok (.new 241, 3) := dk_187 0 241 (dk_at dksX0_meetOf_9 3 rfl rfl)
theorem dX0_meetOf_216 : decode cX0_meetOf 216 = .ok (.dup, 1) := dk_89 (dk_at dksX0_meetOf_9 6 rfl rfl)
theorem dX0_meetOf_217 : decode cX0_meetOf 217 = .ok (.aload 13, 2) := dk_25 13 (dk_at dksX0_meetOf_9 7 rfl rfl)
theorem dX0_meetOf_219 : decode cX0_meetOf 219 = .ok (.getfield 243, 3) := dk_180 0 243 (dk_at dksX0_meetOf_9 9 rfl rfl)
theorem dX0_meetOf_222 : decode cX0_meetOf 222 = .ok (.lload_n 3, 1) := dk_33 (dk_at dksX0_meetOf_9 12 rfl rfl)
theorem dX0_meetOf_223 : decode cX0_meetOf 223 = .ok (.invokespecial 246, 3) := dk_183 0 246 (dk_at dksX0_meetOf_9 13 rfl rfl)
theorem dX0_meetOf_226 : decode cX0_meetOf 226 = .ok (.areturn, 1) := dk_176 (dk_at dksX0_meetOf_9 16 rfl rfl)
abbrev cX0_overBoth : ByteArray := prog_1_method_29_code
def yX0_overBoth : MethodName := ⟨RX0, "overBoth", "(II)J"⟩
def dkwX0_overBoth_0 : List UInt8 := [42, 27, 182, 0, 142, 182, 0, 154, 42, 28, 182, 0, 142, 182, 0, 154, 184, 0, 224, 173]
abbrev dktX0_overBoth_0 : List UInt8 := dkwX0_overBoth_0 ++ []
theorem dksX0_overBoth_0 : cX0_overBoth.data.toList.drop 0 = dktX0_overBoth_0 := by decide +kernel
theorem dX0_overBoth_0 : decode cX0_overBoth 0 = .ok (.aload_n 0, 1) := dk_42 (dk_at dksX0_overBoth_0 0 rfl rfl)
theorem dX0_overBoth_1 : decode cX0_overBoth 1 = .ok (.iload_n 1, 1) := dk_27 (dk_at dksX0_overBoth_0 1 rfl rfl)
theorem dX0_overBoth_2 : decode cX0_overBoth 2 = .ok (.invokevirtual 142, 3) := dk_182 0 142 (dk_at dksX0_overBoth_0 2 rfl rfl)
theorem dX0_overBoth_5 : decode cX0_overBoth 5 = .ok (.invokevirtual 154, 3) := dk_182 0 154 (dk_at dksX0_overBoth_0 5 rfl rfl)
theorem dX0_overBoth_8 : decode cX0_overBoth 8 = .ok (.aload_n 0, 1) := dk_42 (dk_at dksX0_overBoth_0 8 rfl rfl)
theorem dX0_overBoth_9 : decode cX0_overBoth 9 = .ok (.iload_n 2, 1) := dk_28 (dk_at dksX0_overBoth_0 9 rfl rfl)
theorem dX0_overBoth_10 : decode cX0_overBoth 10 = .ok (.invokevirtual 142, 3) := dk_182 0 142 (dk_at dksX0_overBoth_0 10 rfl rfl)
theorem dX0_overBoth_13 : decode cX0_overBoth 13 = .ok (.invokevirtual 154, 3) := dk_182 0 154 (dk_at dksX0_overBoth_0 13 rfl rfl)
theorem dX0_overBoth_16 : decode cX0_overBoth 16 = .ok (.invokestatic 224, 3) := dk_184 0 224 (dk_at dksX0_overBoth_0 16 rfl rfl)
theorem dX0_overBoth_19 : decode cX0_overBoth 19 = .ok (.lreturn, 1) := dk_173 (dk_at dksX0_overBoth_0 19 rfl rfl)
abbrev cX0_multiple : ByteArray := prog_1_method_3_code
def yX0_multiple : MethodName := ⟨RX0, "multiple", "(JJ)J"⟩
def dkwX0_multiple_0 : List UInt8 := [30, 30, 32, 184, 0, 7, 109, 32, 105, 173]
abbrev dktX0_multiple_0 : List UInt8 := dkwX0_multiple_0 ++ []
theorem dksX0_multiple_0 : cX0_multiple.data.toList.drop 0 = dktX0_multiple_0 := by decide +kernel
theorem dX0_multiple_0 : decode cX0_multiple 0 = .ok (.lload_n 0, 1) := dk_30 (dk_at dksX0_multiple_0 0 rfl rfl)
theorem dX0_multiple_1 : decode cX0_multiple 1 = .ok (.lload_n 0, 1) := dk_30 (dk_at dksX0_multiple_0 1 rfl rfl)
theorem dX0_multiple_2 : decode cX0_multiple 2 = .ok (.lload_n 2, 1) := dk_32 (dk_at dksX0_multiple_0 2 rfl rfl)
theorem dX0_multiple_3 : decode cX0_multiple 3 = .ok (.invokestatic 7, 3) := dk_184 0 7 (dk_at dksX0_multiple_0 3 rfl rfl)
theorem dX0_multiple_6 : decode cX0_multiple 6 = .ok (.ldiv, 1) := dk_109 (dk_at dksX0_multiple_0 6 rfl rfl)
theorem dX0_multiple_7 : decode cX0_multiple 7 = .ok (.lload_n 2, 1) := dk_32 (dk_at dksX0_multiple_0 7 rfl rfl)
theorem dX0_multiple_8 : decode cX0_multiple 8 = .ok (.lmul, 1) := dk_105 (dk_at dksX0_multiple_0 8 rfl rfl)
theorem dX0_multiple_9 : decode cX0_multiple 9 = .ok (.lreturn, 1) := dk_173 (dk_at dksX0_multiple_0 9 rfl rfl)
abbrev cX0_rowsBy : ByteArray := prog_1_method_30_code
def yX0_rowsBy : MethodName := ⟨RX0, "rowsBy", "(IJ)LCoincideBench$Rows;"⟩
def dkwX0_rowsBy_0 : List UInt8 := [42, 27, 182, 0, 142, 182, 0, 146, 32, 42, 27, 182, 0, 142, 182, 0, 154, 109, 182, 0, 227, 176]
abbrev dktX0_rowsBy_0 : List UInt8 := dkwX0_rowsBy_0 ++ []
theorem dksX0_rowsBy_0 : cX0_rowsBy.data.toList.drop 0 = dktX0_rowsBy_0 := by decide +kernel
theorem dX0_rowsBy_0 : decode cX0_rowsBy 0 = .ok (.aload_n 0, 1) := dk_42 (dk_at dksX0_rowsBy_0 0 rfl rfl)
theorem dX0_rowsBy_1 : decode cX0_rowsBy 1 = .ok (.iload_n 1, 1) := dk_27 (dk_at dksX0_rowsBy_0 1 rfl rfl)
theorem dX0_rowsBy_2 : decode cX0_rowsBy 2 = .ok (.invokevirtual 142, 3) := dk_182 0 142 (dk_at dksX0_rowsBy_0 2 rfl rfl)
theorem dX0_rowsBy_5 : decode cX0_rowsBy 5 = .ok (.invokevirtual 146, 3) := dk_182 0 146 (dk_at dksX0_rowsBy_0 5 rfl rfl)
theorem dX0_rowsBy_8 : decode cX0_rowsBy 8 = .ok (.lload_n 2, 1) := dk_32 (dk_at dksX0_rowsBy_0 8 rfl rfl)
theorem dX0_rowsBy_9 : decode cX0_rowsBy 9 = .ok (.aload_n 0, 1) := dk_42 (dk_at dksX0_rowsBy_0 9 rfl rfl)
theorem dX0_rowsBy_10 : decode cX0_rowsBy 10 = .ok (.iload_n 1, 1) := dk_27 (dk_at dksX0_rowsBy_0 10 rfl rfl)
theorem dX0_rowsBy_11 : decode cX0_rowsBy 11 = .ok (.invokevirtual 142, 3) := dk_182 0 142 (dk_at dksX0_rowsBy_0 11 rfl rfl)
theorem dX0_rowsBy_14 : decode cX0_rowsBy 14 = .ok (.invokevirtual 154, 3) := dk_182 0 154 (dk_at dksX0_rowsBy_0 14 rfl rfl)
theorem dX0_rowsBy_17 : decode cX0_rowsBy 17 = .ok (.ldiv, 1) := dk_109 (dk_at dksX0_rowsBy_0 17 rfl rfl)
theorem dX0_rowsBy_18 : decode cX0_rowsBy 18 = .ok (.invokevirtual 227, 3) := dk_182 0 227 (dk_at dksX0_rowsBy_0 18 rfl rfl)
theorem dX0_rowsBy_21 : decode cX0_rowsBy 21 = .ok (.areturn, 1) := dk_176 (dk_at dksX0_rowsBy_0 21 rfl rfl)
abbrev cX0_meet : ByteArray := prog_1_method_34_code
def yX0_meet : MethodName := ⟨RX0, "meet", "(IIII)J"⟩
def dkwX0_meet_2 : List UInt8 := [182, 1, 3, 180, 1, 9, 180, 0, 150, 29, 50, 21, 4, 47, 173]
abbrev dktX0_meet_2 : List UInt8 := dkwX0_meet_2 ++ []
def dkwX0_meet_1 : List UInt8 := [184, 0, 135, 154, 0, 7, 20, 0, 166, 173, 21, 5, 156, 0, 9, 21, 5, 133, 167, 0, 20, 42, 27, 28]
abbrev dktX0_meet_1 : List UInt8 := dkwX0_meet_1 ++ dktX0_meet_2
def dkwX0_meet_0 : List UInt8 := [42, 27, 28, 182, 0, 220, 54, 5, 21, 5, 16, 254, 159, 0, 18, 29, 184, 0, 135, 153, 0, 11, 21, 4]
abbrev dktX0_meet_0 : List UInt8 := dkwX0_meet_0 ++ dktX0_meet_1
theorem dksX0_meet_0 : cX0_meet.data.toList.drop 0 = dktX0_meet_0 := by decide +kernel
theorem dksX0_meet_1 : cX0_meet.data.toList.drop 24 = dktX0_meet_1 := dk_seg dksX0_meet_0 24 rfl rfl
theorem dksX0_meet_2 : cX0_meet.data.toList.drop 48 = dktX0_meet_2 := dk_seg dksX0_meet_1 24 rfl rfl
theorem dX0_meet_0 : decode cX0_meet 0 = .ok (.aload_n 0, 1) := dk_42 (dk_at dksX0_meet_0 0 rfl rfl)
theorem dX0_meet_1 : decode cX0_meet 1 = .ok (.iload_n 1, 1) := dk_27 (dk_at dksX0_meet_0 1 rfl rfl)
theorem dX0_meet_2 : decode cX0_meet 2 = .ok (.iload_n 2, 1) := dk_28 (dk_at dksX0_meet_0 2 rfl rfl)
theorem dX0_meet_3 : decode cX0_meet 3 = .ok (.invokevirtual 220, 3) := dk_182 0 220 (dk_at dksX0_meet_0 3 rfl rfl)
theorem dX0_meet_6 : decode cX0_meet 6 = .ok (.istore 5, 2) := dk_54 5 (dk_at dksX0_meet_0 6 rfl rfl)
theorem dX0_meet_8 : decode cX0_meet 8 = .ok (.iload 5, 2) := dk_21 5 (dk_at dksX0_meet_0 8 rfl rfl)
theorem dX0_meet_10 : decode cX0_meet 10 = .ok (.bipush (-2), 2) := dk_16 254 (dk_at dksX0_meet_0 10 rfl rfl)
theorem dX0_meet_12 : decode cX0_meet 12 = .ok (.if_icmp .eq 18, 3) := dk_159 0 18 (dk_at dksX0_meet_0 12 rfl rfl)
theorem dX0_meet_15 : decode cX0_meet 15 = .ok (.iload_n 3, 1) := dk_29 (dk_at dksX0_meet_0 15 rfl rfl)
theorem dX0_meet_16 : decode cX0_meet 16 = .ok (.invokestatic 135, 3) := dk_184 0 135 (dk_at dksX0_meet_0 16 rfl rfl)
theorem dX0_meet_19 : decode cX0_meet 19 = .ok (.ifCond .eq 11, 3) := dk_153 0 11 (dk_at dksX0_meet_0 19 rfl rfl)
theorem dX0_meet_22 : decode cX0_meet 22 = .ok (.iload 4, 2) := dk_21 4 (dk_at dksX0_meet_0 22 rfl rfl)
theorem dX0_meet_24 : decode cX0_meet 24 = .ok (.invokestatic 135, 3) := dk_184 0 135 (dk_at dksX0_meet_1 0 rfl rfl)
theorem dX0_meet_27 : decode cX0_meet 27 = .ok (.ifCond .ne 7, 3) := dk_154 0 7 (dk_at dksX0_meet_1 3 rfl rfl)
theorem dX0_meet_30 : decode cX0_meet 30 = .ok (.ldc2_w 166, 3) := dk_20 0 166 (dk_at dksX0_meet_1 6 rfl rfl)
theorem dX0_meet_33 : decode cX0_meet 33 = .ok (.lreturn, 1) := dk_173 (dk_at dksX0_meet_1 9 rfl rfl)
theorem dX0_meet_34 : decode cX0_meet 34 = .ok (.iload 5, 2) := dk_21 5 (dk_at dksX0_meet_1 10 rfl rfl)
theorem dX0_meet_36 : decode cX0_meet 36 = .ok (.ifCond .ge 9, 3) := dk_156 0 9 (dk_at dksX0_meet_1 12 rfl rfl)
theorem dX0_meet_39 : decode cX0_meet 39 = .ok (.iload 5, 2) := dk_21 5 (dk_at dksX0_meet_1 15 rfl rfl)
theorem dX0_meet_41 : decode cX0_meet 41 = .ok (.i2l, 1) := dk_133 (dk_at dksX0_meet_1 17 rfl rfl)
theorem dX0_meet_42 : decode cX0_meet 42 = .ok (.goto 20, 3) := dk_167 0 20 (dk_at dksX0_meet_1 18 rfl rfl)
theorem dX0_meet_45 : decode cX0_meet 45 = .ok (.aload_n 0, 1) := dk_42 (dk_at dksX0_meet_1 21 rfl rfl)
theorem dX0_meet_46 : decode cX0_meet 46 = .ok (.iload_n 1, 1) := dk_27 (dk_at dksX0_meet_1 22 rfl rfl)
theorem dX0_meet_47 : decode cX0_meet 47 = .ok (.iload_n 2, 1) := dk_28 (dk_at dksX0_meet_1 23 rfl rfl)
theorem dX0_meet_48 : decode cX0_meet 48 = .ok (.invokevirtual 259, 3) := dk_182 1 3 (dk_at dksX0_meet_2 0 rfl rfl)
theorem dX0_meet_51 : decode cX0_meet 51 = .ok (.getfield 265, 3) := dk_180 1 9 (dk_at dksX0_meet_2 3 rfl rfl)
theorem dX0_meet_54 : decode cX0_meet 54 = .ok (.getfield 150, 3) := dk_180 0 150 (dk_at dksX0_meet_2 6 rfl rfl)
theorem dX0_meet_57 : decode cX0_meet 57 = .ok (.iload_n 3, 1) := dk_29 (dk_at dksX0_meet_2 9 rfl rfl)
theorem dX0_meet_58 : decode cX0_meet 58 = .ok (.aaload, 1) := dk_50 (dk_at dksX0_meet_2 10 rfl rfl)
theorem dX0_meet_59 : decode cX0_meet 59 = .ok (.iload 4, 2) := dk_21 4 (dk_at dksX0_meet_2 11 rfl rfl)
theorem dX0_meet_61 : decode cX0_meet 61 = .ok (.laload, 1) := dk_47 (dk_at dksX0_meet_2 13 rfl rfl)
theorem dX0_meet_62 : decode cX0_meet 62 = .ok (.lreturn, 1) := dk_173 (dk_at dksX0_meet_2 14 rfl rfl)
abbrev cX0_joinOver : ByteArray := prog_1_method_35_code
def yX0_joinOver : MethodName := ⟨RX0, "joinOver", "(II)I"⟩
def dkwX0_joinOver_1 : List UInt8 := [136, 172]
abbrev dktX0_joinOver_1 : List UInt8 := dkwX0_joinOver_1 ++ []
def dkwX0_joinOver_0 : List UInt8 := [42, 27, 28, 182, 0, 220, 62, 29, 156, 0, 7, 29, 167, 0, 13, 42, 27, 28, 182, 1, 10, 180, 1, 7]
abbrev dktX0_joinOver_0 : List UInt8 := dkwX0_joinOver_0 ++ dktX0_joinOver_1
theorem dksX0_joinOver_0 : cX0_joinOver.data.toList.drop 0 = dktX0_joinOver_0 := by decide +kernel
theorem dksX0_joinOver_1 : cX0_joinOver.data.toList.drop 24 = dktX0_joinOver_1 := dk_seg dksX0_joinOver_0 24 rfl rfl
theorem dX0_joinOver_0 : decode cX0_joinOver 0 = .ok (.aload_n 0, 1) := dk_42 (dk_at dksX0_joinOver_0 0 rfl rfl)
theorem dX0_joinOver_1 : decode cX0_joinOver 1 = .ok (.iload_n 1, 1) := dk_27 (dk_at dksX0_joinOver_0 1 rfl rfl)
theorem dX0_joinOver_2 : decode cX0_joinOver 2 = .ok (.iload_n 2, 1) := dk_28 (dk_at dksX0_joinOver_0 2 rfl rfl)
theorem dX0_joinOver_3 : decode cX0_joinOver 3 = .ok (.invokevirtual 220, 3) := dk_182 0 220 (dk_at dksX0_joinOver_0 3 rfl rfl)
theorem dX0_joinOver_6 : decode cX0_joinOver 6 = .ok (.istore_n 3, 1) := dk_62 (dk_at dksX0_joinOver_0 6 rfl rfl)
theorem dX0_joinOver_7 : decode cX0_joinOver 7 = .ok (.iload_n 3, 1) := dk_29 (dk_at dksX0_joinOver_0 7 rfl rfl)
theorem dX0_joinOver_8 : decode cX0_joinOver 8 = .ok (.ifCond .ge 7, 3) := dk_156 0 7 (dk_at dksX0_joinOver_0 8 rfl rfl)
theorem dX0_joinOver_11 : decode cX0_joinOver 11 = .ok (.iload_n 3, 1) := dk_29 (dk_at dksX0_joinOver_0 11 rfl rfl)
theorem dX0_joinOver_12 : decode cX0_joinOver 12 = .ok (.goto 13, 3) := dk_167 0 13 (dk_at dksX0_joinOver_0 12 rfl rfl)
theorem dX0_joinOver_15 : decode cX0_joinOver 15 = .ok (.aload_n 0, 1) := dk_42 (dk_at dksX0_joinOver_0 15 rfl rfl)
theorem dX0_joinOver_16 : decode cX0_joinOver 16 = .ok (.iload_n 1, 1) := dk_27 (dk_at dksX0_joinOver_0 16 rfl rfl)
theorem dX0_joinOver_17 : decode cX0_joinOver 17 = .ok (.iload_n 2, 1) := dk_28 (dk_at dksX0_joinOver_0 17 rfl rfl)
theorem dX0_joinOver_18 : decode cX0_joinOver 18 = .ok (.invokevirtual 266, 3) := dk_182 1 10 (dk_at dksX0_joinOver_0 18 rfl rfl)
theorem dX0_joinOver_21 : decode cX0_joinOver 21 = .ok (.getfield 263, 3) := dk_180 1 7 (dk_at dksX0_joinOver_0 21 rfl rfl)
theorem dX0_joinOver_24 : decode cX0_joinOver 24 = .ok (.l2i, 1) := dk_136 (dk_at dksX0_joinOver_1 0 rfl rfl)
theorem dX0_joinOver_25 : decode cX0_joinOver 25 = .ok (.ireturn, 1) := dk_172 (dk_at dksX0_joinOver_1 1 rfl rfl)
abbrev cX0_joinOf : ByteArray := prog_1_method_31_code
def yX0_joinOf : MethodName := ⟨RX0, "joinOf", "(II)LCoincideBench$Both;"⟩
def dkwX0_joinOf_2 : List UInt8 := [182, 0, 238, 187, 0, 241, 89, 25, 6, 180, 0, 243, 33, 183, 0, 246, 176]
abbrev dktX0_joinOf_2 : List UInt8 := dkwX0_joinOf_2 ++ []
def dkwX0_joinOf_1 : List UInt8 := [182, 0, 199, 183, 0, 42, 58, 6, 25, 6, 25, 5, 182, 0, 238, 25, 6, 42, 28, 33, 182, 0, 234]
abbrev dktX0_joinOf_1 : List UInt8 := dkwX0_joinOf_1 ++ dktX0_joinOf_2
def dkwX0_joinOf_0 : List UInt8 := [42, 27, 28, 182, 0, 230, 66, 42, 27, 33, 182, 0, 234, 58, 5, 187, 0, 40, 89, 25, 5, 5]
abbrev dktX0_joinOf_0 : List UInt8 := dkwX0_joinOf_0 ++ dktX0_joinOf_1
theorem dksX0_joinOf_0 : cX0_joinOf.data.toList.drop 0 = dktX0_joinOf_0 := by decide +kernel
theorem dksX0_joinOf_1 : cX0_joinOf.data.toList.drop 22 = dktX0_joinOf_1 := dk_seg dksX0_joinOf_0 22 rfl rfl
theorem dksX0_joinOf_2 : cX0_joinOf.data.toList.drop 45 = dktX0_joinOf_2 := dk_seg dksX0_joinOf_1 23 rfl rfl
theorem dX0_joinOf_0 : decode cX0_joinOf 0 = .ok (.aload_n 0, 1) := dk_42 (dk_at dksX0_joinOf_0 0 rfl rfl)
theorem dX0_joinOf_1 : decode cX0_joinOf 1 = .ok (.iload_n 1, 1) := dk_27 (dk_at dksX0_joinOf_0 1 rfl rfl)
theorem dX0_joinOf_2 : decode cX0_joinOf 2 = .ok (.iload_n 2, 1) := dk_28 (dk_at dksX0_joinOf_0 2 rfl rfl)
theorem dX0_joinOf_3 : decode cX0_joinOf 3 = .ok (.invokevirtual 230, 3) := dk_182 0 230 (dk_at dksX0_joinOf_0 3 rfl rfl)
theorem dX0_joinOf_6 : decode cX0_joinOf 6 = .ok (.lstore_n 3, 1) := dk_66 (dk_at dksX0_joinOf_0 6 rfl rfl)
theorem dX0_joinOf_7 : decode cX0_joinOf 7 = .ok (.aload_n 0, 1) := dk_42 (dk_at dksX0_joinOf_0 7 rfl rfl)
theorem dX0_joinOf_8 : decode cX0_joinOf 8 = .ok (.iload_n 1, 1) := dk_27 (dk_at dksX0_joinOf_0 8 rfl rfl)
theorem dX0_joinOf_9 : decode cX0_joinOf 9 = .ok (.lload_n 3, 1) := dk_33 (dk_at dksX0_joinOf_0 9 rfl rfl)
theorem dX0_joinOf_10 : decode cX0_joinOf 10 = .ok (.invokevirtual 234, 3) := dk_182 0 234 (dk_at dksX0_joinOf_0 10 rfl rfl)
theorem dX0_joinOf_13 : decode cX0_joinOf 13 = .ok (.astore 5, 2) := dk_58 5 (dk_at dksX0_joinOf_0 13 rfl rfl)
theorem dX0_joinOf_15 : decode cX0_joinOf 15 = .ok (.new 40, 3) := dk_187 0 40 (dk_at dksX0_joinOf_0 15 rfl rfl)
theorem dX0_joinOf_18 : decode cX0_joinOf 18 = .ok (.dup, 1) := dk_89 (dk_at dksX0_joinOf_0 18 rfl rfl)
theorem dX0_joinOf_19 : decode cX0_joinOf 19 = .ok (.aload 5, 2) := dk_25 5 (dk_at dksX0_joinOf_0 19 rfl rfl)
theorem dX0_joinOf_21 : decode cX0_joinOf 21 = .ok (.iconst 2, 1) := dk_5 (dk_at dksX0_joinOf_0 21 rfl rfl)
theorem dX0_joinOf_22 : decode cX0_joinOf 22 = .ok (.invokevirtual 199, 3) := dk_182 0 199 (dk_at dksX0_joinOf_1 0 rfl rfl)
theorem dX0_joinOf_25 : decode cX0_joinOf 25 = .ok (.invokespecial 42, 3) := dk_183 0 42 (dk_at dksX0_joinOf_1 3 rfl rfl)
theorem dX0_joinOf_28 : decode cX0_joinOf 28 = .ok (.astore 6, 2) := dk_58 6 (dk_at dksX0_joinOf_1 6 rfl rfl)
theorem dX0_joinOf_30 : decode cX0_joinOf 30 = .ok (.aload 6, 2) := dk_25 6 (dk_at dksX0_joinOf_1 8 rfl rfl)
theorem dX0_joinOf_32 : decode cX0_joinOf 32 = .ok (.aload 5, 2) := dk_25 5 (dk_at dksX0_joinOf_1 10 rfl rfl)
theorem dX0_joinOf_34 : decode cX0_joinOf 34 = .ok (.invokevirtual 238, 3) := dk_182 0 238 (dk_at dksX0_joinOf_1 12 rfl rfl)
theorem dX0_joinOf_37 : decode cX0_joinOf 37 = .ok (.aload 6, 2) := dk_25 6 (dk_at dksX0_joinOf_1 15 rfl rfl)
theorem dX0_joinOf_39 : decode cX0_joinOf 39 = .ok (.aload_n 0, 1) := dk_42 (dk_at dksX0_joinOf_1 17 rfl rfl)
theorem dX0_joinOf_40 : decode cX0_joinOf 40 = .ok (.iload_n 2, 1) := dk_28 (dk_at dksX0_joinOf_1 18 rfl rfl)
theorem dX0_joinOf_41 : decode cX0_joinOf 41 = .ok (.lload_n 3, 1) := dk_33 (dk_at dksX0_joinOf_1 19 rfl rfl)
theorem dX0_joinOf_42 : decode cX0_joinOf 42 = .ok (.invokevirtual 234, 3) := dk_182 0 234 (dk_at dksX0_joinOf_1 20 rfl rfl)
theorem dX0_joinOf_45 : decode cX0_joinOf 45 = .ok (.invokevirtual 238, 3) := dk_182 0 238 (dk_at dksX0_joinOf_2 0 rfl rfl)
theorem dX0_joinOf_48 : decode cX0_joinOf 48 = .ok (.new 241, 3) := dk_187 0 241 (dk_at dksX0_joinOf_2 3 rfl rfl)
theorem dX0_joinOf_51 : decode cX0_joinOf 51 = .ok (.dup, 1) := dk_89 (dk_at dksX0_joinOf_2 6 rfl rfl)
theorem dX0_joinOf_52 : decode cX0_joinOf 52 = .ok (.aload 6, 2) := dk_25 6 (dk_at dksX0_joinOf_2 7 rfl rfl)
theorem dX0_joinOf_54 : decode cX0_joinOf 54 = .ok (.getfield 243, 3) := dk_180 0 243 (dk_at dksX0_joinOf_2 9 rfl rfl)
theorem dX0_joinOf_57 : decode cX0_joinOf 57 = .ok (.lload_n 3, 1) := dk_33 (dk_at dksX0_joinOf_2 12 rfl rfl)
theorem dX0_joinOf_58 : decode cX0_joinOf 58 = .ok (.invokespecial 246, 3) := dk_183 0 246 (dk_at dksX0_joinOf_2 13 rfl rfl)
theorem dX0_joinOf_61 : decode cX0_joinOf 61 = .ok (.areturn, 1) := dk_176 (dk_at dksX0_joinOf_2 16 rfl rfl)
abbrev cX0_join : ByteArray := prog_1_method_36_code
def yX0_join : MethodName := ⟨RX0, "join", "(IIII)J"⟩
def dkwX0_join_2 : List UInt8 := [182, 1, 10, 180, 1, 9, 180, 0, 150, 29, 50, 21, 4, 47, 173]
abbrev dktX0_join_2 : List UInt8 := dkwX0_join_2 ++ []
def dkwX0_join_1 : List UInt8 := [184, 0, 135, 154, 0, 7, 20, 0, 166, 173, 21, 5, 156, 0, 9, 21, 5, 133, 167, 0, 20, 42, 27, 28]
abbrev dktX0_join_1 : List UInt8 := dkwX0_join_1 ++ dktX0_join_2
def dkwX0_join_0 : List UInt8 := [42, 27, 28, 182, 0, 220, 54, 5, 21, 5, 16, 254, 159, 0, 18, 29, 184, 0, 135, 153, 0, 11, 21, 4]
abbrev dktX0_join_0 : List UInt8 := dkwX0_join_0 ++ dktX0_join_1
theorem dksX0_join_0 : cX0_join.data.toList.drop 0 = dktX0_join_0 := by decide +kernel
theorem dksX0_join_1 : cX0_join.data.toList.drop 24 = dktX0_join_1 := dk_seg dksX0_join_0 24 rfl rfl
theorem dksX0_join_2 : cX0_join.data.toList.drop 48 = dktX0_join_2 := dk_seg dksX0_join_1 24 rfl rfl
theorem dX0_join_0 : decode cX0_join 0 = .ok (.aload_n 0, 1) := dk_42 (dk_at dksX0_join_0 0 rfl rfl)
theorem dX0_join_1 : decode cX0_join 1 = .ok (.iload_n 1, 1) := dk_27 (dk_at dksX0_join_0 1 rfl rfl)
theorem dX0_join_2 : decode cX0_join 2 = .ok (.iload_n 2, 1) := dk_28 (dk_at dksX0_join_0 2 rfl rfl)
theorem dX0_join_3 : decode cX0_join 3 = .ok (.invokevirtual 220, 3) := dk_182 0 220 (dk_at dksX0_join_0 3 rfl rfl)
theorem dX0_join_6 : decode cX0_join 6 = .ok (.istore 5, 2) := dk_54 5 (dk_at dksX0_join_0 6 rfl rfl)
theorem dX0_join_8 : decode cX0_join 8 = .ok (.iload 5, 2) := dk_21 5 (dk_at dksX0_join_0 8 rfl rfl)
theorem dX0_join_10 : decode cX0_join 10 = .ok (.bipush (-2), 2) := dk_16 254 (dk_at dksX0_join_0 10 rfl rfl)
theorem dX0_join_12 : decode cX0_join 12 = .ok (.if_icmp .eq 18, 3) := dk_159 0 18 (dk_at dksX0_join_0 12 rfl rfl)
theorem dX0_join_15 : decode cX0_join 15 = .ok (.iload_n 3, 1) := dk_29 (dk_at dksX0_join_0 15 rfl rfl)
theorem dX0_join_16 : decode cX0_join 16 = .ok (.invokestatic 135, 3) := dk_184 0 135 (dk_at dksX0_join_0 16 rfl rfl)
theorem dX0_join_19 : decode cX0_join 19 = .ok (.ifCond .eq 11, 3) := dk_153 0 11 (dk_at dksX0_join_0 19 rfl rfl)
theorem dX0_join_22 : decode cX0_join 22 = .ok (.iload 4, 2) := dk_21 4 (dk_at dksX0_join_0 22 rfl rfl)
theorem dX0_join_24 : decode cX0_join 24 = .ok (.invokestatic 135, 3) := dk_184 0 135 (dk_at dksX0_join_1 0 rfl rfl)
theorem dX0_join_27 : decode cX0_join 27 = .ok (.ifCond .ne 7, 3) := dk_154 0 7 (dk_at dksX0_join_1 3 rfl rfl)
theorem dX0_join_30 : decode cX0_join 30 = .ok (.ldc2_w 166, 3) := dk_20 0 166 (dk_at dksX0_join_1 6 rfl rfl)
theorem dX0_join_33 : decode cX0_join 33 = .ok (.lreturn, 1) := dk_173 (dk_at dksX0_join_1 9 rfl rfl)
theorem dX0_join_34 : decode cX0_join 34 = .ok (.iload 5, 2) := dk_21 5 (dk_at dksX0_join_1 10 rfl rfl)
theorem dX0_join_36 : decode cX0_join 36 = .ok (.ifCond .ge 9, 3) := dk_156 0 9 (dk_at dksX0_join_1 12 rfl rfl)
theorem dX0_join_39 : decode cX0_join 39 = .ok (.iload 5, 2) := dk_21 5 (dk_at dksX0_join_1 15 rfl rfl)
theorem dX0_join_41 : decode cX0_join 41 = .ok (.i2l, 1) := dk_133 (dk_at dksX0_join_1 17 rfl rfl)
theorem dX0_join_42 : decode cX0_join 42 = .ok (.goto 20, 3) := dk_167 0 20 (dk_at dksX0_join_1 18 rfl rfl)
theorem dX0_join_45 : decode cX0_join 45 = .ok (.aload_n 0, 1) := dk_42 (dk_at dksX0_join_1 21 rfl rfl)
theorem dX0_join_46 : decode cX0_join 46 = .ok (.iload_n 1, 1) := dk_27 (dk_at dksX0_join_1 22 rfl rfl)
theorem dX0_join_47 : decode cX0_join 47 = .ok (.iload_n 2, 1) := dk_28 (dk_at dksX0_join_1 23 rfl rfl)
theorem dX0_join_48 : decode cX0_join 48 = .ok (.invokevirtual 266, 3) := dk_182 1 10 (dk_at dksX0_join_2 0 rfl rfl)
theorem dX0_join_51 : decode cX0_join 51 = .ok (.getfield 265, 3) := dk_180 1 9 (dk_at dksX0_join_2 3 rfl rfl)
theorem dX0_join_54 : decode cX0_join 54 = .ok (.getfield 150, 3) := dk_180 0 150 (dk_at dksX0_join_2 6 rfl rfl)
theorem dX0_join_57 : decode cX0_join 57 = .ok (.iload_n 3, 1) := dk_29 (dk_at dksX0_join_2 9 rfl rfl)
theorem dX0_join_58 : decode cX0_join 58 = .ok (.aaload, 1) := dk_50 (dk_at dksX0_join_2 10 rfl rfl)
theorem dX0_join_59 : decode cX0_join 59 = .ok (.iload 4, 2) := dk_21 4 (dk_at dksX0_join_2 11 rfl rfl)
theorem dX0_join_61 : decode cX0_join 61 = .ok (.laload, 1) := dk_47 (dk_at dksX0_join_2 13 rfl rfl)
theorem dX0_join_62 : decode cX0_join 62 = .ok (.lreturn, 1) := dk_173 (dk_at dksX0_join_2 14 rfl rfl)
abbrev cX0_index : ByteArray := prog_1_method_38_code
def yX0_index : MethodName := ⟨RX0, "index", "(II)J"⟩
def dkwX0_index_1 : List UInt8 := [182, 0, 192, 184, 0, 1, 173]
abbrev dktX0_index_1 : List UInt8 := dkwX0_index_1 ++ []
def dkwX0_index_0 : List UInt8 := [42, 27, 28, 182, 0, 220, 62, 29, 156, 0, 8, 29, 133, 167, 0, 15, 42, 27, 28, 182, 1, 16]
abbrev dktX0_index_0 : List UInt8 := dkwX0_index_0 ++ dktX0_index_1
theorem dksX0_index_0 : cX0_index.data.toList.drop 0 = dktX0_index_0 := by decide +kernel
theorem dksX0_index_1 : cX0_index.data.toList.drop 22 = dktX0_index_1 := dk_seg dksX0_index_0 22 rfl rfl
theorem dX0_index_0 : decode cX0_index 0 = .ok (.aload_n 0, 1) := dk_42 (dk_at dksX0_index_0 0 rfl rfl)
theorem dX0_index_1 : decode cX0_index 1 = .ok (.iload_n 1, 1) := dk_27 (dk_at dksX0_index_0 1 rfl rfl)
theorem dX0_index_2 : decode cX0_index 2 = .ok (.iload_n 2, 1) := dk_28 (dk_at dksX0_index_0 2 rfl rfl)
theorem dX0_index_3 : decode cX0_index 3 = .ok (.invokevirtual 220, 3) := dk_182 0 220 (dk_at dksX0_index_0 3 rfl rfl)
theorem dX0_index_6 : decode cX0_index 6 = .ok (.istore_n 3, 1) := dk_62 (dk_at dksX0_index_0 6 rfl rfl)
theorem dX0_index_7 : decode cX0_index 7 = .ok (.iload_n 3, 1) := dk_29 (dk_at dksX0_index_0 7 rfl rfl)
theorem dX0_index_8 : decode cX0_index 8 = .ok (.ifCond .ge 8, 3) := dk_156 0 8 (dk_at dksX0_index_0 8 rfl rfl)
theorem dX0_index_11 : decode cX0_index 11 = .ok (.iload_n 3, 1) := dk_29 (dk_at dksX0_index_0 11 rfl rfl)
theorem dX0_index_12 : decode cX0_index 12 = .ok (.i2l, 1) := dk_133 (dk_at dksX0_index_0 12 rfl rfl)
theorem dX0_index_13 : decode cX0_index 13 = .ok (.goto 15, 3) := dk_167 0 15 (dk_at dksX0_index_0 13 rfl rfl)
theorem dX0_index_16 : decode cX0_index 16 = .ok (.aload_n 0, 1) := dk_42 (dk_at dksX0_index_0 16 rfl rfl)
theorem dX0_index_17 : decode cX0_index 17 = .ok (.iload_n 1, 1) := dk_27 (dk_at dksX0_index_0 17 rfl rfl)
theorem dX0_index_18 : decode cX0_index 18 = .ok (.iload_n 2, 1) := dk_28 (dk_at dksX0_index_0 18 rfl rfl)
theorem dX0_index_19 : decode cX0_index 19 = .ok (.invokevirtual 272, 3) := dk_182 1 16 (dk_at dksX0_index_0 19 rfl rfl)
theorem dX0_index_22 : decode cX0_index 22 = .ok (.invokevirtual 192, 3) := dk_182 0 192 (dk_at dksX0_index_1 0 rfl rfl)
theorem dX0_index_25 : decode cX0_index 25 = .ok (.invokestatic 1, 3) := dk_184 0 1 (dk_at dksX0_index_1 3 rfl rfl)
theorem dX0_index_28 : decode cX0_index 28 = .ok (.lreturn, 1) := dk_173 (dk_at dksX0_index_1 6 rfl rfl)
abbrev cX0_toldBy : ByteArray := prog_1_method_37_code
def yX0_toldBy : MethodName := ⟨RX0, "toldBy", "(II)LCoincideBench$Rows;"⟩
def dkwX0_toldBy_2 : List UInt8 := [25, 6, 182, 0, 203, 182, 0, 249, 25, 6, 182, 0, 192, 182, 1, 13, 176]
abbrev dktX0_toldBy_2 : List UInt8 := dkwX0_toldBy_2 ++ []
def dkwX0_toldBy_1 : List UInt8 := [42, 27, 22, 4, 182, 0, 234, 58, 6, 45, 180, 1, 9, 22, 4, 45, 180, 1, 7, 109, 182, 0, 227]
abbrev dktX0_toldBy_1 : List UInt8 := dkwX0_toldBy_1 ++ dktX0_toldBy_2
def dkwX0_toldBy_0 : List UInt8 := [42, 27, 28, 182, 1, 3, 78, 45, 180, 1, 7, 42, 27, 182, 0, 142, 182, 0, 154, 184, 0, 224, 55, 4]
abbrev dktX0_toldBy_0 : List UInt8 := dkwX0_toldBy_0 ++ dktX0_toldBy_1
theorem dksX0_toldBy_0 : cX0_toldBy.data.toList.drop 0 = dktX0_toldBy_0 := by decide +kernel
theorem dksX0_toldBy_1 : cX0_toldBy.data.toList.drop 24 = dktX0_toldBy_1 := dk_seg dksX0_toldBy_0 24 rfl rfl
theorem dksX0_toldBy_2 : cX0_toldBy.data.toList.drop 47 = dktX0_toldBy_2 := dk_seg dksX0_toldBy_1 23 rfl rfl
theorem dX0_toldBy_0 : decode cX0_toldBy 0 = .ok (.aload_n 0, 1) := dk_42 (dk_at dksX0_toldBy_0 0 rfl rfl)
theorem dX0_toldBy_1 : decode cX0_toldBy 1 = .ok (.iload_n 1, 1) := dk_27 (dk_at dksX0_toldBy_0 1 rfl rfl)
theorem dX0_toldBy_2 : decode cX0_toldBy 2 = .ok (.iload_n 2, 1) := dk_28 (dk_at dksX0_toldBy_0 2 rfl rfl)
theorem dX0_toldBy_3 : decode cX0_toldBy 3 = .ok (.invokevirtual 259, 3) := dk_182 1 3 (dk_at dksX0_toldBy_0 3 rfl rfl)
theorem dX0_toldBy_6 : decode cX0_toldBy 6 = .ok (.astore_n 3, 1) := dk_78 (dk_at dksX0_toldBy_0 6 rfl rfl)
theorem dX0_toldBy_7 : decode cX0_toldBy 7 = .ok (.aload_n 3, 1) := dk_45 (dk_at dksX0_toldBy_0 7 rfl rfl)
theorem dX0_toldBy_8 : decode cX0_toldBy 8 = .ok (.getfield 263, 3) := dk_180 1 7 (dk_at dksX0_toldBy_0 8 rfl rfl)
theorem dX0_toldBy_11 : decode cX0_toldBy 11 = .ok (.aload_n 0, 1) := dk_42 (dk_at dksX0_toldBy_0 11 rfl rfl)
theorem dX0_toldBy_12 : decode cX0_toldBy 12 = .ok (.iload_n 1, 1) := dk_27 (dk_at dksX0_toldBy_0 12 rfl rfl)
theorem dX0_toldBy_13 : decode cX0_toldBy 13 = .ok (.invokevirtual 142, 3) := dk_182 0 142 (dk_at dksX0_toldBy_0 13 rfl rfl)
theorem dX0_toldBy_16 : decode cX0_toldBy 16 = .ok (.invokevirtual 154, 3) := dk_182 0 154 (dk_at dksX0_toldBy_0 16 rfl rfl)
theorem dX0_toldBy_19 : decode cX0_toldBy 19 = .ok (.invokestatic 224, 3) := dk_184 0 224 (dk_at dksX0_toldBy_0 19 rfl rfl)
theorem dX0_toldBy_22 : decode cX0_toldBy 22 = .ok (.lstore 4, 2) := dk_55 4 (dk_at dksX0_toldBy_0 22 rfl rfl)
theorem dX0_toldBy_24 : decode cX0_toldBy 24 = .ok (.aload_n 0, 1) := dk_42 (dk_at dksX0_toldBy_1 0 rfl rfl)
theorem dX0_toldBy_25 : decode cX0_toldBy 25 = .ok (.iload_n 1, 1) := dk_27 (dk_at dksX0_toldBy_1 1 rfl rfl)
theorem dX0_toldBy_26 : decode cX0_toldBy 26 = .ok (.lload 4, 2) := dk_22 4 (dk_at dksX0_toldBy_1 2 rfl rfl)
theorem dX0_toldBy_28 : decode cX0_toldBy 28 = .ok (.invokevirtual 234, 3) := dk_182 0 234 (dk_at dksX0_toldBy_1 4 rfl rfl)
theorem dX0_toldBy_31 : decode cX0_toldBy 31 = .ok (.astore 6, 2) := dk_58 6 (dk_at dksX0_toldBy_1 7 rfl rfl)
theorem dX0_toldBy_33 : decode cX0_toldBy 33 = .ok (.aload_n 3, 1) := dk_45 (dk_at dksX0_toldBy_1 9 rfl rfl)
theorem dX0_toldBy_34 : decode cX0_toldBy 34 = .ok (.getfield 265, 3) := dk_180 1 9 (dk_at dksX0_toldBy_1 10 rfl rfl)
theorem dX0_toldBy_37 : decode cX0_toldBy 37 = .ok (.lload 4, 2) := dk_22 4 (dk_at dksX0_toldBy_1 13 rfl rfl)
theorem dX0_toldBy_39 : decode cX0_toldBy 39 = .ok (.aload_n 3, 1) := dk_45 (dk_at dksX0_toldBy_1 15 rfl rfl)
theorem dX0_toldBy_40 : decode cX0_toldBy 40 = .ok (.getfield 263, 3) := dk_180 1 7 (dk_at dksX0_toldBy_1 16 rfl rfl)
theorem dX0_toldBy_43 : decode cX0_toldBy 43 = .ok (.ldiv, 1) := dk_109 (dk_at dksX0_toldBy_1 19 rfl rfl)
theorem dX0_toldBy_44 : decode cX0_toldBy 44 = .ok (.invokevirtual 227, 3) := dk_182 0 227 (dk_at dksX0_toldBy_1 20 rfl rfl)
theorem dX0_toldBy_47 : decode cX0_toldBy 47 = .ok (.aload 6, 2) := dk_25 6 (dk_at dksX0_toldBy_2 0 rfl rfl)
theorem dX0_toldBy_49 : decode cX0_toldBy 49 = .ok (.invokevirtual 203, 3) := dk_182 0 203 (dk_at dksX0_toldBy_2 2 rfl rfl)
theorem dX0_toldBy_52 : decode cX0_toldBy 52 = .ok (.invokevirtual 249, 3) := dk_182 0 249 (dk_at dksX0_toldBy_2 5 rfl rfl)
theorem dX0_toldBy_55 : decode cX0_toldBy 55 = .ok (.aload 6, 2) := dk_25 6 (dk_at dksX0_toldBy_2 8 rfl rfl)
theorem dX0_toldBy_57 : decode cX0_toldBy 57 = .ok (.invokevirtual 192, 3) := dk_182 0 192 (dk_at dksX0_toldBy_2 10 rfl rfl)
theorem dX0_toldBy_60 : decode cX0_toldBy 60 = .ok (.invokevirtual 269, 3) := dk_182 1 13 (dk_at dksX0_toldBy_2 13 rfl rfl)
theorem dX0_toldBy_63 : decode cX0_toldBy 63 = .ok (.areturn, 1) := dk_176 (dk_at dksX0_toldBy_2 16 rfl rfl)
abbrev cX0_group : ByteArray := prog_1_method_39_code
def yX0_group : MethodName := ⟨RX0, "group", "(III)J"⟩
def dkwX0_group_2 : List UInt8 := [182, 0, 199, 173]
abbrev dktX0_group_2 : List UInt8 := dkwX0_group_2 ++ []
def dkwX0_group_1 : List UInt8 := [20, 0, 190, 173, 21, 4, 156, 0, 9, 21, 4, 133, 167, 0, 13, 42, 27, 28, 182, 1, 16, 29]
abbrev dktX0_group_1 : List UInt8 := dkwX0_group_1 ++ dktX0_group_2
def dkwX0_group_0 : List UInt8 := [42, 27, 28, 182, 0, 220, 54, 4, 21, 4, 16, 254, 159, 0, 10, 29, 184, 0, 135, 154, 0, 7]
abbrev dktX0_group_0 : List UInt8 := dkwX0_group_0 ++ dktX0_group_1
theorem dksX0_group_0 : cX0_group.data.toList.drop 0 = dktX0_group_0 := by decide +kernel
theorem dksX0_group_1 : cX0_group.data.toList.drop 22 = dktX0_group_1 := dk_seg dksX0_group_0 22 rfl rfl
theorem dksX0_group_2 : cX0_group.data.toList.drop 44 = dktX0_group_2 := dk_seg dksX0_group_1 22 rfl rfl
theorem dX0_group_0 : decode cX0_group 0 = .ok (.aload_n 0, 1) := dk_42 (dk_at dksX0_group_0 0 rfl rfl)
theorem dX0_group_1 : decode cX0_group 1 = .ok (.iload_n 1, 1) := dk_27 (dk_at dksX0_group_0 1 rfl rfl)
theorem dX0_group_2 : decode cX0_group 2 = .ok (.iload_n 2, 1) := dk_28 (dk_at dksX0_group_0 2 rfl rfl)
theorem dX0_group_3 : decode cX0_group 3 = .ok (.invokevirtual 220, 3) := dk_182 0 220 (dk_at dksX0_group_0 3 rfl rfl)
theorem dX0_group_6 : decode cX0_group 6 = .ok (.istore 4, 2) := dk_54 4 (dk_at dksX0_group_0 6 rfl rfl)
theorem dX0_group_8 : decode cX0_group 8 = .ok (.iload 4, 2) := dk_21 4 (dk_at dksX0_group_0 8 rfl rfl)
theorem dX0_group_10 : decode cX0_group 10 = .ok (.bipush (-2), 2) := dk_16 254 (dk_at dksX0_group_0 10 rfl rfl)
theorem dX0_group_12 : decode cX0_group 12 = .ok (.if_icmp .eq 10, 3) := dk_159 0 10 (dk_at dksX0_group_0 12 rfl rfl)
theorem dX0_group_15 : decode cX0_group 15 = .ok (.iload_n 3, 1) := dk_29 (dk_at dksX0_group_0 15 rfl rfl)
theorem dX0_group_16 : decode cX0_group 16 = .ok (.invokestatic 135, 3) := dk_184 0 135 (dk_at dksX0_group_0 16 rfl rfl)
theorem dX0_group_19 : decode cX0_group 19 = .ok (.ifCond .ne 7, 3) := dk_154 0 7 (dk_at dksX0_group_0 19 rfl rfl)
theorem dX0_group_22 : decode cX0_group 22 = .ok (.ldc2_w 190, 3) := dk_20 0 190 (dk_at dksX0_group_1 0 rfl rfl)
theorem dX0_group_25 : decode cX0_group 25 = .ok (.lreturn, 1) := dk_173 (dk_at dksX0_group_1 3 rfl rfl)
theorem dX0_group_26 : decode cX0_group 26 = .ok (.iload 4, 2) := dk_21 4 (dk_at dksX0_group_1 4 rfl rfl)
theorem dX0_group_28 : decode cX0_group 28 = .ok (.ifCond .ge 9, 3) := dk_156 0 9 (dk_at dksX0_group_1 6 rfl rfl)
theorem dX0_group_31 : decode cX0_group 31 = .ok (.iload 4, 2) := dk_21 4 (dk_at dksX0_group_1 9 rfl rfl)
theorem dX0_group_33 : decode cX0_group 33 = .ok (.i2l, 1) := dk_133 (dk_at dksX0_group_1 11 rfl rfl)
theorem dX0_group_34 : decode cX0_group 34 = .ok (.goto 13, 3) := dk_167 0 13 (dk_at dksX0_group_1 12 rfl rfl)
theorem dX0_group_37 : decode cX0_group 37 = .ok (.aload_n 0, 1) := dk_42 (dk_at dksX0_group_1 15 rfl rfl)
theorem dX0_group_38 : decode cX0_group 38 = .ok (.iload_n 1, 1) := dk_27 (dk_at dksX0_group_1 16 rfl rfl)
theorem dX0_group_39 : decode cX0_group 39 = .ok (.iload_n 2, 1) := dk_28 (dk_at dksX0_group_1 17 rfl rfl)
theorem dX0_group_40 : decode cX0_group 40 = .ok (.invokevirtual 272, 3) := dk_182 1 16 (dk_at dksX0_group_1 18 rfl rfl)
theorem dX0_group_43 : decode cX0_group 43 = .ok (.iload_n 3, 1) := dk_29 (dk_at dksX0_group_1 21 rfl rfl)
theorem dX0_group_44 : decode cX0_group 44 = .ok (.invokevirtual 199, 3) := dk_182 0 199 (dk_at dksX0_group_2 0 rfl rfl)
theorem dX0_group_47 : decode cX0_group 47 = .ok (.lreturn, 1) := dk_173 (dk_at dksX0_group_2 3 rfl rfl)
abbrev cX0_met : ByteArray := prog_1_method_42_code
def yX0_met : MethodName := ⟨RX0, "met", "(IIIIII)I"⟩
def dkwX0_met_2 : List UInt8 := [3, 172]
abbrev dktX0_met_2 : List UInt8 := dkwX0_met_2 ++ []
def dkwX0_met_1 : List UInt8 := [167, 0, 25, 42, 27, 28, 29, 21, 4, 21, 5, 21, 6, 182, 1, 28, 4, 160, 0, 7, 4, 167, 0, 4]
abbrev dktX0_met_1 : List UInt8 := dkwX0_met_1 ++ dktX0_met_2
def dkwX0_met_0 : List UInt8 := [42, 27, 28, 29, 21, 4, 21, 5, 21, 6, 182, 1, 24, 54, 7, 21, 7, 156, 0, 8, 21, 7]
abbrev dktX0_met_0 : List UInt8 := dkwX0_met_0 ++ dktX0_met_1
theorem dksX0_met_0 : cX0_met.data.toList.drop 0 = dktX0_met_0 := by decide +kernel
theorem dksX0_met_1 : cX0_met.data.toList.drop 22 = dktX0_met_1 := dk_seg dksX0_met_0 22 rfl rfl
theorem dksX0_met_2 : cX0_met.data.toList.drop 46 = dktX0_met_2 := dk_seg dksX0_met_1 24 rfl rfl
theorem dX0_met_0 : decode cX0_met 0 = .ok (.aload_n 0, 1) := dk_42 (dk_at dksX0_met_0 0 rfl rfl)
theorem dX0_met_1 : decode cX0_met 1 = .ok (.iload_n 1, 1) := dk_27 (dk_at dksX0_met_0 1 rfl rfl)
theorem dX0_met_2 : decode cX0_met 2 = .ok (.iload_n 2, 1) := dk_28 (dk_at dksX0_met_0 2 rfl rfl)
theorem dX0_met_3 : decode cX0_met 3 = .ok (.iload_n 3, 1) := dk_29 (dk_at dksX0_met_0 3 rfl rfl)
theorem dX0_met_4 : decode cX0_met 4 = .ok (.iload 4, 2) := dk_21 4 (dk_at dksX0_met_0 4 rfl rfl)
theorem dX0_met_6 : decode cX0_met 6 = .ok (.iload 5, 2) := dk_21 5 (dk_at dksX0_met_0 6 rfl rfl)
theorem dX0_met_8 : decode cX0_met 8 = .ok (.iload 6, 2) := dk_21 6 (dk_at dksX0_met_0 8 rfl rfl)
theorem dX0_met_10 : decode cX0_met 10 = .ok (.invokevirtual 280, 3) := dk_182 1 24 (dk_at dksX0_met_0 10 rfl rfl)
theorem dX0_met_13 : decode cX0_met 13 = .ok (.istore 7, 2) := dk_54 7 (dk_at dksX0_met_0 13 rfl rfl)
theorem dX0_met_15 : decode cX0_met 15 = .ok (.iload 7, 2) := dk_21 7 (dk_at dksX0_met_0 15 rfl rfl)
theorem dX0_met_17 : decode cX0_met 17 = .ok (.ifCond .ge 8, 3) := dk_156 0 8 (dk_at dksX0_met_0 17 rfl rfl)
theorem dX0_met_20 : decode cX0_met 20 = .ok (.iload 7, 2) := dk_21 7 (dk_at dksX0_met_0 20 rfl rfl)
theorem dX0_met_22 : decode cX0_met 22 = .ok (.goto 25, 3) := dk_167 0 25 (dk_at dksX0_met_1 0 rfl rfl)
theorem dX0_met_25 : decode cX0_met 25 = .ok (.aload_n 0, 1) := dk_42 (dk_at dksX0_met_1 3 rfl rfl)
theorem dX0_met_26 : decode cX0_met 26 = .ok (.iload_n 1, 1) := dk_27 (dk_at dksX0_met_1 4 rfl rfl)
theorem dX0_met_27 : decode cX0_met 27 = .ok (.iload_n 2, 1) := dk_28 (dk_at dksX0_met_1 5 rfl rfl)
theorem dX0_met_28 : decode cX0_met 28 = .ok (.iload_n 3, 1) := dk_29 (dk_at dksX0_met_1 6 rfl rfl)
theorem dX0_met_29 : decode cX0_met 29 = .ok (.iload 4, 2) := dk_21 4 (dk_at dksX0_met_1 7 rfl rfl)
theorem dX0_met_31 : decode cX0_met 31 = .ok (.iload 5, 2) := dk_21 5 (dk_at dksX0_met_1 9 rfl rfl)
theorem dX0_met_33 : decode cX0_met 33 = .ok (.iload 6, 2) := dk_21 6 (dk_at dksX0_met_1 11 rfl rfl)
theorem dX0_met_35 : decode cX0_met 35 = .ok (.invokevirtual 284, 3) := dk_182 1 28 (dk_at dksX0_met_1 13 rfl rfl)
theorem dX0_met_38 : decode cX0_met 38 = .ok (.iconst 1, 1) := dk_4 (dk_at dksX0_met_1 16 rfl rfl)
theorem dX0_met_39 : decode cX0_met 39 = .ok (.if_icmp .ne 7, 3) := dk_160 0 7 (dk_at dksX0_met_1 17 rfl rfl)
theorem dX0_met_42 : decode cX0_met 42 = .ok (.iconst 1, 1) := dk_4 (dk_at dksX0_met_1 20 rfl rfl)
theorem dX0_met_43 : decode cX0_met 43 = .ok (.goto 4, 3) := dk_167 0 4 (dk_at dksX0_met_1 21 rfl rfl)
theorem dX0_met_46 : decode cX0_met 46 = .ok (.iconst 0, 1) := dk_3 (dk_at dksX0_met_2 0 rfl rfl)
theorem dX0_met_47 : decode cX0_met 47 = .ok (.ireturn, 1) := dk_172 (dk_at dksX0_met_2 1 rfl rfl)
abbrev cX0_asksPoint : ByteArray := prog_1_method_41_code
def yX0_asksPoint : MethodName := ⟨RX0, "asksPoint", "(IIIIII)I"⟩
def dkwX0_asksPoint_2 : List UInt8 := [21, 6, 182, 1, 20, 4, 160, 0, 7, 3, 167, 0, 5, 16, 254, 172]
abbrev dktX0_asksPoint_2 : List UInt8 := dkwX0_asksPoint_2 ++ []
def dkwX0_asksPoint_1 : List UInt8 := [184, 0, 212, 154, 0, 6, 16, 254, 172, 21, 7, 156, 0, 6, 21, 7, 172, 42, 27, 29, 21, 4, 21, 5]
abbrev dktX0_asksPoint_1 : List UInt8 := dkwX0_asksPoint_1 ++ dktX0_asksPoint_2
def dkwX0_asksPoint_0 : List UInt8 := [42, 27, 28, 182, 0, 220, 54, 7, 21, 7, 16, 254, 159, 0, 16, 29, 21, 4, 21, 5, 21, 6]
abbrev dktX0_asksPoint_0 : List UInt8 := dkwX0_asksPoint_0 ++ dktX0_asksPoint_1
theorem dksX0_asksPoint_0 : cX0_asksPoint.data.toList.drop 0 = dktX0_asksPoint_0 := by decide +kernel
theorem dksX0_asksPoint_1 : cX0_asksPoint.data.toList.drop 22 = dktX0_asksPoint_1 := dk_seg dksX0_asksPoint_0 22 rfl rfl
theorem dksX0_asksPoint_2 : cX0_asksPoint.data.toList.drop 46 = dktX0_asksPoint_2 := dk_seg dksX0_asksPoint_1 24 rfl rfl
theorem dX0_asksPoint_0 : decode cX0_asksPoint 0 = .ok (.aload_n 0, 1) := dk_42 (dk_at dksX0_asksPoint_0 0 rfl rfl)
theorem dX0_asksPoint_1 : decode cX0_asksPoint 1 = .ok (.iload_n 1, 1) := dk_27 (dk_at dksX0_asksPoint_0 1 rfl rfl)
theorem dX0_asksPoint_2 : decode cX0_asksPoint 2 = .ok (.iload_n 2, 1) := dk_28 (dk_at dksX0_asksPoint_0 2 rfl rfl)
theorem dX0_asksPoint_3 : decode cX0_asksPoint 3 = .ok (.invokevirtual 220, 3) := dk_182 0 220 (dk_at dksX0_asksPoint_0 3 rfl rfl)
theorem dX0_asksPoint_6 : decode cX0_asksPoint 6 = .ok (.istore 7, 2) := dk_54 7 (dk_at dksX0_asksPoint_0 6 rfl rfl)
theorem dX0_asksPoint_8 : decode cX0_asksPoint 8 = .ok (.iload 7, 2) := dk_21 7 (dk_at dksX0_asksPoint_0 8 rfl rfl)
theorem dX0_asksPoint_10 : decode cX0_asksPoint 10 = .ok (.bipush (-2), 2) := dk_16 254 (dk_at dksX0_asksPoint_0 10 rfl rfl)
theorem dX0_asksPoint_12 : decode cX0_asksPoint 12 = .ok (.if_icmp .eq 16, 3) := dk_159 0 16 (dk_at dksX0_asksPoint_0 12 rfl rfl)
theorem dX0_asksPoint_15 : decode cX0_asksPoint 15 = .ok (.iload_n 3, 1) := dk_29 (dk_at dksX0_asksPoint_0 15 rfl rfl)
theorem dX0_asksPoint_16 : decode cX0_asksPoint 16 = .ok (.iload 4, 2) := dk_21 4 (dk_at dksX0_asksPoint_0 16 rfl rfl)
theorem dX0_asksPoint_18 : decode cX0_asksPoint 18 = .ok (.iload 5, 2) := dk_21 5 (dk_at dksX0_asksPoint_0 18 rfl rfl)
theorem dX0_asksPoint_20 : decode cX0_asksPoint 20 = .ok (.iload 6, 2) := dk_21 6 (dk_at dksX0_asksPoint_0 20 rfl rfl)
theorem dX0_asksPoint_22 : decode cX0_asksPoint 22 = .ok (.invokestatic 212, 3) := dk_184 0 212 (dk_at dksX0_asksPoint_1 0 rfl rfl)
theorem dX0_asksPoint_25 : decode cX0_asksPoint 25 = .ok (.ifCond .ne 6, 3) := dk_154 0 6 (dk_at dksX0_asksPoint_1 3 rfl rfl)
theorem dX0_asksPoint_28 : decode cX0_asksPoint 28 = .ok (.bipush (-2), 2) := dk_16 254 (dk_at dksX0_asksPoint_1 6 rfl rfl)
theorem dX0_asksPoint_30 : decode cX0_asksPoint 30 = .ok (.ireturn, 1) := dk_172 (dk_at dksX0_asksPoint_1 8 rfl rfl)
theorem dX0_asksPoint_31 : decode cX0_asksPoint 31 = .ok (.iload 7, 2) := dk_21 7 (dk_at dksX0_asksPoint_1 9 rfl rfl)
theorem dX0_asksPoint_33 : decode cX0_asksPoint 33 = .ok (.ifCond .ge 6, 3) := dk_156 0 6 (dk_at dksX0_asksPoint_1 11 rfl rfl)
theorem dX0_asksPoint_36 : decode cX0_asksPoint 36 = .ok (.iload 7, 2) := dk_21 7 (dk_at dksX0_asksPoint_1 14 rfl rfl)
theorem dX0_asksPoint_38 : decode cX0_asksPoint 38 = .ok (.ireturn, 1) := dk_172 (dk_at dksX0_asksPoint_1 16 rfl rfl)
theorem dX0_asksPoint_39 : decode cX0_asksPoint 39 = .ok (.aload_n 0, 1) := dk_42 (dk_at dksX0_asksPoint_1 17 rfl rfl)
theorem dX0_asksPoint_40 : decode cX0_asksPoint 40 = .ok (.iload_n 1, 1) := dk_27 (dk_at dksX0_asksPoint_1 18 rfl rfl)
theorem dX0_asksPoint_41 : decode cX0_asksPoint 41 = .ok (.iload_n 3, 1) := dk_29 (dk_at dksX0_asksPoint_1 19 rfl rfl)
theorem dX0_asksPoint_42 : decode cX0_asksPoint 42 = .ok (.iload 4, 2) := dk_21 4 (dk_at dksX0_asksPoint_1 20 rfl rfl)
theorem dX0_asksPoint_44 : decode cX0_asksPoint 44 = .ok (.iload 5, 2) := dk_21 5 (dk_at dksX0_asksPoint_1 22 rfl rfl)
theorem dX0_asksPoint_46 : decode cX0_asksPoint 46 = .ok (.iload 6, 2) := dk_21 6 (dk_at dksX0_asksPoint_2 0 rfl rfl)
theorem dX0_asksPoint_48 : decode cX0_asksPoint 48 = .ok (.invokevirtual 276, 3) := dk_182 1 20 (dk_at dksX0_asksPoint_2 2 rfl rfl)
theorem dX0_asksPoint_51 : decode cX0_asksPoint 51 = .ok (.iconst 1, 1) := dk_4 (dk_at dksX0_asksPoint_2 5 rfl rfl)
theorem dX0_asksPoint_52 : decode cX0_asksPoint 52 = .ok (.if_icmp .ne 7, 3) := dk_160 0 7 (dk_at dksX0_asksPoint_2 6 rfl rfl)
theorem dX0_asksPoint_55 : decode cX0_asksPoint 55 = .ok (.iconst 0, 1) := dk_3 (dk_at dksX0_asksPoint_2 9 rfl rfl)
theorem dX0_asksPoint_56 : decode cX0_asksPoint 56 = .ok (.goto 5, 3) := dk_167 0 5 (dk_at dksX0_asksPoint_2 10 rfl rfl)
theorem dX0_asksPoint_59 : decode cX0_asksPoint 59 = .ok (.bipush (-2), 2) := dk_16 254 (dk_at dksX0_asksPoint_2 13 rfl rfl)
theorem dX0_asksPoint_61 : decode cX0_asksPoint 61 = .ok (.ireturn, 1) := dk_172 (dk_at dksX0_asksPoint_2 15 rfl rfl)
abbrev cX0_orderOf : ByteArray := prog_1_method_40_code
def yX0_orderOf : MethodName := ⟨RX0, "orderOf", "(IIIIII)I"⟩
def dkwX0_orderOf_9 : List UInt8 := [132, 18, 1, 167, 255, 181, 22, 16, 136, 172]
abbrev dktX0_orderOf_9 : List UInt8 := dkwX0_orderOf_9 ++ []
def dkwX0_orderOf_8 : List UInt8 := [21, 18, 47, 105, 97, 55, 19, 22, 16, 22, 13, 22, 13, 22, 19, 184, 0, 7, 109, 184, 0, 224, 55, 16]
abbrev dktX0_orderOf_8 : List UInt8 := dkwX0_orderOf_8 ++ dktX0_orderOf_9
def dkwX0_orderOf_7 : List UInt8 := [47, 25, 12, 180, 0, 150, 4, 50, 21, 18, 47, 105, 97, 25, 15, 5, 47, 25, 12, 180, 0, 150, 5, 50]
abbrev dktX0_orderOf_7 : List UInt8 := dkwX0_orderOf_7 ++ dktX0_orderOf_8
def dkwX0_orderOf_6 : List UInt8 := [21, 18, 6, 162, 0, 75, 25, 15, 3, 47, 25, 12, 180, 0, 150, 3, 50, 21, 18, 47, 105, 25, 15, 4]
abbrev dktX0_orderOf_6 : List UInt8 := dkwX0_orderOf_6 ++ dktX0_orderOf_7
def dkwX0_orderOf_5 : List UInt8 := [182, 0, 142, 182, 0, 154, 105, 22, 9, 109, 80, 132, 16, 1, 167, 255, 187, 10, 55, 16, 3, 54, 18]
abbrev dktX0_orderOf_5 : List UInt8 := dkwX0_orderOf_5 ++ dktX0_orderOf_6
def dkwX0_orderOf_4 : List UInt8 := [50, 21, 16, 47, 105, 97, 21, 5, 133, 25, 8, 180, 0, 150, 5, 50, 21, 16, 47, 105, 97, 42, 27]
abbrev dktX0_orderOf_4 : List UInt8 := dkwX0_orderOf_4 ++ dktX0_orderOf_5
def dkwX0_orderOf_3 : List UInt8 := [21, 16, 29, 133, 25, 8, 180, 0, 150, 3, 50, 21, 16, 47, 105, 21, 4, 133, 25, 8, 180, 0, 150, 4]
abbrev dktX0_orderOf_3 : List UInt8 := dkwX0_orderOf_3 ++ dktX0_orderOf_4
def dkwX0_orderOf_2 : List UInt8 := [182, 0, 192, 184, 0, 1, 55, 13, 6, 188, 11, 58, 15, 3, 54, 16, 21, 16, 6, 162, 0, 69, 25, 15]
abbrev dktX0_orderOf_2 : List UInt8 := dkwX0_orderOf_2 ++ dktX0_orderOf_3
def dkwX0_orderOf_1 : List UInt8 := [182, 0, 192, 105, 55, 9, 42, 27, 28, 182, 1, 16, 58, 11, 25, 11, 182, 0, 203, 58, 12, 25, 11]
abbrev dktX0_orderOf_1 : List UInt8 := dkwX0_orderOf_1 ++ dktX0_orderOf_2
def dkwX0_orderOf_0 : List UInt8 := [42, 27, 182, 0, 142, 182, 0, 146, 58, 7, 25, 7, 182, 0, 203, 58, 8, 21, 6, 133, 25, 7]
abbrev dktX0_orderOf_0 : List UInt8 := dkwX0_orderOf_0 ++ dktX0_orderOf_1
theorem dksX0_orderOf_0 : cX0_orderOf.data.toList.drop 0 = dktX0_orderOf_0 := by decide +kernel
theorem dksX0_orderOf_1 : cX0_orderOf.data.toList.drop 22 = dktX0_orderOf_1 := dk_seg dksX0_orderOf_0 22 rfl rfl
theorem dksX0_orderOf_2 : cX0_orderOf.data.toList.drop 45 = dktX0_orderOf_2 := dk_seg dksX0_orderOf_1 23 rfl rfl
theorem dksX0_orderOf_3 : cX0_orderOf.data.toList.drop 69 = dktX0_orderOf_3 := dk_seg dksX0_orderOf_2 24 rfl rfl
theorem dksX0_orderOf_4 : cX0_orderOf.data.toList.drop 93 = dktX0_orderOf_4 := dk_seg dksX0_orderOf_3 24 rfl rfl
theorem dksX0_orderOf_5 : cX0_orderOf.data.toList.drop 116 = dktX0_orderOf_5 := dk_seg dksX0_orderOf_4 23 rfl rfl
theorem dksX0_orderOf_6 : cX0_orderOf.data.toList.drop 139 = dktX0_orderOf_6 := dk_seg dksX0_orderOf_5 23 rfl rfl
theorem dksX0_orderOf_7 : cX0_orderOf.data.toList.drop 163 = dktX0_orderOf_7 := dk_seg dksX0_orderOf_6 24 rfl rfl
theorem dksX0_orderOf_8 : cX0_orderOf.data.toList.drop 187 = dktX0_orderOf_8 := dk_seg dksX0_orderOf_7 24 rfl rfl
theorem dksX0_orderOf_9 : cX0_orderOf.data.toList.drop 211 = dktX0_orderOf_9 := dk_seg dksX0_orderOf_8 24 rfl rfl
theorem dX0_orderOf_0 : decode cX0_orderOf 0 = .ok (.aload_n 0, 1) := dk_42 (dk_at dksX0_orderOf_0 0 rfl rfl)
theorem dX0_orderOf_1 : decode cX0_orderOf 1 = .ok (.iload_n 1, 1) := dk_27 (dk_at dksX0_orderOf_0 1 rfl rfl)
theorem dX0_orderOf_2 : decode cX0_orderOf 2 = .ok (.invokevirtual 142, 3) := dk_182 0 142 (dk_at dksX0_orderOf_0 2 rfl rfl)
theorem dX0_orderOf_5 : decode cX0_orderOf 5 = .ok (.invokevirtual 146, 3) := dk_182 0 146 (dk_at dksX0_orderOf_0 5 rfl rfl)
theorem dX0_orderOf_8 : decode cX0_orderOf 8 = .ok (.astore 7, 2) := dk_58 7 (dk_at dksX0_orderOf_0 8 rfl rfl)
theorem dX0_orderOf_10 : decode cX0_orderOf 10 = .ok (.aload 7, 2) := dk_25 7 (dk_at dksX0_orderOf_0 10 rfl rfl)
theorem dX0_orderOf_12 : decode cX0_orderOf 12 = .ok (.invokevirtual 203, 3) := dk_182 0 203 (dk_at dksX0_orderOf_0 12 rfl rfl)
theorem dX0_orderOf_15 : decode cX0_orderOf 15 = .ok (.astore 8, 2) := dk_58 8 (dk_at dksX0_orderOf_0 15 rfl rfl)
theorem dX0_orderOf_17 : decode cX0_orderOf 17 = .ok (.iload 6, 2) := dk_21 6 (dk_at dksX0_orderOf_0 17 rfl rfl)
theorem dX0_orderOf_19 : decode cX0_orderOf 19 = .ok (.i2l, 1) := dk_133 (dk_at dksX0_orderOf_0 19 rfl rfl)
theorem dX0_orderOf_20 : decode cX0_orderOf 20 = .ok (.aload 7, 2) := dk_25 7 (dk_at dksX0_orderOf_0 20 rfl rfl)
theorem dX0_orderOf_22 : decode cX0_orderOf 22 = .ok (.invokevirtual 192, 3) := dk_182 0 192 (dk_at dksX0_orderOf_1 0 rfl rfl)
theorem dX0_orderOf_25 : decode cX0_orderOf 25 = .ok (.lmul, 1) := dk_105 (dk_at dksX0_orderOf_1 3 rfl rfl)
theorem dX0_orderOf_26 : decode cX0_orderOf 26 = .ok (.lstore 9, 2) := dk_55 9 (dk_at dksX0_orderOf_1 4 rfl rfl)
theorem dX0_orderOf_28 : decode cX0_orderOf 28 = .ok (.aload_n 0, 1) := dk_42 (dk_at dksX0_orderOf_1 6 rfl rfl)
theorem dX0_orderOf_29 : decode cX0_orderOf 29 = .ok (.iload_n 1, 1) := dk_27 (dk_at dksX0_orderOf_1 7 rfl rfl)
theorem dX0_orderOf_30 : decode cX0_orderOf 30 = .ok (.iload_n 2, 1) := dk_28 (dk_at dksX0_orderOf_1 8 rfl rfl)
theorem dX0_orderOf_31 : decode cX0_orderOf 31 = .ok (.invokevirtual 272, 3) := dk_182 1 16 (dk_at dksX0_orderOf_1 9 rfl rfl)
theorem dX0_orderOf_34 : decode cX0_orderOf 34 = .ok (.astore 11, 2) := dk_58 11 (dk_at dksX0_orderOf_1 12 rfl rfl)
theorem dX0_orderOf_36 : decode cX0_orderOf 36 = .ok (.aload 11, 2) := dk_25 11 (dk_at dksX0_orderOf_1 14 rfl rfl)
theorem dX0_orderOf_38 : decode cX0_orderOf 38 = .ok (.invokevirtual 203, 3) := dk_182 0 203 (dk_at dksX0_orderOf_1 16 rfl rfl)
theorem dX0_orderOf_41 : decode cX0_orderOf 41 = .ok (.astore 12, 2) := dk_58 12 (dk_at dksX0_orderOf_1 19 rfl rfl)
theorem dX0_orderOf_43 : decode cX0_orderOf 43 = .ok (.aload 11, 2) := dk_25 11 (dk_at dksX0_orderOf_1 21 rfl rfl)
theorem dX0_orderOf_45 : decode cX0_orderOf 45 = .ok (.invokevirtual 192, 3) := dk_182 0 192 (dk_at dksX0_orderOf_2 0 rfl rfl)
theorem dX0_orderOf_48 : decode cX0_orderOf 48 = .ok (.invokestatic 1, 3) := dk_184 0 1 (dk_at dksX0_orderOf_2 3 rfl rfl)
theorem dX0_orderOf_51 : decode cX0_orderOf 51 = .ok (.lstore 13, 2) := dk_55 13 (dk_at dksX0_orderOf_2 6 rfl rfl)
theorem dX0_orderOf_53 : decode cX0_orderOf 53 = .ok (.iconst 3, 1) := dk_6 (dk_at dksX0_orderOf_2 8 rfl rfl)
theorem dX0_orderOf_54 : decode cX0_orderOf 54 = .ok (.newarray .long, 2) := dk_188_11 (dk_at dksX0_orderOf_2 9 rfl rfl)
theorem dX0_orderOf_56 : decode cX0_orderOf 56 = .ok (.astore 15, 2) := dk_58 15 (dk_at dksX0_orderOf_2 11 rfl rfl)
theorem dX0_orderOf_58 : decode cX0_orderOf 58 = .ok (.iconst 0, 1) := dk_3 (dk_at dksX0_orderOf_2 13 rfl rfl)
theorem dX0_orderOf_59 : decode cX0_orderOf 59 = .ok (.istore 16, 2) := dk_54 16 (dk_at dksX0_orderOf_2 14 rfl rfl)
theorem dX0_orderOf_61 : decode cX0_orderOf 61 = .ok (.iload 16, 2) := dk_21 16 (dk_at dksX0_orderOf_2 16 rfl rfl)
theorem dX0_orderOf_63 : decode cX0_orderOf 63 = .ok (.iconst 3, 1) := dk_6 (dk_at dksX0_orderOf_2 18 rfl rfl)
theorem dX0_orderOf_64 : decode cX0_orderOf 64 = .ok (.if_icmp .ge 69, 3) := dk_162 0 69 (dk_at dksX0_orderOf_2 19 rfl rfl)
theorem dX0_orderOf_67 : decode cX0_orderOf 67 = .ok (.aload 15, 2) := dk_25 15 (dk_at dksX0_orderOf_2 22 rfl rfl)
theorem dX0_orderOf_69 : decode cX0_orderOf 69 = .ok (.iload 16, 2) := dk_21 16 (dk_at dksX0_orderOf_3 0 rfl rfl)
theorem dX0_orderOf_71 : decode cX0_orderOf 71 = .ok (.iload_n 3, 1) := dk_29 (dk_at dksX0_orderOf_3 2 rfl rfl)
theorem dX0_orderOf_72 : decode cX0_orderOf 72 = .ok (.i2l, 1) := dk_133 (dk_at dksX0_orderOf_3 3 rfl rfl)
theorem dX0_orderOf_73 : decode cX0_orderOf 73 = .ok (.aload 8, 2) := dk_25 8 (dk_at dksX0_orderOf_3 4 rfl rfl)
theorem dX0_orderOf_75 : decode cX0_orderOf 75 = .ok (.getfield 150, 3) := dk_180 0 150 (dk_at dksX0_orderOf_3 6 rfl rfl)
theorem dX0_orderOf_78 : decode cX0_orderOf 78 = .ok (.iconst 0, 1) := dk_3 (dk_at dksX0_orderOf_3 9 rfl rfl)
theorem dX0_orderOf_79 : decode cX0_orderOf 79 = .ok (.aaload, 1) := dk_50 (dk_at dksX0_orderOf_3 10 rfl rfl)
theorem dX0_orderOf_80 : decode cX0_orderOf 80 = .ok (.iload 16, 2) := dk_21 16 (dk_at dksX0_orderOf_3 11 rfl rfl)
theorem dX0_orderOf_82 : decode cX0_orderOf 82 = .ok (.laload, 1) := dk_47 (dk_at dksX0_orderOf_3 13 rfl rfl)
theorem dX0_orderOf_83 : decode cX0_orderOf 83 = .ok (.lmul, 1) := dk_105 (dk_at dksX0_orderOf_3 14 rfl rfl)
theorem dX0_orderOf_84 : decode cX0_orderOf 84 = .ok (.iload 4, 2) := dk_21 4 (dk_at dksX0_orderOf_3 15 rfl rfl)
theorem dX0_orderOf_86 : decode cX0_orderOf 86 = .ok (.i2l, 1) := dk_133 (dk_at dksX0_orderOf_3 17 rfl rfl)
theorem dX0_orderOf_87 : decode cX0_orderOf 87 = .ok (.aload 8, 2) := dk_25 8 (dk_at dksX0_orderOf_3 18 rfl rfl)
theorem dX0_orderOf_89 : decode cX0_orderOf 89 = .ok (.getfield 150, 3) := dk_180 0 150 (dk_at dksX0_orderOf_3 20 rfl rfl)
theorem dX0_orderOf_92 : decode cX0_orderOf 92 = .ok (.iconst 1, 1) := dk_4 (dk_at dksX0_orderOf_3 23 rfl rfl)
theorem dX0_orderOf_93 : decode cX0_orderOf 93 = .ok (.aaload, 1) := dk_50 (dk_at dksX0_orderOf_4 0 rfl rfl)
theorem dX0_orderOf_94 : decode cX0_orderOf 94 = .ok (.iload 16, 2) := dk_21 16 (dk_at dksX0_orderOf_4 1 rfl rfl)
theorem dX0_orderOf_96 : decode cX0_orderOf 96 = .ok (.laload, 1) := dk_47 (dk_at dksX0_orderOf_4 3 rfl rfl)
theorem dX0_orderOf_97 : decode cX0_orderOf 97 = .ok (.lmul, 1) := dk_105 (dk_at dksX0_orderOf_4 4 rfl rfl)
theorem dX0_orderOf_98 : decode cX0_orderOf 98 = .ok (.ladd, 1) := dk_97 (dk_at dksX0_orderOf_4 5 rfl rfl)
theorem dX0_orderOf_99 : decode cX0_orderOf 99 = .ok (.iload 5, 2) := dk_21 5 (dk_at dksX0_orderOf_4 6 rfl rfl)
theorem dX0_orderOf_101 : decode cX0_orderOf 101 = .ok (.i2l, 1) := dk_133 (dk_at dksX0_orderOf_4 8 rfl rfl)
theorem dX0_orderOf_102 : decode cX0_orderOf 102 = .ok (.aload 8, 2) := dk_25 8 (dk_at dksX0_orderOf_4 9 rfl rfl)
theorem dX0_orderOf_104 : decode cX0_orderOf 104 = .ok (.getfield 150, 3) := dk_180 0 150 (dk_at dksX0_orderOf_4 11 rfl rfl)
theorem dX0_orderOf_107 : decode cX0_orderOf 107 = .ok (.iconst 2, 1) := dk_5 (dk_at dksX0_orderOf_4 14 rfl rfl)
theorem dX0_orderOf_108 : decode cX0_orderOf 108 = .ok (.aaload, 1) := dk_50 (dk_at dksX0_orderOf_4 15 rfl rfl)
theorem dX0_orderOf_109 : decode cX0_orderOf 109 = .ok (.iload 16, 2) := dk_21 16 (dk_at dksX0_orderOf_4 16 rfl rfl)
theorem dX0_orderOf_111 : decode cX0_orderOf 111 = .ok (.laload, 1) := dk_47 (dk_at dksX0_orderOf_4 18 rfl rfl)
theorem dX0_orderOf_112 : decode cX0_orderOf 112 = .ok (.lmul, 1) := dk_105 (dk_at dksX0_orderOf_4 19 rfl rfl)
theorem dX0_orderOf_113 : decode cX0_orderOf 113 = .ok (.ladd, 1) := dk_97 (dk_at dksX0_orderOf_4 20 rfl rfl)
theorem dX0_orderOf_114 : decode cX0_orderOf 114 = .ok (.aload_n 0, 1) := dk_42 (dk_at dksX0_orderOf_4 21 rfl rfl)
theorem dX0_orderOf_115 : decode cX0_orderOf 115 = .ok (.iload_n 1, 1) := dk_27 (dk_at dksX0_orderOf_4 22 rfl rfl)
theorem dX0_orderOf_116 : decode cX0_orderOf 116 = .ok (.invokevirtual 142, 3) := dk_182 0 142 (dk_at dksX0_orderOf_5 0 rfl rfl)
theorem dX0_orderOf_119 : decode cX0_orderOf 119 = .ok (.invokevirtual 154, 3) := dk_182 0 154 (dk_at dksX0_orderOf_5 3 rfl rfl)
theorem dX0_orderOf_122 : decode cX0_orderOf 122 = .ok (.lmul, 1) := dk_105 (dk_at dksX0_orderOf_5 6 rfl rfl)
theorem dX0_orderOf_123 : decode cX0_orderOf 123 = .ok (.lload 9, 2) := dk_22 9 (dk_at dksX0_orderOf_5 7 rfl rfl)
theorem dX0_orderOf_125 : decode cX0_orderOf 125 = .ok (.ldiv, 1) := dk_109 (dk_at dksX0_orderOf_5 9 rfl rfl)
theorem dX0_orderOf_126 : decode cX0_orderOf 126 = .ok (.lastore, 1) := dk_80 (dk_at dksX0_orderOf_5 10 rfl rfl)
theorem dX0_orderOf_127 : decode cX0_orderOf 127 = .ok (.iinc 16 1, 3) := dk_132 16 1 (dk_at dksX0_orderOf_5 11 rfl rfl)
theorem dX0_orderOf_130 : decode cX0_orderOf 130 = .ok (.goto (-69), 3) := dk_167 255 187 (dk_at dksX0_orderOf_5 14 rfl rfl)
theorem dX0_orderOf_133 : decode cX0_orderOf 133 = .ok (.lconst 1, 1) := dk_10 (dk_at dksX0_orderOf_5 17 rfl rfl)
theorem dX0_orderOf_134 : decode cX0_orderOf 134 = .ok (.lstore 16, 2) := dk_55 16 (dk_at dksX0_orderOf_5 18 rfl rfl)
theorem dX0_orderOf_136 : decode cX0_orderOf 136 = .ok (.iconst 0, 1) := dk_3 (dk_at dksX0_orderOf_5 20 rfl rfl)
theorem dX0_orderOf_137 : decode cX0_orderOf 137 = .ok (.istore 18, 2) := dk_54 18 (dk_at dksX0_orderOf_5 21 rfl rfl)
theorem dX0_orderOf_139 : decode cX0_orderOf 139 = .ok (.iload 18, 2) := dk_21 18 (dk_at dksX0_orderOf_6 0 rfl rfl)
theorem dX0_orderOf_141 : decode cX0_orderOf 141 = .ok (.iconst 3, 1) := dk_6 (dk_at dksX0_orderOf_6 2 rfl rfl)
theorem dX0_orderOf_142 : decode cX0_orderOf 142 = .ok (.if_icmp .ge 75, 3) := dk_162 0 75 (dk_at dksX0_orderOf_6 3 rfl rfl)
theorem dX0_orderOf_145 : decode cX0_orderOf 145 = .ok (.aload 15, 2) := dk_25 15 (dk_at dksX0_orderOf_6 6 rfl rfl)
theorem dX0_orderOf_147 : decode cX0_orderOf 147 = .ok (.iconst 0, 1) := dk_3 (dk_at dksX0_orderOf_6 8 rfl rfl)
theorem dX0_orderOf_148 : decode cX0_orderOf 148 = .ok (.laload, 1) := dk_47 (dk_at dksX0_orderOf_6 9 rfl rfl)
theorem dX0_orderOf_149 : decode cX0_orderOf 149 = .ok (.aload 12, 2) := dk_25 12 (dk_at dksX0_orderOf_6 10 rfl rfl)
theorem dX0_orderOf_151 : decode cX0_orderOf 151 = .ok (.getfield 150, 3) := dk_180 0 150 (dk_at dksX0_orderOf_6 12 rfl rfl)
theorem dX0_orderOf_154 : decode cX0_orderOf 154 = .ok (.iconst 0, 1) := dk_3 (dk_at dksX0_orderOf_6 15 rfl rfl)
theorem dX0_orderOf_155 : decode cX0_orderOf 155 = .ok (.aaload, 1) := dk_50 (dk_at dksX0_orderOf_6 16 rfl rfl)
theorem dX0_orderOf_156 : decode cX0_orderOf 156 = .ok (.iload 18, 2) := dk_21 18 (dk_at dksX0_orderOf_6 17 rfl rfl)
theorem dX0_orderOf_158 : decode cX0_orderOf 158 = .ok (.laload, 1) := dk_47 (dk_at dksX0_orderOf_6 19 rfl rfl)
theorem dX0_orderOf_159 : decode cX0_orderOf 159 = .ok (.lmul, 1) := dk_105 (dk_at dksX0_orderOf_6 20 rfl rfl)
theorem dX0_orderOf_160 : decode cX0_orderOf 160 = .ok (.aload 15, 2) := dk_25 15 (dk_at dksX0_orderOf_6 21 rfl rfl)
theorem dX0_orderOf_162 : decode cX0_orderOf 162 = .ok (.iconst 1, 1) := dk_4 (dk_at dksX0_orderOf_6 23 rfl rfl)
theorem dX0_orderOf_163 : decode cX0_orderOf 163 = .ok (.laload, 1) := dk_47 (dk_at dksX0_orderOf_7 0 rfl rfl)
theorem dX0_orderOf_164 : decode cX0_orderOf 164 = .ok (.aload 12, 2) := dk_25 12 (dk_at dksX0_orderOf_7 1 rfl rfl)
theorem dX0_orderOf_166 : decode cX0_orderOf 166 = .ok (.getfield 150, 3) := dk_180 0 150 (dk_at dksX0_orderOf_7 3 rfl rfl)
theorem dX0_orderOf_169 : decode cX0_orderOf 169 = .ok (.iconst 1, 1) := dk_4 (dk_at dksX0_orderOf_7 6 rfl rfl)
theorem dX0_orderOf_170 : decode cX0_orderOf 170 = .ok (.aaload, 1) := dk_50 (dk_at dksX0_orderOf_7 7 rfl rfl)
theorem dX0_orderOf_171 : decode cX0_orderOf 171 = .ok (.iload 18, 2) := dk_21 18 (dk_at dksX0_orderOf_7 8 rfl rfl)
theorem dX0_orderOf_173 : decode cX0_orderOf 173 = .ok (.laload, 1) := dk_47 (dk_at dksX0_orderOf_7 10 rfl rfl)
theorem dX0_orderOf_174 : decode cX0_orderOf 174 = .ok (.lmul, 1) := dk_105 (dk_at dksX0_orderOf_7 11 rfl rfl)
theorem dX0_orderOf_175 : decode cX0_orderOf 175 = .ok (.ladd, 1) := dk_97 (dk_at dksX0_orderOf_7 12 rfl rfl)
theorem dX0_orderOf_176 : decode cX0_orderOf 176 = .ok (.aload 15, 2) := dk_25 15 (dk_at dksX0_orderOf_7 13 rfl rfl)
theorem dX0_orderOf_178 : decode cX0_orderOf 178 = .ok (.iconst 2, 1) := dk_5 (dk_at dksX0_orderOf_7 15 rfl rfl)
theorem dX0_orderOf_179 : decode cX0_orderOf 179 = .ok (.laload, 1) := dk_47 (dk_at dksX0_orderOf_7 16 rfl rfl)
theorem dX0_orderOf_180 : decode cX0_orderOf 180 = .ok (.aload 12, 2) := dk_25 12 (dk_at dksX0_orderOf_7 17 rfl rfl)
theorem dX0_orderOf_182 : decode cX0_orderOf 182 = .ok (.getfield 150, 3) := dk_180 0 150 (dk_at dksX0_orderOf_7 19 rfl rfl)
theorem dX0_orderOf_185 : decode cX0_orderOf 185 = .ok (.iconst 2, 1) := dk_5 (dk_at dksX0_orderOf_7 22 rfl rfl)
theorem dX0_orderOf_186 : decode cX0_orderOf 186 = .ok (.aaload, 1) := dk_50 (dk_at dksX0_orderOf_7 23 rfl rfl)
theorem dX0_orderOf_187 : decode cX0_orderOf 187 = .ok (.iload 18, 2) := dk_21 18 (dk_at dksX0_orderOf_8 0 rfl rfl)
theorem dX0_orderOf_189 : decode cX0_orderOf 189 = .ok (.laload, 1) := dk_47 (dk_at dksX0_orderOf_8 2 rfl rfl)
theorem dX0_orderOf_190 : decode cX0_orderOf 190 = .ok (.lmul, 1) := dk_105 (dk_at dksX0_orderOf_8 3 rfl rfl)
theorem dX0_orderOf_191 : decode cX0_orderOf 191 = .ok (.ladd, 1) := dk_97 (dk_at dksX0_orderOf_8 4 rfl rfl)
theorem dX0_orderOf_192 : decode cX0_orderOf 192 = .ok (.lstore 19, 2) := dk_55 19 (dk_at dksX0_orderOf_8 5 rfl rfl)
theorem dX0_orderOf_194 : decode cX0_orderOf 194 = .ok (.lload 16, 2) := dk_22 16 (dk_at dksX0_orderOf_8 7 rfl rfl)
theorem dX0_orderOf_196 : decode cX0_orderOf 196 = .ok (.lload 13, 2) := dk_22 13 (dk_at dksX0_orderOf_8 9 rfl rfl)
theorem dX0_orderOf_198 : decode cX0_orderOf 198 = .ok (.lload 13, 2) := dk_22 13 (dk_at dksX0_orderOf_8 11 rfl rfl)
theorem dX0_orderOf_200 : decode cX0_orderOf 200 = .ok (.lload 19, 2) := dk_22 19 (dk_at dksX0_orderOf_8 13 rfl rfl)
theorem dX0_orderOf_202 : decode cX0_orderOf 202 = .ok (.invokestatic 7, 3) := dk_184 0 7 (dk_at dksX0_orderOf_8 15 rfl rfl)
theorem dX0_orderOf_205 : decode cX0_orderOf 205 = .ok (.ldiv, 1) := dk_109 (dk_at dksX0_orderOf_8 18 rfl rfl)
theorem dX0_orderOf_206 : decode cX0_orderOf 206 = .ok (.invokestatic 224, 3) := dk_184 0 224 (dk_at dksX0_orderOf_8 19 rfl rfl)
theorem dX0_orderOf_209 : decode cX0_orderOf 209 = .ok (.lstore 16, 2) := dk_55 16 (dk_at dksX0_orderOf_8 22 rfl rfl)
theorem dX0_orderOf_211 : decode cX0_orderOf 211 = .ok (.iinc 18 1, 3) := dk_132 18 1 (dk_at dksX0_orderOf_9 0 rfl rfl)
theorem dX0_orderOf_214 : decode cX0_orderOf 214 = .ok (.goto (-75), 3) := dk_167 255 181 (dk_at dksX0_orderOf_9 3 rfl rfl)
theorem dX0_orderOf_217 : decode cX0_orderOf 217 = .ok (.lload 16, 2) := dk_22 16 (dk_at dksX0_orderOf_9 6 rfl rfl)
theorem dX0_orderOf_219 : decode cX0_orderOf 219 = .ok (.l2i, 1) := dk_136 (dk_at dksX0_orderOf_9 8 rfl rfl)
theorem dX0_orderOf_220 : decode cX0_orderOf 220 = .ok (.ireturn, 1) := dk_172 (dk_at dksX0_orderOf_9 9 rfl rfl)
abbrev cX0_order : ByteArray := prog_1_method_43_code
def yX0_order : MethodName := ⟨RX0, "order", "(IIIIII)I"⟩
def dkwX0_order_1 : List UInt8 := [167, 0, 16, 42, 27, 28, 29, 21, 4, 21, 5, 21, 6, 182, 1, 28, 172]
abbrev dktX0_order_1 : List UInt8 := dkwX0_order_1 ++ []
def dkwX0_order_0 : List UInt8 := [42, 27, 28, 29, 21, 4, 21, 5, 21, 6, 182, 1, 24, 54, 7, 21, 7, 156, 0, 8, 21, 7]
abbrev dktX0_order_0 : List UInt8 := dkwX0_order_0 ++ dktX0_order_1
theorem dksX0_order_0 : cX0_order.data.toList.drop 0 = dktX0_order_0 := by decide +kernel
theorem dksX0_order_1 : cX0_order.data.toList.drop 22 = dktX0_order_1 := dk_seg dksX0_order_0 22 rfl rfl
theorem dX0_order_0 : decode cX0_order 0 = .ok (.aload_n 0, 1) := dk_42 (dk_at dksX0_order_0 0 rfl rfl)
theorem dX0_order_1 : decode cX0_order 1 = .ok (.iload_n 1, 1) := dk_27 (dk_at dksX0_order_0 1 rfl rfl)
theorem dX0_order_2 : decode cX0_order 2 = .ok (.iload_n 2, 1) := dk_28 (dk_at dksX0_order_0 2 rfl rfl)
theorem dX0_order_3 : decode cX0_order 3 = .ok (.iload_n 3, 1) := dk_29 (dk_at dksX0_order_0 3 rfl rfl)
theorem dX0_order_4 : decode cX0_order 4 = .ok (.iload 4, 2) := dk_21 4 (dk_at dksX0_order_0 4 rfl rfl)
theorem dX0_order_6 : decode cX0_order 6 = .ok (.iload 5, 2) := dk_21 5 (dk_at dksX0_order_0 6 rfl rfl)
theorem dX0_order_8 : decode cX0_order 8 = .ok (.iload 6, 2) := dk_21 6 (dk_at dksX0_order_0 8 rfl rfl)
theorem dX0_order_10 : decode cX0_order 10 = .ok (.invokevirtual 280, 3) := dk_182 1 24 (dk_at dksX0_order_0 10 rfl rfl)
theorem dX0_order_13 : decode cX0_order 13 = .ok (.istore 7, 2) := dk_54 7 (dk_at dksX0_order_0 13 rfl rfl)
theorem dX0_order_15 : decode cX0_order 15 = .ok (.iload 7, 2) := dk_21 7 (dk_at dksX0_order_0 15 rfl rfl)
theorem dX0_order_17 : decode cX0_order 17 = .ok (.ifCond .ge 8, 3) := dk_156 0 8 (dk_at dksX0_order_0 17 rfl rfl)
theorem dX0_order_20 : decode cX0_order 20 = .ok (.iload 7, 2) := dk_21 7 (dk_at dksX0_order_0 20 rfl rfl)
theorem dX0_order_22 : decode cX0_order 22 = .ok (.goto 16, 3) := dk_167 0 16 (dk_at dksX0_order_1 0 rfl rfl)
theorem dX0_order_25 : decode cX0_order 25 = .ok (.aload_n 0, 1) := dk_42 (dk_at dksX0_order_1 3 rfl rfl)
theorem dX0_order_26 : decode cX0_order 26 = .ok (.iload_n 1, 1) := dk_27 (dk_at dksX0_order_1 4 rfl rfl)
theorem dX0_order_27 : decode cX0_order 27 = .ok (.iload_n 2, 1) := dk_28 (dk_at dksX0_order_1 5 rfl rfl)
theorem dX0_order_28 : decode cX0_order 28 = .ok (.iload_n 3, 1) := dk_29 (dk_at dksX0_order_1 6 rfl rfl)
theorem dX0_order_29 : decode cX0_order 29 = .ok (.iload 4, 2) := dk_21 4 (dk_at dksX0_order_1 7 rfl rfl)
theorem dX0_order_31 : decode cX0_order 31 = .ok (.iload 5, 2) := dk_21 5 (dk_at dksX0_order_1 9 rfl rfl)
theorem dX0_order_33 : decode cX0_order 33 = .ok (.iload 6, 2) := dk_21 6 (dk_at dksX0_order_1 11 rfl rfl)
theorem dX0_order_35 : decode cX0_order 35 = .ok (.invokevirtual 284, 3) := dk_182 1 28 (dk_at dksX0_order_1 13 rfl rfl)
theorem dX0_order_38 : decode cX0_order 38 = .ok (.ireturn, 1) := dk_172 (dk_at dksX0_order_1 16 rfl rfl)
abbrev cX0_reduced : ByteArray := prog_1_method_45_code
def yX0_reduced : MethodName := ⟨RX0, "reduced", "(III)I"⟩
def dkwX0_reduced_1 : List UInt8 := [47, 136, 167, 0, 5, 18, 173, 172]
abbrev dktX0_reduced_1 : List UInt8 := dkwX0_reduced_1 ++ []
def dkwX0_reduced_0 : List UInt8 := [42, 27, 28, 29, 182, 0, 138, 153, 0, 22, 42, 27, 182, 1, 34, 180, 1, 38, 180, 0, 150, 28, 50, 29]
abbrev dktX0_reduced_0 : List UInt8 := dkwX0_reduced_0 ++ dktX0_reduced_1
theorem dksX0_reduced_0 : cX0_reduced.data.toList.drop 0 = dktX0_reduced_0 := by decide +kernel
theorem dksX0_reduced_1 : cX0_reduced.data.toList.drop 24 = dktX0_reduced_1 := dk_seg dksX0_reduced_0 24 rfl rfl
theorem dX0_reduced_0 : decode cX0_reduced 0 = .ok (.aload_n 0, 1) := dk_42 (dk_at dksX0_reduced_0 0 rfl rfl)
theorem dX0_reduced_1 : decode cX0_reduced 1 = .ok (.iload_n 1, 1) := dk_27 (dk_at dksX0_reduced_0 1 rfl rfl)
theorem dX0_reduced_2 : decode cX0_reduced 2 = .ok (.iload_n 2, 1) := dk_28 (dk_at dksX0_reduced_0 2 rfl rfl)
theorem dX0_reduced_3 : decode cX0_reduced 3 = .ok (.iload_n 3, 1) := dk_29 (dk_at dksX0_reduced_0 3 rfl rfl)
theorem dX0_reduced_4 : decode cX0_reduced 4 = .ok (.invokevirtual 138, 3) := dk_182 0 138 (dk_at dksX0_reduced_0 4 rfl rfl)
theorem dX0_reduced_7 : decode cX0_reduced 7 = .ok (.ifCond .eq 22, 3) := dk_153 0 22 (dk_at dksX0_reduced_0 7 rfl rfl)
theorem dX0_reduced_10 : decode cX0_reduced 10 = .ok (.aload_n 0, 1) := dk_42 (dk_at dksX0_reduced_0 10 rfl rfl)
theorem dX0_reduced_11 : decode cX0_reduced 11 = .ok (.iload_n 1, 1) := dk_27 (dk_at dksX0_reduced_0 11 rfl rfl)
theorem dX0_reduced_12 : decode cX0_reduced 12 = .ok (.invokevirtual 290, 3) := dk_182 1 34 (dk_at dksX0_reduced_0 12 rfl rfl)
theorem dX0_reduced_15 : decode cX0_reduced 15 = .ok (.getfield 294, 3) := dk_180 1 38 (dk_at dksX0_reduced_0 15 rfl rfl)
theorem dX0_reduced_18 : decode cX0_reduced 18 = .ok (.getfield 150, 3) := dk_180 0 150 (dk_at dksX0_reduced_0 18 rfl rfl)
theorem dX0_reduced_21 : decode cX0_reduced 21 = .ok (.iload_n 2, 1) := dk_28 (dk_at dksX0_reduced_0 21 rfl rfl)
theorem dX0_reduced_22 : decode cX0_reduced 22 = .ok (.aaload, 1) := dk_50 (dk_at dksX0_reduced_0 22 rfl rfl)
theorem dX0_reduced_23 : decode cX0_reduced 23 = .ok (.iload_n 3, 1) := dk_29 (dk_at dksX0_reduced_0 23 rfl rfl)
theorem dX0_reduced_24 : decode cX0_reduced 24 = .ok (.laload, 1) := dk_47 (dk_at dksX0_reduced_1 0 rfl rfl)
theorem dX0_reduced_25 : decode cX0_reduced 25 = .ok (.l2i, 1) := dk_136 (dk_at dksX0_reduced_1 1 rfl rfl)
theorem dX0_reduced_26 : decode cX0_reduced 26 = .ok (.goto 5, 3) := dk_167 0 5 (dk_at dksX0_reduced_1 2 rfl rfl)
theorem dX0_reduced_29 : decode cX0_reduced 29 = .ok (.ldc 173, 2) := dk_18 173 (dk_at dksX0_reduced_1 5 rfl rfl)
theorem dX0_reduced_31 : decode cX0_reduced 31 = .ok (.ireturn, 1) := dk_172 (dk_at dksX0_reduced_1 7 rfl rfl)
abbrev cX0_reducedOf : ByteArray := prog_1_method_44_code
def yX0_reducedOf : MethodName := ⟨RX0, "reducedOf", "(I)LCoincideBench$Reduced;"⟩
def dkwX0_reducedOf_1 : List UInt8 := [183, 1, 33, 176]
abbrev dktX0_reducedOf_1 : List UInt8 := dkwX0_reducedOf_1 ++ []
def dkwX0_reducedOf_0 : List UInt8 := [187, 1, 31, 89, 187, 0, 158, 89, 42, 27, 182, 0, 142, 182, 0, 146, 183, 0, 160, 180, 0, 163]
abbrev dktX0_reducedOf_0 : List UInt8 := dkwX0_reducedOf_0 ++ dktX0_reducedOf_1
theorem dksX0_reducedOf_0 : cX0_reducedOf.data.toList.drop 0 = dktX0_reducedOf_0 := by decide +kernel
theorem dksX0_reducedOf_1 : cX0_reducedOf.data.toList.drop 22 = dktX0_reducedOf_1 := dk_seg dksX0_reducedOf_0 22 rfl rfl
theorem dX0_reducedOf_0 : decode cX0_reducedOf 0 = .ok (.new 287, 3) := dk_187 1 31 (dk_at dksX0_reducedOf_0 0 rfl rfl)
theorem dX0_reducedOf_3 : decode cX0_reducedOf 3 = .ok (.dup, 1) := dk_89 (dk_at dksX0_reducedOf_0 3 rfl rfl)
theorem dX0_reducedOf_4 : decode cX0_reducedOf 4 = .ok (.new 158, 3) := dk_187 0 158 (dk_at dksX0_reducedOf_0 4 rfl rfl)
theorem dX0_reducedOf_7 : decode cX0_reducedOf 7 = .ok (.dup, 1) := dk_89 (dk_at dksX0_reducedOf_0 7 rfl rfl)
theorem dX0_reducedOf_8 : decode cX0_reducedOf 8 = .ok (.aload_n 0, 1) := dk_42 (dk_at dksX0_reducedOf_0 8 rfl rfl)
theorem dX0_reducedOf_9 : decode cX0_reducedOf 9 = .ok (.iload_n 1, 1) := dk_27 (dk_at dksX0_reducedOf_0 9 rfl rfl)
theorem dX0_reducedOf_10 : decode cX0_reducedOf 10 = .ok (.invokevirtual 142, 3) := dk_182 0 142 (dk_at dksX0_reducedOf_0 10 rfl rfl)
theorem dX0_reducedOf_13 : decode cX0_reducedOf 13 = .ok (.invokevirtual 146, 3) := dk_182 0 146 (dk_at dksX0_reducedOf_0 13 rfl rfl)
theorem dX0_reducedOf_16 : decode cX0_reducedOf 16 = .ok (.invokespecial 160, 3) := dk_183 0 160 (dk_at dksX0_reducedOf_0 16 rfl rfl)
theorem dX0_reducedOf_19 : decode cX0_reducedOf 19 = .ok (.getfield 163, 3) := dk_180 0 163 (dk_at dksX0_reducedOf_0 19 rfl rfl)
theorem dX0_reducedOf_22 : decode cX0_reducedOf 22 = .ok (.invokespecial 289, 3) := dk_183 1 33 (dk_at dksX0_reducedOf_1 0 rfl rfl)
theorem dX0_reducedOf_25 : decode cX0_reducedOf 25 = .ok (.areturn, 1) := dk_176 (dk_at dksX0_reducedOf_1 3 rfl rfl)
abbrev cX0_bettered : ByteArray := prog_1_method_46_code
def yX0_bettered : MethodName := ⟨RX0, "bettered", "(I)I"⟩
def dkwX0_bettered_0 : List UInt8 := [42, 27, 182, 0, 131, 153, 0, 14, 42, 27, 182, 1, 34, 180, 1, 39, 167, 0, 5, 16, 254, 172]
abbrev dktX0_bettered_0 : List UInt8 := dkwX0_bettered_0 ++ []
theorem dksX0_bettered_0 : cX0_bettered.data.toList.drop 0 = dktX0_bettered_0 := by decide +kernel
theorem dX0_bettered_0 : decode cX0_bettered 0 = .ok (.aload_n 0, 1) := dk_42 (dk_at dksX0_bettered_0 0 rfl rfl)
theorem dX0_bettered_1 : decode cX0_bettered 1 = .ok (.iload_n 1, 1) := dk_27 (dk_at dksX0_bettered_0 1 rfl rfl)
theorem dX0_bettered_2 : decode cX0_bettered 2 = .ok (.invokevirtual 131, 3) := dk_182 0 131 (dk_at dksX0_bettered_0 2 rfl rfl)
theorem dX0_bettered_5 : decode cX0_bettered 5 = .ok (.ifCond .eq 14, 3) := dk_153 0 14 (dk_at dksX0_bettered_0 5 rfl rfl)
theorem dX0_bettered_8 : decode cX0_bettered 8 = .ok (.aload_n 0, 1) := dk_42 (dk_at dksX0_bettered_0 8 rfl rfl)
theorem dX0_bettered_9 : decode cX0_bettered 9 = .ok (.iload_n 1, 1) := dk_27 (dk_at dksX0_bettered_0 9 rfl rfl)
theorem dX0_bettered_10 : decode cX0_bettered 10 = .ok (.invokevirtual 290, 3) := dk_182 1 34 (dk_at dksX0_bettered_0 10 rfl rfl)
theorem dX0_bettered_13 : decode cX0_bettered 13 = .ok (.getfield 295, 3) := dk_180 1 39 (dk_at dksX0_bettered_0 13 rfl rfl)
theorem dX0_bettered_16 : decode cX0_bettered 16 = .ok (.goto 5, 3) := dk_167 0 5 (dk_at dksX0_bettered_0 16 rfl rfl)
theorem dX0_bettered_19 : decode cX0_bettered 19 = .ok (.bipush (-2), 2) := dk_16 254 (dk_at dksX0_bettered_0 19 rfl rfl)
theorem dX0_bettered_21 : decode cX0_bettered 21 = .ok (.ireturn, 1) := dk_172 (dk_at dksX0_bettered_0 21 rfl rfl)
abbrev cX0_length : ByteArray := prog_1_method_47_code
def yX0_length : MethodName := ⟨RX0, "length", "(III)J"⟩
def dkwX0_length_2 : List UInt8 := [182, 1, 42, 22, 4, 22, 4, 105, 29, 184, 0, 195, 173]
abbrev dktX0_length_2 : List UInt8 := dkwX0_length_2 ++ []
def dkwX0_length_1 : List UInt8 := [20, 0, 190, 173, 42, 27, 182, 0, 142, 182, 0, 154, 55, 4, 42, 27, 182, 1, 34, 180, 1, 38, 28]
abbrev dktX0_length_1 : List UInt8 := dkwX0_length_1 ++ dktX0_length_2
def dkwX0_length_0 : List UInt8 := [42, 27, 182, 0, 131, 153, 0, 17, 28, 184, 0, 135, 153, 0, 10, 29, 184, 0, 187, 154, 0, 7]
abbrev dktX0_length_0 : List UInt8 := dkwX0_length_0 ++ dktX0_length_1
theorem dksX0_length_0 : cX0_length.data.toList.drop 0 = dktX0_length_0 := by decide +kernel
theorem dksX0_length_1 : cX0_length.data.toList.drop 22 = dktX0_length_1 := dk_seg dksX0_length_0 22 rfl rfl
theorem dksX0_length_2 : cX0_length.data.toList.drop 45 = dktX0_length_2 := dk_seg dksX0_length_1 23 rfl rfl
theorem dX0_length_0 : decode cX0_length 0 = .ok (.aload_n 0, 1) := dk_42 (dk_at dksX0_length_0 0 rfl rfl)
theorem dX0_length_1 : decode cX0_length 1 = .ok (.iload_n 1, 1) := dk_27 (dk_at dksX0_length_0 1 rfl rfl)
theorem dX0_length_2 : decode cX0_length 2 = .ok (.invokevirtual 131, 3) := dk_182 0 131 (dk_at dksX0_length_0 2 rfl rfl)
theorem dX0_length_5 : decode cX0_length 5 = .ok (.ifCond .eq 17, 3) := dk_153 0 17 (dk_at dksX0_length_0 5 rfl rfl)
theorem dX0_length_8 : decode cX0_length 8 = .ok (.iload_n 2, 1) := dk_28 (dk_at dksX0_length_0 8 rfl rfl)
theorem dX0_length_9 : decode cX0_length 9 = .ok (.invokestatic 135, 3) := dk_184 0 135 (dk_at dksX0_length_0 9 rfl rfl)
theorem dX0_length_12 : decode cX0_length 12 = .ok (.ifCond .eq 10, 3) := dk_153 0 10 (dk_at dksX0_length_0 12 rfl rfl)
theorem dX0_length_15 : decode cX0_length 15 = .ok (.iload_n 3, 1) := dk_29 (dk_at dksX0_length_0 15 rfl rfl)
theorem dX0_length_16 : decode cX0_length 16 = .ok (.invokestatic 187, 3) := dk_184 0 187 (dk_at dksX0_length_0 16 rfl rfl)
theorem dX0_length_19 : decode cX0_length 19 = .ok (.ifCond .ne 7, 3) := dk_154 0 7 (dk_at dksX0_length_0 19 rfl rfl)
theorem dX0_length_22 : decode cX0_length 22 = .ok (.ldc2_w 190, 3) := dk_20 0 190 (dk_at dksX0_length_1 0 rfl rfl)
theorem dX0_length_25 : decode cX0_length 25 = .ok (.lreturn, 1) := dk_173 (dk_at dksX0_length_1 3 rfl rfl)
theorem dX0_length_26 : decode cX0_length 26 = .ok (.aload_n 0, 1) := dk_42 (dk_at dksX0_length_1 4 rfl rfl)
theorem dX0_length_27 : decode cX0_length 27 = .ok (.iload_n 1, 1) := dk_27 (dk_at dksX0_length_1 5 rfl rfl)
theorem dX0_length_28 : decode cX0_length 28 = .ok (.invokevirtual 142, 3) := dk_182 0 142 (dk_at dksX0_length_1 6 rfl rfl)
theorem dX0_length_31 : decode cX0_length 31 = .ok (.invokevirtual 154, 3) := dk_182 0 154 (dk_at dksX0_length_1 9 rfl rfl)
theorem dX0_length_34 : decode cX0_length 34 = .ok (.lstore 4, 2) := dk_55 4 (dk_at dksX0_length_1 12 rfl rfl)
theorem dX0_length_36 : decode cX0_length 36 = .ok (.aload_n 0, 1) := dk_42 (dk_at dksX0_length_1 14 rfl rfl)
theorem dX0_length_37 : decode cX0_length 37 = .ok (.iload_n 1, 1) := dk_27 (dk_at dksX0_length_1 15 rfl rfl)
theorem dX0_length_38 : decode cX0_length 38 = .ok (.invokevirtual 290, 3) := dk_182 1 34 (dk_at dksX0_length_1 16 rfl rfl)
theorem dX0_length_41 : decode cX0_length 41 = .ok (.getfield 294, 3) := dk_180 1 38 (dk_at dksX0_length_1 19 rfl rfl)
theorem dX0_length_44 : decode cX0_length 44 = .ok (.iload_n 2, 1) := dk_28 (dk_at dksX0_length_1 22 rfl rfl)
theorem dX0_length_45 : decode cX0_length 45 = .ok (.invokevirtual 298, 3) := dk_182 1 42 (dk_at dksX0_length_2 0 rfl rfl)
theorem dX0_length_48 : decode cX0_length 48 = .ok (.lload 4, 2) := dk_22 4 (dk_at dksX0_length_2 3 rfl rfl)
theorem dX0_length_50 : decode cX0_length 50 = .ok (.lload 4, 2) := dk_22 4 (dk_at dksX0_length_2 5 rfl rfl)
theorem dX0_length_52 : decode cX0_length 52 = .ok (.lmul, 1) := dk_105 (dk_at dksX0_length_2 7 rfl rfl)
theorem dX0_length_53 : decode cX0_length 53 = .ok (.iload_n 3, 1) := dk_29 (dk_at dksX0_length_2 8 rfl rfl)
theorem dX0_length_54 : decode cX0_length 54 = .ok (.invokestatic 195, 3) := dk_184 0 195 (dk_at dksX0_length_2 9 rfl rfl)
theorem dX0_length_57 : decode cX0_length 57 = .ok (.lreturn, 1) := dk_173 (dk_at dksX0_length_2 12 rfl rfl)
abbrev cX0_kiss : ByteArray := prog_1_method_48_code
def yX0_kiss : MethodName := ⟨RX0, "kiss", "(I)I"⟩
def dkwX0_kiss_0 : List UInt8 := [42, 27, 182, 0, 131, 153, 0, 14, 42, 27, 182, 1, 34, 182, 1, 45, 167, 0, 5, 16, 254, 172]
abbrev dktX0_kiss_0 : List UInt8 := dkwX0_kiss_0 ++ []
theorem dksX0_kiss_0 : cX0_kiss.data.toList.drop 0 = dktX0_kiss_0 := by decide +kernel
theorem dX0_kiss_0 : decode cX0_kiss 0 = .ok (.aload_n 0, 1) := dk_42 (dk_at dksX0_kiss_0 0 rfl rfl)
theorem dX0_kiss_1 : decode cX0_kiss 1 = .ok (.iload_n 1, 1) := dk_27 (dk_at dksX0_kiss_0 1 rfl rfl)
theorem dX0_kiss_2 : decode cX0_kiss 2 = .ok (.invokevirtual 131, 3) := dk_182 0 131 (dk_at dksX0_kiss_0 2 rfl rfl)
theorem dX0_kiss_5 : decode cX0_kiss 5 = .ok (.ifCond .eq 14, 3) := dk_153 0 14 (dk_at dksX0_kiss_0 5 rfl rfl)
theorem dX0_kiss_8 : decode cX0_kiss 8 = .ok (.aload_n 0, 1) := dk_42 (dk_at dksX0_kiss_0 8 rfl rfl)
theorem dX0_kiss_9 : decode cX0_kiss 9 = .ok (.iload_n 1, 1) := dk_27 (dk_at dksX0_kiss_0 9 rfl rfl)
theorem dX0_kiss_10 : decode cX0_kiss 10 = .ok (.invokevirtual 290, 3) := dk_182 1 34 (dk_at dksX0_kiss_0 10 rfl rfl)
theorem dX0_kiss_13 : decode cX0_kiss 13 = .ok (.invokevirtual 301, 3) := dk_182 1 45 (dk_at dksX0_kiss_0 13 rfl rfl)
theorem dX0_kiss_16 : decode cX0_kiss 16 = .ok (.goto 5, 3) := dk_167 0 5 (dk_at dksX0_kiss_0 16 rfl rfl)
theorem dX0_kiss_19 : decode cX0_kiss 19 = .ok (.bipush (-2), 2) := dk_16 254 (dk_at dksX0_kiss_0 19 rfl rfl)
theorem dX0_kiss_21 : decode cX0_kiss 21 = .ok (.ireturn, 1) := dk_172 (dk_at dksX0_kiss_0 21 rfl rfl)
abbrev cX0_meetLength : ByteArray := prog_1_method_49_code
def yX0_meetLength : MethodName := ⟨RX0, "meetLength", "(III)J"⟩
def dkwX0_meetLength_3 : List UInt8 := [180, 1, 7, 105, 29, 184, 0, 195, 173]
abbrev dktX0_meetLength_3 : List UInt8 := dkwX0_meetLength_3 ++ []
def dkwX0_meetLength_2 : List UInt8 := [89, 25, 5, 180, 1, 9, 183, 1, 33, 180, 1, 38, 3, 182, 1, 42, 25, 5, 180, 1, 7, 25, 5]
abbrev dktX0_meetLength_2 : List UInt8 := dkwX0_meetLength_2 ++ dktX0_meetLength_3
def dkwX0_meetLength_1 : List UInt8 := [20, 0, 190, 173, 21, 4, 156, 0, 7, 21, 4, 133, 173, 42, 27, 28, 182, 1, 3, 58, 5, 187, 1, 31]
abbrev dktX0_meetLength_1 : List UInt8 := dkwX0_meetLength_1 ++ dktX0_meetLength_2
def dkwX0_meetLength_0 : List UInt8 := [42, 27, 28, 182, 0, 220, 54, 4, 21, 4, 16, 254, 159, 0, 10, 29, 184, 0, 187, 154, 0, 7]
abbrev dktX0_meetLength_0 : List UInt8 := dkwX0_meetLength_0 ++ dktX0_meetLength_1
theorem dksX0_meetLength_0 : cX0_meetLength.data.toList.drop 0 = dktX0_meetLength_0 := by decide +kernel
theorem dksX0_meetLength_1 : cX0_meetLength.data.toList.drop 22 = dktX0_meetLength_1 := dk_seg dksX0_meetLength_0 22 rfl rfl
theorem dksX0_meetLength_2 : cX0_meetLength.data.toList.drop 46 = dktX0_meetLength_2 := dk_seg dksX0_meetLength_1 24 rfl rfl
theorem dksX0_meetLength_3 : cX0_meetLength.data.toList.drop 69 = dktX0_meetLength_3 := dk_seg dksX0_meetLength_2 23 rfl rfl
theorem dX0_meetLength_0 : decode cX0_meetLength 0 = .ok (.aload_n 0, 1) := dk_42 (dk_at dksX0_meetLength_0 0 rfl rfl)
theorem dX0_meetLength_1 : decode cX0_meetLength 1 = .ok (.iload_n 1, 1) := dk_27 (dk_at dksX0_meetLength_0 1 rfl rfl)
theorem dX0_meetLength_2 : decode cX0_meetLength 2 = .ok (.iload_n 2, 1) := dk_28 (dk_at dksX0_meetLength_0 2 rfl rfl)
theorem dX0_meetLength_3 : decode cX0_meetLength 3 = .ok (.invokevirtual 220, 3) := dk_182 0 220 (dk_at dksX0_meetLength_0 3 rfl rfl)
theorem dX0_meetLength_6 : decode cX0_meetLength 6 = .ok (.istore 4, 2) := dk_54 4 (dk_at dksX0_meetLength_0 6 rfl rfl)
theorem dX0_meetLength_8 : decode cX0_meetLength 8 = .ok (.iload 4, 2) := dk_21 4 (dk_at dksX0_meetLength_0 8 rfl rfl)
theorem dX0_meetLength_10 : decode cX0_meetLength 10 = .ok (.bipush (-2), 2) := dk_16 254 (dk_at dksX0_meetLength_0 10 rfl rfl)
theorem dX0_meetLength_12 : decode cX0_meetLength 12 = .ok (.if_icmp .eq 10, 3) := dk_159 0 10 (dk_at dksX0_meetLength_0 12 rfl rfl)
theorem dX0_meetLength_15 : decode cX0_meetLength 15 = .ok (.iload_n 3, 1) := dk_29 (dk_at dksX0_meetLength_0 15 rfl rfl)
theorem dX0_meetLength_16 : decode cX0_meetLength 16 = .ok (.invokestatic 187, 3) := dk_184 0 187 (dk_at dksX0_meetLength_0 16 rfl rfl)
theorem dX0_meetLength_19 : decode cX0_meetLength 19 = .ok (.ifCond .ne 7, 3) := dk_154 0 7 (dk_at dksX0_meetLength_0 19 rfl rfl)
theorem dX0_meetLength_22 : decode cX0_meetLength 22 = .ok (.ldc2_w 190, 3) := dk_20 0 190 (dk_at dksX0_meetLength_1 0 rfl rfl)
theorem dX0_meetLength_25 : decode cX0_meetLength 25 = .ok (.lreturn, 1) := dk_173 (dk_at dksX0_meetLength_1 3 rfl rfl)
theorem dX0_meetLength_26 : decode cX0_meetLength 26 = .ok (.iload 4, 2) := dk_21 4 (dk_at dksX0_meetLength_1 4 rfl rfl)
theorem dX0_meetLength_28 : decode cX0_meetLength 28 = .ok (.ifCond .ge 7, 3) := dk_156 0 7 (dk_at dksX0_meetLength_1 6 rfl rfl)
theorem dX0_meetLength_31 : decode cX0_meetLength 31 = .ok (.iload 4, 2) := dk_21 4 (dk_at dksX0_meetLength_1 9 rfl rfl)
theorem dX0_meetLength_33 : decode cX0_meetLength 33 = .ok (.i2l, 1) := dk_133 (dk_at dksX0_meetLength_1 11 rfl rfl)
theorem dX0_meetLength_34 : decode cX0_meetLength 34 = .ok (.lreturn, 1) := dk_173 (dk_at dksX0_meetLength_1 12 rfl rfl)
theorem dX0_meetLength_35 : decode cX0_meetLength 35 = .ok (.aload_n 0, 1) := dk_42 (dk_at dksX0_meetLength_1 13 rfl rfl)
theorem dX0_meetLength_36 : decode cX0_meetLength 36 = .ok (.iload_n 1, 1) := dk_27 (dk_at dksX0_meetLength_1 14 rfl rfl)
theorem dX0_meetLength_37 : decode cX0_meetLength 37 = .ok (.iload_n 2, 1) := dk_28 (dk_at dksX0_meetLength_1 15 rfl rfl)
theorem dX0_meetLength_38 : decode cX0_meetLength 38 = .ok (.invokevirtual 259, 3) := dk_182 1 3 (dk_at dksX0_meetLength_1 16 rfl rfl)
theorem dX0_meetLength_41 : decode cX0_meetLength 41 = .ok (.astore 5, 2) := dk_58 5 (dk_at dksX0_meetLength_1 19 rfl rfl)
theorem dX0_meetLength_43 : decode cX0_meetLength 43 = .ok (.new 287, 3) := dk_187 1 31 (dk_at dksX0_meetLength_1 21 rfl rfl)
theorem dX0_meetLength_46 : decode cX0_meetLength 46 = .ok (.dup, 1) := dk_89 (dk_at dksX0_meetLength_2 0 rfl rfl)
theorem dX0_meetLength_47 : decode cX0_meetLength 47 = .ok (.aload 5, 2) := dk_25 5 (dk_at dksX0_meetLength_2 1 rfl rfl)
theorem dX0_meetLength_49 : decode cX0_meetLength 49 = .ok (.getfield 265, 3) := dk_180 1 9 (dk_at dksX0_meetLength_2 3 rfl rfl)
theorem dX0_meetLength_52 : decode cX0_meetLength 52 = .ok (.invokespecial 289, 3) := dk_183 1 33 (dk_at dksX0_meetLength_2 6 rfl rfl)
theorem dX0_meetLength_55 : decode cX0_meetLength 55 = .ok (.getfield 294, 3) := dk_180 1 38 (dk_at dksX0_meetLength_2 9 rfl rfl)
theorem dX0_meetLength_58 : decode cX0_meetLength 58 = .ok (.iconst 0, 1) := dk_3 (dk_at dksX0_meetLength_2 12 rfl rfl)
theorem dX0_meetLength_59 : decode cX0_meetLength 59 = .ok (.invokevirtual 298, 3) := dk_182 1 42 (dk_at dksX0_meetLength_2 13 rfl rfl)
theorem dX0_meetLength_62 : decode cX0_meetLength 62 = .ok (.aload 5, 2) := dk_25 5 (dk_at dksX0_meetLength_2 16 rfl rfl)
theorem dX0_meetLength_64 : decode cX0_meetLength 64 = .ok (.getfield 263, 3) := dk_180 1 7 (dk_at dksX0_meetLength_2 18 rfl rfl)
theorem dX0_meetLength_67 : decode cX0_meetLength 67 = .ok (.aload 5, 2) := dk_25 5 (dk_at dksX0_meetLength_2 21 rfl rfl)
theorem dX0_meetLength_69 : decode cX0_meetLength 69 = .ok (.getfield 263, 3) := dk_180 1 7 (dk_at dksX0_meetLength_3 0 rfl rfl)
theorem dX0_meetLength_72 : decode cX0_meetLength 72 = .ok (.lmul, 1) := dk_105 (dk_at dksX0_meetLength_3 3 rfl rfl)
theorem dX0_meetLength_73 : decode cX0_meetLength 73 = .ok (.iload_n 3, 1) := dk_29 (dk_at dksX0_meetLength_3 4 rfl rfl)
theorem dX0_meetLength_74 : decode cX0_meetLength 74 = .ok (.invokestatic 195, 3) := dk_184 0 195 (dk_at dksX0_meetLength_3 5 rfl rfl)
theorem dX0_meetLength_77 : decode cX0_meetLength 77 = .ok (.lreturn, 1) := dk_173 (dk_at dksX0_meetLength_3 8 rfl rfl)
abbrev cX0_area : ByteArray := prog_1_method_51_code
def yX0_area : MethodName := ⟨RX0, "area", "(IIIII)J"⟩
def dkwX0_area_7 : List UInt8 := [105, 21, 5, 184, 0, 195, 173]
abbrev dktX0_area_7 : List UInt8 := dkwX0_area_7 ++ []
def dkwX0_area_6 : List UInt8 := [22, 7, 22, 7, 105, 28, 28, 104, 29, 29, 104, 96, 21, 4, 21, 4, 104, 96, 133, 105, 22, 9, 22, 9]
abbrev dktX0_area_6 : List UInt8 := dkwX0_area_6 ++ dktX0_area_7
def dkwX0_area_5 : List UInt8 := [22, 7, 22, 9, 184, 0, 7, 55, 11, 22, 7, 22, 11, 109, 55, 7, 22, 9, 22, 11, 109, 55, 9]
abbrev dktX0_area_5 : List UInt8 := dkwX0_area_5 ++ dktX0_area_6
def dkwX0_area_4 : List UInt8 := [184, 0, 7, 109, 42, 27, 182, 0, 142, 182, 0, 154, 105, 42, 27, 182, 0, 142, 182, 0, 154, 105, 55, 9]
abbrev dktX0_area_4 : List UInt8 := dkwX0_area_4 ++ dktX0_area_5
def dkwX0_area_3 : List UInt8 := [25, 6, 42, 180, 0, 36, 182, 1, 55, 25, 6, 182, 0, 192, 25, 6, 42, 180, 0, 36, 182, 1, 55]
abbrev dktX0_area_3 : List UInt8 := dkwX0_area_3 ++ dktX0_area_4
def dkwX0_area_2 : List UInt8 := [184, 0, 1, 25, 6, 182, 0, 192, 25, 6, 42, 180, 0, 36, 182, 1, 55, 184, 0, 7, 109, 55, 7]
abbrev dktX0_area_2 : List UInt8 := dkwX0_area_2 ++ dktX0_area_3
def dkwX0_area_1 : List UInt8 := [154, 0, 7, 20, 0, 190, 173, 42, 27, 182, 0, 142, 182, 0, 146, 58, 6, 25, 6, 182, 0, 192]
abbrev dktX0_area_1 : List UInt8 := dkwX0_area_1 ++ dktX0_area_2
def dkwX0_area_0 : List UInt8 := [42, 27, 182, 0, 131, 153, 0, 22, 42, 28, 29, 21, 4, 182, 1, 52, 153, 0, 11, 21, 5, 184, 0, 187]
abbrev dktX0_area_0 : List UInt8 := dkwX0_area_0 ++ dktX0_area_1
theorem dksX0_area_0 : cX0_area.data.toList.drop 0 = dktX0_area_0 := by decide +kernel
theorem dksX0_area_1 : cX0_area.data.toList.drop 24 = dktX0_area_1 := dk_seg dksX0_area_0 24 rfl rfl
theorem dksX0_area_2 : cX0_area.data.toList.drop 46 = dktX0_area_2 := dk_seg dksX0_area_1 22 rfl rfl
theorem dksX0_area_3 : cX0_area.data.toList.drop 69 = dktX0_area_3 := dk_seg dksX0_area_2 23 rfl rfl
theorem dksX0_area_4 : cX0_area.data.toList.drop 92 = dktX0_area_4 := dk_seg dksX0_area_3 23 rfl rfl
theorem dksX0_area_5 : cX0_area.data.toList.drop 116 = dktX0_area_5 := dk_seg dksX0_area_4 24 rfl rfl
theorem dksX0_area_6 : cX0_area.data.toList.drop 139 = dktX0_area_6 := dk_seg dksX0_area_5 23 rfl rfl
theorem dksX0_area_7 : cX0_area.data.toList.drop 163 = dktX0_area_7 := dk_seg dksX0_area_6 24 rfl rfl
theorem dX0_area_0 : decode cX0_area 0 = .ok (.aload_n 0, 1) := dk_42 (dk_at dksX0_area_0 0 rfl rfl)
theorem dX0_area_1 : decode cX0_area 1 = .ok (.iload_n 1, 1) := dk_27 (dk_at dksX0_area_0 1 rfl rfl)
theorem dX0_area_2 : decode cX0_area 2 = .ok (.invokevirtual 131, 3) := dk_182 0 131 (dk_at dksX0_area_0 2 rfl rfl)
theorem dX0_area_5 : decode cX0_area 5 = .ok (.ifCond .eq 22, 3) := dk_153 0 22 (dk_at dksX0_area_0 5 rfl rfl)
theorem dX0_area_8 : decode cX0_area 8 = .ok (.aload_n 0, 1) := dk_42 (dk_at dksX0_area_0 8 rfl rfl)
theorem dX0_area_9 : decode cX0_area 9 = .ok (.iload_n 2, 1) := dk_28 (dk_at dksX0_area_0 9 rfl rfl)
theorem dX0_area_10 : decode cX0_area 10 = .ok (.iload_n 3, 1) := dk_29 (dk_at dksX0_area_0 10 rfl rfl)
theorem dX0_area_11 : decode cX0_area 11 = .ok (.iload 4, 2) := dk_21 4 (dk_at dksX0_area_0 11 rfl rfl)
theorem dX0_area_13 : decode cX0_area 13 = .ok (.invokevirtual 308, 3) := dk_182 1 52 (dk_at dksX0_area_0 13 rfl rfl)
theorem dX0_area_16 : decode cX0_area 16 = .ok (.ifCond .eq 11, 3) := dk_153 0 11 (dk_at dksX0_area_0 16 rfl rfl)
theorem dX0_area_19 : decode cX0_area 19 = .ok (.iload 5, 2) := dk_21 5 (dk_at dksX0_area_0 19 rfl rfl)
theorem dX0_area_21 : decode cX0_area 21 = .ok (.invokestatic 187, 3) := dk_184 0 187 (dk_at dksX0_area_0 21 rfl rfl)
theorem dX0_area_24 : decode cX0_area 24 = .ok (.ifCond .ne 7, 3) := dk_154 0 7 (dk_at dksX0_area_1 0 rfl rfl)
theorem dX0_area_27 : decode cX0_area 27 = .ok (.ldc2_w 190, 3) := dk_20 0 190 (dk_at dksX0_area_1 3 rfl rfl)
theorem dX0_area_30 : decode cX0_area 30 = .ok (.lreturn, 1) := dk_173 (dk_at dksX0_area_1 6 rfl rfl)
theorem dX0_area_31 : decode cX0_area 31 = .ok (.aload_n 0, 1) := dk_42 (dk_at dksX0_area_1 7 rfl rfl)
theorem dX0_area_32 : decode cX0_area 32 = .ok (.iload_n 1, 1) := dk_27 (dk_at dksX0_area_1 8 rfl rfl)
theorem dX0_area_33 : decode cX0_area 33 = .ok (.invokevirtual 142, 3) := dk_182 0 142 (dk_at dksX0_area_1 9 rfl rfl)
theorem dX0_area_36 : decode cX0_area 36 = .ok (.invokevirtual 146, 3) := dk_182 0 146 (dk_at dksX0_area_1 12 rfl rfl)
theorem dX0_area_39 : decode cX0_area 39 = .ok (.astore 6, 2) := dk_58 6 (dk_at dksX0_area_1 15 rfl rfl)
theorem dX0_area_41 : decode cX0_area 41 = .ok (.aload 6, 2) := dk_25 6 (dk_at dksX0_area_1 17 rfl rfl)
theorem dX0_area_43 : decode cX0_area 43 = .ok (.invokevirtual 192, 3) := dk_182 0 192 (dk_at dksX0_area_1 19 rfl rfl)
theorem dX0_area_46 : decode cX0_area 46 = .ok (.invokestatic 1, 3) := dk_184 0 1 (dk_at dksX0_area_2 0 rfl rfl)
theorem dX0_area_49 : decode cX0_area 49 = .ok (.aload 6, 2) := dk_25 6 (dk_at dksX0_area_2 3 rfl rfl)
theorem dX0_area_51 : decode cX0_area 51 = .ok (.invokevirtual 192, 3) := dk_182 0 192 (dk_at dksX0_area_2 5 rfl rfl)
theorem dX0_area_54 : decode cX0_area 54 = .ok (.aload 6, 2) := dk_25 6 (dk_at dksX0_area_2 8 rfl rfl)
theorem dX0_area_56 : decode cX0_area 56 = .ok (.aload_n 0, 1) := dk_42 (dk_at dksX0_area_2 10 rfl rfl)
theorem dX0_area_57 : decode cX0_area 57 = .ok (.getfield 36, 3) := dk_180 0 36 (dk_at dksX0_area_2 11 rfl rfl)
theorem dX0_area_60 : decode cX0_area 60 = .ok (.invokevirtual 311, 3) := dk_182 1 55 (dk_at dksX0_area_2 14 rfl rfl)
theorem dX0_area_63 : decode cX0_area 63 = .ok (.invokestatic 7, 3) := dk_184 0 7 (dk_at dksX0_area_2 17 rfl rfl)
theorem dX0_area_66 : decode cX0_area 66 = .ok (.ldiv, 1) := dk_109 (dk_at dksX0_area_2 20 rfl rfl)
theorem dX0_area_67 : decode cX0_area 67 = .ok (.lstore 7, 2) := dk_55 7 (dk_at dksX0_area_2 21 rfl rfl)
theorem dX0_area_69 : decode cX0_area 69 = .ok (.aload 6, 2) := dk_25 6 (dk_at dksX0_area_3 0 rfl rfl)
theorem dX0_area_71 : decode cX0_area 71 = .ok (.aload_n 0, 1) := dk_42 (dk_at dksX0_area_3 2 rfl rfl)
theorem dX0_area_72 : decode cX0_area 72 = .ok (.getfield 36, 3) := dk_180 0 36 (dk_at dksX0_area_3 3 rfl rfl)
theorem dX0_area_75 : decode cX0_area 75 = .ok (.invokevirtual 311, 3) := dk_182 1 55 (dk_at dksX0_area_3 6 rfl rfl)
theorem dX0_area_78 : decode cX0_area 78 = .ok (.aload 6, 2) := dk_25 6 (dk_at dksX0_area_3 9 rfl rfl)
theorem dX0_area_80 : decode cX0_area 80 = .ok (.invokevirtual 192, 3) := dk_182 0 192 (dk_at dksX0_area_3 11 rfl rfl)
theorem dX0_area_83 : decode cX0_area 83 = .ok (.aload 6, 2) := dk_25 6 (dk_at dksX0_area_3 14 rfl rfl)
theorem dX0_area_85 : decode cX0_area 85 = .ok (.aload_n 0, 1) := dk_42 (dk_at dksX0_area_3 16 rfl rfl)
theorem dX0_area_86 : decode cX0_area 86 = .ok (.getfield 36, 3) := dk_180 0 36 (dk_at dksX0_area_3 17 rfl rfl)
theorem dX0_area_89 : decode cX0_area 89 = .ok (.invokevirtual 311, 3) := dk_182 1 55 (dk_at dksX0_area_3 20 rfl rfl)
theorem dX0_area_92 : decode cX0_area 92 = .ok (.invokestatic 7, 3) := dk_184 0 7 (dk_at dksX0_area_4 0 rfl rfl)
theorem dX0_area_95 : decode cX0_area 95 = .ok (.ldiv, 1) := dk_109 (dk_at dksX0_area_4 3 rfl rfl)
theorem dX0_area_96 : decode cX0_area 96 = .ok (.aload_n 0, 1) := dk_42 (dk_at dksX0_area_4 4 rfl rfl)
theorem dX0_area_97 : decode cX0_area 97 = .ok (.iload_n 1, 1) := dk_27 (dk_at dksX0_area_4 5 rfl rfl)
theorem dX0_area_98 : decode cX0_area 98 = .ok (.invokevirtual 142, 3) := dk_182 0 142 (dk_at dksX0_area_4 6 rfl rfl)
theorem dX0_area_101 : decode cX0_area 101 = .ok (.invokevirtual 154, 3) := dk_182 0 154 (dk_at dksX0_area_4 9 rfl rfl)
theorem dX0_area_104 : decode cX0_area 104 = .ok (.lmul, 1) := dk_105 (dk_at dksX0_area_4 12 rfl rfl)
theorem dX0_area_105 : decode cX0_area 105 = .ok (.aload_n 0, 1) := dk_42 (dk_at dksX0_area_4 13 rfl rfl)
theorem dX0_area_106 : decode cX0_area 106 = .ok (.iload_n 1, 1) := dk_27 (dk_at dksX0_area_4 14 rfl rfl)
theorem dX0_area_107 : decode cX0_area 107 = .ok (.invokevirtual 142, 3) := dk_182 0 142 (dk_at dksX0_area_4 15 rfl rfl)
theorem dX0_area_110 : decode cX0_area 110 = .ok (.invokevirtual 154, 3) := dk_182 0 154 (dk_at dksX0_area_4 18 rfl rfl)
theorem dX0_area_113 : decode cX0_area 113 = .ok (.lmul, 1) := dk_105 (dk_at dksX0_area_4 21 rfl rfl)
theorem dX0_area_114 : decode cX0_area 114 = .ok (.lstore 9, 2) := dk_55 9 (dk_at dksX0_area_4 22 rfl rfl)
theorem dX0_area_116 : decode cX0_area 116 = .ok (.lload 7, 2) := dk_22 7 (dk_at dksX0_area_5 0 rfl rfl)
theorem dX0_area_118 : decode cX0_area 118 = .ok (.lload 9, 2) := dk_22 9 (dk_at dksX0_area_5 2 rfl rfl)
theorem dX0_area_120 : decode cX0_area 120 = .ok (.invokestatic 7, 3) := dk_184 0 7 (dk_at dksX0_area_5 4 rfl rfl)
theorem dX0_area_123 : decode cX0_area 123 = .ok (.lstore 11, 2) := dk_55 11 (dk_at dksX0_area_5 7 rfl rfl)
theorem dX0_area_125 : decode cX0_area 125 = .ok (.lload 7, 2) := dk_22 7 (dk_at dksX0_area_5 9 rfl rfl)
theorem dX0_area_127 : decode cX0_area 127 = .ok (.lload 11, 2) := dk_22 11 (dk_at dksX0_area_5 11 rfl rfl)
theorem dX0_area_129 : decode cX0_area 129 = .ok (.ldiv, 1) := dk_109 (dk_at dksX0_area_5 13 rfl rfl)
theorem dX0_area_130 : decode cX0_area 130 = .ok (.lstore 7, 2) := dk_55 7 (dk_at dksX0_area_5 14 rfl rfl)
theorem dX0_area_132 : decode cX0_area 132 = .ok (.lload 9, 2) := dk_22 9 (dk_at dksX0_area_5 16 rfl rfl)
theorem dX0_area_134 : decode cX0_area 134 = .ok (.lload 11, 2) := dk_22 11 (dk_at dksX0_area_5 18 rfl rfl)
theorem dX0_area_136 : decode cX0_area 136 = .ok (.ldiv, 1) := dk_109 (dk_at dksX0_area_5 20 rfl rfl)
theorem dX0_area_137 : decode cX0_area 137 = .ok (.lstore 9, 2) := dk_55 9 (dk_at dksX0_area_5 21 rfl rfl)
theorem dX0_area_139 : decode cX0_area 139 = .ok (.lload 7, 2) := dk_22 7 (dk_at dksX0_area_6 0 rfl rfl)
theorem dX0_area_141 : decode cX0_area 141 = .ok (.lload 7, 2) := dk_22 7 (dk_at dksX0_area_6 2 rfl rfl)
theorem dX0_area_143 : decode cX0_area 143 = .ok (.lmul, 1) := dk_105 (dk_at dksX0_area_6 4 rfl rfl)
theorem dX0_area_144 : decode cX0_area 144 = .ok (.iload_n 2, 1) := dk_28 (dk_at dksX0_area_6 5 rfl rfl)
theorem dX0_area_145 : decode cX0_area 145 = .ok (.iload_n 2, 1) := dk_28 (dk_at dksX0_area_6 6 rfl rfl)
theorem dX0_area_146 : decode cX0_area 146 = .ok (.imul, 1) := dk_104 (dk_at dksX0_area_6 7 rfl rfl)
theorem dX0_area_147 : decode cX0_area 147 = .ok (.iload_n 3, 1) := dk_29 (dk_at dksX0_area_6 8 rfl rfl)
theorem dX0_area_148 : decode cX0_area 148 = .ok (.iload_n 3, 1) := dk_29 (dk_at dksX0_area_6 9 rfl rfl)
theorem dX0_area_149 : decode cX0_area 149 = .ok (.imul, 1) := dk_104 (dk_at dksX0_area_6 10 rfl rfl)
theorem dX0_area_150 : decode cX0_area 150 = .ok (.iadd, 1) := dk_96 (dk_at dksX0_area_6 11 rfl rfl)
theorem dX0_area_151 : decode cX0_area 151 = .ok (.iload 4, 2) := dk_21 4 (dk_at dksX0_area_6 12 rfl rfl)
theorem dX0_area_153 : decode cX0_area 153 = .ok (.iload 4, 2) := dk_21 4 (dk_at dksX0_area_6 14 rfl rfl)
theorem dX0_area_155 : decode cX0_area 155 = .ok (.imul, 1) := dk_104 (dk_at dksX0_area_6 16 rfl rfl)
theorem dX0_area_156 : decode cX0_area 156 = .ok (.iadd, 1) := dk_96 (dk_at dksX0_area_6 17 rfl rfl)
theorem dX0_area_157 : decode cX0_area 157 = .ok (.i2l, 1) := dk_133 (dk_at dksX0_area_6 18 rfl rfl)
theorem dX0_area_158 : decode cX0_area 158 = .ok (.lmul, 1) := dk_105 (dk_at dksX0_area_6 19 rfl rfl)
theorem dX0_area_159 : decode cX0_area 159 = .ok (.lload 9, 2) := dk_22 9 (dk_at dksX0_area_6 20 rfl rfl)
theorem dX0_area_161 : decode cX0_area 161 = .ok (.lload 9, 2) := dk_22 9 (dk_at dksX0_area_6 22 rfl rfl)
theorem dX0_area_163 : decode cX0_area 163 = .ok (.lmul, 1) := dk_105 (dk_at dksX0_area_7 0 rfl rfl)
theorem dX0_area_164 : decode cX0_area 164 = .ok (.iload 5, 2) := dk_21 5 (dk_at dksX0_area_7 1 rfl rfl)
theorem dX0_area_166 : decode cX0_area 166 = .ok (.invokestatic 195, 3) := dk_184 0 195 (dk_at dksX0_area_7 3 rfl rfl)
theorem dX0_area_169 : decode cX0_area 169 = .ok (.lreturn, 1) := dk_173 (dk_at dksX0_area_7 6 rfl rfl)
abbrev cX0_isPlane : ByteArray := prog_1_method_50_code
def yX0_isPlane : MethodName := ⟨RX0, "isPlane", "(III)Z"⟩
def dkwX0_isPlane_3 : List UInt8 := [154, 0, 7, 29, 153, 0, 7, 4, 167, 0, 4, 3, 172]
abbrev dktX0_isPlane_3 : List UInt8 := dkwX0_isPlane_3 ++ []
def dkwX0_isPlane_2 : List UInt8 := [153, 0, 33, 29, 133, 20, 1, 48, 20, 1, 50, 184, 0, 72, 153, 0, 19, 27, 154, 0, 11, 28]
abbrev dktX0_isPlane_2 : List UInt8 := dkwX0_isPlane_2 ++ dktX0_isPlane_3
def dkwX0_isPlane_1 : List UInt8 := [20, 1, 48, 20, 1, 50, 184, 0, 72, 153, 0, 47, 28, 133, 20, 1, 48, 20, 1, 50, 184, 0, 72]
abbrev dktX0_isPlane_1 : List UInt8 := dkwX0_isPlane_1 ++ dktX0_isPlane_2
def dkwX0_isPlane_0 : List UInt8 := [42, 180, 0, 36, 3, 27, 79, 42, 180, 0, 36, 4, 28, 79, 42, 180, 0, 36, 5, 29, 79, 27, 133]
abbrev dktX0_isPlane_0 : List UInt8 := dkwX0_isPlane_0 ++ dktX0_isPlane_1
theorem dksX0_isPlane_0 : cX0_isPlane.data.toList.drop 0 = dktX0_isPlane_0 := by decide +kernel
theorem dksX0_isPlane_1 : cX0_isPlane.data.toList.drop 23 = dktX0_isPlane_1 := dk_seg dksX0_isPlane_0 23 rfl rfl
theorem dksX0_isPlane_2 : cX0_isPlane.data.toList.drop 46 = dktX0_isPlane_2 := dk_seg dksX0_isPlane_1 23 rfl rfl
theorem dksX0_isPlane_3 : cX0_isPlane.data.toList.drop 68 = dktX0_isPlane_3 := dk_seg dksX0_isPlane_2 22 rfl rfl
theorem dX0_isPlane_0 : decode cX0_isPlane 0 = .ok (.aload_n 0, 1) := dk_42 (dk_at dksX0_isPlane_0 0 rfl rfl)
theorem dX0_isPlane_1 : decode cX0_isPlane 1 = .ok (.getfield 36, 3) := dk_180 0 36 (dk_at dksX0_isPlane_0 1 rfl rfl)
theorem dX0_isPlane_4 : decode cX0_isPlane 4 = .ok (.iconst 0, 1) := dk_3 (dk_at dksX0_isPlane_0 4 rfl rfl)
theorem dX0_isPlane_5 : decode cX0_isPlane 5 = .ok (.iload_n 1, 1) := dk_27 (dk_at dksX0_isPlane_0 5 rfl rfl)
theorem dX0_isPlane_6 : decode cX0_isPlane 6 = .ok (.iastore, 1) := dk_79 (dk_at dksX0_isPlane_0 6 rfl rfl)
theorem dX0_isPlane_7 : decode cX0_isPlane 7 = .ok (.aload_n 0, 1) := dk_42 (dk_at dksX0_isPlane_0 7 rfl rfl)
theorem dX0_isPlane_8 : decode cX0_isPlane 8 = .ok (.getfield 36, 3) := dk_180 0 36 (dk_at dksX0_isPlane_0 8 rfl rfl)
theorem dX0_isPlane_11 : decode cX0_isPlane 11 = .ok (.iconst 1, 1) := dk_4 (dk_at dksX0_isPlane_0 11 rfl rfl)
theorem dX0_isPlane_12 : decode cX0_isPlane 12 = .ok (.iload_n 2, 1) := dk_28 (dk_at dksX0_isPlane_0 12 rfl rfl)
theorem dX0_isPlane_13 : decode cX0_isPlane 13 = .ok (.iastore, 1) := dk_79 (dk_at dksX0_isPlane_0 13 rfl rfl)
theorem dX0_isPlane_14 : decode cX0_isPlane 14 = .ok (.aload_n 0, 1) := dk_42 (dk_at dksX0_isPlane_0 14 rfl rfl)
theorem dX0_isPlane_15 : decode cX0_isPlane 15 = .ok (.getfield 36, 3) := dk_180 0 36 (dk_at dksX0_isPlane_0 15 rfl rfl)
theorem dX0_isPlane_18 : decode cX0_isPlane 18 = .ok (.iconst 2, 1) := dk_5 (dk_at dksX0_isPlane_0 18 rfl rfl)
theorem dX0_isPlane_19 : decode cX0_isPlane 19 = .ok (.iload_n 3, 1) := dk_29 (dk_at dksX0_isPlane_0 19 rfl rfl)
theorem dX0_isPlane_20 : decode cX0_isPlane 20 = .ok (.iastore, 1) := dk_79 (dk_at dksX0_isPlane_0 20 rfl rfl)
theorem dX0_isPlane_21 : decode cX0_isPlane 21 = .ok (.iload_n 1, 1) := dk_27 (dk_at dksX0_isPlane_0 21 rfl rfl)
theorem dX0_isPlane_22 : decode cX0_isPlane 22 = .ok (.i2l, 1) := dk_133 (dk_at dksX0_isPlane_0 22 rfl rfl)
theorem dX0_isPlane_23 : decode cX0_isPlane 23 = .ok (.ldc2_w 304, 3) := dk_20 1 48 (dk_at dksX0_isPlane_1 0 rfl rfl)
theorem dX0_isPlane_26 : decode cX0_isPlane 26 = .ok (.ldc2_w 306, 3) := dk_20 1 50 (dk_at dksX0_isPlane_1 3 rfl rfl)
theorem dX0_isPlane_29 : decode cX0_isPlane 29 = .ok (.invokestatic 72, 3) := dk_184 0 72 (dk_at dksX0_isPlane_1 6 rfl rfl)
theorem dX0_isPlane_32 : decode cX0_isPlane 32 = .ok (.ifCond .eq 47, 3) := dk_153 0 47 (dk_at dksX0_isPlane_1 9 rfl rfl)
theorem dX0_isPlane_35 : decode cX0_isPlane 35 = .ok (.iload_n 2, 1) := dk_28 (dk_at dksX0_isPlane_1 12 rfl rfl)
theorem dX0_isPlane_36 : decode cX0_isPlane 36 = .ok (.i2l, 1) := dk_133 (dk_at dksX0_isPlane_1 13 rfl rfl)
theorem dX0_isPlane_37 : decode cX0_isPlane 37 = .ok (.ldc2_w 304, 3) := dk_20 1 48 (dk_at dksX0_isPlane_1 14 rfl rfl)
theorem dX0_isPlane_40 : decode cX0_isPlane 40 = .ok (.ldc2_w 306, 3) := dk_20 1 50 (dk_at dksX0_isPlane_1 17 rfl rfl)
theorem dX0_isPlane_43 : decode cX0_isPlane 43 = .ok (.invokestatic 72, 3) := dk_184 0 72 (dk_at dksX0_isPlane_1 20 rfl rfl)
theorem dX0_isPlane_46 : decode cX0_isPlane 46 = .ok (.ifCond .eq 33, 3) := dk_153 0 33 (dk_at dksX0_isPlane_2 0 rfl rfl)
theorem dX0_isPlane_49 : decode cX0_isPlane 49 = .ok (.iload_n 3, 1) := dk_29 (dk_at dksX0_isPlane_2 3 rfl rfl)
theorem dX0_isPlane_50 : decode cX0_isPlane 50 = .ok (.i2l, 1) := dk_133 (dk_at dksX0_isPlane_2 4 rfl rfl)
theorem dX0_isPlane_51 : decode cX0_isPlane 51 = .ok (.ldc2_w 304, 3) := dk_20 1 48 (dk_at dksX0_isPlane_2 5 rfl rfl)
theorem dX0_isPlane_54 : decode cX0_isPlane 54 = .ok (.ldc2_w 306, 3) := dk_20 1 50 (dk_at dksX0_isPlane_2 8 rfl rfl)
theorem dX0_isPlane_57 : decode cX0_isPlane 57 = .ok (.invokestatic 72, 3) := dk_184 0 72 (dk_at dksX0_isPlane_2 11 rfl rfl)
theorem dX0_isPlane_60 : decode cX0_isPlane 60 = .ok (.ifCond .eq 19, 3) := dk_153 0 19 (dk_at dksX0_isPlane_2 14 rfl rfl)
theorem dX0_isPlane_63 : decode cX0_isPlane 63 = .ok (.iload_n 1, 1) := dk_27 (dk_at dksX0_isPlane_2 17 rfl rfl)
theorem dX0_isPlane_64 : decode cX0_isPlane 64 = .ok (.ifCond .ne 11, 3) := dk_154 0 11 (dk_at dksX0_isPlane_2 18 rfl rfl)
theorem dX0_isPlane_67 : decode cX0_isPlane 67 = .ok (.iload_n 2, 1) := dk_28 (dk_at dksX0_isPlane_2 21 rfl rfl)
theorem dX0_isPlane_68 : decode cX0_isPlane 68 = .ok (.ifCond .ne 7, 3) := dk_154 0 7 (dk_at dksX0_isPlane_3 0 rfl rfl)
theorem dX0_isPlane_71 : decode cX0_isPlane 71 = .ok (.iload_n 3, 1) := dk_29 (dk_at dksX0_isPlane_3 3 rfl rfl)
theorem dX0_isPlane_72 : decode cX0_isPlane 72 = .ok (.ifCond .eq 7, 3) := dk_153 0 7 (dk_at dksX0_isPlane_3 4 rfl rfl)
theorem dX0_isPlane_75 : decode cX0_isPlane 75 = .ok (.iconst 1, 1) := dk_4 (dk_at dksX0_isPlane_3 7 rfl rfl)
theorem dX0_isPlane_76 : decode cX0_isPlane 76 = .ok (.goto 4, 3) := dk_167 0 4 (dk_at dksX0_isPlane_3 8 rfl rfl)
theorem dX0_isPlane_79 : decode cX0_isPlane 79 = .ok (.iconst 0, 1) := dk_3 (dk_at dksX0_isPlane_3 11 rfl rfl)
theorem dX0_isPlane_80 : decode cX0_isPlane 80 = .ok (.ireturn, 1) := dk_172 (dk_at dksX0_isPlane_3 12 rfl rfl)
abbrev cX0_layers : ByteArray := prog_1_method_54_code
def yX0_layers : MethodName := ⟨RX0, "layers", "(IIIII)J"⟩
def dkwX0_layers_1 : List UInt8 := [42, 27, 28, 182, 1, 62, 173]
abbrev dktX0_layers_1 : List UInt8 := dkwX0_layers_1 ++ []
def dkwX0_layers_0 : List UInt8 := [42, 27, 28, 29, 21, 4, 21, 5, 182, 1, 59, 54, 6, 21, 6, 156, 0, 9, 21, 6, 133, 167, 0, 9]
abbrev dktX0_layers_0 : List UInt8 := dkwX0_layers_0 ++ dktX0_layers_1
theorem dksX0_layers_0 : cX0_layers.data.toList.drop 0 = dktX0_layers_0 := by decide +kernel
theorem dksX0_layers_1 : cX0_layers.data.toList.drop 24 = dktX0_layers_1 := dk_seg dksX0_layers_0 24 rfl rfl
theorem dX0_layers_0 : decode cX0_layers 0 = .ok (.aload_n 0, 1) := dk_42 (dk_at dksX0_layers_0 0 rfl rfl)
theorem dX0_layers_1 : decode cX0_layers 1 = .ok (.iload_n 1, 1) := dk_27 (dk_at dksX0_layers_0 1 rfl rfl)
theorem dX0_layers_2 : decode cX0_layers 2 = .ok (.iload_n 2, 1) := dk_28 (dk_at dksX0_layers_0 2 rfl rfl)
theorem dX0_layers_3 : decode cX0_layers 3 = .ok (.iload_n 3, 1) := dk_29 (dk_at dksX0_layers_0 3 rfl rfl)
theorem dX0_layers_4 : decode cX0_layers 4 = .ok (.iload 4, 2) := dk_21 4 (dk_at dksX0_layers_0 4 rfl rfl)
theorem dX0_layers_6 : decode cX0_layers 6 = .ok (.iload 5, 2) := dk_21 5 (dk_at dksX0_layers_0 6 rfl rfl)
theorem dX0_layers_8 : decode cX0_layers 8 = .ok (.invokevirtual 315, 3) := dk_182 1 59 (dk_at dksX0_layers_0 8 rfl rfl)
theorem dX0_layers_11 : decode cX0_layers 11 = .ok (.istore 6, 2) := dk_54 6 (dk_at dksX0_layers_0 11 rfl rfl)
theorem dX0_layers_13 : decode cX0_layers 13 = .ok (.iload 6, 2) := dk_21 6 (dk_at dksX0_layers_0 13 rfl rfl)
theorem dX0_layers_15 : decode cX0_layers 15 = .ok (.ifCond .ge 9, 3) := dk_156 0 9 (dk_at dksX0_layers_0 15 rfl rfl)
theorem dX0_layers_18 : decode cX0_layers 18 = .ok (.iload 6, 2) := dk_21 6 (dk_at dksX0_layers_0 18 rfl rfl)
theorem dX0_layers_20 : decode cX0_layers 20 = .ok (.i2l, 1) := dk_133 (dk_at dksX0_layers_0 20 rfl rfl)
theorem dX0_layers_21 : decode cX0_layers 21 = .ok (.goto 9, 3) := dk_167 0 9 (dk_at dksX0_layers_0 21 rfl rfl)
theorem dX0_layers_24 : decode cX0_layers 24 = .ok (.aload_n 0, 1) := dk_42 (dk_at dksX0_layers_1 0 rfl rfl)
theorem dX0_layers_25 : decode cX0_layers 25 = .ok (.iload_n 1, 1) := dk_27 (dk_at dksX0_layers_1 1 rfl rfl)
theorem dX0_layers_26 : decode cX0_layers 26 = .ok (.iload_n 2, 1) := dk_28 (dk_at dksX0_layers_1 2 rfl rfl)
theorem dX0_layers_27 : decode cX0_layers 27 = .ok (.invokevirtual 318, 3) := dk_182 1 62 (dk_at dksX0_layers_1 3 rfl rfl)
theorem dX0_layers_30 : decode cX0_layers 30 = .ok (.lreturn, 1) := dk_173 (dk_at dksX0_layers_1 6 rfl rfl)
abbrev cX0_asksPlane : ByteArray := prog_1_method_53_code
def yX0_asksPlane : MethodName := ⟨RX0, "asksPlane", "(IIIII)I"⟩
def dkwX0_asksPlane_1 : List UInt8 := [154, 0, 8, 16, 254, 167, 0, 5, 21, 6, 172]
abbrev dktX0_asksPlane_1 : List UInt8 := dkwX0_asksPlane_1 ++ []
def dkwX0_asksPlane_0 : List UInt8 := [42, 27, 28, 182, 0, 220, 54, 6, 21, 6, 16, 254, 159, 0, 15, 42, 29, 21, 4, 21, 5, 182, 1, 52]
abbrev dktX0_asksPlane_0 : List UInt8 := dkwX0_asksPlane_0 ++ dktX0_asksPlane_1
theorem dksX0_asksPlane_0 : cX0_asksPlane.data.toList.drop 0 = dktX0_asksPlane_0 := by decide +kernel
theorem dksX0_asksPlane_1 : cX0_asksPlane.data.toList.drop 24 = dktX0_asksPlane_1 := dk_seg dksX0_asksPlane_0 24 rfl rfl
theorem dX0_asksPlane_0 : decode cX0_asksPlane 0 = .ok (.aload_n 0, 1) := dk_42 (dk_at dksX0_asksPlane_0 0 rfl rfl)
theorem dX0_asksPlane_1 : decode cX0_asksPlane 1 = .ok (.iload_n 1, 1) := dk_27 (dk_at dksX0_asksPlane_0 1 rfl rfl)
theorem dX0_asksPlane_2 : decode cX0_asksPlane 2 = .ok (.iload_n 2, 1) := dk_28 (dk_at dksX0_asksPlane_0 2 rfl rfl)
theorem dX0_asksPlane_3 : decode cX0_asksPlane 3 = .ok (.invokevirtual 220, 3) := dk_182 0 220 (dk_at dksX0_asksPlane_0 3 rfl rfl)
theorem dX0_asksPlane_6 : decode cX0_asksPlane 6 = .ok (.istore 6, 2) := dk_54 6 (dk_at dksX0_asksPlane_0 6 rfl rfl)
theorem dX0_asksPlane_8 : decode cX0_asksPlane 8 = .ok (.iload 6, 2) := dk_21 6 (dk_at dksX0_asksPlane_0 8 rfl rfl)
theorem dX0_asksPlane_10 : decode cX0_asksPlane 10 = .ok (.bipush (-2), 2) := dk_16 254 (dk_at dksX0_asksPlane_0 10 rfl rfl)
theorem dX0_asksPlane_12 : decode cX0_asksPlane 12 = .ok (.if_icmp .eq 15, 3) := dk_159 0 15 (dk_at dksX0_asksPlane_0 12 rfl rfl)
theorem dX0_asksPlane_15 : decode cX0_asksPlane 15 = .ok (.aload_n 0, 1) := dk_42 (dk_at dksX0_asksPlane_0 15 rfl rfl)
theorem dX0_asksPlane_16 : decode cX0_asksPlane 16 = .ok (.iload_n 3, 1) := dk_29 (dk_at dksX0_asksPlane_0 16 rfl rfl)
theorem dX0_asksPlane_17 : decode cX0_asksPlane 17 = .ok (.iload 4, 2) := dk_21 4 (dk_at dksX0_asksPlane_0 17 rfl rfl)
theorem dX0_asksPlane_19 : decode cX0_asksPlane 19 = .ok (.iload 5, 2) := dk_21 5 (dk_at dksX0_asksPlane_0 19 rfl rfl)
theorem dX0_asksPlane_21 : decode cX0_asksPlane 21 = .ok (.invokevirtual 308, 3) := dk_182 1 52 (dk_at dksX0_asksPlane_0 21 rfl rfl)
theorem dX0_asksPlane_24 : decode cX0_asksPlane 24 = .ok (.ifCond .ne 8, 3) := dk_154 0 8 (dk_at dksX0_asksPlane_1 0 rfl rfl)
theorem dX0_asksPlane_27 : decode cX0_asksPlane 27 = .ok (.bipush (-2), 2) := dk_16 254 (dk_at dksX0_asksPlane_1 3 rfl rfl)
theorem dX0_asksPlane_29 : decode cX0_asksPlane 29 = .ok (.goto 5, 3) := dk_167 0 5 (dk_at dksX0_asksPlane_1 5 rfl rfl)
theorem dX0_asksPlane_32 : decode cX0_asksPlane 32 = .ok (.iload 6, 2) := dk_21 6 (dk_at dksX0_asksPlane_1 8 rfl rfl)
theorem dX0_asksPlane_34 : decode cX0_asksPlane 34 = .ok (.ireturn, 1) := dk_172 (dk_at dksX0_asksPlane_1 10 rfl rfl)
abbrev cX0_layersOf : ByteArray := prog_1_method_52_code
def yX0_layersOf : MethodName := ⟨RX0, "layersOf", "(II)J"⟩
def dkwX0_layersOf_2 : List UInt8 := [22, 4, 182, 0, 234, 42, 180, 0, 36, 182, 1, 55, 109, 173]
abbrev dktX0_layersOf_2 : List UInt8 := dkwX0_layersOf_2 ++ []
def dkwX0_layersOf_1 : List UInt8 := [45, 180, 1, 9, 22, 4, 45, 180, 1, 7, 109, 182, 0, 227, 42, 180, 0, 36, 182, 1, 55, 42, 27]
abbrev dktX0_layersOf_1 : List UInt8 := dkwX0_layersOf_1 ++ dktX0_layersOf_2
def dkwX0_layersOf_0 : List UInt8 := [42, 27, 28, 182, 1, 3, 78, 45, 180, 1, 7, 42, 27, 182, 0, 142, 182, 0, 154, 184, 0, 224, 55, 4]
abbrev dktX0_layersOf_0 : List UInt8 := dkwX0_layersOf_0 ++ dktX0_layersOf_1
theorem dksX0_layersOf_0 : cX0_layersOf.data.toList.drop 0 = dktX0_layersOf_0 := by decide +kernel
theorem dksX0_layersOf_1 : cX0_layersOf.data.toList.drop 24 = dktX0_layersOf_1 := dk_seg dksX0_layersOf_0 24 rfl rfl
theorem dksX0_layersOf_2 : cX0_layersOf.data.toList.drop 47 = dktX0_layersOf_2 := dk_seg dksX0_layersOf_1 23 rfl rfl
theorem dX0_layersOf_0 : decode cX0_layersOf 0 = .ok (.aload_n 0, 1) := dk_42 (dk_at dksX0_layersOf_0 0 rfl rfl)
theorem dX0_layersOf_1 : decode cX0_layersOf 1 = .ok (.iload_n 1, 1) := dk_27 (dk_at dksX0_layersOf_0 1 rfl rfl)
theorem dX0_layersOf_2 : decode cX0_layersOf 2 = .ok (.iload_n 2, 1) := dk_28 (dk_at dksX0_layersOf_0 2 rfl rfl)
theorem dX0_layersOf_3 : decode cX0_layersOf 3 = .ok (.invokevirtual 259, 3) := dk_182 1 3 (dk_at dksX0_layersOf_0 3 rfl rfl)
theorem dX0_layersOf_6 : decode cX0_layersOf 6 = .ok (.astore_n 3, 1) := dk_78 (dk_at dksX0_layersOf_0 6 rfl rfl)
theorem dX0_layersOf_7 : decode cX0_layersOf 7 = .ok (.aload_n 3, 1) := dk_45 (dk_at dksX0_layersOf_0 7 rfl rfl)
theorem dX0_layersOf_8 : decode cX0_layersOf 8 = .ok (.getfield 263, 3) := dk_180 1 7 (dk_at dksX0_layersOf_0 8 rfl rfl)
theorem dX0_layersOf_11 : decode cX0_layersOf 11 = .ok (.aload_n 0, 1) := dk_42 (dk_at dksX0_layersOf_0 11 rfl rfl)
theorem dX0_layersOf_12 : decode cX0_layersOf 12 = .ok (.iload_n 1, 1) := dk_27 (dk_at dksX0_layersOf_0 12 rfl rfl)
theorem dX0_layersOf_13 : decode cX0_layersOf 13 = .ok (.invokevirtual 142, 3) := dk_182 0 142 (dk_at dksX0_layersOf_0 13 rfl rfl)
theorem dX0_layersOf_16 : decode cX0_layersOf 16 = .ok (.invokevirtual 154, 3) := dk_182 0 154 (dk_at dksX0_layersOf_0 16 rfl rfl)
theorem dX0_layersOf_19 : decode cX0_layersOf 19 = .ok (.invokestatic 224, 3) := dk_184 0 224 (dk_at dksX0_layersOf_0 19 rfl rfl)
theorem dX0_layersOf_22 : decode cX0_layersOf 22 = .ok (.lstore 4, 2) := dk_55 4 (dk_at dksX0_layersOf_0 22 rfl rfl)
theorem dX0_layersOf_24 : decode cX0_layersOf 24 = .ok (.aload_n 3, 1) := dk_45 (dk_at dksX0_layersOf_1 0 rfl rfl)
theorem dX0_layersOf_25 : decode cX0_layersOf 25 = .ok (.getfield 265, 3) := dk_180 1 9 (dk_at dksX0_layersOf_1 1 rfl rfl)
theorem dX0_layersOf_28 : decode cX0_layersOf 28 = .ok (.lload 4, 2) := dk_22 4 (dk_at dksX0_layersOf_1 4 rfl rfl)
theorem dX0_layersOf_30 : decode cX0_layersOf 30 = .ok (.aload_n 3, 1) := dk_45 (dk_at dksX0_layersOf_1 6 rfl rfl)
theorem dX0_layersOf_31 : decode cX0_layersOf 31 = .ok (.getfield 263, 3) := dk_180 1 7 (dk_at dksX0_layersOf_1 7 rfl rfl)
theorem dX0_layersOf_34 : decode cX0_layersOf 34 = .ok (.ldiv, 1) := dk_109 (dk_at dksX0_layersOf_1 10 rfl rfl)
theorem dX0_layersOf_35 : decode cX0_layersOf 35 = .ok (.invokevirtual 227, 3) := dk_182 0 227 (dk_at dksX0_layersOf_1 11 rfl rfl)
theorem dX0_layersOf_38 : decode cX0_layersOf 38 = .ok (.aload_n 0, 1) := dk_42 (dk_at dksX0_layersOf_1 14 rfl rfl)
theorem dX0_layersOf_39 : decode cX0_layersOf 39 = .ok (.getfield 36, 3) := dk_180 0 36 (dk_at dksX0_layersOf_1 15 rfl rfl)
theorem dX0_layersOf_42 : decode cX0_layersOf 42 = .ok (.invokevirtual 311, 3) := dk_182 1 55 (dk_at dksX0_layersOf_1 18 rfl rfl)
theorem dX0_layersOf_45 : decode cX0_layersOf 45 = .ok (.aload_n 0, 1) := dk_42 (dk_at dksX0_layersOf_1 21 rfl rfl)
theorem dX0_layersOf_46 : decode cX0_layersOf 46 = .ok (.iload_n 1, 1) := dk_27 (dk_at dksX0_layersOf_1 22 rfl rfl)
theorem dX0_layersOf_47 : decode cX0_layersOf 47 = .ok (.lload 4, 2) := dk_22 4 (dk_at dksX0_layersOf_2 0 rfl rfl)
theorem dX0_layersOf_49 : decode cX0_layersOf 49 = .ok (.invokevirtual 234, 3) := dk_182 0 234 (dk_at dksX0_layersOf_2 2 rfl rfl)
theorem dX0_layersOf_52 : decode cX0_layersOf 52 = .ok (.aload_n 0, 1) := dk_42 (dk_at dksX0_layersOf_2 5 rfl rfl)
theorem dX0_layersOf_53 : decode cX0_layersOf 53 = .ok (.getfield 36, 3) := dk_180 0 36 (dk_at dksX0_layersOf_2 6 rfl rfl)
theorem dX0_layersOf_56 : decode cX0_layersOf 56 = .ok (.invokevirtual 311, 3) := dk_182 1 55 (dk_at dksX0_layersOf_2 9 rfl rfl)
theorem dX0_layersOf_59 : decode cX0_layersOf 59 = .ok (.ldiv, 1) := dk_109 (dk_at dksX0_layersOf_2 12 rfl rfl)
theorem dX0_layersOf_60 : decode cX0_layersOf 60 = .ok (.lreturn, 1) := dk_173 (dk_at dksX0_layersOf_2 13 rfl rfl)
abbrev cX0_planar : ByteArray := prog_1_method_55_code
def yX0_planar : MethodName := ⟨RX0, "planar", "(IIIII)J"⟩
def dkwX0_planar_1 : List UInt8 := [42, 27, 28, 182, 1, 65, 42, 27, 28, 182, 1, 62, 109, 173]
abbrev dktX0_planar_1 : List UInt8 := dkwX0_planar_1 ++ []
def dkwX0_planar_0 : List UInt8 := [42, 27, 28, 29, 21, 4, 21, 5, 182, 1, 59, 54, 6, 21, 6, 156, 0, 9, 21, 6, 133, 167, 0, 16]
abbrev dktX0_planar_0 : List UInt8 := dkwX0_planar_0 ++ dktX0_planar_1
theorem dksX0_planar_0 : cX0_planar.data.toList.drop 0 = dktX0_planar_0 := by decide +kernel
theorem dksX0_planar_1 : cX0_planar.data.toList.drop 24 = dktX0_planar_1 := dk_seg dksX0_planar_0 24 rfl rfl
theorem dX0_planar_0 : decode cX0_planar 0 = .ok (.aload_n 0, 1) := dk_42 (dk_at dksX0_planar_0 0 rfl rfl)
theorem dX0_planar_1 : decode cX0_planar 1 = .ok (.iload_n 1, 1) := dk_27 (dk_at dksX0_planar_0 1 rfl rfl)
theorem dX0_planar_2 : decode cX0_planar 2 = .ok (.iload_n 2, 1) := dk_28 (dk_at dksX0_planar_0 2 rfl rfl)
theorem dX0_planar_3 : decode cX0_planar 3 = .ok (.iload_n 3, 1) := dk_29 (dk_at dksX0_planar_0 3 rfl rfl)
theorem dX0_planar_4 : decode cX0_planar 4 = .ok (.iload 4, 2) := dk_21 4 (dk_at dksX0_planar_0 4 rfl rfl)
theorem dX0_planar_6 : decode cX0_planar 6 = .ok (.iload 5, 2) := dk_21 5 (dk_at dksX0_planar_0 6 rfl rfl)
theorem dX0_planar_8 : decode cX0_planar 8 = .ok (.invokevirtual 315, 3) := dk_182 1 59 (dk_at dksX0_planar_0 8 rfl rfl)
theorem dX0_planar_11 : decode cX0_planar 11 = .ok (.istore 6, 2) := dk_54 6 (dk_at dksX0_planar_0 11 rfl rfl)
theorem dX0_planar_13 : decode cX0_planar 13 = .ok (.iload 6, 2) := dk_21 6 (dk_at dksX0_planar_0 13 rfl rfl)
theorem dX0_planar_15 : decode cX0_planar 15 = .ok (.ifCond .ge 9, 3) := dk_156 0 9 (dk_at dksX0_planar_0 15 rfl rfl)
theorem dX0_planar_18 : decode cX0_planar 18 = .ok (.iload 6, 2) := dk_21 6 (dk_at dksX0_planar_0 18 rfl rfl)
theorem dX0_planar_20 : decode cX0_planar 20 = .ok (.i2l, 1) := dk_133 (dk_at dksX0_planar_0 20 rfl rfl)
theorem dX0_planar_21 : decode cX0_planar 21 = .ok (.goto 16, 3) := dk_167 0 16 (dk_at dksX0_planar_0 21 rfl rfl)
theorem dX0_planar_24 : decode cX0_planar 24 = .ok (.aload_n 0, 1) := dk_42 (dk_at dksX0_planar_1 0 rfl rfl)
theorem dX0_planar_25 : decode cX0_planar 25 = .ok (.iload_n 1, 1) := dk_27 (dk_at dksX0_planar_1 1 rfl rfl)
theorem dX0_planar_26 : decode cX0_planar 26 = .ok (.iload_n 2, 1) := dk_28 (dk_at dksX0_planar_1 2 rfl rfl)
theorem dX0_planar_27 : decode cX0_planar 27 = .ok (.invokevirtual 321, 3) := dk_182 1 65 (dk_at dksX0_planar_1 3 rfl rfl)
theorem dX0_planar_30 : decode cX0_planar 30 = .ok (.aload_n 0, 1) := dk_42 (dk_at dksX0_planar_1 6 rfl rfl)
theorem dX0_planar_31 : decode cX0_planar 31 = .ok (.iload_n 1, 1) := dk_27 (dk_at dksX0_planar_1 7 rfl rfl)
theorem dX0_planar_32 : decode cX0_planar 32 = .ok (.iload_n 2, 1) := dk_28 (dk_at dksX0_planar_1 8 rfl rfl)
theorem dX0_planar_33 : decode cX0_planar 33 = .ok (.invokevirtual 318, 3) := dk_182 1 62 (dk_at dksX0_planar_1 9 rfl rfl)
theorem dX0_planar_36 : decode cX0_planar 36 = .ok (.ldiv, 1) := dk_109 (dk_at dksX0_planar_1 12 rfl rfl)
theorem dX0_planar_37 : decode cX0_planar 37 = .ok (.lreturn, 1) := dk_173 (dk_at dksX0_planar_1 13 rfl rfl)
abbrev cX0_best : ByteArray := prog_1_method_57_code
def yX0_best : MethodName := ⟨RX0, "best", "(II)I"⟩
def dkwX0_best_8 : List UInt8 := [132, 14, 1, 167, 255, 161, 132, 13, 1, 167, 255, 145, 132, 12, 1, 167, 255, 129, 21, 11, 172]
abbrev dktX0_best_8 : List UInt8 := dkwX0_best_8 ++ []
def dkwX0_best_7 : List UInt8 := [55, 9, 16, 100, 21, 12, 6, 96, 104, 16, 10, 21, 13, 6, 96, 104, 96, 21, 14, 96, 6, 96, 54, 11]
abbrev dktX0_best_7 : List UInt8 := dkwX0_best_7 ++ dktX0_best_8
def dkwX0_best_6 : List UInt8 := [42, 180, 0, 36, 182, 1, 55, 109, 55, 15, 22, 15, 22, 9, 148, 157, 0, 6, 167, 0, 29, 22, 15]
abbrev dktX0_best_6 : List UInt8 := dkwX0_best_6 ++ dktX0_best_7
def dkwX0_best_5 : List UInt8 := [21, 13, 21, 14, 182, 1, 52, 154, 0, 6, 167, 0, 61, 25, 8, 42, 180, 0, 36, 182, 1, 55, 25, 7]
abbrev dktX0_best_5 : List UInt8 := dkwX0_best_5 ++ dktX0_best_6
def dkwX0_best_4 : List UInt8 := [54, 14, 21, 14, 6, 163, 0, 95, 21, 12, 21, 13, 21, 14, 184, 1, 68, 153, 0, 77, 42, 21, 12]
abbrev dktX0_best_4 : List UInt8 := dkwX0_best_4 ++ dktX0_best_5
def dkwX0_best_3 : List UInt8 := [54, 11, 16, 253, 54, 12, 21, 12, 6, 163, 0, 127, 16, 253, 54, 13, 21, 13, 6, 163, 0, 111, 16, 253]
abbrev dktX0_best_3 : List UInt8 := dkwX0_best_3 ++ dktX0_best_4
def dkwX0_best_2 : List UInt8 := [58, 7, 25, 4, 180, 1, 9, 22, 5, 25, 4, 180, 1, 7, 109, 182, 0, 227, 58, 8, 9, 55, 9, 2]
abbrev dktX0_best_2 : List UInt8 := dkwX0_best_2 ++ dktX0_best_3
def dkwX0_best_1 : List UInt8 := [180, 1, 7, 42, 27, 182, 0, 142, 182, 0, 154, 184, 0, 224, 55, 5, 42, 27, 22, 5, 182, 0, 234]
abbrev dktX0_best_1 : List UInt8 := dkwX0_best_1 ++ dktX0_best_2
def dkwX0_best_0 : List UInt8 := [42, 27, 28, 182, 0, 220, 62, 29, 156, 0, 5, 29, 172, 42, 27, 28, 182, 1, 3, 58, 4, 25, 4]
abbrev dktX0_best_0 : List UInt8 := dkwX0_best_0 ++ dktX0_best_1
theorem dksX0_best_0 : cX0_best.data.toList.drop 0 = dktX0_best_0 := by decide +kernel
theorem dksX0_best_1 : cX0_best.data.toList.drop 23 = dktX0_best_1 := dk_seg dksX0_best_0 23 rfl rfl
theorem dksX0_best_2 : cX0_best.data.toList.drop 46 = dktX0_best_2 := dk_seg dksX0_best_1 23 rfl rfl
theorem dksX0_best_3 : cX0_best.data.toList.drop 70 = dktX0_best_3 := dk_seg dksX0_best_2 24 rfl rfl
theorem dksX0_best_4 : cX0_best.data.toList.drop 94 = dktX0_best_4 := dk_seg dksX0_best_3 24 rfl rfl
theorem dksX0_best_5 : cX0_best.data.toList.drop 117 = dktX0_best_5 := dk_seg dksX0_best_4 23 rfl rfl
theorem dksX0_best_6 : cX0_best.data.toList.drop 141 = dktX0_best_6 := dk_seg dksX0_best_5 24 rfl rfl
theorem dksX0_best_7 : cX0_best.data.toList.drop 164 = dktX0_best_7 := dk_seg dksX0_best_6 23 rfl rfl
theorem dksX0_best_8 : cX0_best.data.toList.drop 188 = dktX0_best_8 := dk_seg dksX0_best_7 24 rfl rfl
theorem dX0_best_0 : decode cX0_best 0 = .ok (.aload_n 0, 1) := dk_42 (dk_at dksX0_best_0 0 rfl rfl)
theorem dX0_best_1 : decode cX0_best 1 = .ok (.iload_n 1, 1) := dk_27 (dk_at dksX0_best_0 1 rfl rfl)
theorem dX0_best_2 : decode cX0_best 2 = .ok (.iload_n 2, 1) := dk_28 (dk_at dksX0_best_0 2 rfl rfl)
theorem dX0_best_3 : decode cX0_best 3 = .ok (.invokevirtual 220, 3) := dk_182 0 220 (dk_at dksX0_best_0 3 rfl rfl)
theorem dX0_best_6 : decode cX0_best 6 = .ok (.istore_n 3, 1) := dk_62 (dk_at dksX0_best_0 6 rfl rfl)
theorem dX0_best_7 : decode cX0_best 7 = .ok (.iload_n 3, 1) := dk_29 (dk_at dksX0_best_0 7 rfl rfl)
theorem dX0_best_8 : decode cX0_best 8 = .ok (.ifCond .ge 5, 3) := dk_156 0 5 (dk_at dksX0_best_0 8 rfl rfl)
theorem dX0_best_11 : decode cX0_best 11 = .ok (.iload_n 3, 1) := dk_29 (dk_at dksX0_best_0 11 rfl rfl)
theorem dX0_best_12 : decode cX0_best 12 = .ok (.ireturn, 1) := dk_172 (dk_at dksX0_best_0 12 rfl rfl)
theorem dX0_best_13 : decode cX0_best 13 = .ok (.aload_n 0, 1) := dk_42 (dk_at dksX0_best_0 13 rfl rfl)
theorem dX0_best_14 : decode cX0_best 14 = .ok (.iload_n 1, 1) := dk_27 (dk_at dksX0_best_0 14 rfl rfl)
theorem dX0_best_15 : decode cX0_best 15 = .ok (.iload_n 2, 1) := dk_28 (dk_at dksX0_best_0 15 rfl rfl)
theorem dX0_best_16 : decode cX0_best 16 = .ok (.invokevirtual 259, 3) := dk_182 1 3 (dk_at dksX0_best_0 16 rfl rfl)
theorem dX0_best_19 : decode cX0_best 19 = .ok (.astore 4, 2) := dk_58 4 (dk_at dksX0_best_0 19 rfl rfl)
theorem dX0_best_21 : decode cX0_best 21 = .ok (.aload 4, 2) := dk_25 4 (dk_at dksX0_best_0 21 rfl rfl)
theorem dX0_best_23 : decode cX0_best 23 = .ok (.getfield 263, 3) := dk_180 1 7 (dk_at dksX0_best_1 0 rfl rfl)
theorem dX0_best_26 : decode cX0_best 26 = .ok (.aload_n 0, 1) := dk_42 (dk_at dksX0_best_1 3 rfl rfl)
theorem dX0_best_27 : decode cX0_best 27 = .ok (.iload_n 1, 1) := dk_27 (dk_at dksX0_best_1 4 rfl rfl)
theorem dX0_best_28 : decode cX0_best 28 = .ok (.invokevirtual 142, 3) := dk_182 0 142 (dk_at dksX0_best_1 5 rfl rfl)
theorem dX0_best_31 : decode cX0_best 31 = .ok (.invokevirtual 154, 3) := dk_182 0 154 (dk_at dksX0_best_1 8 rfl rfl)
theorem dX0_best_34 : decode cX0_best 34 = .ok (.invokestatic 224, 3) := dk_184 0 224 (dk_at dksX0_best_1 11 rfl rfl)
theorem dX0_best_37 : decode cX0_best 37 = .ok (.lstore 5, 2) := dk_55 5 (dk_at dksX0_best_1 14 rfl rfl)
theorem dX0_best_39 : decode cX0_best 39 = .ok (.aload_n 0, 1) := dk_42 (dk_at dksX0_best_1 16 rfl rfl)
theorem dX0_best_40 : decode cX0_best 40 = .ok (.iload_n 1, 1) := dk_27 (dk_at dksX0_best_1 17 rfl rfl)
theorem dX0_best_41 : decode cX0_best 41 = .ok (.lload 5, 2) := dk_22 5 (dk_at dksX0_best_1 18 rfl rfl)
theorem dX0_best_43 : decode cX0_best 43 = .ok (.invokevirtual 234, 3) := dk_182 0 234 (dk_at dksX0_best_1 20 rfl rfl)
theorem dX0_best_46 : decode cX0_best 46 = .ok (.astore 7, 2) := dk_58 7 (dk_at dksX0_best_2 0 rfl rfl)
theorem dX0_best_48 : decode cX0_best 48 = .ok (.aload 4, 2) := dk_25 4 (dk_at dksX0_best_2 2 rfl rfl)
theorem dX0_best_50 : decode cX0_best 50 = .ok (.getfield 265, 3) := dk_180 1 9 (dk_at dksX0_best_2 4 rfl rfl)
theorem dX0_best_53 : decode cX0_best 53 = .ok (.lload 5, 2) := dk_22 5 (dk_at dksX0_best_2 7 rfl rfl)
theorem dX0_best_55 : decode cX0_best 55 = .ok (.aload 4, 2) := dk_25 4 (dk_at dksX0_best_2 9 rfl rfl)
theorem dX0_best_57 : decode cX0_best 57 = .ok (.getfield 263, 3) := dk_180 1 7 (dk_at dksX0_best_2 11 rfl rfl)
theorem dX0_best_60 : decode cX0_best 60 = .ok (.ldiv, 1) := dk_109 (dk_at dksX0_best_2 14 rfl rfl)
theorem dX0_best_61 : decode cX0_best 61 = .ok (.invokevirtual 227, 3) := dk_182 0 227 (dk_at dksX0_best_2 15 rfl rfl)
theorem dX0_best_64 : decode cX0_best 64 = .ok (.astore 8, 2) := dk_58 8 (dk_at dksX0_best_2 18 rfl rfl)
theorem dX0_best_66 : decode cX0_best 66 = .ok (.lconst 0, 1) := dk_9 (dk_at dksX0_best_2 20 rfl rfl)
theorem dX0_best_67 : decode cX0_best 67 = .ok (.lstore 9, 2) := dk_55 9 (dk_at dksX0_best_2 21 rfl rfl)
theorem dX0_best_69 : decode cX0_best 69 = .ok (.iconst (-1), 1) := dk_2 (dk_at dksX0_best_2 23 rfl rfl)
theorem dX0_best_70 : decode cX0_best 70 = .ok (.istore 11, 2) := dk_54 11 (dk_at dksX0_best_3 0 rfl rfl)
theorem dX0_best_72 : decode cX0_best 72 = .ok (.bipush (-3), 2) := dk_16 253 (dk_at dksX0_best_3 2 rfl rfl)
theorem dX0_best_74 : decode cX0_best 74 = .ok (.istore 12, 2) := dk_54 12 (dk_at dksX0_best_3 4 rfl rfl)
theorem dX0_best_76 : decode cX0_best 76 = .ok (.iload 12, 2) := dk_21 12 (dk_at dksX0_best_3 6 rfl rfl)
theorem dX0_best_78 : decode cX0_best 78 = .ok (.iconst 3, 1) := dk_6 (dk_at dksX0_best_3 8 rfl rfl)
theorem dX0_best_79 : decode cX0_best 79 = .ok (.if_icmp .gt 127, 3) := dk_163 0 127 (dk_at dksX0_best_3 9 rfl rfl)
theorem dX0_best_82 : decode cX0_best 82 = .ok (.bipush (-3), 2) := dk_16 253 (dk_at dksX0_best_3 12 rfl rfl)
theorem dX0_best_84 : decode cX0_best 84 = .ok (.istore 13, 2) := dk_54 13 (dk_at dksX0_best_3 14 rfl rfl)
theorem dX0_best_86 : decode cX0_best 86 = .ok (.iload 13, 2) := dk_21 13 (dk_at dksX0_best_3 16 rfl rfl)
theorem dX0_best_88 : decode cX0_best 88 = .ok (.iconst 3, 1) := dk_6 (dk_at dksX0_best_3 18 rfl rfl)
theorem dX0_best_89 : decode cX0_best 89 = .ok (.if_icmp .gt 111, 3) := dk_163 0 111 (dk_at dksX0_best_3 19 rfl rfl)
theorem dX0_best_92 : decode cX0_best 92 = .ok (.bipush (-3), 2) := dk_16 253 (dk_at dksX0_best_3 22 rfl rfl)
theorem dX0_best_94 : decode cX0_best 94 = .ok (.istore 14, 2) := dk_54 14 (dk_at dksX0_best_4 0 rfl rfl)
theorem dX0_best_96 : decode cX0_best 96 = .ok (.iload 14, 2) := dk_21 14 (dk_at dksX0_best_4 2 rfl rfl)
theorem dX0_best_98 : decode cX0_best 98 = .ok (.iconst 3, 1) := dk_6 (dk_at dksX0_best_4 4 rfl rfl)
theorem dX0_best_99 : decode cX0_best 99 = .ok (.if_icmp .gt 95, 3) := dk_163 0 95 (dk_at dksX0_best_4 5 rfl rfl)
theorem dX0_best_102 : decode cX0_best 102 = .ok (.iload 12, 2) := dk_21 12 (dk_at dksX0_best_4 8 rfl rfl)
theorem dX0_best_104 : decode cX0_best 104 = .ok (.iload 13, 2) := dk_21 13 (dk_at dksX0_best_4 10 rfl rfl)
theorem dX0_best_106 : decode cX0_best 106 = .ok (.iload 14, 2) := dk_21 14 (dk_at dksX0_best_4 12 rfl rfl)
theorem dX0_best_108 : decode cX0_best 108 = .ok (.invokestatic 324, 3) := dk_184 1 68 (dk_at dksX0_best_4 14 rfl rfl)
theorem dX0_best_111 : decode cX0_best 111 = .ok (.ifCond .eq 77, 3) := dk_153 0 77 (dk_at dksX0_best_4 17 rfl rfl)
theorem dX0_best_114 : decode cX0_best 114 = .ok (.aload_n 0, 1) := dk_42 (dk_at dksX0_best_4 20 rfl rfl)
theorem dX0_best_115 : decode cX0_best 115 = .ok (.iload 12, 2) := dk_21 12 (dk_at dksX0_best_4 21 rfl rfl)
theorem dX0_best_117 : decode cX0_best 117 = .ok (.iload 13, 2) := dk_21 13 (dk_at dksX0_best_5 0 rfl rfl)
theorem dX0_best_119 : decode cX0_best 119 = .ok (.iload 14, 2) := dk_21 14 (dk_at dksX0_best_5 2 rfl rfl)
theorem dX0_best_121 : decode cX0_best 121 = .ok (.invokevirtual 308, 3) := dk_182 1 52 (dk_at dksX0_best_5 4 rfl rfl)
theorem dX0_best_124 : decode cX0_best 124 = .ok (.ifCond .ne 6, 3) := dk_154 0 6 (dk_at dksX0_best_5 7 rfl rfl)
theorem dX0_best_127 : decode cX0_best 127 = .ok (.goto 61, 3) := dk_167 0 61 (dk_at dksX0_best_5 10 rfl rfl)
theorem dX0_best_130 : decode cX0_best 130 = .ok (.aload 8, 2) := dk_25 8 (dk_at dksX0_best_5 13 rfl rfl)
theorem dX0_best_132 : decode cX0_best 132 = .ok (.aload_n 0, 1) := dk_42 (dk_at dksX0_best_5 15 rfl rfl)
theorem dX0_best_133 : decode cX0_best 133 = .ok (.getfield 36, 3) := dk_180 0 36 (dk_at dksX0_best_5 16 rfl rfl)
theorem dX0_best_136 : decode cX0_best 136 = .ok (.invokevirtual 311, 3) := dk_182 1 55 (dk_at dksX0_best_5 19 rfl rfl)
theorem dX0_best_139 : decode cX0_best 139 = .ok (.aload 7, 2) := dk_25 7 (dk_at dksX0_best_5 22 rfl rfl)
theorem dX0_best_141 : decode cX0_best 141 = .ok (.aload_n 0, 1) := dk_42 (dk_at dksX0_best_6 0 rfl rfl)
theorem dX0_best_142 : decode cX0_best 142 = .ok (.getfield 36, 3) := dk_180 0 36 (dk_at dksX0_best_6 1 rfl rfl)
theorem dX0_best_145 : decode cX0_best 145 = .ok (.invokevirtual 311, 3) := dk_182 1 55 (dk_at dksX0_best_6 4 rfl rfl)
theorem dX0_best_148 : decode cX0_best 148 = .ok (.ldiv, 1) := dk_109 (dk_at dksX0_best_6 7 rfl rfl)
theorem dX0_best_149 : decode cX0_best 149 = .ok (.lstore 15, 2) := dk_55 15 (dk_at dksX0_best_6 8 rfl rfl)
theorem dX0_best_151 : decode cX0_best 151 = .ok (.lload 15, 2) := dk_22 15 (dk_at dksX0_best_6 10 rfl rfl)
theorem dX0_best_153 : decode cX0_best 153 = .ok (.lload 9, 2) := dk_22 9 (dk_at dksX0_best_6 12 rfl rfl)
theorem dX0_best_155 : decode cX0_best 155 = .ok (.lcmp, 1) := dk_148 (dk_at dksX0_best_6 14 rfl rfl)
theorem dX0_best_156 : decode cX0_best 156 = .ok (.ifCond .gt 6, 3) := dk_157 0 6 (dk_at dksX0_best_6 15 rfl rfl)
theorem dX0_best_159 : decode cX0_best 159 = .ok (.goto 29, 3) := dk_167 0 29 (dk_at dksX0_best_6 18 rfl rfl)
theorem dX0_best_162 : decode cX0_best 162 = .ok (.lload 15, 2) := dk_22 15 (dk_at dksX0_best_6 21 rfl rfl)
theorem dX0_best_164 : decode cX0_best 164 = .ok (.lstore 9, 2) := dk_55 9 (dk_at dksX0_best_7 0 rfl rfl)
theorem dX0_best_166 : decode cX0_best 166 = .ok (.bipush 100, 2) := dk_16 100 (dk_at dksX0_best_7 2 rfl rfl)
theorem dX0_best_168 : decode cX0_best 168 = .ok (.iload 12, 2) := dk_21 12 (dk_at dksX0_best_7 4 rfl rfl)
theorem dX0_best_170 : decode cX0_best 170 = .ok (.iconst 3, 1) := dk_6 (dk_at dksX0_best_7 6 rfl rfl)
theorem dX0_best_171 : decode cX0_best 171 = .ok (.iadd, 1) := dk_96 (dk_at dksX0_best_7 7 rfl rfl)
theorem dX0_best_172 : decode cX0_best 172 = .ok (.imul, 1) := dk_104 (dk_at dksX0_best_7 8 rfl rfl)
theorem dX0_best_173 : decode cX0_best 173 = .ok (.bipush 10, 2) := dk_16 10 (dk_at dksX0_best_7 9 rfl rfl)
theorem dX0_best_175 : decode cX0_best 175 = .ok (.iload 13, 2) := dk_21 13 (dk_at dksX0_best_7 11 rfl rfl)
theorem dX0_best_177 : decode cX0_best 177 = .ok (.iconst 3, 1) := dk_6 (dk_at dksX0_best_7 13 rfl rfl)
theorem dX0_best_178 : decode cX0_best 178 = .ok (.iadd, 1) := dk_96 (dk_at dksX0_best_7 14 rfl rfl)
theorem dX0_best_179 : decode cX0_best 179 = .ok (.imul, 1) := dk_104 (dk_at dksX0_best_7 15 rfl rfl)
theorem dX0_best_180 : decode cX0_best 180 = .ok (.iadd, 1) := dk_96 (dk_at dksX0_best_7 16 rfl rfl)
theorem dX0_best_181 : decode cX0_best 181 = .ok (.iload 14, 2) := dk_21 14 (dk_at dksX0_best_7 17 rfl rfl)
theorem dX0_best_183 : decode cX0_best 183 = .ok (.iadd, 1) := dk_96 (dk_at dksX0_best_7 19 rfl rfl)
theorem dX0_best_184 : decode cX0_best 184 = .ok (.iconst 3, 1) := dk_6 (dk_at dksX0_best_7 20 rfl rfl)
theorem dX0_best_185 : decode cX0_best 185 = .ok (.iadd, 1) := dk_96 (dk_at dksX0_best_7 21 rfl rfl)
theorem dX0_best_186 : decode cX0_best 186 = .ok (.istore 11, 2) := dk_54 11 (dk_at dksX0_best_7 22 rfl rfl)
theorem dX0_best_188 : decode cX0_best 188 = .ok (.iinc 14 1, 3) := dk_132 14 1 (dk_at dksX0_best_8 0 rfl rfl)
theorem dX0_best_191 : decode cX0_best 191 = .ok (.goto (-95), 3) := dk_167 255 161 (dk_at dksX0_best_8 3 rfl rfl)
theorem dX0_best_194 : decode cX0_best 194 = .ok (.iinc 13 1, 3) := dk_132 13 1 (dk_at dksX0_best_8 6 rfl rfl)
theorem dX0_best_197 : decode cX0_best 197 = .ok (.goto (-111), 3) := dk_167 255 145 (dk_at dksX0_best_8 9 rfl rfl)
theorem dX0_best_200 : decode cX0_best 200 = .ok (.iinc 12 1, 3) := dk_132 12 1 (dk_at dksX0_best_8 12 rfl rfl)
theorem dX0_best_203 : decode cX0_best 203 = .ok (.goto (-127), 3) := dk_167 255 129 (dk_at dksX0_best_8 15 rfl rfl)
theorem dX0_best_206 : decode cX0_best 206 = .ok (.iload 11, 2) := dk_21 11 (dk_at dksX0_best_8 18 rfl rfl)
theorem dX0_best_208 : decode cX0_best 208 = .ok (.ireturn, 1) := dk_172 (dk_at dksX0_best_8 20 rfl rfl)
abbrev cX0_isNormal : ByteArray := prog_1_method_56_code
def yX0_isNormal : MethodName := ⟨RX0, "isNormal", "(III)Z"⟩
def dkwX0_isNormal_1 : List UInt8 := [27, 133, 184, 0, 7, 28, 133, 184, 0, 7, 10, 148, 154, 0, 7, 4, 167, 0, 4, 3, 172]
abbrev dktX0_isNormal_1 : List UInt8 := dkwX0_isNormal_1 ++ []
def dkwX0_isNormal_0 : List UInt8 := [26, 153, 0, 7, 26, 167, 0, 12, 27, 153, 0, 7, 27, 167, 0, 4, 28, 62, 29, 158, 0, 24, 26, 133]
abbrev dktX0_isNormal_0 : List UInt8 := dkwX0_isNormal_0 ++ dktX0_isNormal_1
theorem dksX0_isNormal_0 : cX0_isNormal.data.toList.drop 0 = dktX0_isNormal_0 := by decide +kernel
theorem dksX0_isNormal_1 : cX0_isNormal.data.toList.drop 24 = dktX0_isNormal_1 := dk_seg dksX0_isNormal_0 24 rfl rfl
theorem dX0_isNormal_0 : decode cX0_isNormal 0 = .ok (.iload_n 0, 1) := dk_26 (dk_at dksX0_isNormal_0 0 rfl rfl)
theorem dX0_isNormal_1 : decode cX0_isNormal 1 = .ok (.ifCond .eq 7, 3) := dk_153 0 7 (dk_at dksX0_isNormal_0 1 rfl rfl)
theorem dX0_isNormal_4 : decode cX0_isNormal 4 = .ok (.iload_n 0, 1) := dk_26 (dk_at dksX0_isNormal_0 4 rfl rfl)
theorem dX0_isNormal_5 : decode cX0_isNormal 5 = .ok (.goto 12, 3) := dk_167 0 12 (dk_at dksX0_isNormal_0 5 rfl rfl)
theorem dX0_isNormal_8 : decode cX0_isNormal 8 = .ok (.iload_n 1, 1) := dk_27 (dk_at dksX0_isNormal_0 8 rfl rfl)
theorem dX0_isNormal_9 : decode cX0_isNormal 9 = .ok (.ifCond .eq 7, 3) := dk_153 0 7 (dk_at dksX0_isNormal_0 9 rfl rfl)
theorem dX0_isNormal_12 : decode cX0_isNormal 12 = .ok (.iload_n 1, 1) := dk_27 (dk_at dksX0_isNormal_0 12 rfl rfl)
theorem dX0_isNormal_13 : decode cX0_isNormal 13 = .ok (.goto 4, 3) := dk_167 0 4 (dk_at dksX0_isNormal_0 13 rfl rfl)
theorem dX0_isNormal_16 : decode cX0_isNormal 16 = .ok (.iload_n 2, 1) := dk_28 (dk_at dksX0_isNormal_0 16 rfl rfl)
theorem dX0_isNormal_17 : decode cX0_isNormal 17 = .ok (.istore_n 3, 1) := dk_62 (dk_at dksX0_isNormal_0 17 rfl rfl)
theorem dX0_isNormal_18 : decode cX0_isNormal 18 = .ok (.iload_n 3, 1) := dk_29 (dk_at dksX0_isNormal_0 18 rfl rfl)
theorem dX0_isNormal_19 : decode cX0_isNormal 19 = .ok (.ifCond .le 24, 3) := dk_158 0 24 (dk_at dksX0_isNormal_0 19 rfl rfl)
theorem dX0_isNormal_22 : decode cX0_isNormal 22 = .ok (.iload_n 0, 1) := dk_26 (dk_at dksX0_isNormal_0 22 rfl rfl)
theorem dX0_isNormal_23 : decode cX0_isNormal 23 = .ok (.i2l, 1) := dk_133 (dk_at dksX0_isNormal_0 23 rfl rfl)
theorem dX0_isNormal_24 : decode cX0_isNormal 24 = .ok (.iload_n 1, 1) := dk_27 (dk_at dksX0_isNormal_1 0 rfl rfl)
theorem dX0_isNormal_25 : decode cX0_isNormal 25 = .ok (.i2l, 1) := dk_133 (dk_at dksX0_isNormal_1 1 rfl rfl)
theorem dX0_isNormal_26 : decode cX0_isNormal 26 = .ok (.invokestatic 7, 3) := dk_184 0 7 (dk_at dksX0_isNormal_1 2 rfl rfl)
theorem dX0_isNormal_29 : decode cX0_isNormal 29 = .ok (.iload_n 2, 1) := dk_28 (dk_at dksX0_isNormal_1 5 rfl rfl)
theorem dX0_isNormal_30 : decode cX0_isNormal 30 = .ok (.i2l, 1) := dk_133 (dk_at dksX0_isNormal_1 6 rfl rfl)
theorem dX0_isNormal_31 : decode cX0_isNormal 31 = .ok (.invokestatic 7, 3) := dk_184 0 7 (dk_at dksX0_isNormal_1 7 rfl rfl)
theorem dX0_isNormal_34 : decode cX0_isNormal 34 = .ok (.lconst 1, 1) := dk_10 (dk_at dksX0_isNormal_1 10 rfl rfl)
theorem dX0_isNormal_35 : decode cX0_isNormal 35 = .ok (.lcmp, 1) := dk_148 (dk_at dksX0_isNormal_1 11 rfl rfl)
theorem dX0_isNormal_36 : decode cX0_isNormal 36 = .ok (.ifCond .ne 7, 3) := dk_154 0 7 (dk_at dksX0_isNormal_1 12 rfl rfl)
theorem dX0_isNormal_39 : decode cX0_isNormal 39 = .ok (.iconst 1, 1) := dk_4 (dk_at dksX0_isNormal_1 15 rfl rfl)
theorem dX0_isNormal_40 : decode cX0_isNormal 40 = .ok (.goto 4, 3) := dk_167 0 4 (dk_at dksX0_isNormal_1 16 rfl rfl)
theorem dX0_isNormal_43 : decode cX0_isNormal 43 = .ok (.iconst 0, 1) := dk_3 (dk_at dksX0_isNormal_1 19 rfl rfl)
theorem dX0_isNormal_44 : decode cX0_isNormal 44 = .ok (.ireturn, 1) := dk_172 (dk_at dksX0_isNormal_1 20 rfl rfl)
abbrev cX0_cosine : ByteArray := prog_1_method_58_code
def yX0_cosine : MethodName := ⟨RX0, "cosine", "(II)I"⟩
def dkwX0_cosine_3 : List UInt8 := [180, 1, 73, 45, 180, 1, 76, 184, 0, 7, 109, 136, 172]
abbrev dktX0_cosine_3 : List UInt8 := dkwX0_cosine_3 ++ []
def dkwX0_cosine_2 : List UInt8 := [180, 1, 73, 45, 180, 1, 73, 45, 180, 1, 76, 184, 0, 7, 109, 167, 0, 19, 45, 180, 1, 76, 45]
abbrev dktX0_cosine_2 : List UInt8 := dkwX0_cosine_2 ++ dktX0_cosine_3
def dkwX0_cosine_1 : List UInt8 := [193, 1, 71, 153, 0, 12, 25, 4, 192, 1, 71, 78, 167, 0, 6, 18, 173, 172, 28, 154, 0, 22, 45]
abbrev dktX0_cosine_1 : List UInt8 := dkwX0_cosine_1 ++ dktX0_cosine_2
def dkwX0_cosine_0 : List UInt8 := [42, 27, 182, 0, 131, 153, 0, 34, 28, 184, 0, 187, 153, 0, 27, 42, 27, 182, 0, 142, 58, 4, 25, 4]
abbrev dktX0_cosine_0 : List UInt8 := dkwX0_cosine_0 ++ dktX0_cosine_1
theorem dksX0_cosine_0 : cX0_cosine.data.toList.drop 0 = dktX0_cosine_0 := by decide +kernel
theorem dksX0_cosine_1 : cX0_cosine.data.toList.drop 24 = dktX0_cosine_1 := dk_seg dksX0_cosine_0 24 rfl rfl
theorem dksX0_cosine_2 : cX0_cosine.data.toList.drop 47 = dktX0_cosine_2 := dk_seg dksX0_cosine_1 23 rfl rfl
theorem dksX0_cosine_3 : cX0_cosine.data.toList.drop 70 = dktX0_cosine_3 := dk_seg dksX0_cosine_2 23 rfl rfl
theorem dX0_cosine_0 : decode cX0_cosine 0 = .ok (.aload_n 0, 1) := dk_42 (dk_at dksX0_cosine_0 0 rfl rfl)
theorem dX0_cosine_1 : decode cX0_cosine 1 = .ok (.iload_n 1, 1) := dk_27 (dk_at dksX0_cosine_0 1 rfl rfl)
theorem dX0_cosine_2 : decode cX0_cosine 2 = .ok (.invokevirtual 131, 3) := dk_182 0 131 (dk_at dksX0_cosine_0 2 rfl rfl)
theorem dX0_cosine_5 : decode cX0_cosine 5 = .ok (.ifCond .eq 34, 3) := dk_153 0 34 (dk_at dksX0_cosine_0 5 rfl rfl)
theorem dX0_cosine_8 : decode cX0_cosine 8 = .ok (.iload_n 2, 1) := dk_28 (dk_at dksX0_cosine_0 8 rfl rfl)
theorem dX0_cosine_9 : decode cX0_cosine 9 = .ok (.invokestatic 187, 3) := dk_184 0 187 (dk_at dksX0_cosine_0 9 rfl rfl)
theorem dX0_cosine_12 : decode cX0_cosine 12 = .ok (.ifCond .eq 27, 3) := dk_153 0 27 (dk_at dksX0_cosine_0 12 rfl rfl)
theorem dX0_cosine_15 : decode cX0_cosine 15 = .ok (.aload_n 0, 1) := dk_42 (dk_at dksX0_cosine_0 15 rfl rfl)
theorem dX0_cosine_16 : decode cX0_cosine 16 = .ok (.iload_n 1, 1) := dk_27 (dk_at dksX0_cosine_0 16 rfl rfl)
theorem dX0_cosine_17 : decode cX0_cosine 17 = .ok (.invokevirtual 142, 3) := dk_182 0 142 (dk_at dksX0_cosine_0 17 rfl rfl)
theorem dX0_cosine_20 : decode cX0_cosine 20 = .ok (.astore 4, 2) := dk_58 4 (dk_at dksX0_cosine_0 20 rfl rfl)
theorem dX0_cosine_22 : decode cX0_cosine 22 = .ok (.aload 4, 2) := dk_25 4 (dk_at dksX0_cosine_0 22 rfl rfl)
theorem dX0_cosine_24 : decode cX0_cosine 24 = .ok (.instanceof 327, 3) := dk_193 1 71 (dk_at dksX0_cosine_1 0 rfl rfl)
theorem dX0_cosine_27 : decode cX0_cosine 27 = .ok (.ifCond .eq 12, 3) := dk_153 0 12 (dk_at dksX0_cosine_1 3 rfl rfl)
theorem dX0_cosine_30 : decode cX0_cosine 30 = .ok (.aload 4, 2) := dk_25 4 (dk_at dksX0_cosine_1 6 rfl rfl)
theorem dX0_cosine_32 : decode cX0_cosine 32 = .ok (.checkcast 327, 3) := dk_192 1 71 (dk_at dksX0_cosine_1 8 rfl rfl)
theorem dX0_cosine_35 : decode cX0_cosine 35 = .ok (.astore_n 3, 1) := dk_78 (dk_at dksX0_cosine_1 11 rfl rfl)
theorem dX0_cosine_36 : decode cX0_cosine 36 = .ok (.goto 6, 3) := dk_167 0 6 (dk_at dksX0_cosine_1 12 rfl rfl)
theorem dX0_cosine_39 : decode cX0_cosine 39 = .ok (.ldc 173, 2) := dk_18 173 (dk_at dksX0_cosine_1 15 rfl rfl)
theorem dX0_cosine_41 : decode cX0_cosine 41 = .ok (.ireturn, 1) := dk_172 (dk_at dksX0_cosine_1 17 rfl rfl)
theorem dX0_cosine_42 : decode cX0_cosine 42 = .ok (.iload_n 2, 1) := dk_28 (dk_at dksX0_cosine_1 18 rfl rfl)
theorem dX0_cosine_43 : decode cX0_cosine 43 = .ok (.ifCond .ne 22, 3) := dk_154 0 22 (dk_at dksX0_cosine_1 19 rfl rfl)
theorem dX0_cosine_46 : decode cX0_cosine 46 = .ok (.aload_n 3, 1) := dk_45 (dk_at dksX0_cosine_1 22 rfl rfl)
theorem dX0_cosine_47 : decode cX0_cosine 47 = .ok (.getfield 329, 3) := dk_180 1 73 (dk_at dksX0_cosine_2 0 rfl rfl)
theorem dX0_cosine_50 : decode cX0_cosine 50 = .ok (.aload_n 3, 1) := dk_45 (dk_at dksX0_cosine_2 3 rfl rfl)
theorem dX0_cosine_51 : decode cX0_cosine 51 = .ok (.getfield 329, 3) := dk_180 1 73 (dk_at dksX0_cosine_2 4 rfl rfl)
theorem dX0_cosine_54 : decode cX0_cosine 54 = .ok (.aload_n 3, 1) := dk_45 (dk_at dksX0_cosine_2 7 rfl rfl)
theorem dX0_cosine_55 : decode cX0_cosine 55 = .ok (.getfield 332, 3) := dk_180 1 76 (dk_at dksX0_cosine_2 8 rfl rfl)
theorem dX0_cosine_58 : decode cX0_cosine 58 = .ok (.invokestatic 7, 3) := dk_184 0 7 (dk_at dksX0_cosine_2 11 rfl rfl)
theorem dX0_cosine_61 : decode cX0_cosine 61 = .ok (.ldiv, 1) := dk_109 (dk_at dksX0_cosine_2 14 rfl rfl)
theorem dX0_cosine_62 : decode cX0_cosine 62 = .ok (.goto 19, 3) := dk_167 0 19 (dk_at dksX0_cosine_2 15 rfl rfl)
theorem dX0_cosine_65 : decode cX0_cosine 65 = .ok (.aload_n 3, 1) := dk_45 (dk_at dksX0_cosine_2 18 rfl rfl)
theorem dX0_cosine_66 : decode cX0_cosine 66 = .ok (.getfield 332, 3) := dk_180 1 76 (dk_at dksX0_cosine_2 19 rfl rfl)
theorem dX0_cosine_69 : decode cX0_cosine 69 = .ok (.aload_n 3, 1) := dk_45 (dk_at dksX0_cosine_2 22 rfl rfl)
theorem dX0_cosine_70 : decode cX0_cosine 70 = .ok (.getfield 329, 3) := dk_180 1 73 (dk_at dksX0_cosine_3 0 rfl rfl)
theorem dX0_cosine_73 : decode cX0_cosine 73 = .ok (.aload_n 3, 1) := dk_45 (dk_at dksX0_cosine_3 3 rfl rfl)
theorem dX0_cosine_74 : decode cX0_cosine 74 = .ok (.getfield 332, 3) := dk_180 1 76 (dk_at dksX0_cosine_3 4 rfl rfl)
theorem dX0_cosine_77 : decode cX0_cosine 77 = .ok (.invokestatic 7, 3) := dk_184 0 7 (dk_at dksX0_cosine_3 7 rfl rfl)
theorem dX0_cosine_80 : decode cX0_cosine 80 = .ok (.ldiv, 1) := dk_109 (dk_at dksX0_cosine_3 10 rfl rfl)
theorem dX0_cosine_81 : decode cX0_cosine 81 = .ok (.l2i, 1) := dk_136 (dk_at dksX0_cosine_3 11 rfl rfl)
theorem dX0_cosine_82 : decode cX0_cosine 82 = .ok (.ireturn, 1) := dk_172 (dk_at dksX0_cosine_3 12 rfl rfl)
abbrev cX0_coset : ByteArray := prog_1_method_59_code
def yX0_coset : MethodName := ⟨RX0, "coset", "(IIIIII)J"⟩
def dkwX0_coset_10 : List UInt8 := [25, 12, 21, 15, 47, 97, 55, 13, 132, 15, 1, 167, 255, 166, 22, 13, 173]
abbrev dktX0_coset_10 : List UInt8 := dkwX0_coset_10 ++ []
def dkwX0_coset_9 : List UInt8 := [47, 105, 101, 80, 132, 18, 1, 167, 255, 225, 22, 13, 25, 11, 180, 0, 150, 21, 15, 50, 21, 15, 47, 105]
abbrev dktX0_coset_9 : List UInt8 := dkwX0_coset_9 ++ dktX0_coset_10
def dkwX0_coset_8 : List UInt8 := [21, 18, 6, 162, 0, 31, 25, 12, 21, 18, 92, 47, 22, 16, 25, 11, 180, 0, 150, 21, 15, 50, 21, 18]
abbrev dktX0_coset_8 : List UInt8 := dkwX0_coset_8 ++ dktX0_coset_9
def dkwX0_coset_7 : List UInt8 := [21, 15, 47, 25, 11, 180, 0, 150, 21, 15, 50, 21, 15, 47, 184, 1, 77, 55, 16, 21, 15, 54, 18]
abbrev dktX0_coset_7 : List UInt8 := dkwX0_coset_7 ++ dktX0_coset_8
def dkwX0_coset_6 : List UInt8 := [22, 9, 109, 80, 132, 13, 1, 167, 255, 187, 9, 55, 13, 3, 54, 15, 21, 15, 6, 162, 0, 90, 25, 12]
abbrev dktX0_coset_6 : List UInt8 := dkwX0_coset_6 ++ dktX0_coset_7
def dkwX0_coset_5 : List UInt8 := [21, 5, 133, 25, 8, 180, 0, 150, 5, 50, 21, 13, 47, 105, 97, 42, 27, 182, 0, 142, 182, 0, 154, 105]
abbrev dktX0_coset_5 : List UInt8 := dkwX0_coset_5 ++ dktX0_coset_6
def dkwX0_coset_4 : List UInt8 := [180, 0, 150, 3, 50, 21, 13, 47, 105, 21, 4, 133, 25, 8, 180, 0, 150, 4, 50, 21, 13, 47, 105, 97]
abbrev dktX0_coset_4 : List UInt8 := dkwX0_coset_4 ++ dktX0_coset_5
def dkwX0_coset_3 : List UInt8 := [6, 188, 11, 58, 12, 3, 54, 13, 21, 13, 6, 162, 0, 69, 25, 12, 21, 13, 29, 133, 25, 8]
abbrev dktX0_coset_3 : List UInt8 := dkwX0_coset_3 ++ dktX0_coset_4
def dkwX0_coset_2 : List UInt8 := [182, 0, 192, 105, 55, 9, 187, 0, 158, 89, 42, 27, 28, 182, 1, 16, 183, 0, 160, 180, 0, 163, 58, 11]
abbrev dktX0_coset_2 : List UInt8 := dkwX0_coset_2 ++ dktX0_coset_3
def dkwX0_coset_1 : List UInt8 := [42, 27, 182, 0, 142, 182, 0, 146, 182, 0, 203, 58, 8, 21, 6, 133, 42, 27, 182, 0, 142, 182, 0, 146]
abbrev dktX0_coset_1 : List UInt8 := dkwX0_coset_1 ++ dktX0_coset_2
def dkwX0_coset_0 : List UInt8 := [42, 27, 28, 29, 21, 4, 21, 5, 21, 6, 182, 1, 24, 54, 7, 21, 7, 156, 0, 7, 21, 7, 133, 173]
abbrev dktX0_coset_0 : List UInt8 := dkwX0_coset_0 ++ dktX0_coset_1
theorem dksX0_coset_0 : cX0_coset.data.toList.drop 0 = dktX0_coset_0 := by decide +kernel
theorem dksX0_coset_1 : cX0_coset.data.toList.drop 24 = dktX0_coset_1 := dk_seg dksX0_coset_0 24 rfl rfl
theorem dksX0_coset_2 : cX0_coset.data.toList.drop 48 = dktX0_coset_2 := dk_seg dksX0_coset_1 24 rfl rfl
theorem dksX0_coset_3 : cX0_coset.data.toList.drop 72 = dktX0_coset_3 := dk_seg dksX0_coset_2 24 rfl rfl
theorem dksX0_coset_4 : cX0_coset.data.toList.drop 94 = dktX0_coset_4 := dk_seg dksX0_coset_3 22 rfl rfl
theorem dksX0_coset_5 : cX0_coset.data.toList.drop 118 = dktX0_coset_5 := dk_seg dksX0_coset_4 24 rfl rfl
theorem dksX0_coset_6 : cX0_coset.data.toList.drop 142 = dktX0_coset_6 := dk_seg dksX0_coset_5 24 rfl rfl
theorem dksX0_coset_7 : cX0_coset.data.toList.drop 166 = dktX0_coset_7 := dk_seg dksX0_coset_6 24 rfl rfl
theorem dksX0_coset_8 : cX0_coset.data.toList.drop 189 = dktX0_coset_8 := dk_seg dksX0_coset_7 23 rfl rfl
theorem dksX0_coset_9 : cX0_coset.data.toList.drop 213 = dktX0_coset_9 := dk_seg dksX0_coset_8 24 rfl rfl
theorem dksX0_coset_10 : cX0_coset.data.toList.drop 237 = dktX0_coset_10 := dk_seg dksX0_coset_9 24 rfl rfl
theorem dX0_coset_0 : decode cX0_coset 0 = .ok (.aload_n 0, 1) := dk_42 (dk_at dksX0_coset_0 0 rfl rfl)
theorem dX0_coset_1 : decode cX0_coset 1 = .ok (.iload_n 1, 1) := dk_27 (dk_at dksX0_coset_0 1 rfl rfl)
theorem dX0_coset_2 : decode cX0_coset 2 = .ok (.iload_n 2, 1) := dk_28 (dk_at dksX0_coset_0 2 rfl rfl)
theorem dX0_coset_3 : decode cX0_coset 3 = .ok (.iload_n 3, 1) := dk_29 (dk_at dksX0_coset_0 3 rfl rfl)
theorem dX0_coset_4 : decode cX0_coset 4 = .ok (.iload 4, 2) := dk_21 4 (dk_at dksX0_coset_0 4 rfl rfl)
theorem dX0_coset_6 : decode cX0_coset 6 = .ok (.iload 5, 2) := dk_21 5 (dk_at dksX0_coset_0 6 rfl rfl)
theorem dX0_coset_8 : decode cX0_coset 8 = .ok (.iload 6, 2) := dk_21 6 (dk_at dksX0_coset_0 8 rfl rfl)
theorem dX0_coset_10 : decode cX0_coset 10 = .ok (.invokevirtual 280, 3) := dk_182 1 24 (dk_at dksX0_coset_0 10 rfl rfl)
theorem dX0_coset_13 : decode cX0_coset 13 = .ok (.istore 7, 2) := dk_54 7 (dk_at dksX0_coset_0 13 rfl rfl)
theorem dX0_coset_15 : decode cX0_coset 15 = .ok (.iload 7, 2) := dk_21 7 (dk_at dksX0_coset_0 15 rfl rfl)
theorem dX0_coset_17 : decode cX0_coset 17 = .ok (.ifCond .ge 7, 3) := dk_156 0 7 (dk_at dksX0_coset_0 17 rfl rfl)
theorem dX0_coset_20 : decode cX0_coset 20 = .ok (.iload 7, 2) := dk_21 7 (dk_at dksX0_coset_0 20 rfl rfl)
theorem dX0_coset_22 : decode cX0_coset 22 = .ok (.i2l, 1) := dk_133 (dk_at dksX0_coset_0 22 rfl rfl)
theorem dX0_coset_23 : decode cX0_coset 23 = .ok (.lreturn, 1) := dk_173 (dk_at dksX0_coset_0 23 rfl rfl)
theorem dX0_coset_24 : decode cX0_coset 24 = .ok (.aload_n 0, 1) := dk_42 (dk_at dksX0_coset_1 0 rfl rfl)
theorem dX0_coset_25 : decode cX0_coset 25 = .ok (.iload_n 1, 1) := dk_27 (dk_at dksX0_coset_1 1 rfl rfl)
theorem dX0_coset_26 : decode cX0_coset 26 = .ok (.invokevirtual 142, 3) := dk_182 0 142 (dk_at dksX0_coset_1 2 rfl rfl)
theorem dX0_coset_29 : decode cX0_coset 29 = .ok (.invokevirtual 146, 3) := dk_182 0 146 (dk_at dksX0_coset_1 5 rfl rfl)
theorem dX0_coset_32 : decode cX0_coset 32 = .ok (.invokevirtual 203, 3) := dk_182 0 203 (dk_at dksX0_coset_1 8 rfl rfl)
theorem dX0_coset_35 : decode cX0_coset 35 = .ok (.astore 8, 2) := dk_58 8 (dk_at dksX0_coset_1 11 rfl rfl)
theorem dX0_coset_37 : decode cX0_coset 37 = .ok (.iload 6, 2) := dk_21 6 (dk_at dksX0_coset_1 13 rfl rfl)
theorem dX0_coset_39 : decode cX0_coset 39 = .ok (.i2l, 1) := dk_133 (dk_at dksX0_coset_1 15 rfl rfl)
theorem dX0_coset_40 : decode cX0_coset 40 = .ok (.aload_n 0, 1) := dk_42 (dk_at dksX0_coset_1 16 rfl rfl)
theorem dX0_coset_41 : decode cX0_coset 41 = .ok (.iload_n 1, 1) := dk_27 (dk_at dksX0_coset_1 17 rfl rfl)
theorem dX0_coset_42 : decode cX0_coset 42 = .ok (.invokevirtual 142, 3) := dk_182 0 142 (dk_at dksX0_coset_1 18 rfl rfl)
theorem dX0_coset_45 : decode cX0_coset 45 = .ok (.invokevirtual 146, 3) := dk_182 0 146 (dk_at dksX0_coset_1 21 rfl rfl)
theorem dX0_coset_48 : decode cX0_coset 48 = .ok (.invokevirtual 192, 3) := dk_182 0 192 (dk_at dksX0_coset_2 0 rfl rfl)
theorem dX0_coset_51 : decode cX0_coset 51 = .ok (.lmul, 1) := dk_105 (dk_at dksX0_coset_2 3 rfl rfl)
theorem dX0_coset_52 : decode cX0_coset 52 = .ok (.lstore 9, 2) := dk_55 9 (dk_at dksX0_coset_2 4 rfl rfl)
theorem dX0_coset_54 : decode cX0_coset 54 = .ok (.new 158, 3) := dk_187 0 158 (dk_at dksX0_coset_2 6 rfl rfl)
theorem dX0_coset_57 : decode cX0_coset 57 = .ok (.dup, 1) := dk_89 (dk_at dksX0_coset_2 9 rfl rfl)
theorem dX0_coset_58 : decode cX0_coset 58 = .ok (.aload_n 0, 1) := dk_42 (dk_at dksX0_coset_2 10 rfl rfl)
theorem dX0_coset_59 : decode cX0_coset 59 = .ok (.iload_n 1, 1) := dk_27 (dk_at dksX0_coset_2 11 rfl rfl)
theorem dX0_coset_60 : decode cX0_coset 60 = .ok (.iload_n 2, 1) := dk_28 (dk_at dksX0_coset_2 12 rfl rfl)
theorem dX0_coset_61 : decode cX0_coset 61 = .ok (.invokevirtual 272, 3) := dk_182 1 16 (dk_at dksX0_coset_2 13 rfl rfl)
theorem dX0_coset_64 : decode cX0_coset 64 = .ok (.invokespecial 160, 3) := dk_183 0 160 (dk_at dksX0_coset_2 16 rfl rfl)
theorem dX0_coset_67 : decode cX0_coset 67 = .ok (.getfield 163, 3) := dk_180 0 163 (dk_at dksX0_coset_2 19 rfl rfl)
theorem dX0_coset_70 : decode cX0_coset 70 = .ok (.astore 11, 2) := dk_58 11 (dk_at dksX0_coset_2 22 rfl rfl)
theorem dX0_coset_72 : decode cX0_coset 72 = .ok (.iconst 3, 1) := dk_6 (dk_at dksX0_coset_3 0 rfl rfl)
theorem dX0_coset_73 : decode cX0_coset 73 = .ok (.newarray .long, 2) := dk_188_11 (dk_at dksX0_coset_3 1 rfl rfl)
theorem dX0_coset_75 : decode cX0_coset 75 = .ok (.astore 12, 2) := dk_58 12 (dk_at dksX0_coset_3 3 rfl rfl)
theorem dX0_coset_77 : decode cX0_coset 77 = .ok (.iconst 0, 1) := dk_3 (dk_at dksX0_coset_3 5 rfl rfl)
theorem dX0_coset_78 : decode cX0_coset 78 = .ok (.istore 13, 2) := dk_54 13 (dk_at dksX0_coset_3 6 rfl rfl)
theorem dX0_coset_80 : decode cX0_coset 80 = .ok (.iload 13, 2) := dk_21 13 (dk_at dksX0_coset_3 8 rfl rfl)
theorem dX0_coset_82 : decode cX0_coset 82 = .ok (.iconst 3, 1) := dk_6 (dk_at dksX0_coset_3 10 rfl rfl)
theorem dX0_coset_83 : decode cX0_coset 83 = .ok (.if_icmp .ge 69, 3) := dk_162 0 69 (dk_at dksX0_coset_3 11 rfl rfl)
theorem dX0_coset_86 : decode cX0_coset 86 = .ok (.aload 12, 2) := dk_25 12 (dk_at dksX0_coset_3 14 rfl rfl)
theorem dX0_coset_88 : decode cX0_coset 88 = .ok (.iload 13, 2) := dk_21 13 (dk_at dksX0_coset_3 16 rfl rfl)
theorem dX0_coset_90 : decode cX0_coset 90 = .ok (.iload_n 3, 1) := dk_29 (dk_at dksX0_coset_3 18 rfl rfl)
theorem dX0_coset_91 : decode cX0_coset 91 = .ok (.i2l, 1) := dk_133 (dk_at dksX0_coset_3 19 rfl rfl)
theorem dX0_coset_92 : decode cX0_coset 92 = .ok (.aload 8, 2) := dk_25 8 (dk_at dksX0_coset_3 20 rfl rfl)
theorem dX0_coset_94 : decode cX0_coset 94 = .ok (.getfield 150, 3) := dk_180 0 150 (dk_at dksX0_coset_4 0 rfl rfl)
theorem dX0_coset_97 : decode cX0_coset 97 = .ok (.iconst 0, 1) := dk_3 (dk_at dksX0_coset_4 3 rfl rfl)
theorem dX0_coset_98 : decode cX0_coset 98 = .ok (.aaload, 1) := dk_50 (dk_at dksX0_coset_4 4 rfl rfl)
theorem dX0_coset_99 : decode cX0_coset 99 = .ok (.iload 13, 2) := dk_21 13 (dk_at dksX0_coset_4 5 rfl rfl)
theorem dX0_coset_101 : decode cX0_coset 101 = .ok (.laload, 1) := dk_47 (dk_at dksX0_coset_4 7 rfl rfl)
theorem dX0_coset_102 : decode cX0_coset 102 = .ok (.lmul, 1) := dk_105 (dk_at dksX0_coset_4 8 rfl rfl)
theorem dX0_coset_103 : decode cX0_coset 103 = .ok (.iload 4, 2) := dk_21 4 (dk_at dksX0_coset_4 9 rfl rfl)
theorem dX0_coset_105 : decode cX0_coset 105 = .ok (.i2l, 1) := dk_133 (dk_at dksX0_coset_4 11 rfl rfl)
theorem dX0_coset_106 : decode cX0_coset 106 = .ok (.aload 8, 2) := dk_25 8 (dk_at dksX0_coset_4 12 rfl rfl)
theorem dX0_coset_108 : decode cX0_coset 108 = .ok (.getfield 150, 3) := dk_180 0 150 (dk_at dksX0_coset_4 14 rfl rfl)
theorem dX0_coset_111 : decode cX0_coset 111 = .ok (.iconst 1, 1) := dk_4 (dk_at dksX0_coset_4 17 rfl rfl)
theorem dX0_coset_112 : decode cX0_coset 112 = .ok (.aaload, 1) := dk_50 (dk_at dksX0_coset_4 18 rfl rfl)
theorem dX0_coset_113 : decode cX0_coset 113 = .ok (.iload 13, 2) := dk_21 13 (dk_at dksX0_coset_4 19 rfl rfl)
theorem dX0_coset_115 : decode cX0_coset 115 = .ok (.laload, 1) := dk_47 (dk_at dksX0_coset_4 21 rfl rfl)
theorem dX0_coset_116 : decode cX0_coset 116 = .ok (.lmul, 1) := dk_105 (dk_at dksX0_coset_4 22 rfl rfl)
theorem dX0_coset_117 : decode cX0_coset 117 = .ok (.ladd, 1) := dk_97 (dk_at dksX0_coset_4 23 rfl rfl)
theorem dX0_coset_118 : decode cX0_coset 118 = .ok (.iload 5, 2) := dk_21 5 (dk_at dksX0_coset_5 0 rfl rfl)
theorem dX0_coset_120 : decode cX0_coset 120 = .ok (.i2l, 1) := dk_133 (dk_at dksX0_coset_5 2 rfl rfl)
theorem dX0_coset_121 : decode cX0_coset 121 = .ok (.aload 8, 2) := dk_25 8 (dk_at dksX0_coset_5 3 rfl rfl)
theorem dX0_coset_123 : decode cX0_coset 123 = .ok (.getfield 150, 3) := dk_180 0 150 (dk_at dksX0_coset_5 5 rfl rfl)
theorem dX0_coset_126 : decode cX0_coset 126 = .ok (.iconst 2, 1) := dk_5 (dk_at dksX0_coset_5 8 rfl rfl)
theorem dX0_coset_127 : decode cX0_coset 127 = .ok (.aaload, 1) := dk_50 (dk_at dksX0_coset_5 9 rfl rfl)
theorem dX0_coset_128 : decode cX0_coset 128 = .ok (.iload 13, 2) := dk_21 13 (dk_at dksX0_coset_5 10 rfl rfl)
theorem dX0_coset_130 : decode cX0_coset 130 = .ok (.laload, 1) := dk_47 (dk_at dksX0_coset_5 12 rfl rfl)
theorem dX0_coset_131 : decode cX0_coset 131 = .ok (.lmul, 1) := dk_105 (dk_at dksX0_coset_5 13 rfl rfl)
theorem dX0_coset_132 : decode cX0_coset 132 = .ok (.ladd, 1) := dk_97 (dk_at dksX0_coset_5 14 rfl rfl)
theorem dX0_coset_133 : decode cX0_coset 133 = .ok (.aload_n 0, 1) := dk_42 (dk_at dksX0_coset_5 15 rfl rfl)
theorem dX0_coset_134 : decode cX0_coset 134 = .ok (.iload_n 1, 1) := dk_27 (dk_at dksX0_coset_5 16 rfl rfl)
theorem dX0_coset_135 : decode cX0_coset 135 = .ok (.invokevirtual 142, 3) := dk_182 0 142 (dk_at dksX0_coset_5 17 rfl rfl)
theorem dX0_coset_138 : decode cX0_coset 138 = .ok (.invokevirtual 154, 3) := dk_182 0 154 (dk_at dksX0_coset_5 20 rfl rfl)
theorem dX0_coset_141 : decode cX0_coset 141 = .ok (.lmul, 1) := dk_105 (dk_at dksX0_coset_5 23 rfl rfl)
theorem dX0_coset_142 : decode cX0_coset 142 = .ok (.lload 9, 2) := dk_22 9 (dk_at dksX0_coset_6 0 rfl rfl)
theorem dX0_coset_144 : decode cX0_coset 144 = .ok (.ldiv, 1) := dk_109 (dk_at dksX0_coset_6 2 rfl rfl)
theorem dX0_coset_145 : decode cX0_coset 145 = .ok (.lastore, 1) := dk_80 (dk_at dksX0_coset_6 3 rfl rfl)
theorem dX0_coset_146 : decode cX0_coset 146 = .ok (.iinc 13 1, 3) := dk_132 13 1 (dk_at dksX0_coset_6 4 rfl rfl)
theorem dX0_coset_149 : decode cX0_coset 149 = .ok (.goto (-69), 3) := dk_167 255 187 (dk_at dksX0_coset_6 7 rfl rfl)
theorem dX0_coset_152 : decode cX0_coset 152 = .ok (.lconst 0, 1) := dk_9 (dk_at dksX0_coset_6 10 rfl rfl)
theorem dX0_coset_153 : decode cX0_coset 153 = .ok (.lstore 13, 2) := dk_55 13 (dk_at dksX0_coset_6 11 rfl rfl)
theorem dX0_coset_155 : decode cX0_coset 155 = .ok (.iconst 0, 1) := dk_3 (dk_at dksX0_coset_6 13 rfl rfl)
theorem dX0_coset_156 : decode cX0_coset 156 = .ok (.istore 15, 2) := dk_54 15 (dk_at dksX0_coset_6 14 rfl rfl)
theorem dX0_coset_158 : decode cX0_coset 158 = .ok (.iload 15, 2) := dk_21 15 (dk_at dksX0_coset_6 16 rfl rfl)
theorem dX0_coset_160 : decode cX0_coset 160 = .ok (.iconst 3, 1) := dk_6 (dk_at dksX0_coset_6 18 rfl rfl)
theorem dX0_coset_161 : decode cX0_coset 161 = .ok (.if_icmp .ge 90, 3) := dk_162 0 90 (dk_at dksX0_coset_6 19 rfl rfl)
theorem dX0_coset_164 : decode cX0_coset 164 = .ok (.aload 12, 2) := dk_25 12 (dk_at dksX0_coset_6 22 rfl rfl)
theorem dX0_coset_166 : decode cX0_coset 166 = .ok (.iload 15, 2) := dk_21 15 (dk_at dksX0_coset_7 0 rfl rfl)
theorem dX0_coset_168 : decode cX0_coset 168 = .ok (.laload, 1) := dk_47 (dk_at dksX0_coset_7 2 rfl rfl)
theorem dX0_coset_169 : decode cX0_coset 169 = .ok (.aload 11, 2) := dk_25 11 (dk_at dksX0_coset_7 3 rfl rfl)
theorem dX0_coset_171 : decode cX0_coset 171 = .ok (.getfield 150, 3) := dk_180 0 150 (dk_at dksX0_coset_7 5 rfl rfl)
theorem dX0_coset_174 : decode cX0_coset 174 = .ok (.iload 15, 2) := dk_21 15 (dk_at dksX0_coset_7 8 rfl rfl)
theorem dX0_coset_176 : decode cX0_coset 176 = .ok (.aaload, 1) := dk_50 (dk_at dksX0_coset_7 10 rfl rfl)
theorem dX0_coset_177 : decode cX0_coset 177 = .ok (.iload 15, 2) := dk_21 15 (dk_at dksX0_coset_7 11 rfl rfl)
theorem dX0_coset_179 : decode cX0_coset 179 = .ok (.laload, 1) := dk_47 (dk_at dksX0_coset_7 13 rfl rfl)
theorem dX0_coset_180 : decode cX0_coset 180 = .ok (.invokestatic 333, 3) := dk_184 1 77 (dk_at dksX0_coset_7 14 rfl rfl)
theorem dX0_coset_183 : decode cX0_coset 183 = .ok (.lstore 16, 2) := dk_55 16 (dk_at dksX0_coset_7 17 rfl rfl)
theorem dX0_coset_185 : decode cX0_coset 185 = .ok (.iload 15, 2) := dk_21 15 (dk_at dksX0_coset_7 19 rfl rfl)
theorem dX0_coset_187 : decode cX0_coset 187 = .ok (.istore 18, 2) := dk_54 18 (dk_at dksX0_coset_7 21 rfl rfl)
theorem dX0_coset_189 : decode cX0_coset 189 = .ok (.iload 18, 2) := dk_21 18 (dk_at dksX0_coset_8 0 rfl rfl)
theorem dX0_coset_191 : decode cX0_coset 191 = .ok (.iconst 3, 1) := dk_6 (dk_at dksX0_coset_8 2 rfl rfl)
theorem dX0_coset_192 : decode cX0_coset 192 = .ok (.if_icmp .ge 31, 3) := dk_162 0 31 (dk_at dksX0_coset_8 3 rfl rfl)
theorem dX0_coset_195 : decode cX0_coset 195 = .ok (.aload 12, 2) := dk_25 12 (dk_at dksX0_coset_8 6 rfl rfl)
theorem dX0_coset_197 : decode cX0_coset 197 = .ok (.iload 18, 2) := dk_21 18 (dk_at dksX0_coset_8 8 rfl rfl)
theorem dX0_coset_199 : decode cX0_coset 199 = .ok (.dup2, 1) := dk_92 (dk_at dksX0_coset_8 10 rfl rfl)
theorem dX0_coset_200 : decode cX0_coset 200 = .ok (.laload, 1) := dk_47 (dk_at dksX0_coset_8 11 rfl rfl)
theorem dX0_coset_201 : decode cX0_coset 201 = .ok (.lload 16, 2) := dk_22 16 (dk_at dksX0_coset_8 12 rfl rfl)
theorem dX0_coset_203 : decode cX0_coset 203 = .ok (.aload 11, 2) := dk_25 11 (dk_at dksX0_coset_8 14 rfl rfl)
theorem dX0_coset_205 : decode cX0_coset 205 = .ok (.getfield 150, 3) := dk_180 0 150 (dk_at dksX0_coset_8 16 rfl rfl)
theorem dX0_coset_208 : decode cX0_coset 208 = .ok (.iload 15, 2) := dk_21 15 (dk_at dksX0_coset_8 19 rfl rfl)
theorem dX0_coset_210 : decode cX0_coset 210 = .ok (.aaload, 1) := dk_50 (dk_at dksX0_coset_8 21 rfl rfl)
theorem dX0_coset_211 : decode cX0_coset 211 = .ok (.iload 18, 2) := dk_21 18 (dk_at dksX0_coset_8 22 rfl rfl)
theorem dX0_coset_213 : decode cX0_coset 213 = .ok (.laload, 1) := dk_47 (dk_at dksX0_coset_9 0 rfl rfl)
theorem dX0_coset_214 : decode cX0_coset 214 = .ok (.lmul, 1) := dk_105 (dk_at dksX0_coset_9 1 rfl rfl)
theorem dX0_coset_215 : decode cX0_coset 215 = .ok (.lsub, 1) := dk_101 (dk_at dksX0_coset_9 2 rfl rfl)
theorem dX0_coset_216 : decode cX0_coset 216 = .ok (.lastore, 1) := dk_80 (dk_at dksX0_coset_9 3 rfl rfl)
theorem dX0_coset_217 : decode cX0_coset 217 = .ok (.iinc 18 1, 3) := dk_132 18 1 (dk_at dksX0_coset_9 4 rfl rfl)
theorem dX0_coset_220 : decode cX0_coset 220 = .ok (.goto (-31), 3) := dk_167 255 225 (dk_at dksX0_coset_9 7 rfl rfl)
theorem dX0_coset_223 : decode cX0_coset 223 = .ok (.lload 13, 2) := dk_22 13 (dk_at dksX0_coset_9 10 rfl rfl)
theorem dX0_coset_225 : decode cX0_coset 225 = .ok (.aload 11, 2) := dk_25 11 (dk_at dksX0_coset_9 12 rfl rfl)
theorem dX0_coset_227 : decode cX0_coset 227 = .ok (.getfield 150, 3) := dk_180 0 150 (dk_at dksX0_coset_9 14 rfl rfl)
theorem dX0_coset_230 : decode cX0_coset 230 = .ok (.iload 15, 2) := dk_21 15 (dk_at dksX0_coset_9 17 rfl rfl)
theorem dX0_coset_232 : decode cX0_coset 232 = .ok (.aaload, 1) := dk_50 (dk_at dksX0_coset_9 19 rfl rfl)
theorem dX0_coset_233 : decode cX0_coset 233 = .ok (.iload 15, 2) := dk_21 15 (dk_at dksX0_coset_9 20 rfl rfl)
theorem dX0_coset_235 : decode cX0_coset 235 = .ok (.laload, 1) := dk_47 (dk_at dksX0_coset_9 22 rfl rfl)
theorem dX0_coset_236 : decode cX0_coset 236 = .ok (.lmul, 1) := dk_105 (dk_at dksX0_coset_9 23 rfl rfl)
theorem dX0_coset_237 : decode cX0_coset 237 = .ok (.aload 12, 2) := dk_25 12 (dk_at dksX0_coset_10 0 rfl rfl)
theorem dX0_coset_239 : decode cX0_coset 239 = .ok (.iload 15, 2) := dk_21 15 (dk_at dksX0_coset_10 2 rfl rfl)
theorem dX0_coset_241 : decode cX0_coset 241 = .ok (.laload, 1) := dk_47 (dk_at dksX0_coset_10 4 rfl rfl)
theorem dX0_coset_242 : decode cX0_coset 242 = .ok (.ladd, 1) := dk_97 (dk_at dksX0_coset_10 5 rfl rfl)
theorem dX0_coset_243 : decode cX0_coset 243 = .ok (.lstore 13, 2) := dk_55 13 (dk_at dksX0_coset_10 6 rfl rfl)
theorem dX0_coset_245 : decode cX0_coset 245 = .ok (.iinc 15 1, 3) := dk_132 15 1 (dk_at dksX0_coset_10 8 rfl rfl)
theorem dX0_coset_248 : decode cX0_coset 248 = .ok (.goto (-90), 3) := dk_167 255 166 (dk_at dksX0_coset_10 11 rfl rfl)
theorem dX0_coset_251 : decode cX0_coset 251 = .ok (.lload 13, 2) := dk_22 13 (dk_at dksX0_coset_10 14 rfl rfl)
theorem dX0_coset_253 : decode cX0_coset 253 = .ok (.lreturn, 1) := dk_173 (dk_at dksX0_coset_10 16 rfl rfl)
abbrev cX0_turned : ByteArray := prog_1_method_64_code
def yX0_turned : MethodName := ⟨RX0, "turned", "(II)I"⟩
def dkwX0_turned_0 : List UInt8 := [42, 27, 28, 182, 1, 101, 153, 0, 10, 42, 180, 1, 83, 167, 0, 5, 16, 254, 172]
abbrev dktX0_turned_0 : List UInt8 := dkwX0_turned_0 ++ []
theorem dksX0_turned_0 : cX0_turned.data.toList.drop 0 = dktX0_turned_0 := by decide +kernel
theorem dX0_turned_0 : decode cX0_turned 0 = .ok (.aload_n 0, 1) := dk_42 (dk_at dksX0_turned_0 0 rfl rfl)
theorem dX0_turned_1 : decode cX0_turned 1 = .ok (.iload_n 1, 1) := dk_27 (dk_at dksX0_turned_0 1 rfl rfl)
theorem dX0_turned_2 : decode cX0_turned 2 = .ok (.iload_n 2, 1) := dk_28 (dk_at dksX0_turned_0 2 rfl rfl)
theorem dX0_turned_3 : decode cX0_turned 3 = .ok (.invokevirtual 357, 3) := dk_182 1 101 (dk_at dksX0_turned_0 3 rfl rfl)
theorem dX0_turned_6 : decode cX0_turned 6 = .ok (.ifCond .eq 10, 3) := dk_153 0 10 (dk_at dksX0_turned_0 6 rfl rfl)
theorem dX0_turned_9 : decode cX0_turned 9 = .ok (.aload_n 0, 1) := dk_42 (dk_at dksX0_turned_0 9 rfl rfl)
theorem dX0_turned_10 : decode cX0_turned 10 = .ok (.getfield 339, 3) := dk_180 1 83 (dk_at dksX0_turned_0 10 rfl rfl)
theorem dX0_turned_13 : decode cX0_turned 13 = .ok (.goto 5, 3) := dk_167 0 5 (dk_at dksX0_turned_0 13 rfl rfl)
theorem dX0_turned_16 : decode cX0_turned 16 = .ok (.bipush (-2), 2) := dk_16 254 (dk_at dksX0_turned_0 16 rfl rfl)
theorem dX0_turned_18 : decode cX0_turned 18 = .ok (.ireturn, 1) := dk_172 (dk_at dksX0_turned_0 18 rfl rfl)
abbrev cX0_asksTurns : ByteArray := prog_1_method_63_code
def yX0_asksTurns : MethodName := ⟨RX0, "asksTurns", "(II)Z"⟩
def dkwX0_asksTurns_1 : List UInt8 := [20, 0, 208, 184, 0, 72, 154, 0, 5, 3, 172, 42, 42, 27, 182, 0, 142, 28, 182, 1, 97, 4, 172]
abbrev dktX0_asksTurns_1 : List UInt8 := dkwX0_asksTurns_1 ++ []
def dkwX0_asksTurns_0 : List UInt8 := [42, 27, 182, 0, 131, 153, 0, 26, 42, 27, 182, 0, 142, 182, 0, 125, 154, 0, 15, 28, 133, 10]
abbrev dktX0_asksTurns_0 : List UInt8 := dkwX0_asksTurns_0 ++ dktX0_asksTurns_1
theorem dksX0_asksTurns_0 : cX0_asksTurns.data.toList.drop 0 = dktX0_asksTurns_0 := by decide +kernel
theorem dksX0_asksTurns_1 : cX0_asksTurns.data.toList.drop 22 = dktX0_asksTurns_1 := dk_seg dksX0_asksTurns_0 22 rfl rfl
theorem dX0_asksTurns_0 : decode cX0_asksTurns 0 = .ok (.aload_n 0, 1) := dk_42 (dk_at dksX0_asksTurns_0 0 rfl rfl)
theorem dX0_asksTurns_1 : decode cX0_asksTurns 1 = .ok (.iload_n 1, 1) := dk_27 (dk_at dksX0_asksTurns_0 1 rfl rfl)
theorem dX0_asksTurns_2 : decode cX0_asksTurns 2 = .ok (.invokevirtual 131, 3) := dk_182 0 131 (dk_at dksX0_asksTurns_0 2 rfl rfl)
theorem dX0_asksTurns_5 : decode cX0_asksTurns 5 = .ok (.ifCond .eq 26, 3) := dk_153 0 26 (dk_at dksX0_asksTurns_0 5 rfl rfl)
theorem dX0_asksTurns_8 : decode cX0_asksTurns 8 = .ok (.aload_n 0, 1) := dk_42 (dk_at dksX0_asksTurns_0 8 rfl rfl)
theorem dX0_asksTurns_9 : decode cX0_asksTurns 9 = .ok (.iload_n 1, 1) := dk_27 (dk_at dksX0_asksTurns_0 9 rfl rfl)
theorem dX0_asksTurns_10 : decode cX0_asksTurns 10 = .ok (.invokevirtual 142, 3) := dk_182 0 142 (dk_at dksX0_asksTurns_0 10 rfl rfl)
theorem dX0_asksTurns_13 : decode cX0_asksTurns 13 = .ok (.invokevirtual 125, 3) := dk_182 0 125 (dk_at dksX0_asksTurns_0 13 rfl rfl)
theorem dX0_asksTurns_16 : decode cX0_asksTurns 16 = .ok (.ifCond .ne 15, 3) := dk_154 0 15 (dk_at dksX0_asksTurns_0 16 rfl rfl)
theorem dX0_asksTurns_19 : decode cX0_asksTurns 19 = .ok (.iload_n 2, 1) := dk_28 (dk_at dksX0_asksTurns_0 19 rfl rfl)
theorem dX0_asksTurns_20 : decode cX0_asksTurns 20 = .ok (.i2l, 1) := dk_133 (dk_at dksX0_asksTurns_0 20 rfl rfl)
theorem dX0_asksTurns_21 : decode cX0_asksTurns 21 = .ok (.lconst 1, 1) := dk_10 (dk_at dksX0_asksTurns_0 21 rfl rfl)
theorem dX0_asksTurns_22 : decode cX0_asksTurns 22 = .ok (.ldc2_w 208, 3) := dk_20 0 208 (dk_at dksX0_asksTurns_1 0 rfl rfl)
theorem dX0_asksTurns_25 : decode cX0_asksTurns 25 = .ok (.invokestatic 72, 3) := dk_184 0 72 (dk_at dksX0_asksTurns_1 3 rfl rfl)
theorem dX0_asksTurns_28 : decode cX0_asksTurns 28 = .ok (.ifCond .ne 5, 3) := dk_154 0 5 (dk_at dksX0_asksTurns_1 6 rfl rfl)
theorem dX0_asksTurns_31 : decode cX0_asksTurns 31 = .ok (.iconst 0, 1) := dk_3 (dk_at dksX0_asksTurns_1 9 rfl rfl)
theorem dX0_asksTurns_32 : decode cX0_asksTurns 32 = .ok (.ireturn, 1) := dk_172 (dk_at dksX0_asksTurns_1 10 rfl rfl)
theorem dX0_asksTurns_33 : decode cX0_asksTurns 33 = .ok (.aload_n 0, 1) := dk_42 (dk_at dksX0_asksTurns_1 11 rfl rfl)
theorem dX0_asksTurns_34 : decode cX0_asksTurns 34 = .ok (.aload_n 0, 1) := dk_42 (dk_at dksX0_asksTurns_1 12 rfl rfl)
theorem dX0_asksTurns_35 : decode cX0_asksTurns 35 = .ok (.iload_n 1, 1) := dk_27 (dk_at dksX0_asksTurns_1 13 rfl rfl)
theorem dX0_asksTurns_36 : decode cX0_asksTurns 36 = .ok (.invokevirtual 142, 3) := dk_182 0 142 (dk_at dksX0_asksTurns_1 14 rfl rfl)
theorem dX0_asksTurns_39 : decode cX0_asksTurns 39 = .ok (.iload_n 2, 1) := dk_28 (dk_at dksX0_asksTurns_1 17 rfl rfl)
theorem dX0_asksTurns_40 : decode cX0_asksTurns 40 = .ok (.invokevirtual 353, 3) := dk_182 1 97 (dk_at dksX0_asksTurns_1 18 rfl rfl)
theorem dX0_asksTurns_43 : decode cX0_asksTurns 43 = .ok (.iconst 1, 1) := dk_4 (dk_at dksX0_asksTurns_1 21 rfl rfl)
theorem dX0_asksTurns_44 : decode cX0_asksTurns 44 = .ok (.ireturn, 1) := dk_172 (dk_at dksX0_asksTurns_1 22 rfl rfl)
abbrev cX0_seeksTurns : ByteArray := prog_1_method_62_code
def yX0_seeksTurns : MethodName := ⟨RX0, "seeksTurns", "(LCoincideBench$Lattice;I)V"⟩
def dkwX0_seeksTurns_5 : List UInt8 := [181, 1, 86, 132, 3, 1, 167, 255, 144, 177]
abbrev dktX0_seeksTurns_5 : List UInt8 := dkwX0_seeksTurns_5 ++ []
def dkwX0_seeksTurns_4 : List UInt8 := [104, 96, 16, 10, 29, 5, 122, 6, 126, 104, 96, 29, 6, 126, 96, 167, 0, 7, 42, 180, 1, 86]
abbrev dktX0_seeksTurns_4 : List UInt8 := dkwX0_seeksTurns_4 ++ dktX0_seeksTurns_5
def dkwX0_seeksTurns_3 : List UInt8 := [42, 42, 180, 1, 86, 2, 160, 0, 36, 17, 3, 232, 29, 16, 6, 122, 104, 16, 100, 29, 7, 122, 6, 126]
abbrev dktX0_seeksTurns_3 : List UInt8 := dkwX0_seeksTurns_3 ++ dktX0_seeksTurns_4
def dkwX0_seeksTurns_2 : List UInt8 := [22, 4, 182, 1, 93, 28, 133, 148, 153, 0, 6, 167, 0, 62, 42, 89, 180, 1, 83, 4, 96, 181, 1, 83]
abbrev dktX0_seeksTurns_2 : List UInt8 := dkwX0_seeksTurns_2 ++ dktX0_seeksTurns_3
def dkwX0_seeksTurns_1 : List UInt8 := [29, 7, 122, 6, 126, 29, 5, 122, 6, 126, 29, 6, 126, 182, 1, 89, 133, 55, 4, 42, 43, 182, 0, 146]
abbrev dktX0_seeksTurns_1 : List UInt8 := dkwX0_seeksTurns_1 ++ dktX0_seeksTurns_2
def dkwX0_seeksTurns_0 : List UInt8 := [42, 3, 181, 1, 83, 42, 2, 181, 1, 86, 4, 62, 29, 17, 1, 0, 162, 0, 111, 42, 29, 16, 6, 122]
abbrev dktX0_seeksTurns_0 : List UInt8 := dkwX0_seeksTurns_0 ++ dktX0_seeksTurns_1
theorem dksX0_seeksTurns_0 : cX0_seeksTurns.data.toList.drop 0 = dktX0_seeksTurns_0 := by decide +kernel
theorem dksX0_seeksTurns_1 : cX0_seeksTurns.data.toList.drop 24 = dktX0_seeksTurns_1 := dk_seg dksX0_seeksTurns_0 24 rfl rfl
theorem dksX0_seeksTurns_2 : cX0_seeksTurns.data.toList.drop 48 = dktX0_seeksTurns_2 := dk_seg dksX0_seeksTurns_1 24 rfl rfl
theorem dksX0_seeksTurns_3 : cX0_seeksTurns.data.toList.drop 72 = dktX0_seeksTurns_3 := dk_seg dksX0_seeksTurns_2 24 rfl rfl
theorem dksX0_seeksTurns_4 : cX0_seeksTurns.data.toList.drop 96 = dktX0_seeksTurns_4 := dk_seg dksX0_seeksTurns_3 24 rfl rfl
theorem dksX0_seeksTurns_5 : cX0_seeksTurns.data.toList.drop 118 = dktX0_seeksTurns_5 := dk_seg dksX0_seeksTurns_4 22 rfl rfl
theorem dX0_seeksTurns_0 : decode cX0_seeksTurns 0 = .ok (.aload_n 0, 1) := dk_42 (dk_at dksX0_seeksTurns_0 0 rfl rfl)
theorem dX0_seeksTurns_1 : decode cX0_seeksTurns 1 = .ok (.iconst 0, 1) := dk_3 (dk_at dksX0_seeksTurns_0 1 rfl rfl)
theorem dX0_seeksTurns_2 : decode cX0_seeksTurns 2 = .ok (.putfield 339, 3) := dk_181 1 83 (dk_at dksX0_seeksTurns_0 2 rfl rfl)
theorem dX0_seeksTurns_5 : decode cX0_seeksTurns 5 = .ok (.aload_n 0, 1) := dk_42 (dk_at dksX0_seeksTurns_0 5 rfl rfl)
theorem dX0_seeksTurns_6 : decode cX0_seeksTurns 6 = .ok (.iconst (-1), 1) := dk_2 (dk_at dksX0_seeksTurns_0 6 rfl rfl)
theorem dX0_seeksTurns_7 : decode cX0_seeksTurns 7 = .ok (.putfield 342, 3) := dk_181 1 86 (dk_at dksX0_seeksTurns_0 7 rfl rfl)
theorem dX0_seeksTurns_10 : decode cX0_seeksTurns 10 = .ok (.iconst 1, 1) := dk_4 (dk_at dksX0_seeksTurns_0 10 rfl rfl)
theorem dX0_seeksTurns_11 : decode cX0_seeksTurns 11 = .ok (.istore_n 3, 1) := dk_62 (dk_at dksX0_seeksTurns_0 11 rfl rfl)
theorem dX0_seeksTurns_12 : decode cX0_seeksTurns 12 = .ok (.iload_n 3, 1) := dk_29 (dk_at dksX0_seeksTurns_0 12 rfl rfl)
theorem dX0_seeksTurns_13 : decode cX0_seeksTurns 13 = .ok (.sipush 256, 3) := dk_17 1 0 (dk_at dksX0_seeksTurns_0 13 rfl rfl)
theorem dX0_seeksTurns_16 : decode cX0_seeksTurns 16 = .ok (.if_icmp .ge 111, 3) := dk_162 0 111 (dk_at dksX0_seeksTurns_0 16 rfl rfl)
theorem dX0_seeksTurns_19 : decode cX0_seeksTurns 19 = .ok (.aload_n 0, 1) := dk_42 (dk_at dksX0_seeksTurns_0 19 rfl rfl)
theorem dX0_seeksTurns_20 : decode cX0_seeksTurns 20 = .ok (.iload_n 3, 1) := dk_29 (dk_at dksX0_seeksTurns_0 20 rfl rfl)
theorem dX0_seeksTurns_21 : decode cX0_seeksTurns 21 = .ok (.bipush 6, 2) := dk_16 6 (dk_at dksX0_seeksTurns_0 21 rfl rfl)
theorem dX0_seeksTurns_23 : decode cX0_seeksTurns 23 = .ok (.ishr, 1) := dk_122 (dk_at dksX0_seeksTurns_0 23 rfl rfl)
theorem dX0_seeksTurns_24 : decode cX0_seeksTurns 24 = .ok (.iload_n 3, 1) := dk_29 (dk_at dksX0_seeksTurns_1 0 rfl rfl)
theorem dX0_seeksTurns_25 : decode cX0_seeksTurns 25 = .ok (.iconst 4, 1) := dk_7 (dk_at dksX0_seeksTurns_1 1 rfl rfl)
theorem dX0_seeksTurns_26 : decode cX0_seeksTurns 26 = .ok (.ishr, 1) := dk_122 (dk_at dksX0_seeksTurns_1 2 rfl rfl)
theorem dX0_seeksTurns_27 : decode cX0_seeksTurns 27 = .ok (.iconst 3, 1) := dk_6 (dk_at dksX0_seeksTurns_1 3 rfl rfl)
theorem dX0_seeksTurns_28 : decode cX0_seeksTurns 28 = .ok (.iand, 1) := dk_126 (dk_at dksX0_seeksTurns_1 4 rfl rfl)
theorem dX0_seeksTurns_29 : decode cX0_seeksTurns 29 = .ok (.iload_n 3, 1) := dk_29 (dk_at dksX0_seeksTurns_1 5 rfl rfl)
theorem dX0_seeksTurns_30 : decode cX0_seeksTurns 30 = .ok (.iconst 2, 1) := dk_5 (dk_at dksX0_seeksTurns_1 6 rfl rfl)
theorem dX0_seeksTurns_31 : decode cX0_seeksTurns 31 = .ok (.ishr, 1) := dk_122 (dk_at dksX0_seeksTurns_1 7 rfl rfl)
theorem dX0_seeksTurns_32 : decode cX0_seeksTurns 32 = .ok (.iconst 3, 1) := dk_6 (dk_at dksX0_seeksTurns_1 8 rfl rfl)
theorem dX0_seeksTurns_33 : decode cX0_seeksTurns 33 = .ok (.iand, 1) := dk_126 (dk_at dksX0_seeksTurns_1 9 rfl rfl)
theorem dX0_seeksTurns_34 : decode cX0_seeksTurns 34 = .ok (.iload_n 3, 1) := dk_29 (dk_at dksX0_seeksTurns_1 10 rfl rfl)
theorem dX0_seeksTurns_35 : decode cX0_seeksTurns 35 = .ok (.iconst 3, 1) := dk_6 (dk_at dksX0_seeksTurns_1 11 rfl rfl)
theorem dX0_seeksTurns_36 : decode cX0_seeksTurns 36 = .ok (.iand, 1) := dk_126 (dk_at dksX0_seeksTurns_1 12 rfl rfl)
theorem dX0_seeksTurns_37 : decode cX0_seeksTurns 37 = .ok (.invokevirtual 345, 3) := dk_182 1 89 (dk_at dksX0_seeksTurns_1 13 rfl rfl)
theorem dX0_seeksTurns_40 : decode cX0_seeksTurns 40 = .ok (.i2l, 1) := dk_133 (dk_at dksX0_seeksTurns_1 16 rfl rfl)
theorem dX0_seeksTurns_41 : decode cX0_seeksTurns 41 = .ok (.lstore 4, 2) := dk_55 4 (dk_at dksX0_seeksTurns_1 17 rfl rfl)
theorem dX0_seeksTurns_43 : decode cX0_seeksTurns 43 = .ok (.aload_n 0, 1) := dk_42 (dk_at dksX0_seeksTurns_1 19 rfl rfl)
theorem dX0_seeksTurns_44 : decode cX0_seeksTurns 44 = .ok (.aload_n 1, 1) := dk_43 (dk_at dksX0_seeksTurns_1 20 rfl rfl)
theorem dX0_seeksTurns_45 : decode cX0_seeksTurns 45 = .ok (.invokevirtual 146, 3) := dk_182 0 146 (dk_at dksX0_seeksTurns_1 21 rfl rfl)
theorem dX0_seeksTurns_48 : decode cX0_seeksTurns 48 = .ok (.lload 4, 2) := dk_22 4 (dk_at dksX0_seeksTurns_2 0 rfl rfl)
theorem dX0_seeksTurns_50 : decode cX0_seeksTurns 50 = .ok (.invokevirtual 349, 3) := dk_182 1 93 (dk_at dksX0_seeksTurns_2 2 rfl rfl)
theorem dX0_seeksTurns_53 : decode cX0_seeksTurns 53 = .ok (.iload_n 2, 1) := dk_28 (dk_at dksX0_seeksTurns_2 5 rfl rfl)
theorem dX0_seeksTurns_54 : decode cX0_seeksTurns 54 = .ok (.i2l, 1) := dk_133 (dk_at dksX0_seeksTurns_2 6 rfl rfl)
theorem dX0_seeksTurns_55 : decode cX0_seeksTurns 55 = .ok (.lcmp, 1) := dk_148 (dk_at dksX0_seeksTurns_2 7 rfl rfl)
theorem dX0_seeksTurns_56 : decode cX0_seeksTurns 56 = .ok (.ifCond .eq 6, 3) := dk_153 0 6 (dk_at dksX0_seeksTurns_2 8 rfl rfl)
theorem dX0_seeksTurns_59 : decode cX0_seeksTurns 59 = .ok (.goto 62, 3) := dk_167 0 62 (dk_at dksX0_seeksTurns_2 11 rfl rfl)
theorem dX0_seeksTurns_62 : decode cX0_seeksTurns 62 = .ok (.aload_n 0, 1) := dk_42 (dk_at dksX0_seeksTurns_2 14 rfl rfl)
theorem dX0_seeksTurns_63 : decode cX0_seeksTurns 63 = .ok (.dup, 1) := dk_89 (dk_at dksX0_seeksTurns_2 15 rfl rfl)
theorem dX0_seeksTurns_64 : decode cX0_seeksTurns 64 = .ok (.getfield 339, 3) := dk_180 1 83 (dk_at dksX0_seeksTurns_2 16 rfl rfl)
theorem dX0_seeksTurns_67 : decode cX0_seeksTurns 67 = .ok (.iconst 1, 1) := dk_4 (dk_at dksX0_seeksTurns_2 19 rfl rfl)
theorem dX0_seeksTurns_68 : decode cX0_seeksTurns 68 = .ok (.iadd, 1) := dk_96 (dk_at dksX0_seeksTurns_2 20 rfl rfl)
theorem dX0_seeksTurns_69 : decode cX0_seeksTurns 69 = .ok (.putfield 339, 3) := dk_181 1 83 (dk_at dksX0_seeksTurns_2 21 rfl rfl)
theorem dX0_seeksTurns_72 : decode cX0_seeksTurns 72 = .ok (.aload_n 0, 1) := dk_42 (dk_at dksX0_seeksTurns_3 0 rfl rfl)
theorem dX0_seeksTurns_73 : decode cX0_seeksTurns 73 = .ok (.aload_n 0, 1) := dk_42 (dk_at dksX0_seeksTurns_3 1 rfl rfl)
theorem dX0_seeksTurns_74 : decode cX0_seeksTurns 74 = .ok (.getfield 342, 3) := dk_180 1 86 (dk_at dksX0_seeksTurns_3 2 rfl rfl)
theorem dX0_seeksTurns_77 : decode cX0_seeksTurns 77 = .ok (.iconst (-1), 1) := dk_2 (dk_at dksX0_seeksTurns_3 5 rfl rfl)
theorem dX0_seeksTurns_78 : decode cX0_seeksTurns 78 = .ok (.if_icmp .ne 36, 3) := dk_160 0 36 (dk_at dksX0_seeksTurns_3 6 rfl rfl)
theorem dX0_seeksTurns_81 : decode cX0_seeksTurns 81 = .ok (.sipush 1000, 3) := dk_17 3 232 (dk_at dksX0_seeksTurns_3 9 rfl rfl)
theorem dX0_seeksTurns_84 : decode cX0_seeksTurns 84 = .ok (.iload_n 3, 1) := dk_29 (dk_at dksX0_seeksTurns_3 12 rfl rfl)
theorem dX0_seeksTurns_85 : decode cX0_seeksTurns 85 = .ok (.bipush 6, 2) := dk_16 6 (dk_at dksX0_seeksTurns_3 13 rfl rfl)
theorem dX0_seeksTurns_87 : decode cX0_seeksTurns 87 = .ok (.ishr, 1) := dk_122 (dk_at dksX0_seeksTurns_3 15 rfl rfl)
theorem dX0_seeksTurns_88 : decode cX0_seeksTurns 88 = .ok (.imul, 1) := dk_104 (dk_at dksX0_seeksTurns_3 16 rfl rfl)
theorem dX0_seeksTurns_89 : decode cX0_seeksTurns 89 = .ok (.bipush 100, 2) := dk_16 100 (dk_at dksX0_seeksTurns_3 17 rfl rfl)
theorem dX0_seeksTurns_91 : decode cX0_seeksTurns 91 = .ok (.iload_n 3, 1) := dk_29 (dk_at dksX0_seeksTurns_3 19 rfl rfl)
theorem dX0_seeksTurns_92 : decode cX0_seeksTurns 92 = .ok (.iconst 4, 1) := dk_7 (dk_at dksX0_seeksTurns_3 20 rfl rfl)
theorem dX0_seeksTurns_93 : decode cX0_seeksTurns 93 = .ok (.ishr, 1) := dk_122 (dk_at dksX0_seeksTurns_3 21 rfl rfl)
theorem dX0_seeksTurns_94 : decode cX0_seeksTurns 94 = .ok (.iconst 3, 1) := dk_6 (dk_at dksX0_seeksTurns_3 22 rfl rfl)
theorem dX0_seeksTurns_95 : decode cX0_seeksTurns 95 = .ok (.iand, 1) := dk_126 (dk_at dksX0_seeksTurns_3 23 rfl rfl)
theorem dX0_seeksTurns_96 : decode cX0_seeksTurns 96 = .ok (.imul, 1) := dk_104 (dk_at dksX0_seeksTurns_4 0 rfl rfl)
theorem dX0_seeksTurns_97 : decode cX0_seeksTurns 97 = .ok (.iadd, 1) := dk_96 (dk_at dksX0_seeksTurns_4 1 rfl rfl)
theorem dX0_seeksTurns_98 : decode cX0_seeksTurns 98 = .ok (.bipush 10, 2) := dk_16 10 (dk_at dksX0_seeksTurns_4 2 rfl rfl)
theorem dX0_seeksTurns_100 : decode cX0_seeksTurns 100 = .ok (.iload_n 3, 1) := dk_29 (dk_at dksX0_seeksTurns_4 4 rfl rfl)
theorem dX0_seeksTurns_101 : decode cX0_seeksTurns 101 = .ok (.iconst 2, 1) := dk_5 (dk_at dksX0_seeksTurns_4 5 rfl rfl)
theorem dX0_seeksTurns_102 : decode cX0_seeksTurns 102 = .ok (.ishr, 1) := dk_122 (dk_at dksX0_seeksTurns_4 6 rfl rfl)
theorem dX0_seeksTurns_103 : decode cX0_seeksTurns 103 = .ok (.iconst 3, 1) := dk_6 (dk_at dksX0_seeksTurns_4 7 rfl rfl)
theorem dX0_seeksTurns_104 : decode cX0_seeksTurns 104 = .ok (.iand, 1) := dk_126 (dk_at dksX0_seeksTurns_4 8 rfl rfl)
theorem dX0_seeksTurns_105 : decode cX0_seeksTurns 105 = .ok (.imul, 1) := dk_104 (dk_at dksX0_seeksTurns_4 9 rfl rfl)
theorem dX0_seeksTurns_106 : decode cX0_seeksTurns 106 = .ok (.iadd, 1) := dk_96 (dk_at dksX0_seeksTurns_4 10 rfl rfl)
theorem dX0_seeksTurns_107 : decode cX0_seeksTurns 107 = .ok (.iload_n 3, 1) := dk_29 (dk_at dksX0_seeksTurns_4 11 rfl rfl)
theorem dX0_seeksTurns_108 : decode cX0_seeksTurns 108 = .ok (.iconst 3, 1) := dk_6 (dk_at dksX0_seeksTurns_4 12 rfl rfl)
theorem dX0_seeksTurns_109 : decode cX0_seeksTurns 109 = .ok (.iand, 1) := dk_126 (dk_at dksX0_seeksTurns_4 13 rfl rfl)
theorem dX0_seeksTurns_110 : decode cX0_seeksTurns 110 = .ok (.iadd, 1) := dk_96 (dk_at dksX0_seeksTurns_4 14 rfl rfl)
theorem dX0_seeksTurns_111 : decode cX0_seeksTurns 111 = .ok (.goto 7, 3) := dk_167 0 7 (dk_at dksX0_seeksTurns_4 15 rfl rfl)
theorem dX0_seeksTurns_114 : decode cX0_seeksTurns 114 = .ok (.aload_n 0, 1) := dk_42 (dk_at dksX0_seeksTurns_4 18 rfl rfl)
theorem dX0_seeksTurns_115 : decode cX0_seeksTurns 115 = .ok (.getfield 342, 3) := dk_180 1 86 (dk_at dksX0_seeksTurns_4 19 rfl rfl)
theorem dX0_seeksTurns_118 : decode cX0_seeksTurns 118 = .ok (.putfield 342, 3) := dk_181 1 86 (dk_at dksX0_seeksTurns_5 0 rfl rfl)
theorem dX0_seeksTurns_121 : decode cX0_seeksTurns 121 = .ok (.iinc 3 1, 3) := dk_132 3 1 (dk_at dksX0_seeksTurns_5 3 rfl rfl)
theorem dX0_seeksTurns_124 : decode cX0_seeksTurns 124 = .ok (.goto (-112), 3) := dk_167 255 144 (dk_at dksX0_seeksTurns_5 6 rfl rfl)
theorem dX0_seeksTurns_127 : decode cX0_seeksTurns 127 = .ok (.return_, 1) := dk_177 (dk_at dksX0_seeksTurns_5 9 rfl rfl)
abbrev cX0_laysTurn : ByteArray := prog_1_method_60_code
def yX0_laysTurn : MethodName := ⟨RX0, "laysTurn", "(IIII)I"⟩
def dkwX0_laysTurn_8 : List UInt8 := [104, 96, 21, 4, 21, 4, 104, 96, 172]
abbrev dktX0_laysTurn_8 : List UInt8 := dkwX0_laysTurn_8 ++ []
def dkwX0_laysTurn_7 : List UInt8 := [28, 28, 104, 100, 29, 29, 104, 100, 21, 4, 21, 4, 104, 96, 79, 27, 27, 104, 28, 28, 104, 96, 29, 29]
abbrev dktX0_laysTurn_7 : List UInt8 := dkwX0_laysTurn_7 ++ dktX0_laysTurn_8
def dkwX0_laysTurn_6 : List UInt8 := [5, 50, 4, 5, 29, 21, 4, 104, 27, 28, 104, 96, 104, 79, 42, 180, 0, 51, 5, 50, 5, 27, 27, 104]
abbrev dktX0_laysTurn_6 : List UInt8 := dkwX0_laysTurn_6 ++ dktX0_laysTurn_7
def dkwX0_laysTurn_5 : List UInt8 := [104, 79, 42, 180, 0, 51, 5, 50, 3, 5, 28, 21, 4, 104, 27, 29, 104, 100, 104, 79, 42, 180, 0, 51]
abbrev dktX0_laysTurn_5 : List UInt8 := dkwX0_laysTurn_5 ++ dktX0_laysTurn_6
def dkwX0_laysTurn_4 : List UInt8 := [96, 21, 4, 21, 4, 104, 100, 79, 42, 180, 0, 51, 4, 50, 5, 5, 29, 21, 4, 104, 27, 28, 104, 100]
abbrev dktX0_laysTurn_4 : List UInt8 := dkwX0_laysTurn_4 ++ dktX0_laysTurn_5
def dkwX0_laysTurn_3 : List UInt8 := [27, 21, 4, 104, 96, 104, 79, 42, 180, 0, 51, 4, 50, 4, 27, 27, 104, 28, 28, 104, 100, 29, 29, 104]
abbrev dktX0_laysTurn_3 : List UInt8 := dkwX0_laysTurn_3 ++ dktX0_laysTurn_4
def dkwX0_laysTurn_2 : List UInt8 := [50, 5, 5, 28, 21, 4, 104, 27, 29, 104, 96, 104, 79, 42, 180, 0, 51, 4, 50, 3, 5, 28, 29, 104]
abbrev dktX0_laysTurn_2 : List UInt8 := dkwX0_laysTurn_2 ++ dktX0_laysTurn_3
def dkwX0_laysTurn_1 : List UInt8 := [79, 42, 180, 0, 51, 3, 50, 4, 5, 28, 29, 104, 27, 21, 4, 104, 100, 104, 79, 42, 180, 0, 51, 3]
abbrev dktX0_laysTurn_1 : List UInt8 := dkwX0_laysTurn_1 ++ dktX0_laysTurn_2
def dkwX0_laysTurn_0 : List UInt8 := [42, 180, 0, 51, 3, 50, 3, 27, 27, 104, 28, 28, 104, 96, 29, 29, 104, 100, 21, 4, 21, 4, 104, 100]
abbrev dktX0_laysTurn_0 : List UInt8 := dkwX0_laysTurn_0 ++ dktX0_laysTurn_1
theorem dksX0_laysTurn_0 : cX0_laysTurn.data.toList.drop 0 = dktX0_laysTurn_0 := by decide +kernel
theorem dksX0_laysTurn_1 : cX0_laysTurn.data.toList.drop 24 = dktX0_laysTurn_1 := dk_seg dksX0_laysTurn_0 24 rfl rfl
theorem dksX0_laysTurn_2 : cX0_laysTurn.data.toList.drop 48 = dktX0_laysTurn_2 := dk_seg dksX0_laysTurn_1 24 rfl rfl
theorem dksX0_laysTurn_3 : cX0_laysTurn.data.toList.drop 72 = dktX0_laysTurn_3 := dk_seg dksX0_laysTurn_2 24 rfl rfl
theorem dksX0_laysTurn_4 : cX0_laysTurn.data.toList.drop 96 = dktX0_laysTurn_4 := dk_seg dksX0_laysTurn_3 24 rfl rfl
theorem dksX0_laysTurn_5 : cX0_laysTurn.data.toList.drop 120 = dktX0_laysTurn_5 := dk_seg dksX0_laysTurn_4 24 rfl rfl
theorem dksX0_laysTurn_6 : cX0_laysTurn.data.toList.drop 144 = dktX0_laysTurn_6 := dk_seg dksX0_laysTurn_5 24 rfl rfl
theorem dksX0_laysTurn_7 : cX0_laysTurn.data.toList.drop 168 = dktX0_laysTurn_7 := dk_seg dksX0_laysTurn_6 24 rfl rfl
theorem dksX0_laysTurn_8 : cX0_laysTurn.data.toList.drop 192 = dktX0_laysTurn_8 := dk_seg dksX0_laysTurn_7 24 rfl rfl
theorem dX0_laysTurn_0 : decode cX0_laysTurn 0 = .ok (.aload_n 0, 1) := dk_42 (dk_at dksX0_laysTurn_0 0 rfl rfl)
theorem dX0_laysTurn_1 : decode cX0_laysTurn 1 = .ok (.getfield 51, 3) := dk_180 0 51 (dk_at dksX0_laysTurn_0 1 rfl rfl)
theorem dX0_laysTurn_4 : decode cX0_laysTurn 4 = .ok (.iconst 0, 1) := dk_3 (dk_at dksX0_laysTurn_0 4 rfl rfl)
theorem dX0_laysTurn_5 : decode cX0_laysTurn 5 = .ok (.aaload, 1) := dk_50 (dk_at dksX0_laysTurn_0 5 rfl rfl)
theorem dX0_laysTurn_6 : decode cX0_laysTurn 6 = .ok (.iconst 0, 1) := dk_3 (dk_at dksX0_laysTurn_0 6 rfl rfl)
theorem dX0_laysTurn_7 : decode cX0_laysTurn 7 = .ok (.iload_n 1, 1) := dk_27 (dk_at dksX0_laysTurn_0 7 rfl rfl)
theorem dX0_laysTurn_8 : decode cX0_laysTurn 8 = .ok (.iload_n 1, 1) := dk_27 (dk_at dksX0_laysTurn_0 8 rfl rfl)
theorem dX0_laysTurn_9 : decode cX0_laysTurn 9 = .ok (.imul, 1) := dk_104 (dk_at dksX0_laysTurn_0 9 rfl rfl)
theorem dX0_laysTurn_10 : decode cX0_laysTurn 10 = .ok (.iload_n 2, 1) := dk_28 (dk_at dksX0_laysTurn_0 10 rfl rfl)
theorem dX0_laysTurn_11 : decode cX0_laysTurn 11 = .ok (.iload_n 2, 1) := dk_28 (dk_at dksX0_laysTurn_0 11 rfl rfl)
theorem dX0_laysTurn_12 : decode cX0_laysTurn 12 = .ok (.imul, 1) := dk_104 (dk_at dksX0_laysTurn_0 12 rfl rfl)
theorem dX0_laysTurn_13 : decode cX0_laysTurn 13 = .ok (.iadd, 1) := dk_96 (dk_at dksX0_laysTurn_0 13 rfl rfl)
theorem dX0_laysTurn_14 : decode cX0_laysTurn 14 = .ok (.iload_n 3, 1) := dk_29 (dk_at dksX0_laysTurn_0 14 rfl rfl)
theorem dX0_laysTurn_15 : decode cX0_laysTurn 15 = .ok (.iload_n 3, 1) := dk_29 (dk_at dksX0_laysTurn_0 15 rfl rfl)
theorem dX0_laysTurn_16 : decode cX0_laysTurn 16 = .ok (.imul, 1) := dk_104 (dk_at dksX0_laysTurn_0 16 rfl rfl)
theorem dX0_laysTurn_17 : decode cX0_laysTurn 17 = .ok (.isub, 1) := dk_100 (dk_at dksX0_laysTurn_0 17 rfl rfl)
theorem dX0_laysTurn_18 : decode cX0_laysTurn 18 = .ok (.iload 4, 2) := dk_21 4 (dk_at dksX0_laysTurn_0 18 rfl rfl)
theorem dX0_laysTurn_20 : decode cX0_laysTurn 20 = .ok (.iload 4, 2) := dk_21 4 (dk_at dksX0_laysTurn_0 20 rfl rfl)
theorem dX0_laysTurn_22 : decode cX0_laysTurn 22 = .ok (.imul, 1) := dk_104 (dk_at dksX0_laysTurn_0 22 rfl rfl)
theorem dX0_laysTurn_23 : decode cX0_laysTurn 23 = .ok (.isub, 1) := dk_100 (dk_at dksX0_laysTurn_0 23 rfl rfl)
theorem dX0_laysTurn_24 : decode cX0_laysTurn 24 = .ok (.iastore, 1) := dk_79 (dk_at dksX0_laysTurn_1 0 rfl rfl)
theorem dX0_laysTurn_25 : decode cX0_laysTurn 25 = .ok (.aload_n 0, 1) := dk_42 (dk_at dksX0_laysTurn_1 1 rfl rfl)
theorem dX0_laysTurn_26 : decode cX0_laysTurn 26 = .ok (.getfield 51, 3) := dk_180 0 51 (dk_at dksX0_laysTurn_1 2 rfl rfl)
theorem dX0_laysTurn_29 : decode cX0_laysTurn 29 = .ok (.iconst 0, 1) := dk_3 (dk_at dksX0_laysTurn_1 5 rfl rfl)
theorem dX0_laysTurn_30 : decode cX0_laysTurn 30 = .ok (.aaload, 1) := dk_50 (dk_at dksX0_laysTurn_1 6 rfl rfl)
theorem dX0_laysTurn_31 : decode cX0_laysTurn 31 = .ok (.iconst 1, 1) := dk_4 (dk_at dksX0_laysTurn_1 7 rfl rfl)
theorem dX0_laysTurn_32 : decode cX0_laysTurn 32 = .ok (.iconst 2, 1) := dk_5 (dk_at dksX0_laysTurn_1 8 rfl rfl)
theorem dX0_laysTurn_33 : decode cX0_laysTurn 33 = .ok (.iload_n 2, 1) := dk_28 (dk_at dksX0_laysTurn_1 9 rfl rfl)
theorem dX0_laysTurn_34 : decode cX0_laysTurn 34 = .ok (.iload_n 3, 1) := dk_29 (dk_at dksX0_laysTurn_1 10 rfl rfl)
theorem dX0_laysTurn_35 : decode cX0_laysTurn 35 = .ok (.imul, 1) := dk_104 (dk_at dksX0_laysTurn_1 11 rfl rfl)
theorem dX0_laysTurn_36 : decode cX0_laysTurn 36 = .ok (.iload_n 1, 1) := dk_27 (dk_at dksX0_laysTurn_1 12 rfl rfl)
theorem dX0_laysTurn_37 : decode cX0_laysTurn 37 = .ok (.iload 4, 2) := dk_21 4 (dk_at dksX0_laysTurn_1 13 rfl rfl)
theorem dX0_laysTurn_39 : decode cX0_laysTurn 39 = .ok (.imul, 1) := dk_104 (dk_at dksX0_laysTurn_1 15 rfl rfl)
theorem dX0_laysTurn_40 : decode cX0_laysTurn 40 = .ok (.isub, 1) := dk_100 (dk_at dksX0_laysTurn_1 16 rfl rfl)
theorem dX0_laysTurn_41 : decode cX0_laysTurn 41 = .ok (.imul, 1) := dk_104 (dk_at dksX0_laysTurn_1 17 rfl rfl)
theorem dX0_laysTurn_42 : decode cX0_laysTurn 42 = .ok (.iastore, 1) := dk_79 (dk_at dksX0_laysTurn_1 18 rfl rfl)
theorem dX0_laysTurn_43 : decode cX0_laysTurn 43 = .ok (.aload_n 0, 1) := dk_42 (dk_at dksX0_laysTurn_1 19 rfl rfl)
theorem dX0_laysTurn_44 : decode cX0_laysTurn 44 = .ok (.getfield 51, 3) := dk_180 0 51 (dk_at dksX0_laysTurn_1 20 rfl rfl)
theorem dX0_laysTurn_47 : decode cX0_laysTurn 47 = .ok (.iconst 0, 1) := dk_3 (dk_at dksX0_laysTurn_1 23 rfl rfl)
theorem dX0_laysTurn_48 : decode cX0_laysTurn 48 = .ok (.aaload, 1) := dk_50 (dk_at dksX0_laysTurn_2 0 rfl rfl)
theorem dX0_laysTurn_49 : decode cX0_laysTurn 49 = .ok (.iconst 2, 1) := dk_5 (dk_at dksX0_laysTurn_2 1 rfl rfl)
theorem dX0_laysTurn_50 : decode cX0_laysTurn 50 = .ok (.iconst 2, 1) := dk_5 (dk_at dksX0_laysTurn_2 2 rfl rfl)
theorem dX0_laysTurn_51 : decode cX0_laysTurn 51 = .ok (.iload_n 2, 1) := dk_28 (dk_at dksX0_laysTurn_2 3 rfl rfl)
theorem dX0_laysTurn_52 : decode cX0_laysTurn 52 = .ok (.iload 4, 2) := dk_21 4 (dk_at dksX0_laysTurn_2 4 rfl rfl)
theorem dX0_laysTurn_54 : decode cX0_laysTurn 54 = .ok (.imul, 1) := dk_104 (dk_at dksX0_laysTurn_2 6 rfl rfl)
theorem dX0_laysTurn_55 : decode cX0_laysTurn 55 = .ok (.iload_n 1, 1) := dk_27 (dk_at dksX0_laysTurn_2 7 rfl rfl)
theorem dX0_laysTurn_56 : decode cX0_laysTurn 56 = .ok (.iload_n 3, 1) := dk_29 (dk_at dksX0_laysTurn_2 8 rfl rfl)
theorem dX0_laysTurn_57 : decode cX0_laysTurn 57 = .ok (.imul, 1) := dk_104 (dk_at dksX0_laysTurn_2 9 rfl rfl)
theorem dX0_laysTurn_58 : decode cX0_laysTurn 58 = .ok (.iadd, 1) := dk_96 (dk_at dksX0_laysTurn_2 10 rfl rfl)
theorem dX0_laysTurn_59 : decode cX0_laysTurn 59 = .ok (.imul, 1) := dk_104 (dk_at dksX0_laysTurn_2 11 rfl rfl)
theorem dX0_laysTurn_60 : decode cX0_laysTurn 60 = .ok (.iastore, 1) := dk_79 (dk_at dksX0_laysTurn_2 12 rfl rfl)
theorem dX0_laysTurn_61 : decode cX0_laysTurn 61 = .ok (.aload_n 0, 1) := dk_42 (dk_at dksX0_laysTurn_2 13 rfl rfl)
theorem dX0_laysTurn_62 : decode cX0_laysTurn 62 = .ok (.getfield 51, 3) := dk_180 0 51 (dk_at dksX0_laysTurn_2 14 rfl rfl)
theorem dX0_laysTurn_65 : decode cX0_laysTurn 65 = .ok (.iconst 1, 1) := dk_4 (dk_at dksX0_laysTurn_2 17 rfl rfl)
theorem dX0_laysTurn_66 : decode cX0_laysTurn 66 = .ok (.aaload, 1) := dk_50 (dk_at dksX0_laysTurn_2 18 rfl rfl)
theorem dX0_laysTurn_67 : decode cX0_laysTurn 67 = .ok (.iconst 0, 1) := dk_3 (dk_at dksX0_laysTurn_2 19 rfl rfl)
theorem dX0_laysTurn_68 : decode cX0_laysTurn 68 = .ok (.iconst 2, 1) := dk_5 (dk_at dksX0_laysTurn_2 20 rfl rfl)
theorem dX0_laysTurn_69 : decode cX0_laysTurn 69 = .ok (.iload_n 2, 1) := dk_28 (dk_at dksX0_laysTurn_2 21 rfl rfl)
theorem dX0_laysTurn_70 : decode cX0_laysTurn 70 = .ok (.iload_n 3, 1) := dk_29 (dk_at dksX0_laysTurn_2 22 rfl rfl)
theorem dX0_laysTurn_71 : decode cX0_laysTurn 71 = .ok (.imul, 1) := dk_104 (dk_at dksX0_laysTurn_2 23 rfl rfl)
theorem dX0_laysTurn_72 : decode cX0_laysTurn 72 = .ok (.iload_n 1, 1) := dk_27 (dk_at dksX0_laysTurn_3 0 rfl rfl)
theorem dX0_laysTurn_73 : decode cX0_laysTurn 73 = .ok (.iload 4, 2) := dk_21 4 (dk_at dksX0_laysTurn_3 1 rfl rfl)
theorem dX0_laysTurn_75 : decode cX0_laysTurn 75 = .ok (.imul, 1) := dk_104 (dk_at dksX0_laysTurn_3 3 rfl rfl)
theorem dX0_laysTurn_76 : decode cX0_laysTurn 76 = .ok (.iadd, 1) := dk_96 (dk_at dksX0_laysTurn_3 4 rfl rfl)
theorem dX0_laysTurn_77 : decode cX0_laysTurn 77 = .ok (.imul, 1) := dk_104 (dk_at dksX0_laysTurn_3 5 rfl rfl)
theorem dX0_laysTurn_78 : decode cX0_laysTurn 78 = .ok (.iastore, 1) := dk_79 (dk_at dksX0_laysTurn_3 6 rfl rfl)
theorem dX0_laysTurn_79 : decode cX0_laysTurn 79 = .ok (.aload_n 0, 1) := dk_42 (dk_at dksX0_laysTurn_3 7 rfl rfl)
theorem dX0_laysTurn_80 : decode cX0_laysTurn 80 = .ok (.getfield 51, 3) := dk_180 0 51 (dk_at dksX0_laysTurn_3 8 rfl rfl)
theorem dX0_laysTurn_83 : decode cX0_laysTurn 83 = .ok (.iconst 1, 1) := dk_4 (dk_at dksX0_laysTurn_3 11 rfl rfl)
theorem dX0_laysTurn_84 : decode cX0_laysTurn 84 = .ok (.aaload, 1) := dk_50 (dk_at dksX0_laysTurn_3 12 rfl rfl)
theorem dX0_laysTurn_85 : decode cX0_laysTurn 85 = .ok (.iconst 1, 1) := dk_4 (dk_at dksX0_laysTurn_3 13 rfl rfl)
theorem dX0_laysTurn_86 : decode cX0_laysTurn 86 = .ok (.iload_n 1, 1) := dk_27 (dk_at dksX0_laysTurn_3 14 rfl rfl)
theorem dX0_laysTurn_87 : decode cX0_laysTurn 87 = .ok (.iload_n 1, 1) := dk_27 (dk_at dksX0_laysTurn_3 15 rfl rfl)
theorem dX0_laysTurn_88 : decode cX0_laysTurn 88 = .ok (.imul, 1) := dk_104 (dk_at dksX0_laysTurn_3 16 rfl rfl)
theorem dX0_laysTurn_89 : decode cX0_laysTurn 89 = .ok (.iload_n 2, 1) := dk_28 (dk_at dksX0_laysTurn_3 17 rfl rfl)
theorem dX0_laysTurn_90 : decode cX0_laysTurn 90 = .ok (.iload_n 2, 1) := dk_28 (dk_at dksX0_laysTurn_3 18 rfl rfl)
theorem dX0_laysTurn_91 : decode cX0_laysTurn 91 = .ok (.imul, 1) := dk_104 (dk_at dksX0_laysTurn_3 19 rfl rfl)
theorem dX0_laysTurn_92 : decode cX0_laysTurn 92 = .ok (.isub, 1) := dk_100 (dk_at dksX0_laysTurn_3 20 rfl rfl)
theorem dX0_laysTurn_93 : decode cX0_laysTurn 93 = .ok (.iload_n 3, 1) := dk_29 (dk_at dksX0_laysTurn_3 21 rfl rfl)
theorem dX0_laysTurn_94 : decode cX0_laysTurn 94 = .ok (.iload_n 3, 1) := dk_29 (dk_at dksX0_laysTurn_3 22 rfl rfl)
theorem dX0_laysTurn_95 : decode cX0_laysTurn 95 = .ok (.imul, 1) := dk_104 (dk_at dksX0_laysTurn_3 23 rfl rfl)
theorem dX0_laysTurn_96 : decode cX0_laysTurn 96 = .ok (.iadd, 1) := dk_96 (dk_at dksX0_laysTurn_4 0 rfl rfl)
theorem dX0_laysTurn_97 : decode cX0_laysTurn 97 = .ok (.iload 4, 2) := dk_21 4 (dk_at dksX0_laysTurn_4 1 rfl rfl)
theorem dX0_laysTurn_99 : decode cX0_laysTurn 99 = .ok (.iload 4, 2) := dk_21 4 (dk_at dksX0_laysTurn_4 3 rfl rfl)
theorem dX0_laysTurn_101 : decode cX0_laysTurn 101 = .ok (.imul, 1) := dk_104 (dk_at dksX0_laysTurn_4 5 rfl rfl)
theorem dX0_laysTurn_102 : decode cX0_laysTurn 102 = .ok (.isub, 1) := dk_100 (dk_at dksX0_laysTurn_4 6 rfl rfl)
theorem dX0_laysTurn_103 : decode cX0_laysTurn 103 = .ok (.iastore, 1) := dk_79 (dk_at dksX0_laysTurn_4 7 rfl rfl)
theorem dX0_laysTurn_104 : decode cX0_laysTurn 104 = .ok (.aload_n 0, 1) := dk_42 (dk_at dksX0_laysTurn_4 8 rfl rfl)
theorem dX0_laysTurn_105 : decode cX0_laysTurn 105 = .ok (.getfield 51, 3) := dk_180 0 51 (dk_at dksX0_laysTurn_4 9 rfl rfl)
theorem dX0_laysTurn_108 : decode cX0_laysTurn 108 = .ok (.iconst 1, 1) := dk_4 (dk_at dksX0_laysTurn_4 12 rfl rfl)
theorem dX0_laysTurn_109 : decode cX0_laysTurn 109 = .ok (.aaload, 1) := dk_50 (dk_at dksX0_laysTurn_4 13 rfl rfl)
theorem dX0_laysTurn_110 : decode cX0_laysTurn 110 = .ok (.iconst 2, 1) := dk_5 (dk_at dksX0_laysTurn_4 14 rfl rfl)
theorem dX0_laysTurn_111 : decode cX0_laysTurn 111 = .ok (.iconst 2, 1) := dk_5 (dk_at dksX0_laysTurn_4 15 rfl rfl)
theorem dX0_laysTurn_112 : decode cX0_laysTurn 112 = .ok (.iload_n 3, 1) := dk_29 (dk_at dksX0_laysTurn_4 16 rfl rfl)
theorem dX0_laysTurn_113 : decode cX0_laysTurn 113 = .ok (.iload 4, 2) := dk_21 4 (dk_at dksX0_laysTurn_4 17 rfl rfl)
theorem dX0_laysTurn_115 : decode cX0_laysTurn 115 = .ok (.imul, 1) := dk_104 (dk_at dksX0_laysTurn_4 19 rfl rfl)
theorem dX0_laysTurn_116 : decode cX0_laysTurn 116 = .ok (.iload_n 1, 1) := dk_27 (dk_at dksX0_laysTurn_4 20 rfl rfl)
theorem dX0_laysTurn_117 : decode cX0_laysTurn 117 = .ok (.iload_n 2, 1) := dk_28 (dk_at dksX0_laysTurn_4 21 rfl rfl)
theorem dX0_laysTurn_118 : decode cX0_laysTurn 118 = .ok (.imul, 1) := dk_104 (dk_at dksX0_laysTurn_4 22 rfl rfl)
theorem dX0_laysTurn_119 : decode cX0_laysTurn 119 = .ok (.isub, 1) := dk_100 (dk_at dksX0_laysTurn_4 23 rfl rfl)
theorem dX0_laysTurn_120 : decode cX0_laysTurn 120 = .ok (.imul, 1) := dk_104 (dk_at dksX0_laysTurn_5 0 rfl rfl)
theorem dX0_laysTurn_121 : decode cX0_laysTurn 121 = .ok (.iastore, 1) := dk_79 (dk_at dksX0_laysTurn_5 1 rfl rfl)
theorem dX0_laysTurn_122 : decode cX0_laysTurn 122 = .ok (.aload_n 0, 1) := dk_42 (dk_at dksX0_laysTurn_5 2 rfl rfl)
theorem dX0_laysTurn_123 : decode cX0_laysTurn 123 = .ok (.getfield 51, 3) := dk_180 0 51 (dk_at dksX0_laysTurn_5 3 rfl rfl)
theorem dX0_laysTurn_126 : decode cX0_laysTurn 126 = .ok (.iconst 2, 1) := dk_5 (dk_at dksX0_laysTurn_5 6 rfl rfl)
theorem dX0_laysTurn_127 : decode cX0_laysTurn 127 = .ok (.aaload, 1) := dk_50 (dk_at dksX0_laysTurn_5 7 rfl rfl)
theorem dX0_laysTurn_128 : decode cX0_laysTurn 128 = .ok (.iconst 0, 1) := dk_3 (dk_at dksX0_laysTurn_5 8 rfl rfl)
theorem dX0_laysTurn_129 : decode cX0_laysTurn 129 = .ok (.iconst 2, 1) := dk_5 (dk_at dksX0_laysTurn_5 9 rfl rfl)
theorem dX0_laysTurn_130 : decode cX0_laysTurn 130 = .ok (.iload_n 2, 1) := dk_28 (dk_at dksX0_laysTurn_5 10 rfl rfl)
theorem dX0_laysTurn_131 : decode cX0_laysTurn 131 = .ok (.iload 4, 2) := dk_21 4 (dk_at dksX0_laysTurn_5 11 rfl rfl)
theorem dX0_laysTurn_133 : decode cX0_laysTurn 133 = .ok (.imul, 1) := dk_104 (dk_at dksX0_laysTurn_5 13 rfl rfl)
theorem dX0_laysTurn_134 : decode cX0_laysTurn 134 = .ok (.iload_n 1, 1) := dk_27 (dk_at dksX0_laysTurn_5 14 rfl rfl)
theorem dX0_laysTurn_135 : decode cX0_laysTurn 135 = .ok (.iload_n 3, 1) := dk_29 (dk_at dksX0_laysTurn_5 15 rfl rfl)
theorem dX0_laysTurn_136 : decode cX0_laysTurn 136 = .ok (.imul, 1) := dk_104 (dk_at dksX0_laysTurn_5 16 rfl rfl)
theorem dX0_laysTurn_137 : decode cX0_laysTurn 137 = .ok (.isub, 1) := dk_100 (dk_at dksX0_laysTurn_5 17 rfl rfl)
theorem dX0_laysTurn_138 : decode cX0_laysTurn 138 = .ok (.imul, 1) := dk_104 (dk_at dksX0_laysTurn_5 18 rfl rfl)
theorem dX0_laysTurn_139 : decode cX0_laysTurn 139 = .ok (.iastore, 1) := dk_79 (dk_at dksX0_laysTurn_5 19 rfl rfl)
theorem dX0_laysTurn_140 : decode cX0_laysTurn 140 = .ok (.aload_n 0, 1) := dk_42 (dk_at dksX0_laysTurn_5 20 rfl rfl)
theorem dX0_laysTurn_141 : decode cX0_laysTurn 141 = .ok (.getfield 51, 3) := dk_180 0 51 (dk_at dksX0_laysTurn_5 21 rfl rfl)
theorem dX0_laysTurn_144 : decode cX0_laysTurn 144 = .ok (.iconst 2, 1) := dk_5 (dk_at dksX0_laysTurn_6 0 rfl rfl)
theorem dX0_laysTurn_145 : decode cX0_laysTurn 145 = .ok (.aaload, 1) := dk_50 (dk_at dksX0_laysTurn_6 1 rfl rfl)
theorem dX0_laysTurn_146 : decode cX0_laysTurn 146 = .ok (.iconst 1, 1) := dk_4 (dk_at dksX0_laysTurn_6 2 rfl rfl)
theorem dX0_laysTurn_147 : decode cX0_laysTurn 147 = .ok (.iconst 2, 1) := dk_5 (dk_at dksX0_laysTurn_6 3 rfl rfl)
theorem dX0_laysTurn_148 : decode cX0_laysTurn 148 = .ok (.iload_n 3, 1) := dk_29 (dk_at dksX0_laysTurn_6 4 rfl rfl)
theorem dX0_laysTurn_149 : decode cX0_laysTurn 149 = .ok (.iload 4, 2) := dk_21 4 (dk_at dksX0_laysTurn_6 5 rfl rfl)
theorem dX0_laysTurn_151 : decode cX0_laysTurn 151 = .ok (.imul, 1) := dk_104 (dk_at dksX0_laysTurn_6 7 rfl rfl)
theorem dX0_laysTurn_152 : decode cX0_laysTurn 152 = .ok (.iload_n 1, 1) := dk_27 (dk_at dksX0_laysTurn_6 8 rfl rfl)
theorem dX0_laysTurn_153 : decode cX0_laysTurn 153 = .ok (.iload_n 2, 1) := dk_28 (dk_at dksX0_laysTurn_6 9 rfl rfl)
theorem dX0_laysTurn_154 : decode cX0_laysTurn 154 = .ok (.imul, 1) := dk_104 (dk_at dksX0_laysTurn_6 10 rfl rfl)
theorem dX0_laysTurn_155 : decode cX0_laysTurn 155 = .ok (.iadd, 1) := dk_96 (dk_at dksX0_laysTurn_6 11 rfl rfl)
theorem dX0_laysTurn_156 : decode cX0_laysTurn 156 = .ok (.imul, 1) := dk_104 (dk_at dksX0_laysTurn_6 12 rfl rfl)
theorem dX0_laysTurn_157 : decode cX0_laysTurn 157 = .ok (.iastore, 1) := dk_79 (dk_at dksX0_laysTurn_6 13 rfl rfl)
theorem dX0_laysTurn_158 : decode cX0_laysTurn 158 = .ok (.aload_n 0, 1) := dk_42 (dk_at dksX0_laysTurn_6 14 rfl rfl)
theorem dX0_laysTurn_159 : decode cX0_laysTurn 159 = .ok (.getfield 51, 3) := dk_180 0 51 (dk_at dksX0_laysTurn_6 15 rfl rfl)
theorem dX0_laysTurn_162 : decode cX0_laysTurn 162 = .ok (.iconst 2, 1) := dk_5 (dk_at dksX0_laysTurn_6 18 rfl rfl)
theorem dX0_laysTurn_163 : decode cX0_laysTurn 163 = .ok (.aaload, 1) := dk_50 (dk_at dksX0_laysTurn_6 19 rfl rfl)
theorem dX0_laysTurn_164 : decode cX0_laysTurn 164 = .ok (.iconst 2, 1) := dk_5 (dk_at dksX0_laysTurn_6 20 rfl rfl)
theorem dX0_laysTurn_165 : decode cX0_laysTurn 165 = .ok (.iload_n 1, 1) := dk_27 (dk_at dksX0_laysTurn_6 21 rfl rfl)
theorem dX0_laysTurn_166 : decode cX0_laysTurn 166 = .ok (.iload_n 1, 1) := dk_27 (dk_at dksX0_laysTurn_6 22 rfl rfl)
theorem dX0_laysTurn_167 : decode cX0_laysTurn 167 = .ok (.imul, 1) := dk_104 (dk_at dksX0_laysTurn_6 23 rfl rfl)
theorem dX0_laysTurn_168 : decode cX0_laysTurn 168 = .ok (.iload_n 2, 1) := dk_28 (dk_at dksX0_laysTurn_7 0 rfl rfl)
theorem dX0_laysTurn_169 : decode cX0_laysTurn 169 = .ok (.iload_n 2, 1) := dk_28 (dk_at dksX0_laysTurn_7 1 rfl rfl)
theorem dX0_laysTurn_170 : decode cX0_laysTurn 170 = .ok (.imul, 1) := dk_104 (dk_at dksX0_laysTurn_7 2 rfl rfl)
theorem dX0_laysTurn_171 : decode cX0_laysTurn 171 = .ok (.isub, 1) := dk_100 (dk_at dksX0_laysTurn_7 3 rfl rfl)
theorem dX0_laysTurn_172 : decode cX0_laysTurn 172 = .ok (.iload_n 3, 1) := dk_29 (dk_at dksX0_laysTurn_7 4 rfl rfl)
theorem dX0_laysTurn_173 : decode cX0_laysTurn 173 = .ok (.iload_n 3, 1) := dk_29 (dk_at dksX0_laysTurn_7 5 rfl rfl)
theorem dX0_laysTurn_174 : decode cX0_laysTurn 174 = .ok (.imul, 1) := dk_104 (dk_at dksX0_laysTurn_7 6 rfl rfl)
theorem dX0_laysTurn_175 : decode cX0_laysTurn 175 = .ok (.isub, 1) := dk_100 (dk_at dksX0_laysTurn_7 7 rfl rfl)
theorem dX0_laysTurn_176 : decode cX0_laysTurn 176 = .ok (.iload 4, 2) := dk_21 4 (dk_at dksX0_laysTurn_7 8 rfl rfl)
theorem dX0_laysTurn_178 : decode cX0_laysTurn 178 = .ok (.iload 4, 2) := dk_21 4 (dk_at dksX0_laysTurn_7 10 rfl rfl)
theorem dX0_laysTurn_180 : decode cX0_laysTurn 180 = .ok (.imul, 1) := dk_104 (dk_at dksX0_laysTurn_7 12 rfl rfl)
theorem dX0_laysTurn_181 : decode cX0_laysTurn 181 = .ok (.iadd, 1) := dk_96 (dk_at dksX0_laysTurn_7 13 rfl rfl)
theorem dX0_laysTurn_182 : decode cX0_laysTurn 182 = .ok (.iastore, 1) := dk_79 (dk_at dksX0_laysTurn_7 14 rfl rfl)
theorem dX0_laysTurn_183 : decode cX0_laysTurn 183 = .ok (.iload_n 1, 1) := dk_27 (dk_at dksX0_laysTurn_7 15 rfl rfl)
theorem dX0_laysTurn_184 : decode cX0_laysTurn 184 = .ok (.iload_n 1, 1) := dk_27 (dk_at dksX0_laysTurn_7 16 rfl rfl)
theorem dX0_laysTurn_185 : decode cX0_laysTurn 185 = .ok (.imul, 1) := dk_104 (dk_at dksX0_laysTurn_7 17 rfl rfl)
theorem dX0_laysTurn_186 : decode cX0_laysTurn 186 = .ok (.iload_n 2, 1) := dk_28 (dk_at dksX0_laysTurn_7 18 rfl rfl)
theorem dX0_laysTurn_187 : decode cX0_laysTurn 187 = .ok (.iload_n 2, 1) := dk_28 (dk_at dksX0_laysTurn_7 19 rfl rfl)
theorem dX0_laysTurn_188 : decode cX0_laysTurn 188 = .ok (.imul, 1) := dk_104 (dk_at dksX0_laysTurn_7 20 rfl rfl)
theorem dX0_laysTurn_189 : decode cX0_laysTurn 189 = .ok (.iadd, 1) := dk_96 (dk_at dksX0_laysTurn_7 21 rfl rfl)
theorem dX0_laysTurn_190 : decode cX0_laysTurn 190 = .ok (.iload_n 3, 1) := dk_29 (dk_at dksX0_laysTurn_7 22 rfl rfl)
theorem dX0_laysTurn_191 : decode cX0_laysTurn 191 = .ok (.iload_n 3, 1) := dk_29 (dk_at dksX0_laysTurn_7 23 rfl rfl)
theorem dX0_laysTurn_192 : decode cX0_laysTurn 192 = .ok (.imul, 1) := dk_104 (dk_at dksX0_laysTurn_8 0 rfl rfl)
theorem dX0_laysTurn_193 : decode cX0_laysTurn 193 = .ok (.iadd, 1) := dk_96 (dk_at dksX0_laysTurn_8 1 rfl rfl)
theorem dX0_laysTurn_194 : decode cX0_laysTurn 194 = .ok (.iload 4, 2) := dk_21 4 (dk_at dksX0_laysTurn_8 2 rfl rfl)
theorem dX0_laysTurn_196 : decode cX0_laysTurn 196 = .ok (.iload 4, 2) := dk_21 4 (dk_at dksX0_laysTurn_8 4 rfl rfl)
theorem dX0_laysTurn_198 : decode cX0_laysTurn 198 = .ok (.imul, 1) := dk_104 (dk_at dksX0_laysTurn_8 6 rfl rfl)
theorem dX0_laysTurn_199 : decode cX0_laysTurn 199 = .ok (.iadd, 1) := dk_96 (dk_at dksX0_laysTurn_8 7 rfl rfl)
theorem dX0_laysTurn_200 : decode cX0_laysTurn 200 = .ok (.ireturn, 1) := dk_172 (dk_at dksX0_laysTurn_8 8 rfl rfl)
abbrev cX0_indexBy : ByteArray := prog_1_method_61_code
def yX0_indexBy : MethodName := ⟨RX0, "indexBy", "(LCoincideBench$Rows;J)J"⟩
def dkwX0_indexBy_9 : List UInt8 := [32, 105, 22, 4, 105, 42, 180, 0, 45, 180, 0, 243, 182, 0, 192, 109, 173]
abbrev dktX0_indexBy_9 : List UInt8 := dkwX0_indexBy_9 ++ []
def dkwX0_indexBy_8 : List UInt8 := [50, 4, 47, 42, 180, 0, 56, 21, 6, 50, 5, 47, 182, 0, 252, 132, 6, 1, 167, 255, 173, 32, 32, 105]
abbrev dktX0_indexBy_8 : List UInt8 := dkwX0_indexBy_8 ++ dktX0_indexBy_9
def dkwX0_indexBy_7 : List UInt8 := [47, 105, 182, 0, 252, 42, 180, 0, 45, 42, 180, 0, 56, 21, 6, 50, 3, 47, 42, 180, 0, 56, 21, 6]
abbrev dktX0_indexBy_7 : List UInt8 := dkwX0_indexBy_7 ++ dktX0_indexBy_8
def dkwX0_indexBy_6 : List UInt8 := [50, 3, 47, 105, 32, 43, 180, 0, 150, 21, 6, 50, 4, 47, 105, 32, 43, 180, 0, 150, 21, 6, 50, 5]
abbrev dktX0_indexBy_6 : List UInt8 := dkwX0_indexBy_6 ++ dktX0_indexBy_7
def dkwX0_indexBy_5 : List UInt8 := [105, 182, 1, 80, 3, 54, 6, 21, 6, 6, 162, 0, 83, 42, 180, 0, 45, 32, 43, 180, 0, 150, 21, 6]
abbrev dktX0_indexBy_5 : List UInt8 := dkwX0_indexBy_5 ++ dktX0_indexBy_6
def dkwX0_indexBy_4 : List UInt8 := [5, 47, 105, 97, 80, 132, 7, 1, 167, 255, 175, 132, 6, 1, 167, 255, 160, 42, 180, 0, 45, 32, 22, 4]
abbrev dktX0_indexBy_4 : List UInt8 := dkwX0_indexBy_4 ++ dktX0_indexBy_5
def dkwX0_indexBy_3 : List UInt8 := [21, 6, 50, 4, 47, 105, 97, 42, 180, 0, 51, 21, 7, 50, 5, 46, 133, 43, 180, 0, 150, 21, 6, 50]
abbrev dktX0_indexBy_3 : List UInt8 := dkwX0_indexBy_3 ++ dktX0_indexBy_4
def dkwX0_indexBy_2 : List UInt8 := [180, 0, 150, 21, 6, 50, 3, 47, 105, 42, 180, 0, 51, 21, 7, 50, 4, 46, 133, 43, 180, 0, 150]
abbrev dktX0_indexBy_2 : List UInt8 := dkwX0_indexBy_2 ++ dktX0_indexBy_3
def dkwX0_indexBy_1 : List UInt8 := [162, 0, 81, 42, 180, 0, 56, 21, 6, 50, 21, 7, 42, 180, 0, 51, 21, 7, 50, 3, 46, 133, 43]
abbrev dktX0_indexBy_1 : List UInt8 := dkwX0_indexBy_1 ++ dktX0_indexBy_2
def dkwX0_indexBy_0 : List UInt8 := [43, 182, 0, 192, 184, 0, 1, 55, 4, 3, 54, 6, 21, 6, 6, 162, 0, 96, 3, 54, 7, 21, 7, 6]
abbrev dktX0_indexBy_0 : List UInt8 := dkwX0_indexBy_0 ++ dktX0_indexBy_1
theorem dksX0_indexBy_0 : cX0_indexBy.data.toList.drop 0 = dktX0_indexBy_0 := by decide +kernel
theorem dksX0_indexBy_1 : cX0_indexBy.data.toList.drop 24 = dktX0_indexBy_1 := dk_seg dksX0_indexBy_0 24 rfl rfl
theorem dksX0_indexBy_2 : cX0_indexBy.data.toList.drop 47 = dktX0_indexBy_2 := dk_seg dksX0_indexBy_1 23 rfl rfl
theorem dksX0_indexBy_3 : cX0_indexBy.data.toList.drop 70 = dktX0_indexBy_3 := dk_seg dksX0_indexBy_2 23 rfl rfl
theorem dksX0_indexBy_4 : cX0_indexBy.data.toList.drop 94 = dktX0_indexBy_4 := dk_seg dksX0_indexBy_3 24 rfl rfl
theorem dksX0_indexBy_5 : cX0_indexBy.data.toList.drop 118 = dktX0_indexBy_5 := dk_seg dksX0_indexBy_4 24 rfl rfl
theorem dksX0_indexBy_6 : cX0_indexBy.data.toList.drop 142 = dktX0_indexBy_6 := dk_seg dksX0_indexBy_5 24 rfl rfl
theorem dksX0_indexBy_7 : cX0_indexBy.data.toList.drop 166 = dktX0_indexBy_7 := dk_seg dksX0_indexBy_6 24 rfl rfl
theorem dksX0_indexBy_8 : cX0_indexBy.data.toList.drop 190 = dktX0_indexBy_8 := dk_seg dksX0_indexBy_7 24 rfl rfl
theorem dksX0_indexBy_9 : cX0_indexBy.data.toList.drop 214 = dktX0_indexBy_9 := dk_seg dksX0_indexBy_8 24 rfl rfl
theorem dX0_indexBy_0 : decode cX0_indexBy 0 = .ok (.aload_n 1, 1) := dk_43 (dk_at dksX0_indexBy_0 0 rfl rfl)
theorem dX0_indexBy_1 : decode cX0_indexBy 1 = .ok (.invokevirtual 192, 3) := dk_182 0 192 (dk_at dksX0_indexBy_0 1 rfl rfl)
theorem dX0_indexBy_4 : decode cX0_indexBy 4 = .ok (.invokestatic 1, 3) := dk_184 0 1 (dk_at dksX0_indexBy_0 4 rfl rfl)
theorem dX0_indexBy_7 : decode cX0_indexBy 7 = .ok (.lstore 4, 2) := dk_55 4 (dk_at dksX0_indexBy_0 7 rfl rfl)
theorem dX0_indexBy_9 : decode cX0_indexBy 9 = .ok (.iconst 0, 1) := dk_3 (dk_at dksX0_indexBy_0 9 rfl rfl)
theorem dX0_indexBy_10 : decode cX0_indexBy 10 = .ok (.istore 6, 2) := dk_54 6 (dk_at dksX0_indexBy_0 10 rfl rfl)
theorem dX0_indexBy_12 : decode cX0_indexBy 12 = .ok (.iload 6, 2) := dk_21 6 (dk_at dksX0_indexBy_0 12 rfl rfl)
theorem dX0_indexBy_14 : decode cX0_indexBy 14 = .ok (.iconst 3, 1) := dk_6 (dk_at dksX0_indexBy_0 14 rfl rfl)
theorem dX0_indexBy_15 : decode cX0_indexBy 15 = .ok (.if_icmp .ge 96, 3) := dk_162 0 96 (dk_at dksX0_indexBy_0 15 rfl rfl)
theorem dX0_indexBy_18 : decode cX0_indexBy 18 = .ok (.iconst 0, 1) := dk_3 (dk_at dksX0_indexBy_0 18 rfl rfl)
theorem dX0_indexBy_19 : decode cX0_indexBy 19 = .ok (.istore 7, 2) := dk_54 7 (dk_at dksX0_indexBy_0 19 rfl rfl)
theorem dX0_indexBy_21 : decode cX0_indexBy 21 = .ok (.iload 7, 2) := dk_21 7 (dk_at dksX0_indexBy_0 21 rfl rfl)
theorem dX0_indexBy_23 : decode cX0_indexBy 23 = .ok (.iconst 3, 1) := dk_6 (dk_at dksX0_indexBy_0 23 rfl rfl)
theorem dX0_indexBy_24 : decode cX0_indexBy 24 = .ok (.if_icmp .ge 81, 3) := dk_162 0 81 (dk_at dksX0_indexBy_1 0 rfl rfl)
theorem dX0_indexBy_27 : decode cX0_indexBy 27 = .ok (.aload_n 0, 1) := dk_42 (dk_at dksX0_indexBy_1 3 rfl rfl)
theorem dX0_indexBy_28 : decode cX0_indexBy 28 = .ok (.getfield 56, 3) := dk_180 0 56 (dk_at dksX0_indexBy_1 4 rfl rfl)
theorem dX0_indexBy_31 : decode cX0_indexBy 31 = .ok (.iload 6, 2) := dk_21 6 (dk_at dksX0_indexBy_1 7 rfl rfl)
theorem dX0_indexBy_33 : decode cX0_indexBy 33 = .ok (.aaload, 1) := dk_50 (dk_at dksX0_indexBy_1 9 rfl rfl)
theorem dX0_indexBy_34 : decode cX0_indexBy 34 = .ok (.iload 7, 2) := dk_21 7 (dk_at dksX0_indexBy_1 10 rfl rfl)
theorem dX0_indexBy_36 : decode cX0_indexBy 36 = .ok (.aload_n 0, 1) := dk_42 (dk_at dksX0_indexBy_1 12 rfl rfl)
theorem dX0_indexBy_37 : decode cX0_indexBy 37 = .ok (.getfield 51, 3) := dk_180 0 51 (dk_at dksX0_indexBy_1 13 rfl rfl)
theorem dX0_indexBy_40 : decode cX0_indexBy 40 = .ok (.iload 7, 2) := dk_21 7 (dk_at dksX0_indexBy_1 16 rfl rfl)
theorem dX0_indexBy_42 : decode cX0_indexBy 42 = .ok (.aaload, 1) := dk_50 (dk_at dksX0_indexBy_1 18 rfl rfl)
theorem dX0_indexBy_43 : decode cX0_indexBy 43 = .ok (.iconst 0, 1) := dk_3 (dk_at dksX0_indexBy_1 19 rfl rfl)
theorem dX0_indexBy_44 : decode cX0_indexBy 44 = .ok (.iaload, 1) := dk_46 (dk_at dksX0_indexBy_1 20 rfl rfl)
theorem dX0_indexBy_45 : decode cX0_indexBy 45 = .ok (.i2l, 1) := dk_133 (dk_at dksX0_indexBy_1 21 rfl rfl)
theorem dX0_indexBy_46 : decode cX0_indexBy 46 = .ok (.aload_n 1, 1) := dk_43 (dk_at dksX0_indexBy_1 22 rfl rfl)
theorem dX0_indexBy_47 : decode cX0_indexBy 47 = .ok (.getfield 150, 3) := dk_180 0 150 (dk_at dksX0_indexBy_2 0 rfl rfl)
theorem dX0_indexBy_50 : decode cX0_indexBy 50 = .ok (.iload 6, 2) := dk_21 6 (dk_at dksX0_indexBy_2 3 rfl rfl)
theorem dX0_indexBy_52 : decode cX0_indexBy 52 = .ok (.aaload, 1) := dk_50 (dk_at dksX0_indexBy_2 5 rfl rfl)
theorem dX0_indexBy_53 : decode cX0_indexBy 53 = .ok (.iconst 0, 1) := dk_3 (dk_at dksX0_indexBy_2 6 rfl rfl)
theorem dX0_indexBy_54 : decode cX0_indexBy 54 = .ok (.laload, 1) := dk_47 (dk_at dksX0_indexBy_2 7 rfl rfl)
theorem dX0_indexBy_55 : decode cX0_indexBy 55 = .ok (.lmul, 1) := dk_105 (dk_at dksX0_indexBy_2 8 rfl rfl)
theorem dX0_indexBy_56 : decode cX0_indexBy 56 = .ok (.aload_n 0, 1) := dk_42 (dk_at dksX0_indexBy_2 9 rfl rfl)
theorem dX0_indexBy_57 : decode cX0_indexBy 57 = .ok (.getfield 51, 3) := dk_180 0 51 (dk_at dksX0_indexBy_2 10 rfl rfl)
theorem dX0_indexBy_60 : decode cX0_indexBy 60 = .ok (.iload 7, 2) := dk_21 7 (dk_at dksX0_indexBy_2 13 rfl rfl)
theorem dX0_indexBy_62 : decode cX0_indexBy 62 = .ok (.aaload, 1) := dk_50 (dk_at dksX0_indexBy_2 15 rfl rfl)
theorem dX0_indexBy_63 : decode cX0_indexBy 63 = .ok (.iconst 1, 1) := dk_4 (dk_at dksX0_indexBy_2 16 rfl rfl)
theorem dX0_indexBy_64 : decode cX0_indexBy 64 = .ok (.iaload, 1) := dk_46 (dk_at dksX0_indexBy_2 17 rfl rfl)
theorem dX0_indexBy_65 : decode cX0_indexBy 65 = .ok (.i2l, 1) := dk_133 (dk_at dksX0_indexBy_2 18 rfl rfl)
theorem dX0_indexBy_66 : decode cX0_indexBy 66 = .ok (.aload_n 1, 1) := dk_43 (dk_at dksX0_indexBy_2 19 rfl rfl)
theorem dX0_indexBy_67 : decode cX0_indexBy 67 = .ok (.getfield 150, 3) := dk_180 0 150 (dk_at dksX0_indexBy_2 20 rfl rfl)
theorem dX0_indexBy_70 : decode cX0_indexBy 70 = .ok (.iload 6, 2) := dk_21 6 (dk_at dksX0_indexBy_3 0 rfl rfl)
theorem dX0_indexBy_72 : decode cX0_indexBy 72 = .ok (.aaload, 1) := dk_50 (dk_at dksX0_indexBy_3 2 rfl rfl)
theorem dX0_indexBy_73 : decode cX0_indexBy 73 = .ok (.iconst 1, 1) := dk_4 (dk_at dksX0_indexBy_3 3 rfl rfl)
theorem dX0_indexBy_74 : decode cX0_indexBy 74 = .ok (.laload, 1) := dk_47 (dk_at dksX0_indexBy_3 4 rfl rfl)
theorem dX0_indexBy_75 : decode cX0_indexBy 75 = .ok (.lmul, 1) := dk_105 (dk_at dksX0_indexBy_3 5 rfl rfl)
theorem dX0_indexBy_76 : decode cX0_indexBy 76 = .ok (.ladd, 1) := dk_97 (dk_at dksX0_indexBy_3 6 rfl rfl)
theorem dX0_indexBy_77 : decode cX0_indexBy 77 = .ok (.aload_n 0, 1) := dk_42 (dk_at dksX0_indexBy_3 7 rfl rfl)
theorem dX0_indexBy_78 : decode cX0_indexBy 78 = .ok (.getfield 51, 3) := dk_180 0 51 (dk_at dksX0_indexBy_3 8 rfl rfl)
theorem dX0_indexBy_81 : decode cX0_indexBy 81 = .ok (.iload 7, 2) := dk_21 7 (dk_at dksX0_indexBy_3 11 rfl rfl)
theorem dX0_indexBy_83 : decode cX0_indexBy 83 = .ok (.aaload, 1) := dk_50 (dk_at dksX0_indexBy_3 13 rfl rfl)
theorem dX0_indexBy_84 : decode cX0_indexBy 84 = .ok (.iconst 2, 1) := dk_5 (dk_at dksX0_indexBy_3 14 rfl rfl)
theorem dX0_indexBy_85 : decode cX0_indexBy 85 = .ok (.iaload, 1) := dk_46 (dk_at dksX0_indexBy_3 15 rfl rfl)
theorem dX0_indexBy_86 : decode cX0_indexBy 86 = .ok (.i2l, 1) := dk_133 (dk_at dksX0_indexBy_3 16 rfl rfl)
theorem dX0_indexBy_87 : decode cX0_indexBy 87 = .ok (.aload_n 1, 1) := dk_43 (dk_at dksX0_indexBy_3 17 rfl rfl)
theorem dX0_indexBy_88 : decode cX0_indexBy 88 = .ok (.getfield 150, 3) := dk_180 0 150 (dk_at dksX0_indexBy_3 18 rfl rfl)
theorem dX0_indexBy_91 : decode cX0_indexBy 91 = .ok (.iload 6, 2) := dk_21 6 (dk_at dksX0_indexBy_3 21 rfl rfl)
theorem dX0_indexBy_93 : decode cX0_indexBy 93 = .ok (.aaload, 1) := dk_50 (dk_at dksX0_indexBy_3 23 rfl rfl)
theorem dX0_indexBy_94 : decode cX0_indexBy 94 = .ok (.iconst 2, 1) := dk_5 (dk_at dksX0_indexBy_4 0 rfl rfl)
theorem dX0_indexBy_95 : decode cX0_indexBy 95 = .ok (.laload, 1) := dk_47 (dk_at dksX0_indexBy_4 1 rfl rfl)
theorem dX0_indexBy_96 : decode cX0_indexBy 96 = .ok (.lmul, 1) := dk_105 (dk_at dksX0_indexBy_4 2 rfl rfl)
theorem dX0_indexBy_97 : decode cX0_indexBy 97 = .ok (.ladd, 1) := dk_97 (dk_at dksX0_indexBy_4 3 rfl rfl)
theorem dX0_indexBy_98 : decode cX0_indexBy 98 = .ok (.lastore, 1) := dk_80 (dk_at dksX0_indexBy_4 4 rfl rfl)
theorem dX0_indexBy_99 : decode cX0_indexBy 99 = .ok (.iinc 7 1, 3) := dk_132 7 1 (dk_at dksX0_indexBy_4 5 rfl rfl)
theorem dX0_indexBy_102 : decode cX0_indexBy 102 = .ok (.goto (-81), 3) := dk_167 255 175 (dk_at dksX0_indexBy_4 8 rfl rfl)
theorem dX0_indexBy_105 : decode cX0_indexBy 105 = .ok (.iinc 6 1, 3) := dk_132 6 1 (dk_at dksX0_indexBy_4 11 rfl rfl)
theorem dX0_indexBy_108 : decode cX0_indexBy 108 = .ok (.goto (-96), 3) := dk_167 255 160 (dk_at dksX0_indexBy_4 14 rfl rfl)
theorem dX0_indexBy_111 : decode cX0_indexBy 111 = .ok (.aload_n 0, 1) := dk_42 (dk_at dksX0_indexBy_4 17 rfl rfl)
theorem dX0_indexBy_112 : decode cX0_indexBy 112 = .ok (.getfield 45, 3) := dk_180 0 45 (dk_at dksX0_indexBy_4 18 rfl rfl)
theorem dX0_indexBy_115 : decode cX0_indexBy 115 = .ok (.lload_n 2, 1) := dk_32 (dk_at dksX0_indexBy_4 21 rfl rfl)
theorem dX0_indexBy_116 : decode cX0_indexBy 116 = .ok (.lload 4, 2) := dk_22 4 (dk_at dksX0_indexBy_4 22 rfl rfl)
theorem dX0_indexBy_118 : decode cX0_indexBy 118 = .ok (.lmul, 1) := dk_105 (dk_at dksX0_indexBy_5 0 rfl rfl)
theorem dX0_indexBy_119 : decode cX0_indexBy 119 = .ok (.invokevirtual 336, 3) := dk_182 1 80 (dk_at dksX0_indexBy_5 1 rfl rfl)
theorem dX0_indexBy_122 : decode cX0_indexBy 122 = .ok (.iconst 0, 1) := dk_3 (dk_at dksX0_indexBy_5 4 rfl rfl)
theorem dX0_indexBy_123 : decode cX0_indexBy 123 = .ok (.istore 6, 2) := dk_54 6 (dk_at dksX0_indexBy_5 5 rfl rfl)
theorem dX0_indexBy_125 : decode cX0_indexBy 125 = .ok (.iload 6, 2) := dk_21 6 (dk_at dksX0_indexBy_5 7 rfl rfl)
theorem dX0_indexBy_127 : decode cX0_indexBy 127 = .ok (.iconst 3, 1) := dk_6 (dk_at dksX0_indexBy_5 9 rfl rfl)
theorem dX0_indexBy_128 : decode cX0_indexBy 128 = .ok (.if_icmp .ge 83, 3) := dk_162 0 83 (dk_at dksX0_indexBy_5 10 rfl rfl)
theorem dX0_indexBy_131 : decode cX0_indexBy 131 = .ok (.aload_n 0, 1) := dk_42 (dk_at dksX0_indexBy_5 13 rfl rfl)
theorem dX0_indexBy_132 : decode cX0_indexBy 132 = .ok (.getfield 45, 3) := dk_180 0 45 (dk_at dksX0_indexBy_5 14 rfl rfl)
theorem dX0_indexBy_135 : decode cX0_indexBy 135 = .ok (.lload_n 2, 1) := dk_32 (dk_at dksX0_indexBy_5 17 rfl rfl)
theorem dX0_indexBy_136 : decode cX0_indexBy 136 = .ok (.aload_n 1, 1) := dk_43 (dk_at dksX0_indexBy_5 18 rfl rfl)
theorem dX0_indexBy_137 : decode cX0_indexBy 137 = .ok (.getfield 150, 3) := dk_180 0 150 (dk_at dksX0_indexBy_5 19 rfl rfl)
theorem dX0_indexBy_140 : decode cX0_indexBy 140 = .ok (.iload 6, 2) := dk_21 6 (dk_at dksX0_indexBy_5 22 rfl rfl)
theorem dX0_indexBy_142 : decode cX0_indexBy 142 = .ok (.aaload, 1) := dk_50 (dk_at dksX0_indexBy_6 0 rfl rfl)
theorem dX0_indexBy_143 : decode cX0_indexBy 143 = .ok (.iconst 0, 1) := dk_3 (dk_at dksX0_indexBy_6 1 rfl rfl)
theorem dX0_indexBy_144 : decode cX0_indexBy 144 = .ok (.laload, 1) := dk_47 (dk_at dksX0_indexBy_6 2 rfl rfl)
theorem dX0_indexBy_145 : decode cX0_indexBy 145 = .ok (.lmul, 1) := dk_105 (dk_at dksX0_indexBy_6 3 rfl rfl)
theorem dX0_indexBy_146 : decode cX0_indexBy 146 = .ok (.lload_n 2, 1) := dk_32 (dk_at dksX0_indexBy_6 4 rfl rfl)
theorem dX0_indexBy_147 : decode cX0_indexBy 147 = .ok (.aload_n 1, 1) := dk_43 (dk_at dksX0_indexBy_6 5 rfl rfl)
theorem dX0_indexBy_148 : decode cX0_indexBy 148 = .ok (.getfield 150, 3) := dk_180 0 150 (dk_at dksX0_indexBy_6 6 rfl rfl)
theorem dX0_indexBy_151 : decode cX0_indexBy 151 = .ok (.iload 6, 2) := dk_21 6 (dk_at dksX0_indexBy_6 9 rfl rfl)
theorem dX0_indexBy_153 : decode cX0_indexBy 153 = .ok (.aaload, 1) := dk_50 (dk_at dksX0_indexBy_6 11 rfl rfl)
theorem dX0_indexBy_154 : decode cX0_indexBy 154 = .ok (.iconst 1, 1) := dk_4 (dk_at dksX0_indexBy_6 12 rfl rfl)
theorem dX0_indexBy_155 : decode cX0_indexBy 155 = .ok (.laload, 1) := dk_47 (dk_at dksX0_indexBy_6 13 rfl rfl)
theorem dX0_indexBy_156 : decode cX0_indexBy 156 = .ok (.lmul, 1) := dk_105 (dk_at dksX0_indexBy_6 14 rfl rfl)
theorem dX0_indexBy_157 : decode cX0_indexBy 157 = .ok (.lload_n 2, 1) := dk_32 (dk_at dksX0_indexBy_6 15 rfl rfl)
theorem dX0_indexBy_158 : decode cX0_indexBy 158 = .ok (.aload_n 1, 1) := dk_43 (dk_at dksX0_indexBy_6 16 rfl rfl)
theorem dX0_indexBy_159 : decode cX0_indexBy 159 = .ok (.getfield 150, 3) := dk_180 0 150 (dk_at dksX0_indexBy_6 17 rfl rfl)
theorem dX0_indexBy_162 : decode cX0_indexBy 162 = .ok (.iload 6, 2) := dk_21 6 (dk_at dksX0_indexBy_6 20 rfl rfl)
theorem dX0_indexBy_164 : decode cX0_indexBy 164 = .ok (.aaload, 1) := dk_50 (dk_at dksX0_indexBy_6 22 rfl rfl)
theorem dX0_indexBy_165 : decode cX0_indexBy 165 = .ok (.iconst 2, 1) := dk_5 (dk_at dksX0_indexBy_6 23 rfl rfl)
theorem dX0_indexBy_166 : decode cX0_indexBy 166 = .ok (.laload, 1) := dk_47 (dk_at dksX0_indexBy_7 0 rfl rfl)
theorem dX0_indexBy_167 : decode cX0_indexBy 167 = .ok (.lmul, 1) := dk_105 (dk_at dksX0_indexBy_7 1 rfl rfl)
theorem dX0_indexBy_168 : decode cX0_indexBy 168 = .ok (.invokevirtual 252, 3) := dk_182 0 252 (dk_at dksX0_indexBy_7 2 rfl rfl)
theorem dX0_indexBy_171 : decode cX0_indexBy 171 = .ok (.aload_n 0, 1) := dk_42 (dk_at dksX0_indexBy_7 5 rfl rfl)
theorem dX0_indexBy_172 : decode cX0_indexBy 172 = .ok (.getfield 45, 3) := dk_180 0 45 (dk_at dksX0_indexBy_7 6 rfl rfl)
theorem dX0_indexBy_175 : decode cX0_indexBy 175 = .ok (.aload_n 0, 1) := dk_42 (dk_at dksX0_indexBy_7 9 rfl rfl)
theorem dX0_indexBy_176 : decode cX0_indexBy 176 = .ok (.getfield 56, 3) := dk_180 0 56 (dk_at dksX0_indexBy_7 10 rfl rfl)
theorem dX0_indexBy_179 : decode cX0_indexBy 179 = .ok (.iload 6, 2) := dk_21 6 (dk_at dksX0_indexBy_7 13 rfl rfl)
theorem dX0_indexBy_181 : decode cX0_indexBy 181 = .ok (.aaload, 1) := dk_50 (dk_at dksX0_indexBy_7 15 rfl rfl)
theorem dX0_indexBy_182 : decode cX0_indexBy 182 = .ok (.iconst 0, 1) := dk_3 (dk_at dksX0_indexBy_7 16 rfl rfl)
theorem dX0_indexBy_183 : decode cX0_indexBy 183 = .ok (.laload, 1) := dk_47 (dk_at dksX0_indexBy_7 17 rfl rfl)
theorem dX0_indexBy_184 : decode cX0_indexBy 184 = .ok (.aload_n 0, 1) := dk_42 (dk_at dksX0_indexBy_7 18 rfl rfl)
theorem dX0_indexBy_185 : decode cX0_indexBy 185 = .ok (.getfield 56, 3) := dk_180 0 56 (dk_at dksX0_indexBy_7 19 rfl rfl)
theorem dX0_indexBy_188 : decode cX0_indexBy 188 = .ok (.iload 6, 2) := dk_21 6 (dk_at dksX0_indexBy_7 22 rfl rfl)
theorem dX0_indexBy_190 : decode cX0_indexBy 190 = .ok (.aaload, 1) := dk_50 (dk_at dksX0_indexBy_8 0 rfl rfl)
theorem dX0_indexBy_191 : decode cX0_indexBy 191 = .ok (.iconst 1, 1) := dk_4 (dk_at dksX0_indexBy_8 1 rfl rfl)
theorem dX0_indexBy_192 : decode cX0_indexBy 192 = .ok (.laload, 1) := dk_47 (dk_at dksX0_indexBy_8 2 rfl rfl)
theorem dX0_indexBy_193 : decode cX0_indexBy 193 = .ok (.aload_n 0, 1) := dk_42 (dk_at dksX0_indexBy_8 3 rfl rfl)
theorem dX0_indexBy_194 : decode cX0_indexBy 194 = .ok (.getfield 56, 3) := dk_180 0 56 (dk_at dksX0_indexBy_8 4 rfl rfl)
theorem dX0_indexBy_197 : decode cX0_indexBy 197 = .ok (.iload 6, 2) := dk_21 6 (dk_at dksX0_indexBy_8 7 rfl rfl)
theorem dX0_indexBy_199 : decode cX0_indexBy 199 = .ok (.aaload, 1) := dk_50 (dk_at dksX0_indexBy_8 9 rfl rfl)
theorem dX0_indexBy_200 : decode cX0_indexBy 200 = .ok (.iconst 2, 1) := dk_5 (dk_at dksX0_indexBy_8 10 rfl rfl)
theorem dX0_indexBy_201 : decode cX0_indexBy 201 = .ok (.laload, 1) := dk_47 (dk_at dksX0_indexBy_8 11 rfl rfl)
theorem dX0_indexBy_202 : decode cX0_indexBy 202 = .ok (.invokevirtual 252, 3) := dk_182 0 252 (dk_at dksX0_indexBy_8 12 rfl rfl)
theorem dX0_indexBy_205 : decode cX0_indexBy 205 = .ok (.iinc 6 1, 3) := dk_132 6 1 (dk_at dksX0_indexBy_8 15 rfl rfl)
theorem dX0_indexBy_208 : decode cX0_indexBy 208 = .ok (.goto (-83), 3) := dk_167 255 173 (dk_at dksX0_indexBy_8 18 rfl rfl)
theorem dX0_indexBy_211 : decode cX0_indexBy 211 = .ok (.lload_n 2, 1) := dk_32 (dk_at dksX0_indexBy_8 21 rfl rfl)
theorem dX0_indexBy_212 : decode cX0_indexBy 212 = .ok (.lload_n 2, 1) := dk_32 (dk_at dksX0_indexBy_8 22 rfl rfl)
theorem dX0_indexBy_213 : decode cX0_indexBy 213 = .ok (.lmul, 1) := dk_105 (dk_at dksX0_indexBy_8 23 rfl rfl)
theorem dX0_indexBy_214 : decode cX0_indexBy 214 = .ok (.lload_n 2, 1) := dk_32 (dk_at dksX0_indexBy_9 0 rfl rfl)
theorem dX0_indexBy_215 : decode cX0_indexBy 215 = .ok (.lmul, 1) := dk_105 (dk_at dksX0_indexBy_9 1 rfl rfl)
theorem dX0_indexBy_216 : decode cX0_indexBy 216 = .ok (.lload 4, 2) := dk_22 4 (dk_at dksX0_indexBy_9 2 rfl rfl)
theorem dX0_indexBy_218 : decode cX0_indexBy 218 = .ok (.lmul, 1) := dk_105 (dk_at dksX0_indexBy_9 4 rfl rfl)
theorem dX0_indexBy_219 : decode cX0_indexBy 219 = .ok (.aload_n 0, 1) := dk_42 (dk_at dksX0_indexBy_9 5 rfl rfl)
theorem dX0_indexBy_220 : decode cX0_indexBy 220 = .ok (.getfield 45, 3) := dk_180 0 45 (dk_at dksX0_indexBy_9 6 rfl rfl)
theorem dX0_indexBy_223 : decode cX0_indexBy 223 = .ok (.getfield 243, 3) := dk_180 0 243 (dk_at dksX0_indexBy_9 9 rfl rfl)
theorem dX0_indexBy_226 : decode cX0_indexBy 226 = .ok (.invokevirtual 192, 3) := dk_182 0 192 (dk_at dksX0_indexBy_9 12 rfl rfl)
theorem dX0_indexBy_229 : decode cX0_indexBy 229 = .ok (.ldiv, 1) := dk_109 (dk_at dksX0_indexBy_9 15 rfl rfl)
theorem dX0_indexBy_230 : decode cX0_indexBy 230 = .ok (.lreturn, 1) := dk_173 (dk_at dksX0_indexBy_9 16 rfl rfl)
abbrev cX0_turnOf : ByteArray := prog_1_method_65_code
def yX0_turnOf : MethodName := ⟨RX0, "turnOf", "(II)I"⟩
def dkwX0_turnOf_0 : List UInt8 := [42, 27, 28, 182, 1, 101, 153, 0, 10, 42, 180, 1, 86, 167, 0, 5, 16, 254, 172]
abbrev dktX0_turnOf_0 : List UInt8 := dkwX0_turnOf_0 ++ []
theorem dksX0_turnOf_0 : cX0_turnOf.data.toList.drop 0 = dktX0_turnOf_0 := by decide +kernel
theorem dX0_turnOf_0 : decode cX0_turnOf 0 = .ok (.aload_n 0, 1) := dk_42 (dk_at dksX0_turnOf_0 0 rfl rfl)
theorem dX0_turnOf_1 : decode cX0_turnOf 1 = .ok (.iload_n 1, 1) := dk_27 (dk_at dksX0_turnOf_0 1 rfl rfl)
theorem dX0_turnOf_2 : decode cX0_turnOf 2 = .ok (.iload_n 2, 1) := dk_28 (dk_at dksX0_turnOf_0 2 rfl rfl)
theorem dX0_turnOf_3 : decode cX0_turnOf 3 = .ok (.invokevirtual 357, 3) := dk_182 1 101 (dk_at dksX0_turnOf_0 3 rfl rfl)
theorem dX0_turnOf_6 : decode cX0_turnOf 6 = .ok (.ifCond .eq 10, 3) := dk_153 0 10 (dk_at dksX0_turnOf_0 6 rfl rfl)
theorem dX0_turnOf_9 : decode cX0_turnOf 9 = .ok (.aload_n 0, 1) := dk_42 (dk_at dksX0_turnOf_0 9 rfl rfl)
theorem dX0_turnOf_10 : decode cX0_turnOf 10 = .ok (.getfield 342, 3) := dk_180 1 86 (dk_at dksX0_turnOf_0 10 rfl rfl)
theorem dX0_turnOf_13 : decode cX0_turnOf 13 = .ok (.goto 5, 3) := dk_167 0 5 (dk_at dksX0_turnOf_0 13 rfl rfl)
theorem dX0_turnOf_16 : decode cX0_turnOf 16 = .ok (.bipush (-2), 2) := dk_16 254 (dk_at dksX0_turnOf_0 16 rfl rfl)
theorem dX0_turnOf_18 : decode cX0_turnOf 18 = .ok (.ireturn, 1) := dk_172 (dk_at dksX0_turnOf_0 18 rfl rfl)
abbrev cX0_symmetries : ByteArray := prog_1_method_67_code
def yX0_symmetries : MethodName := ⟨RX0, "symmetries", "(I)I"⟩
def dkwX0_symmetries_2 : List UInt8 := [132, 3, 1, 167, 255, 221, 28, 172]
abbrev dktX0_symmetries_2 : List UInt8 := dkwX0_symmetries_2 ++ []
def dkwX0_symmetries_1 : List UInt8 := [42, 27, 182, 0, 142, 42, 27, 182, 0, 142, 182, 1, 105, 153, 0, 7, 4, 167, 0, 4, 3, 96, 61]
abbrev dktX0_symmetries_1 : List UInt8 := dkwX0_symmetries_1 ++ dktX0_symmetries_2
def dkwX0_symmetries_0 : List UInt8 := [42, 27, 182, 0, 131, 154, 0, 6, 16, 254, 172, 3, 61, 3, 62, 29, 16, 48, 162, 0, 35, 28, 42, 29]
abbrev dktX0_symmetries_0 : List UInt8 := dkwX0_symmetries_0 ++ dktX0_symmetries_1
theorem dksX0_symmetries_0 : cX0_symmetries.data.toList.drop 0 = dktX0_symmetries_0 := by decide +kernel
theorem dksX0_symmetries_1 : cX0_symmetries.data.toList.drop 24 = dktX0_symmetries_1 := dk_seg dksX0_symmetries_0 24 rfl rfl
theorem dksX0_symmetries_2 : cX0_symmetries.data.toList.drop 47 = dktX0_symmetries_2 := dk_seg dksX0_symmetries_1 23 rfl rfl
theorem dX0_symmetries_0 : decode cX0_symmetries 0 = .ok (.aload_n 0, 1) := dk_42 (dk_at dksX0_symmetries_0 0 rfl rfl)
theorem dX0_symmetries_1 : decode cX0_symmetries 1 = .ok (.iload_n 1, 1) := dk_27 (dk_at dksX0_symmetries_0 1 rfl rfl)
theorem dX0_symmetries_2 : decode cX0_symmetries 2 = .ok (.invokevirtual 131, 3) := dk_182 0 131 (dk_at dksX0_symmetries_0 2 rfl rfl)
theorem dX0_symmetries_5 : decode cX0_symmetries 5 = .ok (.ifCond .ne 6, 3) := dk_154 0 6 (dk_at dksX0_symmetries_0 5 rfl rfl)
theorem dX0_symmetries_8 : decode cX0_symmetries 8 = .ok (.bipush (-2), 2) := dk_16 254 (dk_at dksX0_symmetries_0 8 rfl rfl)
theorem dX0_symmetries_10 : decode cX0_symmetries 10 = .ok (.ireturn, 1) := dk_172 (dk_at dksX0_symmetries_0 10 rfl rfl)
theorem dX0_symmetries_11 : decode cX0_symmetries 11 = .ok (.iconst 0, 1) := dk_3 (dk_at dksX0_symmetries_0 11 rfl rfl)
theorem dX0_symmetries_12 : decode cX0_symmetries 12 = .ok (.istore_n 2, 1) := dk_61 (dk_at dksX0_symmetries_0 12 rfl rfl)
theorem dX0_symmetries_13 : decode cX0_symmetries 13 = .ok (.iconst 0, 1) := dk_3 (dk_at dksX0_symmetries_0 13 rfl rfl)
theorem dX0_symmetries_14 : decode cX0_symmetries 14 = .ok (.istore_n 3, 1) := dk_62 (dk_at dksX0_symmetries_0 14 rfl rfl)
theorem dX0_symmetries_15 : decode cX0_symmetries 15 = .ok (.iload_n 3, 1) := dk_29 (dk_at dksX0_symmetries_0 15 rfl rfl)
theorem dX0_symmetries_16 : decode cX0_symmetries 16 = .ok (.bipush 48, 2) := dk_16 48 (dk_at dksX0_symmetries_0 16 rfl rfl)
theorem dX0_symmetries_18 : decode cX0_symmetries 18 = .ok (.if_icmp .ge 35, 3) := dk_162 0 35 (dk_at dksX0_symmetries_0 18 rfl rfl)
theorem dX0_symmetries_21 : decode cX0_symmetries 21 = .ok (.iload_n 2, 1) := dk_28 (dk_at dksX0_symmetries_0 21 rfl rfl)
theorem dX0_symmetries_22 : decode cX0_symmetries 22 = .ok (.aload_n 0, 1) := dk_42 (dk_at dksX0_symmetries_0 22 rfl rfl)
theorem dX0_symmetries_23 : decode cX0_symmetries 23 = .ok (.iload_n 3, 1) := dk_29 (dk_at dksX0_symmetries_0 23 rfl rfl)
theorem dX0_symmetries_24 : decode cX0_symmetries 24 = .ok (.aload_n 0, 1) := dk_42 (dk_at dksX0_symmetries_1 0 rfl rfl)
theorem dX0_symmetries_25 : decode cX0_symmetries 25 = .ok (.iload_n 1, 1) := dk_27 (dk_at dksX0_symmetries_1 1 rfl rfl)
theorem dX0_symmetries_26 : decode cX0_symmetries 26 = .ok (.invokevirtual 142, 3) := dk_182 0 142 (dk_at dksX0_symmetries_1 2 rfl rfl)
theorem dX0_symmetries_29 : decode cX0_symmetries 29 = .ok (.aload_n 0, 1) := dk_42 (dk_at dksX0_symmetries_1 5 rfl rfl)
theorem dX0_symmetries_30 : decode cX0_symmetries 30 = .ok (.iload_n 1, 1) := dk_27 (dk_at dksX0_symmetries_1 6 rfl rfl)
theorem dX0_symmetries_31 : decode cX0_symmetries 31 = .ok (.invokevirtual 142, 3) := dk_182 0 142 (dk_at dksX0_symmetries_1 7 rfl rfl)
theorem dX0_symmetries_34 : decode cX0_symmetries 34 = .ok (.invokevirtual 361, 3) := dk_182 1 105 (dk_at dksX0_symmetries_1 10 rfl rfl)
theorem dX0_symmetries_37 : decode cX0_symmetries 37 = .ok (.ifCond .eq 7, 3) := dk_153 0 7 (dk_at dksX0_symmetries_1 13 rfl rfl)
theorem dX0_symmetries_40 : decode cX0_symmetries 40 = .ok (.iconst 1, 1) := dk_4 (dk_at dksX0_symmetries_1 16 rfl rfl)
theorem dX0_symmetries_41 : decode cX0_symmetries 41 = .ok (.goto 4, 3) := dk_167 0 4 (dk_at dksX0_symmetries_1 17 rfl rfl)
theorem dX0_symmetries_44 : decode cX0_symmetries 44 = .ok (.iconst 0, 1) := dk_3 (dk_at dksX0_symmetries_1 20 rfl rfl)
theorem dX0_symmetries_45 : decode cX0_symmetries 45 = .ok (.iadd, 1) := dk_96 (dk_at dksX0_symmetries_1 21 rfl rfl)
theorem dX0_symmetries_46 : decode cX0_symmetries 46 = .ok (.istore_n 2, 1) := dk_61 (dk_at dksX0_symmetries_1 22 rfl rfl)
theorem dX0_symmetries_47 : decode cX0_symmetries 47 = .ok (.iinc 3 1, 3) := dk_132 3 1 (dk_at dksX0_symmetries_2 0 rfl rfl)
theorem dX0_symmetries_50 : decode cX0_symmetries 50 = .ok (.goto (-35), 3) := dk_167 255 221 (dk_at dksX0_symmetries_2 3 rfl rfl)
theorem dX0_symmetries_53 : decode cX0_symmetries 53 = .ok (.iload_n 2, 1) := dk_28 (dk_at dksX0_symmetries_2 6 rfl rfl)
theorem dX0_symmetries_54 : decode cX0_symmetries 54 = .ok (.ireturn, 1) := dk_172 (dk_at dksX0_symmetries_2 7 rfl rfl)
abbrev cX0_goes : ByteArray := prog_1_method_66_code
def yX0_goes : MethodName := ⟨RX0, "goes", "(ILCoincideBench$Lattice;LCoincideBench$Lattice;)Z"⟩
def dkwX0_goes_8 : List UInt8 := [167, 0, 4, 3, 172]
abbrev dktX0_goes_8 : List UInt8 := dkwX0_goes_8 ++ []
def dkwX0_goes_7 : List UInt8 := [182, 0, 146, 182, 0, 192, 184, 0, 1, 22, 7, 105, 22, 7, 105, 22, 7, 105, 148, 154, 0, 7, 4]
abbrev dktX0_goes_7 : List UInt8 := dkwX0_goes_7 ++ dktX0_goes_8
def dkwX0_goes_6 : List UInt8 := [182, 0, 154, 55, 9, 25, 4, 182, 0, 192, 184, 0, 1, 22, 9, 105, 22, 9, 105, 22, 9, 105, 45]
abbrev dktX0_goes_6 : List UInt8 := dkwX0_goes_6 ++ dktX0_goes_7
def dkwX0_goes_5 : List UInt8 := [182, 0, 154, 184, 0, 216, 154, 0, 5, 3, 172, 132, 7, 1, 167, 255, 151, 44, 182, 0, 154, 55, 7, 45]
abbrev dktX0_goes_5 : List UInt8 := dkwX0_goes_5 ++ dktX0_goes_6
def dkwX0_goes_4 : List UInt8 := [167, 255, 198, 45, 182, 0, 146, 45, 182, 0, 154, 25, 6, 3, 47, 25, 6, 4, 47, 25, 6, 5, 47, 44]
abbrev dktX0_goes_4 : List UInt8 := dkwX0_goes_4 ++ dktX0_goes_5
def dkwX0_goes_3 : List UInt8 := [117, 167, 0, 17, 25, 4, 180, 0, 150, 21, 7, 50, 25, 5, 21, 8, 46, 47, 80, 132, 8, 1]
abbrev dktX0_goes_3 : List UInt8 := dkwX0_goes_3 ++ dktX0_goes_4
def dkwX0_goes_2 : List UInt8 := [21, 8, 100, 122, 4, 126, 4, 160, 0, 21, 25, 4, 180, 0, 150, 21, 7, 50, 25, 5, 21, 8, 46, 47]
abbrev dktX0_goes_2 : List UInt8 := dkwX0_goes_2 ++ dktX0_goes_3
def dkwX0_goes_1 : List UInt8 := [54, 7, 21, 7, 6, 162, 0, 105, 3, 54, 8, 21, 8, 6, 162, 0, 58, 25, 6, 21, 8, 27, 5]
abbrev dktX0_goes_1 : List UInt8 := dkwX0_goes_1 ++ dktX0_goes_2
def dkwX0_goes_0 : List UInt8 := [44, 182, 0, 146, 58, 4, 42, 180, 0, 60, 27, 16, 8, 108, 50, 58, 5, 6, 188, 11, 58, 6, 3]
abbrev dktX0_goes_0 : List UInt8 := dkwX0_goes_0 ++ dktX0_goes_1
theorem dksX0_goes_0 : cX0_goes.data.toList.drop 0 = dktX0_goes_0 := by decide +kernel
theorem dksX0_goes_1 : cX0_goes.data.toList.drop 23 = dktX0_goes_1 := dk_seg dksX0_goes_0 23 rfl rfl
theorem dksX0_goes_2 : cX0_goes.data.toList.drop 46 = dktX0_goes_2 := dk_seg dksX0_goes_1 23 rfl rfl
theorem dksX0_goes_3 : cX0_goes.data.toList.drop 70 = dktX0_goes_3 := dk_seg dksX0_goes_2 24 rfl rfl
theorem dksX0_goes_4 : cX0_goes.data.toList.drop 92 = dktX0_goes_4 := dk_seg dksX0_goes_3 22 rfl rfl
theorem dksX0_goes_5 : cX0_goes.data.toList.drop 116 = dktX0_goes_5 := dk_seg dksX0_goes_4 24 rfl rfl
theorem dksX0_goes_6 : cX0_goes.data.toList.drop 140 = dktX0_goes_6 := dk_seg dksX0_goes_5 24 rfl rfl
theorem dksX0_goes_7 : cX0_goes.data.toList.drop 163 = dktX0_goes_7 := dk_seg dksX0_goes_6 23 rfl rfl
theorem dksX0_goes_8 : cX0_goes.data.toList.drop 186 = dktX0_goes_8 := dk_seg dksX0_goes_7 23 rfl rfl
theorem dX0_goes_0 : decode cX0_goes 0 = .ok (.aload_n 2, 1) := dk_44 (dk_at dksX0_goes_0 0 rfl rfl)
theorem dX0_goes_1 : decode cX0_goes 1 = .ok (.invokevirtual 146, 3) := dk_182 0 146 (dk_at dksX0_goes_0 1 rfl rfl)
theorem dX0_goes_4 : decode cX0_goes 4 = .ok (.astore 4, 2) := dk_58 4 (dk_at dksX0_goes_0 4 rfl rfl)
theorem dX0_goes_6 : decode cX0_goes 6 = .ok (.aload_n 0, 1) := dk_42 (dk_at dksX0_goes_0 6 rfl rfl)
theorem dX0_goes_7 : decode cX0_goes 7 = .ok (.getfield 60, 3) := dk_180 0 60 (dk_at dksX0_goes_0 7 rfl rfl)
theorem dX0_goes_10 : decode cX0_goes 10 = .ok (.iload_n 1, 1) := dk_27 (dk_at dksX0_goes_0 10 rfl rfl)
theorem dX0_goes_11 : decode cX0_goes 11 = .ok (.bipush 8, 2) := dk_16 8 (dk_at dksX0_goes_0 11 rfl rfl)
theorem dX0_goes_13 : decode cX0_goes 13 = .ok (.idiv, 1) := dk_108 (dk_at dksX0_goes_0 13 rfl rfl)
theorem dX0_goes_14 : decode cX0_goes 14 = .ok (.aaload, 1) := dk_50 (dk_at dksX0_goes_0 14 rfl rfl)
theorem dX0_goes_15 : decode cX0_goes 15 = .ok (.astore 5, 2) := dk_58 5 (dk_at dksX0_goes_0 15 rfl rfl)
theorem dX0_goes_17 : decode cX0_goes 17 = .ok (.iconst 3, 1) := dk_6 (dk_at dksX0_goes_0 17 rfl rfl)
theorem dX0_goes_18 : decode cX0_goes 18 = .ok (.newarray .long, 2) := dk_188_11 (dk_at dksX0_goes_0 18 rfl rfl)
theorem dX0_goes_20 : decode cX0_goes 20 = .ok (.astore 6, 2) := dk_58 6 (dk_at dksX0_goes_0 20 rfl rfl)
theorem dX0_goes_22 : decode cX0_goes 22 = .ok (.iconst 0, 1) := dk_3 (dk_at dksX0_goes_0 22 rfl rfl)
theorem dX0_goes_23 : decode cX0_goes 23 = .ok (.istore 7, 2) := dk_54 7 (dk_at dksX0_goes_1 0 rfl rfl)
theorem dX0_goes_25 : decode cX0_goes 25 = .ok (.iload 7, 2) := dk_21 7 (dk_at dksX0_goes_1 2 rfl rfl)
theorem dX0_goes_27 : decode cX0_goes 27 = .ok (.iconst 3, 1) := dk_6 (dk_at dksX0_goes_1 4 rfl rfl)
theorem dX0_goes_28 : decode cX0_goes 28 = .ok (.if_icmp .ge 105, 3) := dk_162 0 105 (dk_at dksX0_goes_1 5 rfl rfl)
theorem dX0_goes_31 : decode cX0_goes 31 = .ok (.iconst 0, 1) := dk_3 (dk_at dksX0_goes_1 8 rfl rfl)
theorem dX0_goes_32 : decode cX0_goes 32 = .ok (.istore 8, 2) := dk_54 8 (dk_at dksX0_goes_1 9 rfl rfl)
theorem dX0_goes_34 : decode cX0_goes 34 = .ok (.iload 8, 2) := dk_21 8 (dk_at dksX0_goes_1 11 rfl rfl)
theorem dX0_goes_36 : decode cX0_goes 36 = .ok (.iconst 3, 1) := dk_6 (dk_at dksX0_goes_1 13 rfl rfl)
theorem dX0_goes_37 : decode cX0_goes 37 = .ok (.if_icmp .ge 58, 3) := dk_162 0 58 (dk_at dksX0_goes_1 14 rfl rfl)
theorem dX0_goes_40 : decode cX0_goes 40 = .ok (.aload 6, 2) := dk_25 6 (dk_at dksX0_goes_1 17 rfl rfl)
theorem dX0_goes_42 : decode cX0_goes 42 = .ok (.iload 8, 2) := dk_21 8 (dk_at dksX0_goes_1 19 rfl rfl)
theorem dX0_goes_44 : decode cX0_goes 44 = .ok (.iload_n 1, 1) := dk_27 (dk_at dksX0_goes_1 21 rfl rfl)
theorem dX0_goes_45 : decode cX0_goes 45 = .ok (.iconst 2, 1) := dk_5 (dk_at dksX0_goes_1 22 rfl rfl)
theorem dX0_goes_46 : decode cX0_goes 46 = .ok (.iload 8, 2) := dk_21 8 (dk_at dksX0_goes_2 0 rfl rfl)
theorem dX0_goes_48 : decode cX0_goes 48 = .ok (.isub, 1) := dk_100 (dk_at dksX0_goes_2 2 rfl rfl)
theorem dX0_goes_49 : decode cX0_goes 49 = .ok (.ishr, 1) := dk_122 (dk_at dksX0_goes_2 3 rfl rfl)
theorem dX0_goes_50 : decode cX0_goes 50 = .ok (.iconst 1, 1) := dk_4 (dk_at dksX0_goes_2 4 rfl rfl)
theorem dX0_goes_51 : decode cX0_goes 51 = .ok (.iand, 1) := dk_126 (dk_at dksX0_goes_2 5 rfl rfl)
theorem dX0_goes_52 : decode cX0_goes 52 = .ok (.iconst 1, 1) := dk_4 (dk_at dksX0_goes_2 6 rfl rfl)
theorem dX0_goes_53 : decode cX0_goes 53 = .ok (.if_icmp .ne 21, 3) := dk_160 0 21 (dk_at dksX0_goes_2 7 rfl rfl)
theorem dX0_goes_56 : decode cX0_goes 56 = .ok (.aload 4, 2) := dk_25 4 (dk_at dksX0_goes_2 10 rfl rfl)
theorem dX0_goes_58 : decode cX0_goes 58 = .ok (.getfield 150, 3) := dk_180 0 150 (dk_at dksX0_goes_2 12 rfl rfl)
theorem dX0_goes_61 : decode cX0_goes 61 = .ok (.iload 7, 2) := dk_21 7 (dk_at dksX0_goes_2 15 rfl rfl)
theorem dX0_goes_63 : decode cX0_goes 63 = .ok (.aaload, 1) := dk_50 (dk_at dksX0_goes_2 17 rfl rfl)
theorem dX0_goes_64 : decode cX0_goes 64 = .ok (.aload 5, 2) := dk_25 5 (dk_at dksX0_goes_2 18 rfl rfl)
theorem dX0_goes_66 : decode cX0_goes 66 = .ok (.iload 8, 2) := dk_21 8 (dk_at dksX0_goes_2 20 rfl rfl)
theorem dX0_goes_68 : decode cX0_goes 68 = .ok (.iaload, 1) := dk_46 (dk_at dksX0_goes_2 22 rfl rfl)
theorem dX0_goes_69 : decode cX0_goes 69 = .ok (.laload, 1) := dk_47 (dk_at dksX0_goes_2 23 rfl rfl)
theorem dX0_goes_70 : decode cX0_goes 70 = .ok (.lneg, 1) := dk_117 (dk_at dksX0_goes_3 0 rfl rfl)
theorem dX0_goes_71 : decode cX0_goes 71 = .ok (.goto 17, 3) := dk_167 0 17 (dk_at dksX0_goes_3 1 rfl rfl)
theorem dX0_goes_74 : decode cX0_goes 74 = .ok (.aload 4, 2) := dk_25 4 (dk_at dksX0_goes_3 4 rfl rfl)
theorem dX0_goes_76 : decode cX0_goes 76 = .ok (.getfield 150, 3) := dk_180 0 150 (dk_at dksX0_goes_3 6 rfl rfl)
theorem dX0_goes_79 : decode cX0_goes 79 = .ok (.iload 7, 2) := dk_21 7 (dk_at dksX0_goes_3 9 rfl rfl)
theorem dX0_goes_81 : decode cX0_goes 81 = .ok (.aaload, 1) := dk_50 (dk_at dksX0_goes_3 11 rfl rfl)
theorem dX0_goes_82 : decode cX0_goes 82 = .ok (.aload 5, 2) := dk_25 5 (dk_at dksX0_goes_3 12 rfl rfl)
theorem dX0_goes_84 : decode cX0_goes 84 = .ok (.iload 8, 2) := dk_21 8 (dk_at dksX0_goes_3 14 rfl rfl)
theorem dX0_goes_86 : decode cX0_goes 86 = .ok (.iaload, 1) := dk_46 (dk_at dksX0_goes_3 16 rfl rfl)
theorem dX0_goes_87 : decode cX0_goes 87 = .ok (.laload, 1) := dk_47 (dk_at dksX0_goes_3 17 rfl rfl)
theorem dX0_goes_88 : decode cX0_goes 88 = .ok (.lastore, 1) := dk_80 (dk_at dksX0_goes_3 18 rfl rfl)
theorem dX0_goes_89 : decode cX0_goes 89 = .ok (.iinc 8 1, 3) := dk_132 8 1 (dk_at dksX0_goes_3 19 rfl rfl)
theorem dX0_goes_92 : decode cX0_goes 92 = .ok (.goto (-58), 3) := dk_167 255 198 (dk_at dksX0_goes_4 0 rfl rfl)
theorem dX0_goes_95 : decode cX0_goes 95 = .ok (.aload_n 3, 1) := dk_45 (dk_at dksX0_goes_4 3 rfl rfl)
theorem dX0_goes_96 : decode cX0_goes 96 = .ok (.invokevirtual 146, 3) := dk_182 0 146 (dk_at dksX0_goes_4 4 rfl rfl)
theorem dX0_goes_99 : decode cX0_goes 99 = .ok (.aload_n 3, 1) := dk_45 (dk_at dksX0_goes_4 7 rfl rfl)
theorem dX0_goes_100 : decode cX0_goes 100 = .ok (.invokevirtual 154, 3) := dk_182 0 154 (dk_at dksX0_goes_4 8 rfl rfl)
theorem dX0_goes_103 : decode cX0_goes 103 = .ok (.aload 6, 2) := dk_25 6 (dk_at dksX0_goes_4 11 rfl rfl)
theorem dX0_goes_105 : decode cX0_goes 105 = .ok (.iconst 0, 1) := dk_3 (dk_at dksX0_goes_4 13 rfl rfl)
theorem dX0_goes_106 : decode cX0_goes 106 = .ok (.laload, 1) := dk_47 (dk_at dksX0_goes_4 14 rfl rfl)
theorem dX0_goes_107 : decode cX0_goes 107 = .ok (.aload 6, 2) := dk_25 6 (dk_at dksX0_goes_4 15 rfl rfl)
theorem dX0_goes_109 : decode cX0_goes 109 = .ok (.iconst 1, 1) := dk_4 (dk_at dksX0_goes_4 17 rfl rfl)
theorem dX0_goes_110 : decode cX0_goes 110 = .ok (.laload, 1) := dk_47 (dk_at dksX0_goes_4 18 rfl rfl)
theorem dX0_goes_111 : decode cX0_goes 111 = .ok (.aload 6, 2) := dk_25 6 (dk_at dksX0_goes_4 19 rfl rfl)
theorem dX0_goes_113 : decode cX0_goes 113 = .ok (.iconst 2, 1) := dk_5 (dk_at dksX0_goes_4 21 rfl rfl)
theorem dX0_goes_114 : decode cX0_goes 114 = .ok (.laload, 1) := dk_47 (dk_at dksX0_goes_4 22 rfl rfl)
theorem dX0_goes_115 : decode cX0_goes 115 = .ok (.aload_n 2, 1) := dk_44 (dk_at dksX0_goes_4 23 rfl rfl)
theorem dX0_goes_116 : decode cX0_goes 116 = .ok (.invokevirtual 154, 3) := dk_182 0 154 (dk_at dksX0_goes_5 0 rfl rfl)
theorem dX0_goes_119 : decode cX0_goes 119 = .ok (.invokestatic 216, 3) := dk_184 0 216 (dk_at dksX0_goes_5 3 rfl rfl)
theorem dX0_goes_122 : decode cX0_goes 122 = .ok (.ifCond .ne 5, 3) := dk_154 0 5 (dk_at dksX0_goes_5 6 rfl rfl)
theorem dX0_goes_125 : decode cX0_goes 125 = .ok (.iconst 0, 1) := dk_3 (dk_at dksX0_goes_5 9 rfl rfl)
theorem dX0_goes_126 : decode cX0_goes 126 = .ok (.ireturn, 1) := dk_172 (dk_at dksX0_goes_5 10 rfl rfl)
theorem dX0_goes_127 : decode cX0_goes 127 = .ok (.iinc 7 1, 3) := dk_132 7 1 (dk_at dksX0_goes_5 11 rfl rfl)
theorem dX0_goes_130 : decode cX0_goes 130 = .ok (.goto (-105), 3) := dk_167 255 151 (dk_at dksX0_goes_5 14 rfl rfl)
theorem dX0_goes_133 : decode cX0_goes 133 = .ok (.aload_n 2, 1) := dk_44 (dk_at dksX0_goes_5 17 rfl rfl)
theorem dX0_goes_134 : decode cX0_goes 134 = .ok (.invokevirtual 154, 3) := dk_182 0 154 (dk_at dksX0_goes_5 18 rfl rfl)
theorem dX0_goes_137 : decode cX0_goes 137 = .ok (.lstore 7, 2) := dk_55 7 (dk_at dksX0_goes_5 21 rfl rfl)
theorem dX0_goes_139 : decode cX0_goes 139 = .ok (.aload_n 3, 1) := dk_45 (dk_at dksX0_goes_5 23 rfl rfl)
theorem dX0_goes_140 : decode cX0_goes 140 = .ok (.invokevirtual 154, 3) := dk_182 0 154 (dk_at dksX0_goes_6 0 rfl rfl)
theorem dX0_goes_143 : decode cX0_goes 143 = .ok (.lstore 9, 2) := dk_55 9 (dk_at dksX0_goes_6 3 rfl rfl)
theorem dX0_goes_145 : decode cX0_goes 145 = .ok (.aload 4, 2) := dk_25 4 (dk_at dksX0_goes_6 5 rfl rfl)
theorem dX0_goes_147 : decode cX0_goes 147 = .ok (.invokevirtual 192, 3) := dk_182 0 192 (dk_at dksX0_goes_6 7 rfl rfl)
theorem dX0_goes_150 : decode cX0_goes 150 = .ok (.invokestatic 1, 3) := dk_184 0 1 (dk_at dksX0_goes_6 10 rfl rfl)
theorem dX0_goes_153 : decode cX0_goes 153 = .ok (.lload 9, 2) := dk_22 9 (dk_at dksX0_goes_6 13 rfl rfl)
theorem dX0_goes_155 : decode cX0_goes 155 = .ok (.lmul, 1) := dk_105 (dk_at dksX0_goes_6 15 rfl rfl)
theorem dX0_goes_156 : decode cX0_goes 156 = .ok (.lload 9, 2) := dk_22 9 (dk_at dksX0_goes_6 16 rfl rfl)
theorem dX0_goes_158 : decode cX0_goes 158 = .ok (.lmul, 1) := dk_105 (dk_at dksX0_goes_6 18 rfl rfl)
theorem dX0_goes_159 : decode cX0_goes 159 = .ok (.lload 9, 2) := dk_22 9 (dk_at dksX0_goes_6 19 rfl rfl)
theorem dX0_goes_161 : decode cX0_goes 161 = .ok (.lmul, 1) := dk_105 (dk_at dksX0_goes_6 21 rfl rfl)
theorem dX0_goes_162 : decode cX0_goes 162 = .ok (.aload_n 3, 1) := dk_45 (dk_at dksX0_goes_6 22 rfl rfl)
theorem dX0_goes_163 : decode cX0_goes 163 = .ok (.invokevirtual 146, 3) := dk_182 0 146 (dk_at dksX0_goes_7 0 rfl rfl)
theorem dX0_goes_166 : decode cX0_goes 166 = .ok (.invokevirtual 192, 3) := dk_182 0 192 (dk_at dksX0_goes_7 3 rfl rfl)
theorem dX0_goes_169 : decode cX0_goes 169 = .ok (.invokestatic 1, 3) := dk_184 0 1 (dk_at dksX0_goes_7 6 rfl rfl)
theorem dX0_goes_172 : decode cX0_goes 172 = .ok (.lload 7, 2) := dk_22 7 (dk_at dksX0_goes_7 9 rfl rfl)
theorem dX0_goes_174 : decode cX0_goes 174 = .ok (.lmul, 1) := dk_105 (dk_at dksX0_goes_7 11 rfl rfl)
theorem dX0_goes_175 : decode cX0_goes 175 = .ok (.lload 7, 2) := dk_22 7 (dk_at dksX0_goes_7 12 rfl rfl)
theorem dX0_goes_177 : decode cX0_goes 177 = .ok (.lmul, 1) := dk_105 (dk_at dksX0_goes_7 14 rfl rfl)
theorem dX0_goes_178 : decode cX0_goes 178 = .ok (.lload 7, 2) := dk_22 7 (dk_at dksX0_goes_7 15 rfl rfl)
theorem dX0_goes_180 : decode cX0_goes 180 = .ok (.lmul, 1) := dk_105 (dk_at dksX0_goes_7 17 rfl rfl)
theorem dX0_goes_181 : decode cX0_goes 181 = .ok (.lcmp, 1) := dk_148 (dk_at dksX0_goes_7 18 rfl rfl)
theorem dX0_goes_182 : decode cX0_goes 182 = .ok (.ifCond .ne 7, 3) := dk_154 0 7 (dk_at dksX0_goes_7 19 rfl rfl)
theorem dX0_goes_185 : decode cX0_goes 185 = .ok (.iconst 1, 1) := dk_4 (dk_at dksX0_goes_7 22 rfl rfl)
theorem dX0_goes_186 : decode cX0_goes 186 = .ok (.goto 4, 3) := dk_167 0 4 (dk_at dksX0_goes_8 0 rfl rfl)
theorem dX0_goes_189 : decode cX0_goes 189 = .ok (.iconst 0, 1) := dk_3 (dk_at dksX0_goes_8 3 rfl rfl)
theorem dX0_goes_190 : decode cX0_goes 190 = .ok (.ireturn, 1) := dk_172 (dk_at dksX0_goes_8 4 rfl rfl)
abbrev cX0_takes : ByteArray := prog_1_method_68_code
def yX0_takes : MethodName := ⟨RX0, "takes", "(II)I"⟩
def dkwX0_takes_2 : List UInt8 := [132, 3, 1, 167, 255, 227, 2, 172]
abbrev dktX0_takes_2 : List UInt8 := dkwX0_takes_2 ++ []
def dkwX0_takes_1 : List UInt8 := [162, 0, 29, 42, 29, 42, 27, 182, 0, 142, 42, 28, 182, 0, 142, 182, 1, 105, 153, 0, 5, 29, 172]
abbrev dktX0_takes_1 : List UInt8 := dkwX0_takes_1 ++ dktX0_takes_2
def dkwX0_takes_0 : List UInt8 := [42, 27, 182, 0, 131, 153, 0, 11, 42, 28, 182, 0, 131, 154, 0, 6, 16, 254, 172, 3, 62, 29, 16, 48]
abbrev dktX0_takes_0 : List UInt8 := dkwX0_takes_0 ++ dktX0_takes_1
theorem dksX0_takes_0 : cX0_takes.data.toList.drop 0 = dktX0_takes_0 := by decide +kernel
theorem dksX0_takes_1 : cX0_takes.data.toList.drop 24 = dktX0_takes_1 := dk_seg dksX0_takes_0 24 rfl rfl
theorem dksX0_takes_2 : cX0_takes.data.toList.drop 47 = dktX0_takes_2 := dk_seg dksX0_takes_1 23 rfl rfl
theorem dX0_takes_0 : decode cX0_takes 0 = .ok (.aload_n 0, 1) := dk_42 (dk_at dksX0_takes_0 0 rfl rfl)
theorem dX0_takes_1 : decode cX0_takes 1 = .ok (.iload_n 1, 1) := dk_27 (dk_at dksX0_takes_0 1 rfl rfl)
theorem dX0_takes_2 : decode cX0_takes 2 = .ok (.invokevirtual 131, 3) := dk_182 0 131 (dk_at dksX0_takes_0 2 rfl rfl)
theorem dX0_takes_5 : decode cX0_takes 5 = .ok (.ifCond .eq 11, 3) := dk_153 0 11 (dk_at dksX0_takes_0 5 rfl rfl)
theorem dX0_takes_8 : decode cX0_takes 8 = .ok (.aload_n 0, 1) := dk_42 (dk_at dksX0_takes_0 8 rfl rfl)
theorem dX0_takes_9 : decode cX0_takes 9 = .ok (.iload_n 2, 1) := dk_28 (dk_at dksX0_takes_0 9 rfl rfl)
theorem dX0_takes_10 : decode cX0_takes 10 = .ok (.invokevirtual 131, 3) := dk_182 0 131 (dk_at dksX0_takes_0 10 rfl rfl)
theorem dX0_takes_13 : decode cX0_takes 13 = .ok (.ifCond .ne 6, 3) := dk_154 0 6 (dk_at dksX0_takes_0 13 rfl rfl)
theorem dX0_takes_16 : decode cX0_takes 16 = .ok (.bipush (-2), 2) := dk_16 254 (dk_at dksX0_takes_0 16 rfl rfl)
theorem dX0_takes_18 : decode cX0_takes 18 = .ok (.ireturn, 1) := dk_172 (dk_at dksX0_takes_0 18 rfl rfl)
theorem dX0_takes_19 : decode cX0_takes 19 = .ok (.iconst 0, 1) := dk_3 (dk_at dksX0_takes_0 19 rfl rfl)
theorem dX0_takes_20 : decode cX0_takes 20 = .ok (.istore_n 3, 1) := dk_62 (dk_at dksX0_takes_0 20 rfl rfl)
theorem dX0_takes_21 : decode cX0_takes 21 = .ok (.iload_n 3, 1) := dk_29 (dk_at dksX0_takes_0 21 rfl rfl)
theorem dX0_takes_22 : decode cX0_takes 22 = .ok (.bipush 48, 2) := dk_16 48 (dk_at dksX0_takes_0 22 rfl rfl)
theorem dX0_takes_24 : decode cX0_takes 24 = .ok (.if_icmp .ge 29, 3) := dk_162 0 29 (dk_at dksX0_takes_1 0 rfl rfl)
theorem dX0_takes_27 : decode cX0_takes 27 = .ok (.aload_n 0, 1) := dk_42 (dk_at dksX0_takes_1 3 rfl rfl)
theorem dX0_takes_28 : decode cX0_takes 28 = .ok (.iload_n 3, 1) := dk_29 (dk_at dksX0_takes_1 4 rfl rfl)
theorem dX0_takes_29 : decode cX0_takes 29 = .ok (.aload_n 0, 1) := dk_42 (dk_at dksX0_takes_1 5 rfl rfl)
theorem dX0_takes_30 : decode cX0_takes 30 = .ok (.iload_n 1, 1) := dk_27 (dk_at dksX0_takes_1 6 rfl rfl)
theorem dX0_takes_31 : decode cX0_takes 31 = .ok (.invokevirtual 142, 3) := dk_182 0 142 (dk_at dksX0_takes_1 7 rfl rfl)
theorem dX0_takes_34 : decode cX0_takes 34 = .ok (.aload_n 0, 1) := dk_42 (dk_at dksX0_takes_1 10 rfl rfl)
theorem dX0_takes_35 : decode cX0_takes 35 = .ok (.iload_n 2, 1) := dk_28 (dk_at dksX0_takes_1 11 rfl rfl)
theorem dX0_takes_36 : decode cX0_takes 36 = .ok (.invokevirtual 142, 3) := dk_182 0 142 (dk_at dksX0_takes_1 12 rfl rfl)
theorem dX0_takes_39 : decode cX0_takes 39 = .ok (.invokevirtual 361, 3) := dk_182 1 105 (dk_at dksX0_takes_1 15 rfl rfl)
theorem dX0_takes_42 : decode cX0_takes 42 = .ok (.ifCond .eq 5, 3) := dk_153 0 5 (dk_at dksX0_takes_1 18 rfl rfl)
theorem dX0_takes_45 : decode cX0_takes 45 = .ok (.iload_n 3, 1) := dk_29 (dk_at dksX0_takes_1 21 rfl rfl)
theorem dX0_takes_46 : decode cX0_takes 46 = .ok (.ireturn, 1) := dk_172 (dk_at dksX0_takes_1 22 rfl rfl)
theorem dX0_takes_47 : decode cX0_takes 47 = .ok (.iinc 3 1, 3) := dk_132 3 1 (dk_at dksX0_takes_2 0 rfl rfl)
theorem dX0_takes_50 : decode cX0_takes 50 = .ok (.goto (-29), 3) := dk_167 255 227 (dk_at dksX0_takes_2 3 rfl rfl)
theorem dX0_takes_53 : decode cX0_takes 53 = .ok (.iconst (-1), 1) := dk_2 (dk_at dksX0_takes_2 6 rfl rfl)
theorem dX0_takes_54 : decode cX0_takes 54 = .ok (.ireturn, 1) := dk_172 (dk_at dksX0_takes_2 7 rfl rfl)
abbrev cX0_add : ByteArray := prog_1_method_73_code
def yX0_add : MethodName := ⟨RX0, "add", "(IIII)I"⟩
def dkwX0_add_2 : List UInt8 := [89, 4, 28, 29, 21, 4, 133, 183, 1, 157, 182, 1, 160, 167, 0, 5, 16, 254, 172]
abbrev dktX0_add_2 : List UInt8 := dkwX0_add_2 ++ []
def dkwX0_add_1 : List UInt8 := [159, 0, 40, 21, 4, 133, 20, 1, 153, 20, 1, 155, 184, 0, 72, 153, 0, 25, 42, 4, 27, 187, 0, 174]
abbrev dktX0_add_1 : List UInt8 := dkwX0_add_1 ++ dktX0_add_2
def dkwX0_add_0 : List UInt8 := [42, 27, 182, 1, 150, 153, 0, 59, 28, 184, 0, 135, 153, 0, 52, 29, 184, 0, 135, 153, 0, 45, 28, 29]
abbrev dktX0_add_0 : List UInt8 := dkwX0_add_0 ++ dktX0_add_1
theorem dksX0_add_0 : cX0_add.data.toList.drop 0 = dktX0_add_0 := by decide +kernel
theorem dksX0_add_1 : cX0_add.data.toList.drop 24 = dktX0_add_1 := dk_seg dksX0_add_0 24 rfl rfl
theorem dksX0_add_2 : cX0_add.data.toList.drop 48 = dktX0_add_2 := dk_seg dksX0_add_1 24 rfl rfl
theorem dX0_add_0 : decode cX0_add 0 = .ok (.aload_n 0, 1) := dk_42 (dk_at dksX0_add_0 0 rfl rfl)
theorem dX0_add_1 : decode cX0_add 1 = .ok (.iload_n 1, 1) := dk_27 (dk_at dksX0_add_0 1 rfl rfl)
theorem dX0_add_2 : decode cX0_add 2 = .ok (.invokevirtual 406, 3) := dk_182 1 150 (dk_at dksX0_add_0 2 rfl rfl)
theorem dX0_add_5 : decode cX0_add 5 = .ok (.ifCond .eq 59, 3) := dk_153 0 59 (dk_at dksX0_add_0 5 rfl rfl)
theorem dX0_add_8 : decode cX0_add 8 = .ok (.iload_n 2, 1) := dk_28 (dk_at dksX0_add_0 8 rfl rfl)
theorem dX0_add_9 : decode cX0_add 9 = .ok (.invokestatic 135, 3) := dk_184 0 135 (dk_at dksX0_add_0 9 rfl rfl)
theorem dX0_add_12 : decode cX0_add 12 = .ok (.ifCond .eq 52, 3) := dk_153 0 52 (dk_at dksX0_add_0 12 rfl rfl)
theorem dX0_add_15 : decode cX0_add 15 = .ok (.iload_n 3, 1) := dk_29 (dk_at dksX0_add_0 15 rfl rfl)
theorem dX0_add_16 : decode cX0_add 16 = .ok (.invokestatic 135, 3) := dk_184 0 135 (dk_at dksX0_add_0 16 rfl rfl)
theorem dX0_add_19 : decode cX0_add 19 = .ok (.ifCond .eq 45, 3) := dk_153 0 45 (dk_at dksX0_add_0 19 rfl rfl)
theorem dX0_add_22 : decode cX0_add 22 = .ok (.iload_n 2, 1) := dk_28 (dk_at dksX0_add_0 22 rfl rfl)
theorem dX0_add_23 : decode cX0_add 23 = .ok (.iload_n 3, 1) := dk_29 (dk_at dksX0_add_0 23 rfl rfl)
theorem dX0_add_24 : decode cX0_add 24 = .ok (.if_icmp .eq 40, 3) := dk_159 0 40 (dk_at dksX0_add_1 0 rfl rfl)
theorem dX0_add_27 : decode cX0_add 27 = .ok (.iload 4, 2) := dk_21 4 (dk_at dksX0_add_1 3 rfl rfl)
theorem dX0_add_29 : decode cX0_add 29 = .ok (.i2l, 1) := dk_133 (dk_at dksX0_add_1 5 rfl rfl)
theorem dX0_add_30 : decode cX0_add 30 = .ok (.ldc2_w 409, 3) := dk_20 1 153 (dk_at dksX0_add_1 6 rfl rfl)
theorem dX0_add_33 : decode cX0_add 33 = .ok (.ldc2_w 411, 3) := dk_20 1 155 (dk_at dksX0_add_1 9 rfl rfl)
theorem dX0_add_36 : decode cX0_add 36 = .ok (.invokestatic 72, 3) := dk_184 0 72 (dk_at dksX0_add_1 12 rfl rfl)
theorem dX0_add_39 : decode cX0_add 39 = .ok (.ifCond .eq 25, 3) := dk_153 0 25 (dk_at dksX0_add_1 15 rfl rfl)
theorem dX0_add_42 : decode cX0_add 42 = .ok (.aload_n 0, 1) := dk_42 (dk_at dksX0_add_1 18 rfl rfl)
theorem dX0_add_43 : decode cX0_add 43 = .ok (.iconst 1, 1) := dk_4 (dk_at dksX0_add_1 19 rfl rfl)
theorem dX0_add_44 : decode cX0_add 44 = .ok (.iload_n 1, 1) := dk_27 (dk_at dksX0_add_1 20 rfl rfl)
theorem dX0_add_45 : decode cX0_add 45 = .ok (.new 174, 3) := dk_187 0 174 (dk_at dksX0_add_1 21 rfl rfl)
theorem dX0_add_48 : decode cX0_add 48 = .ok (.dup, 1) := dk_89 (dk_at dksX0_add_2 0 rfl rfl)
theorem dX0_add_49 : decode cX0_add 49 = .ok (.iconst 1, 1) := dk_4 (dk_at dksX0_add_2 1 rfl rfl)
theorem dX0_add_50 : decode cX0_add 50 = .ok (.iload_n 2, 1) := dk_28 (dk_at dksX0_add_2 2 rfl rfl)
theorem dX0_add_51 : decode cX0_add 51 = .ok (.iload_n 3, 1) := dk_29 (dk_at dksX0_add_2 3 rfl rfl)
theorem dX0_add_52 : decode cX0_add 52 = .ok (.iload 4, 2) := dk_21 4 (dk_at dksX0_add_2 4 rfl rfl)
theorem dX0_add_54 : decode cX0_add 54 = .ok (.i2l, 1) := dk_133 (dk_at dksX0_add_2 6 rfl rfl)
theorem dX0_add_55 : decode cX0_add 55 = .ok (.invokespecial 413, 3) := dk_183 1 157 (dk_at dksX0_add_2 7 rfl rfl)
theorem dX0_add_58 : decode cX0_add 58 = .ok (.invokevirtual 416, 3) := dk_182 1 160 (dk_at dksX0_add_2 10 rfl rfl)
theorem dX0_add_61 : decode cX0_add 61 = .ok (.goto 5, 3) := dk_167 0 5 (dk_at dksX0_add_2 13 rfl rfl)
theorem dX0_add_64 : decode cX0_add 64 = .ok (.bipush (-2), 2) := dk_16 254 (dk_at dksX0_add_2 16 rfl rfl)
theorem dX0_add_66 : decode cX0_add 66 = .ok (.ireturn, 1) := dk_172 (dk_at dksX0_add_2 18 rfl rfl)
abbrev cX0_isOwn : ByteArray := prog_1_method_71_code
def yX0_isOwn : MethodName := ⟨RX0, "isOwn", "(I)Z"⟩
def dkwX0_isOwn_1 : List UInt8 := [172]
abbrev dktX0_isOwn_1 : List UInt8 := dkwX0_isOwn_1 ++ []
def dkwX0_isOwn_0 : List UInt8 := [42, 27, 182, 0, 131, 153, 0, 18, 42, 27, 182, 0, 142, 182, 0, 125, 154, 0, 7, 4, 167, 0, 4, 3]
abbrev dktX0_isOwn_0 : List UInt8 := dkwX0_isOwn_0 ++ dktX0_isOwn_1
theorem dksX0_isOwn_0 : cX0_isOwn.data.toList.drop 0 = dktX0_isOwn_0 := by decide +kernel
theorem dksX0_isOwn_1 : cX0_isOwn.data.toList.drop 24 = dktX0_isOwn_1 := dk_seg dksX0_isOwn_0 24 rfl rfl
theorem dX0_isOwn_0 : decode cX0_isOwn 0 = .ok (.aload_n 0, 1) := dk_42 (dk_at dksX0_isOwn_0 0 rfl rfl)
theorem dX0_isOwn_1 : decode cX0_isOwn 1 = .ok (.iload_n 1, 1) := dk_27 (dk_at dksX0_isOwn_0 1 rfl rfl)
theorem dX0_isOwn_2 : decode cX0_isOwn 2 = .ok (.invokevirtual 131, 3) := dk_182 0 131 (dk_at dksX0_isOwn_0 2 rfl rfl)
theorem dX0_isOwn_5 : decode cX0_isOwn 5 = .ok (.ifCond .eq 18, 3) := dk_153 0 18 (dk_at dksX0_isOwn_0 5 rfl rfl)
theorem dX0_isOwn_8 : decode cX0_isOwn 8 = .ok (.aload_n 0, 1) := dk_42 (dk_at dksX0_isOwn_0 8 rfl rfl)
theorem dX0_isOwn_9 : decode cX0_isOwn 9 = .ok (.iload_n 1, 1) := dk_27 (dk_at dksX0_isOwn_0 9 rfl rfl)
theorem dX0_isOwn_10 : decode cX0_isOwn 10 = .ok (.invokevirtual 142, 3) := dk_182 0 142 (dk_at dksX0_isOwn_0 10 rfl rfl)
theorem dX0_isOwn_13 : decode cX0_isOwn 13 = .ok (.invokevirtual 125, 3) := dk_182 0 125 (dk_at dksX0_isOwn_0 13 rfl rfl)
theorem dX0_isOwn_16 : decode cX0_isOwn 16 = .ok (.ifCond .ne 7, 3) := dk_154 0 7 (dk_at dksX0_isOwn_0 16 rfl rfl)
theorem dX0_isOwn_19 : decode cX0_isOwn 19 = .ok (.iconst 1, 1) := dk_4 (dk_at dksX0_isOwn_0 19 rfl rfl)
theorem dX0_isOwn_20 : decode cX0_isOwn 20 = .ok (.goto 4, 3) := dk_167 0 4 (dk_at dksX0_isOwn_0 20 rfl rfl)
theorem dX0_isOwn_23 : decode cX0_isOwn 23 = .ok (.iconst 0, 1) := dk_3 (dk_at dksX0_isOwn_0 23 rfl rfl)
theorem dX0_isOwn_24 : decode cX0_isOwn 24 = .ok (.ireturn, 1) := dk_172 (dk_at dksX0_isOwn_1 0 rfl rfl)
abbrev cX0_does : ByteArray := prog_1_method_72_code
def yX0_does : MethodName := ⟨RX0, "does", "(IILCoincideBench$Step;)I"⟩
def dkwX0_does_1 : List UInt8 := [45, 180, 0, 177, 182, 1, 146, 3, 172, 58, 5, 42, 25, 5, 181, 0, 103, 16, 251, 172]
abbrev dktX0_does_1 : List UInt8 := dkwX0_does_1 ++ []
def dkwX0_does_0 : List UInt8 := [42, 28, 182, 0, 142, 180, 1, 128, 182, 1, 141, 58, 4, 45, 25, 4, 182, 1, 144, 42, 27, 28, 25, 4]
abbrev dktX0_does_0 : List UInt8 := dkwX0_does_0 ++ dktX0_does_1
theorem dksX0_does_0 : cX0_does.data.toList.drop 0 = dktX0_does_0 := by decide +kernel
theorem dksX0_does_1 : cX0_does.data.toList.drop 24 = dktX0_does_1 := dk_seg dksX0_does_0 24 rfl rfl
theorem dX0_does_0 : decode cX0_does 0 = .ok (.aload_n 0, 1) := dk_42 (dk_at dksX0_does_0 0 rfl rfl)
theorem dX0_does_1 : decode cX0_does 1 = .ok (.iload_n 2, 1) := dk_28 (dk_at dksX0_does_0 1 rfl rfl)
theorem dX0_does_2 : decode cX0_does 2 = .ok (.invokevirtual 142, 3) := dk_182 0 142 (dk_at dksX0_does_0 2 rfl rfl)
theorem dX0_does_5 : decode cX0_does 5 = .ok (.getfield 384, 3) := dk_180 1 128 (dk_at dksX0_does_0 5 rfl rfl)
theorem dX0_does_8 : decode cX0_does 8 = .ok (.invokevirtual 397, 3) := dk_182 1 141 (dk_at dksX0_does_0 8 rfl rfl)
theorem dX0_does_11 : decode cX0_does 11 = .ok (.astore 4, 2) := dk_58 4 (dk_at dksX0_does_0 11 rfl rfl)
theorem dX0_does_13 : decode cX0_does 13 = .ok (.aload_n 3, 1) := dk_45 (dk_at dksX0_does_0 13 rfl rfl)
theorem dX0_does_14 : decode cX0_does 14 = .ok (.aload 4, 2) := dk_25 4 (dk_at dksX0_does_0 14 rfl rfl)
theorem dX0_does_16 : decode cX0_does 16 = .ok (.invokevirtual 400, 3) := dk_182 1 144 (dk_at dksX0_does_0 16 rfl rfl)
theorem dX0_does_19 : decode cX0_does 19 = .ok (.aload_n 0, 1) := dk_42 (dk_at dksX0_does_0 19 rfl rfl)
theorem dX0_does_20 : decode cX0_does 20 = .ok (.iload_n 1, 1) := dk_27 (dk_at dksX0_does_0 20 rfl rfl)
theorem dX0_does_21 : decode cX0_does 21 = .ok (.iload_n 2, 1) := dk_28 (dk_at dksX0_does_0 21 rfl rfl)
theorem dX0_does_22 : decode cX0_does 22 = .ok (.aload 4, 2) := dk_25 4 (dk_at dksX0_does_0 22 rfl rfl)
theorem dX0_does_24 : decode cX0_does 24 = .ok (.aload_n 3, 1) := dk_45 (dk_at dksX0_does_1 0 rfl rfl)
theorem dX0_does_25 : decode cX0_does 25 = .ok (.getfield 177, 3) := dk_180 0 177 (dk_at dksX0_does_1 1 rfl rfl)
theorem dX0_does_28 : decode cX0_does 28 = .ok (.invokevirtual 402, 3) := dk_182 1 146 (dk_at dksX0_does_1 4 rfl rfl)
theorem dX0_does_31 : decode cX0_does 31 = .ok (.iconst 0, 1) := dk_3 (dk_at dksX0_does_1 7 rfl rfl)
theorem dX0_does_32 : decode cX0_does 32 = .ok (.ireturn, 1) := dk_172 (dk_at dksX0_does_1 8 rfl rfl)
theorem dX0_does_33 : decode cX0_does 33 = .ok (.astore 5, 2) := dk_58 5 (dk_at dksX0_does_1 9 rfl rfl)
theorem dX0_does_35 : decode cX0_does 35 = .ok (.aload_n 0, 1) := dk_42 (dk_at dksX0_does_1 11 rfl rfl)
theorem dX0_does_36 : decode cX0_does 36 = .ok (.aload 5, 2) := dk_25 5 (dk_at dksX0_does_1 12 rfl rfl)
theorem dX0_does_38 : decode cX0_does 38 = .ok (.putfield 103, 3) := dk_181 0 103 (dk_at dksX0_does_1 14 rfl rfl)
theorem dX0_does_41 : decode cX0_does 41 = .ok (.bipush (-5), 2) := dk_16 251 (dk_at dksX0_does_1 17 rfl rfl)
theorem dX0_does_43 : decode cX0_does 43 = .ok (.ireturn, 1) := dk_172 (dk_at dksX0_does_1 19 rfl rfl)
abbrev cX0_changes : ByteArray := prog_1_method_70_code
def yX0_changes : MethodName := ⟨RX0, "changes", "(IILCoincideBench$Rows;I)V"⟩
def dkwX0_changes_3 : List UInt8 := [25, 5, 183, 1, 138, 191, 58, 5, 187, 1, 136, 89, 27, 28, 25, 5, 183, 1, 138, 191, 177]
abbrev dktX0_changes_3 : List UInt8 := dkwX0_changes_3 ++ []
def dkwX0_changes_2 : List UInt8 := [182, 1, 132, 87, 42, 28, 182, 0, 142, 45, 181, 1, 128, 167, 0, 31, 58, 5, 187, 1, 136, 89, 27, 28]
abbrev dktX0_changes_2 : List UInt8 := dkwX0_changes_2 ++ dktX0_changes_3
def dkwX0_changes_1 : List UInt8 := [184, 1, 122, 42, 180, 0, 63, 187, 1, 126, 89, 28, 42, 28, 182, 0, 142, 180, 1, 128, 183, 1, 129]
abbrev dktX0_changes_1 : List UInt8 := dkwX0_changes_1 ++ dktX0_changes_2
def dkwX0_changes_0 : List UInt8 := [42, 180, 0, 63, 182, 0, 115, 16, 20, 160, 0, 11, 187, 1, 119, 89, 183, 1, 121, 191, 45, 21, 4]
abbrev dktX0_changes_0 : List UInt8 := dkwX0_changes_0 ++ dktX0_changes_1
theorem dksX0_changes_0 : cX0_changes.data.toList.drop 0 = dktX0_changes_0 := by decide +kernel
theorem dksX0_changes_1 : cX0_changes.data.toList.drop 23 = dktX0_changes_1 := dk_seg dksX0_changes_0 23 rfl rfl
theorem dksX0_changes_2 : cX0_changes.data.toList.drop 46 = dktX0_changes_2 := dk_seg dksX0_changes_1 23 rfl rfl
theorem dksX0_changes_3 : cX0_changes.data.toList.drop 70 = dktX0_changes_3 := dk_seg dksX0_changes_2 24 rfl rfl
theorem dX0_changes_0 : decode cX0_changes 0 = .ok (.aload_n 0, 1) := dk_42 (dk_at dksX0_changes_0 0 rfl rfl)
theorem dX0_changes_1 : decode cX0_changes 1 = .ok (.getfield 63, 3) := dk_180 0 63 (dk_at dksX0_changes_0 1 rfl rfl)
theorem dX0_changes_4 : decode cX0_changes 4 = .ok (.invokevirtual 115, 3) := dk_182 0 115 (dk_at dksX0_changes_0 4 rfl rfl)
theorem dX0_changes_7 : decode cX0_changes 7 = .ok (.bipush 20, 2) := dk_16 20 (dk_at dksX0_changes_0 7 rfl rfl)
theorem dX0_changes_9 : decode cX0_changes 9 = .ok (.if_icmp .ne 11, 3) := dk_160 0 11 (dk_at dksX0_changes_0 9 rfl rfl)
theorem dX0_changes_12 : decode cX0_changes 12 = .ok (.new 375, 3) := dk_187 1 119 (dk_at dksX0_changes_0 12 rfl rfl)
theorem dX0_changes_15 : decode cX0_changes 15 = .ok (.dup, 1) := dk_89 (dk_at dksX0_changes_0 15 rfl rfl)
theorem dX0_changes_16 : decode cX0_changes 16 = .ok (.invokespecial 377, 3) := dk_183 1 121 (dk_at dksX0_changes_0 16 rfl rfl)
theorem dX0_changes_19 : decode cX0_changes 19 = .ok (.athrow, 1) := dk_191 (dk_at dksX0_changes_0 19 rfl rfl)
theorem dX0_changes_20 : decode cX0_changes 20 = .ok (.aload_n 3, 1) := dk_45 (dk_at dksX0_changes_0 20 rfl rfl)
theorem dX0_changes_21 : decode cX0_changes 21 = .ok (.iload 4, 2) := dk_21 4 (dk_at dksX0_changes_0 21 rfl rfl)
theorem dX0_changes_23 : decode cX0_changes 23 = .ok (.invokestatic 378, 3) := dk_184 1 122 (dk_at dksX0_changes_1 0 rfl rfl)
theorem dX0_changes_26 : decode cX0_changes 26 = .ok (.aload_n 0, 1) := dk_42 (dk_at dksX0_changes_1 3 rfl rfl)
theorem dX0_changes_27 : decode cX0_changes 27 = .ok (.getfield 63, 3) := dk_180 0 63 (dk_at dksX0_changes_1 4 rfl rfl)
theorem dX0_changes_30 : decode cX0_changes 30 = .ok (.new 382, 3) := dk_187 1 126 (dk_at dksX0_changes_1 7 rfl rfl)
theorem dX0_changes_33 : decode cX0_changes 33 = .ok (.dup, 1) := dk_89 (dk_at dksX0_changes_1 10 rfl rfl)
theorem dX0_changes_34 : decode cX0_changes 34 = .ok (.iload_n 2, 1) := dk_28 (dk_at dksX0_changes_1 11 rfl rfl)
theorem dX0_changes_35 : decode cX0_changes 35 = .ok (.aload_n 0, 1) := dk_42 (dk_at dksX0_changes_1 12 rfl rfl)
theorem dX0_changes_36 : decode cX0_changes 36 = .ok (.iload_n 2, 1) := dk_28 (dk_at dksX0_changes_1 13 rfl rfl)
theorem dX0_changes_37 : decode cX0_changes 37 = .ok (.invokevirtual 142, 3) := dk_182 0 142 (dk_at dksX0_changes_1 14 rfl rfl)
theorem dX0_changes_40 : decode cX0_changes 40 = .ok (.getfield 384, 3) := dk_180 1 128 (dk_at dksX0_changes_1 17 rfl rfl)
theorem dX0_changes_43 : decode cX0_changes 43 = .ok (.invokespecial 385, 3) := dk_183 1 129 (dk_at dksX0_changes_1 20 rfl rfl)
theorem dX0_changes_46 : decode cX0_changes 46 = .ok (.invokevirtual 388, 3) := dk_182 1 132 (dk_at dksX0_changes_2 0 rfl rfl)
theorem dX0_changes_49 : decode cX0_changes 49 = .ok (.pop, 1) := dk_87 (dk_at dksX0_changes_2 3 rfl rfl)
theorem dX0_changes_50 : decode cX0_changes 50 = .ok (.aload_n 0, 1) := dk_42 (dk_at dksX0_changes_2 4 rfl rfl)
theorem dX0_changes_51 : decode cX0_changes 51 = .ok (.iload_n 2, 1) := dk_28 (dk_at dksX0_changes_2 5 rfl rfl)
theorem dX0_changes_52 : decode cX0_changes 52 = .ok (.invokevirtual 142, 3) := dk_182 0 142 (dk_at dksX0_changes_2 6 rfl rfl)
theorem dX0_changes_55 : decode cX0_changes 55 = .ok (.aload_n 3, 1) := dk_45 (dk_at dksX0_changes_2 9 rfl rfl)
theorem dX0_changes_56 : decode cX0_changes 56 = .ok (.putfield 384, 3) := dk_181 1 128 (dk_at dksX0_changes_2 10 rfl rfl)
theorem dX0_changes_59 : decode cX0_changes 59 = .ok (.goto 31, 3) := dk_167 0 31 (dk_at dksX0_changes_2 13 rfl rfl)
theorem dX0_changes_62 : decode cX0_changes 62 = .ok (.astore 5, 2) := dk_58 5 (dk_at dksX0_changes_2 16 rfl rfl)
theorem dX0_changes_64 : decode cX0_changes 64 = .ok (.new 392, 3) := dk_187 1 136 (dk_at dksX0_changes_2 18 rfl rfl)
theorem dX0_changes_67 : decode cX0_changes 67 = .ok (.dup, 1) := dk_89 (dk_at dksX0_changes_2 21 rfl rfl)
theorem dX0_changes_68 : decode cX0_changes 68 = .ok (.iload_n 1, 1) := dk_27 (dk_at dksX0_changes_2 22 rfl rfl)
theorem dX0_changes_69 : decode cX0_changes 69 = .ok (.iload_n 2, 1) := dk_28 (dk_at dksX0_changes_2 23 rfl rfl)
theorem dX0_changes_70 : decode cX0_changes 70 = .ok (.aload 5, 2) := dk_25 5 (dk_at dksX0_changes_3 0 rfl rfl)
theorem dX0_changes_72 : decode cX0_changes 72 = .ok (.invokespecial 394, 3) := dk_183 1 138 (dk_at dksX0_changes_3 2 rfl rfl)
theorem dX0_changes_75 : decode cX0_changes 75 = .ok (.athrow, 1) := dk_191 (dk_at dksX0_changes_3 5 rfl rfl)
theorem dX0_changes_76 : decode cX0_changes 76 = .ok (.astore 5, 2) := dk_58 5 (dk_at dksX0_changes_3 6 rfl rfl)
theorem dX0_changes_78 : decode cX0_changes 78 = .ok (.new 392, 3) := dk_187 1 136 (dk_at dksX0_changes_3 8 rfl rfl)
theorem dX0_changes_81 : decode cX0_changes 81 = .ok (.dup, 1) := dk_89 (dk_at dksX0_changes_3 11 rfl rfl)
theorem dX0_changes_82 : decode cX0_changes 82 = .ok (.iload_n 1, 1) := dk_27 (dk_at dksX0_changes_3 12 rfl rfl)
theorem dX0_changes_83 : decode cX0_changes 83 = .ok (.iload_n 2, 1) := dk_28 (dk_at dksX0_changes_3 13 rfl rfl)
theorem dX0_changes_84 : decode cX0_changes 84 = .ok (.aload 5, 2) := dk_25 5 (dk_at dksX0_changes_3 14 rfl rfl)
theorem dX0_changes_86 : decode cX0_changes 86 = .ok (.invokespecial 394, 3) := dk_183 1 138 (dk_at dksX0_changes_3 16 rfl rfl)
theorem dX0_changes_89 : decode cX0_changes 89 = .ok (.athrow, 1) := dk_191 (dk_at dksX0_changes_3 19 rfl rfl)
theorem dX0_changes_90 : decode cX0_changes 90 = .ok (.return_, 1) := dk_177 (dk_at dksX0_changes_3 20 rfl rfl)
abbrev cX0_checks : ByteArray := prog_1_method_69_code
def yX0_checks : MethodName := ⟨RX0, "checks", "(LCoincideBench$Rows;I)V"⟩
def dkwX0_checks_2 : List UInt8 := [184, 0, 1, 10, 20, 1, 114, 184, 0, 72, 154, 0, 12, 187, 1, 116, 89, 27, 183, 1, 118, 191, 177]
abbrev dktX0_checks_2 : List UInt8 := dkwX0_checks_2 ++ []
def dkwX0_checks_1 : List UInt8 := [158, 0, 12, 187, 1, 111, 89, 27, 183, 1, 113, 191, 132, 2, 1, 167, 255, 221, 42, 182, 0, 192]
abbrev dktX0_checks_1 : List UInt8 := dkwX0_checks_1 ++ dktX0_checks_2
def dkwX0_checks_0 : List UInt8 := [3, 61, 28, 6, 162, 0, 36, 42, 180, 0, 150, 27, 50, 28, 47, 184, 0, 1, 20, 1, 109, 148]
abbrev dktX0_checks_0 : List UInt8 := dkwX0_checks_0 ++ dktX0_checks_1
theorem dksX0_checks_0 : cX0_checks.data.toList.drop 0 = dktX0_checks_0 := by decide +kernel
theorem dksX0_checks_1 : cX0_checks.data.toList.drop 22 = dktX0_checks_1 := dk_seg dksX0_checks_0 22 rfl rfl
theorem dksX0_checks_2 : cX0_checks.data.toList.drop 44 = dktX0_checks_2 := dk_seg dksX0_checks_1 22 rfl rfl
theorem dX0_checks_0 : decode cX0_checks 0 = .ok (.iconst 0, 1) := dk_3 (dk_at dksX0_checks_0 0 rfl rfl)
theorem dX0_checks_1 : decode cX0_checks 1 = .ok (.istore_n 2, 1) := dk_61 (dk_at dksX0_checks_0 1 rfl rfl)
theorem dX0_checks_2 : decode cX0_checks 2 = .ok (.iload_n 2, 1) := dk_28 (dk_at dksX0_checks_0 2 rfl rfl)
theorem dX0_checks_3 : decode cX0_checks 3 = .ok (.iconst 3, 1) := dk_6 (dk_at dksX0_checks_0 3 rfl rfl)
theorem dX0_checks_4 : decode cX0_checks 4 = .ok (.if_icmp .ge 36, 3) := dk_162 0 36 (dk_at dksX0_checks_0 4 rfl rfl)
theorem dX0_checks_7 : decode cX0_checks 7 = .ok (.aload_n 0, 1) := dk_42 (dk_at dksX0_checks_0 7 rfl rfl)
theorem dX0_checks_8 : decode cX0_checks 8 = .ok (.getfield 150, 3) := dk_180 0 150 (dk_at dksX0_checks_0 8 rfl rfl)
theorem dX0_checks_11 : decode cX0_checks 11 = .ok (.iload_n 1, 1) := dk_27 (dk_at dksX0_checks_0 11 rfl rfl)
theorem dX0_checks_12 : decode cX0_checks 12 = .ok (.aaload, 1) := dk_50 (dk_at dksX0_checks_0 12 rfl rfl)
theorem dX0_checks_13 : decode cX0_checks 13 = .ok (.iload_n 2, 1) := dk_28 (dk_at dksX0_checks_0 13 rfl rfl)
theorem dX0_checks_14 : decode cX0_checks 14 = .ok (.laload, 1) := dk_47 (dk_at dksX0_checks_0 14 rfl rfl)
theorem dX0_checks_15 : decode cX0_checks 15 = .ok (.invokestatic 1, 3) := dk_184 0 1 (dk_at dksX0_checks_0 15 rfl rfl)
theorem dX0_checks_18 : decode cX0_checks 18 = .ok (.ldc2_w 365, 3) := dk_20 1 109 (dk_at dksX0_checks_0 18 rfl rfl)
theorem dX0_checks_21 : decode cX0_checks 21 = .ok (.lcmp, 1) := dk_148 (dk_at dksX0_checks_0 21 rfl rfl)
theorem dX0_checks_22 : decode cX0_checks 22 = .ok (.ifCond .le 12, 3) := dk_158 0 12 (dk_at dksX0_checks_1 0 rfl rfl)
theorem dX0_checks_25 : decode cX0_checks 25 = .ok (.new 367, 3) := dk_187 1 111 (dk_at dksX0_checks_1 3 rfl rfl)
theorem dX0_checks_28 : decode cX0_checks 28 = .ok (.dup, 1) := dk_89 (dk_at dksX0_checks_1 6 rfl rfl)
theorem dX0_checks_29 : decode cX0_checks 29 = .ok (.iload_n 1, 1) := dk_27 (dk_at dksX0_checks_1 7 rfl rfl)
theorem dX0_checks_30 : decode cX0_checks 30 = .ok (.invokespecial 369, 3) := dk_183 1 113 (dk_at dksX0_checks_1 8 rfl rfl)
theorem dX0_checks_33 : decode cX0_checks 33 = .ok (.athrow, 1) := dk_191 (dk_at dksX0_checks_1 11 rfl rfl)
theorem dX0_checks_34 : decode cX0_checks 34 = .ok (.iinc 2 1, 3) := dk_132 2 1 (dk_at dksX0_checks_1 12 rfl rfl)
theorem dX0_checks_37 : decode cX0_checks 37 = .ok (.goto (-35), 3) := dk_167 255 221 (dk_at dksX0_checks_1 15 rfl rfl)
theorem dX0_checks_40 : decode cX0_checks 40 = .ok (.aload_n 0, 1) := dk_42 (dk_at dksX0_checks_1 18 rfl rfl)
theorem dX0_checks_41 : decode cX0_checks 41 = .ok (.invokevirtual 192, 3) := dk_182 0 192 (dk_at dksX0_checks_1 19 rfl rfl)
theorem dX0_checks_44 : decode cX0_checks 44 = .ok (.invokestatic 1, 3) := dk_184 0 1 (dk_at dksX0_checks_2 0 rfl rfl)
theorem dX0_checks_47 : decode cX0_checks 47 = .ok (.lconst 1, 1) := dk_10 (dk_at dksX0_checks_2 3 rfl rfl)
theorem dX0_checks_48 : decode cX0_checks 48 = .ok (.ldc2_w 370, 3) := dk_20 1 114 (dk_at dksX0_checks_2 4 rfl rfl)
theorem dX0_checks_51 : decode cX0_checks 51 = .ok (.invokestatic 72, 3) := dk_184 0 72 (dk_at dksX0_checks_2 7 rfl rfl)
theorem dX0_checks_54 : decode cX0_checks 54 = .ok (.ifCond .ne 12, 3) := dk_154 0 12 (dk_at dksX0_checks_2 10 rfl rfl)
theorem dX0_checks_57 : decode cX0_checks 57 = .ok (.new 372, 3) := dk_187 1 116 (dk_at dksX0_checks_2 13 rfl rfl)
theorem dX0_checks_60 : decode cX0_checks 60 = .ok (.dup, 1) := dk_89 (dk_at dksX0_checks_2 16 rfl rfl)
theorem dX0_checks_61 : decode cX0_checks 61 = .ok (.iload_n 1, 1) := dk_27 (dk_at dksX0_checks_2 17 rfl rfl)
theorem dX0_checks_62 : decode cX0_checks 62 = .ok (.invokespecial 374, 3) := dk_183 1 118 (dk_at dksX0_checks_2 18 rfl rfl)
theorem dX0_checks_65 : decode cX0_checks 65 = .ok (.athrow, 1) := dk_191 (dk_at dksX0_checks_2 21 rfl rfl)
theorem dX0_checks_66 : decode cX0_checks 66 = .ok (.return_, 1) := dk_177 (dk_at dksX0_checks_2 22 rfl rfl)
abbrev cX0_exchange : ByteArray := prog_1_method_74_code
def yX0_exchange : MethodName := ⟨RX0, "exchange", "(III)I"⟩
def dkwX0_exchange_2 : List UInt8 := [16, 254, 172]
abbrev dktX0_exchange_2 : List UInt8 := dkwX0_exchange_2 ++ []
def dkwX0_exchange_1 : List UInt8 := [159, 0, 23, 42, 5, 27, 187, 0, 174, 89, 3, 28, 29, 9, 183, 1, 157, 182, 1, 160, 167, 0, 5]
abbrev dktX0_exchange_1 : List UInt8 := dkwX0_exchange_1 ++ dktX0_exchange_2
def dkwX0_exchange_0 : List UInt8 := [42, 27, 182, 1, 150, 153, 0, 42, 28, 184, 0, 135, 153, 0, 35, 29, 184, 0, 135, 153, 0, 28, 28, 29]
abbrev dktX0_exchange_0 : List UInt8 := dkwX0_exchange_0 ++ dktX0_exchange_1
theorem dksX0_exchange_0 : cX0_exchange.data.toList.drop 0 = dktX0_exchange_0 := by decide +kernel
theorem dksX0_exchange_1 : cX0_exchange.data.toList.drop 24 = dktX0_exchange_1 := dk_seg dksX0_exchange_0 24 rfl rfl
theorem dksX0_exchange_2 : cX0_exchange.data.toList.drop 47 = dktX0_exchange_2 := dk_seg dksX0_exchange_1 23 rfl rfl
theorem dX0_exchange_0 : decode cX0_exchange 0 = .ok (.aload_n 0, 1) := dk_42 (dk_at dksX0_exchange_0 0 rfl rfl)
theorem dX0_exchange_1 : decode cX0_exchange 1 = .ok (.iload_n 1, 1) := dk_27 (dk_at dksX0_exchange_0 1 rfl rfl)
theorem dX0_exchange_2 : decode cX0_exchange 2 = .ok (.invokevirtual 406, 3) := dk_182 1 150 (dk_at dksX0_exchange_0 2 rfl rfl)
theorem dX0_exchange_5 : decode cX0_exchange 5 = .ok (.ifCond .eq 42, 3) := dk_153 0 42 (dk_at dksX0_exchange_0 5 rfl rfl)
theorem dX0_exchange_8 : decode cX0_exchange 8 = .ok (.iload_n 2, 1) := dk_28 (dk_at dksX0_exchange_0 8 rfl rfl)
theorem dX0_exchange_9 : decode cX0_exchange 9 = .ok (.invokestatic 135, 3) := dk_184 0 135 (dk_at dksX0_exchange_0 9 rfl rfl)
theorem dX0_exchange_12 : decode cX0_exchange 12 = .ok (.ifCond .eq 35, 3) := dk_153 0 35 (dk_at dksX0_exchange_0 12 rfl rfl)
theorem dX0_exchange_15 : decode cX0_exchange 15 = .ok (.iload_n 3, 1) := dk_29 (dk_at dksX0_exchange_0 15 rfl rfl)
theorem dX0_exchange_16 : decode cX0_exchange 16 = .ok (.invokestatic 135, 3) := dk_184 0 135 (dk_at dksX0_exchange_0 16 rfl rfl)
theorem dX0_exchange_19 : decode cX0_exchange 19 = .ok (.ifCond .eq 28, 3) := dk_153 0 28 (dk_at dksX0_exchange_0 19 rfl rfl)
theorem dX0_exchange_22 : decode cX0_exchange 22 = .ok (.iload_n 2, 1) := dk_28 (dk_at dksX0_exchange_0 22 rfl rfl)
theorem dX0_exchange_23 : decode cX0_exchange 23 = .ok (.iload_n 3, 1) := dk_29 (dk_at dksX0_exchange_0 23 rfl rfl)
theorem dX0_exchange_24 : decode cX0_exchange 24 = .ok (.if_icmp .eq 23, 3) := dk_159 0 23 (dk_at dksX0_exchange_1 0 rfl rfl)
theorem dX0_exchange_27 : decode cX0_exchange 27 = .ok (.aload_n 0, 1) := dk_42 (dk_at dksX0_exchange_1 3 rfl rfl)
theorem dX0_exchange_28 : decode cX0_exchange 28 = .ok (.iconst 2, 1) := dk_5 (dk_at dksX0_exchange_1 4 rfl rfl)
theorem dX0_exchange_29 : decode cX0_exchange 29 = .ok (.iload_n 1, 1) := dk_27 (dk_at dksX0_exchange_1 5 rfl rfl)
theorem dX0_exchange_30 : decode cX0_exchange 30 = .ok (.new 174, 3) := dk_187 0 174 (dk_at dksX0_exchange_1 6 rfl rfl)
theorem dX0_exchange_33 : decode cX0_exchange 33 = .ok (.dup, 1) := dk_89 (dk_at dksX0_exchange_1 9 rfl rfl)
theorem dX0_exchange_34 : decode cX0_exchange 34 = .ok (.iconst 0, 1) := dk_3 (dk_at dksX0_exchange_1 10 rfl rfl)
theorem dX0_exchange_35 : decode cX0_exchange 35 = .ok (.iload_n 2, 1) := dk_28 (dk_at dksX0_exchange_1 11 rfl rfl)
theorem dX0_exchange_36 : decode cX0_exchange 36 = .ok (.iload_n 3, 1) := dk_29 (dk_at dksX0_exchange_1 12 rfl rfl)
theorem dX0_exchange_37 : decode cX0_exchange 37 = .ok (.lconst 0, 1) := dk_9 (dk_at dksX0_exchange_1 13 rfl rfl)
theorem dX0_exchange_38 : decode cX0_exchange 38 = .ok (.invokespecial 413, 3) := dk_183 1 157 (dk_at dksX0_exchange_1 14 rfl rfl)
theorem dX0_exchange_41 : decode cX0_exchange 41 = .ok (.invokevirtual 416, 3) := dk_182 1 160 (dk_at dksX0_exchange_1 17 rfl rfl)
theorem dX0_exchange_44 : decode cX0_exchange 44 = .ok (.goto 5, 3) := dk_167 0 5 (dk_at dksX0_exchange_1 20 rfl rfl)
theorem dX0_exchange_47 : decode cX0_exchange 47 = .ok (.bipush (-2), 2) := dk_16 254 (dk_at dksX0_exchange_2 0 rfl rfl)
theorem dX0_exchange_49 : decode cX0_exchange 49 = .ok (.ireturn, 1) := dk_172 (dk_at dksX0_exchange_2 2 rfl rfl)
abbrev cX0_negate : ByteArray := prog_1_method_75_code
def yX0_negate : MethodName := ⟨RX0, "negate", "(II)I"⟩
def dkwX0_negate_1 : List UInt8 := [2, 9, 183, 1, 157, 182, 1, 160, 167, 0, 5, 16, 254, 172]
abbrev dktX0_negate_1 : List UInt8 := dkwX0_negate_1 ++ []
def dkwX0_negate_0 : List UInt8 := [42, 27, 182, 1, 150, 153, 0, 30, 28, 184, 0, 135, 153, 0, 23, 42, 6, 27, 187, 0, 174, 89, 5, 28]
abbrev dktX0_negate_0 : List UInt8 := dkwX0_negate_0 ++ dktX0_negate_1
theorem dksX0_negate_0 : cX0_negate.data.toList.drop 0 = dktX0_negate_0 := by decide +kernel
theorem dksX0_negate_1 : cX0_negate.data.toList.drop 24 = dktX0_negate_1 := dk_seg dksX0_negate_0 24 rfl rfl
theorem dX0_negate_0 : decode cX0_negate 0 = .ok (.aload_n 0, 1) := dk_42 (dk_at dksX0_negate_0 0 rfl rfl)
theorem dX0_negate_1 : decode cX0_negate 1 = .ok (.iload_n 1, 1) := dk_27 (dk_at dksX0_negate_0 1 rfl rfl)
theorem dX0_negate_2 : decode cX0_negate 2 = .ok (.invokevirtual 406, 3) := dk_182 1 150 (dk_at dksX0_negate_0 2 rfl rfl)
theorem dX0_negate_5 : decode cX0_negate 5 = .ok (.ifCond .eq 30, 3) := dk_153 0 30 (dk_at dksX0_negate_0 5 rfl rfl)
theorem dX0_negate_8 : decode cX0_negate 8 = .ok (.iload_n 2, 1) := dk_28 (dk_at dksX0_negate_0 8 rfl rfl)
theorem dX0_negate_9 : decode cX0_negate 9 = .ok (.invokestatic 135, 3) := dk_184 0 135 (dk_at dksX0_negate_0 9 rfl rfl)
theorem dX0_negate_12 : decode cX0_negate 12 = .ok (.ifCond .eq 23, 3) := dk_153 0 23 (dk_at dksX0_negate_0 12 rfl rfl)
theorem dX0_negate_15 : decode cX0_negate 15 = .ok (.aload_n 0, 1) := dk_42 (dk_at dksX0_negate_0 15 rfl rfl)
theorem dX0_negate_16 : decode cX0_negate 16 = .ok (.iconst 3, 1) := dk_6 (dk_at dksX0_negate_0 16 rfl rfl)
theorem dX0_negate_17 : decode cX0_negate 17 = .ok (.iload_n 1, 1) := dk_27 (dk_at dksX0_negate_0 17 rfl rfl)
theorem dX0_negate_18 : decode cX0_negate 18 = .ok (.new 174, 3) := dk_187 0 174 (dk_at dksX0_negate_0 18 rfl rfl)
theorem dX0_negate_21 : decode cX0_negate 21 = .ok (.dup, 1) := dk_89 (dk_at dksX0_negate_0 21 rfl rfl)
theorem dX0_negate_22 : decode cX0_negate 22 = .ok (.iconst 2, 1) := dk_5 (dk_at dksX0_negate_0 22 rfl rfl)
theorem dX0_negate_23 : decode cX0_negate 23 = .ok (.iload_n 2, 1) := dk_28 (dk_at dksX0_negate_0 23 rfl rfl)
theorem dX0_negate_24 : decode cX0_negate 24 = .ok (.iconst (-1), 1) := dk_2 (dk_at dksX0_negate_1 0 rfl rfl)
theorem dX0_negate_25 : decode cX0_negate 25 = .ok (.lconst 0, 1) := dk_9 (dk_at dksX0_negate_1 1 rfl rfl)
theorem dX0_negate_26 : decode cX0_negate 26 = .ok (.invokespecial 413, 3) := dk_183 1 157 (dk_at dksX0_negate_1 2 rfl rfl)
theorem dX0_negate_29 : decode cX0_negate 29 = .ok (.invokevirtual 416, 3) := dk_182 1 160 (dk_at dksX0_negate_1 5 rfl rfl)
theorem dX0_negate_32 : decode cX0_negate 32 = .ok (.goto 5, 3) := dk_167 0 5 (dk_at dksX0_negate_1 8 rfl rfl)
theorem dX0_negate_35 : decode cX0_negate 35 = .ok (.bipush (-2), 2) := dk_16 254 (dk_at dksX0_negate_1 11 rfl rfl)
theorem dX0_negate_37 : decode cX0_negate 37 = .ok (.ireturn, 1) := dk_172 (dk_at dksX0_negate_1 13 rfl rfl)
abbrev cX0_put : ByteArray := prog_1_method_76_code
def yX0_put : MethodName := ⟨RX0, "put", "(IIII)I"⟩
def dkwX0_put_4 : List UInt8 := [42, 25, 7, 181, 0, 103, 17, 248, 48, 172]
abbrev dktX0_put_4 : List UInt8 := dkwX0_put_4 ++ []
def dkwX0_put_3 : List UInt8 := [180, 0, 150, 28, 50, 29, 21, 4, 133, 80, 42, 7, 27, 25, 5, 28, 182, 1, 146, 21, 6, 172, 58, 7]
abbrev dktX0_put_3 : List UInt8 := dkwX0_put_3 ++ dktX0_put_4
def dkwX0_put_2 : List UInt8 := [180, 1, 128, 182, 1, 141, 58, 5, 25, 5, 180, 0, 150, 28, 50, 29, 47, 136, 54, 6, 25, 5]
abbrev dktX0_put_2 : List UInt8 := dkwX0_put_2 ++ dktX0_put_3
def dkwX0_put_1 : List UInt8 := [133, 20, 1, 164, 20, 1, 166, 184, 0, 72, 154, 0, 7, 17, 252, 24, 172, 42, 27, 182, 0, 142]
abbrev dktX0_put_1 : List UInt8 := dkwX0_put_1 ++ dktX0_put_2
def dkwX0_put_0 : List UInt8 := [42, 27, 182, 1, 150, 153, 0, 32, 28, 184, 0, 135, 153, 0, 25, 29, 184, 0, 135, 153, 0, 18, 21, 4]
abbrev dktX0_put_0 : List UInt8 := dkwX0_put_0 ++ dktX0_put_1
theorem dksX0_put_0 : cX0_put.data.toList.drop 0 = dktX0_put_0 := by decide +kernel
theorem dksX0_put_1 : cX0_put.data.toList.drop 24 = dktX0_put_1 := dk_seg dksX0_put_0 24 rfl rfl
theorem dksX0_put_2 : cX0_put.data.toList.drop 46 = dktX0_put_2 := dk_seg dksX0_put_1 22 rfl rfl
theorem dksX0_put_3 : cX0_put.data.toList.drop 68 = dktX0_put_3 := dk_seg dksX0_put_2 22 rfl rfl
theorem dksX0_put_4 : cX0_put.data.toList.drop 92 = dktX0_put_4 := dk_seg dksX0_put_3 24 rfl rfl
theorem dX0_put_0 : decode cX0_put 0 = .ok (.aload_n 0, 1) := dk_42 (dk_at dksX0_put_0 0 rfl rfl)
theorem dX0_put_1 : decode cX0_put 1 = .ok (.iload_n 1, 1) := dk_27 (dk_at dksX0_put_0 1 rfl rfl)
theorem dX0_put_2 : decode cX0_put 2 = .ok (.invokevirtual 406, 3) := dk_182 1 150 (dk_at dksX0_put_0 2 rfl rfl)
theorem dX0_put_5 : decode cX0_put 5 = .ok (.ifCond .eq 32, 3) := dk_153 0 32 (dk_at dksX0_put_0 5 rfl rfl)
theorem dX0_put_8 : decode cX0_put 8 = .ok (.iload_n 2, 1) := dk_28 (dk_at dksX0_put_0 8 rfl rfl)
theorem dX0_put_9 : decode cX0_put 9 = .ok (.invokestatic 135, 3) := dk_184 0 135 (dk_at dksX0_put_0 9 rfl rfl)
theorem dX0_put_12 : decode cX0_put 12 = .ok (.ifCond .eq 25, 3) := dk_153 0 25 (dk_at dksX0_put_0 12 rfl rfl)
theorem dX0_put_15 : decode cX0_put 15 = .ok (.iload_n 3, 1) := dk_29 (dk_at dksX0_put_0 15 rfl rfl)
theorem dX0_put_16 : decode cX0_put 16 = .ok (.invokestatic 135, 3) := dk_184 0 135 (dk_at dksX0_put_0 16 rfl rfl)
theorem dX0_put_19 : decode cX0_put 19 = .ok (.ifCond .eq 18, 3) := dk_153 0 18 (dk_at dksX0_put_0 19 rfl rfl)
theorem dX0_put_22 : decode cX0_put 22 = .ok (.iload 4, 2) := dk_21 4 (dk_at dksX0_put_0 22 rfl rfl)
theorem dX0_put_24 : decode cX0_put 24 = .ok (.i2l, 1) := dk_133 (dk_at dksX0_put_1 0 rfl rfl)
theorem dX0_put_25 : decode cX0_put 25 = .ok (.ldc2_w 420, 3) := dk_20 1 164 (dk_at dksX0_put_1 1 rfl rfl)
theorem dX0_put_28 : decode cX0_put 28 = .ok (.ldc2_w 422, 3) := dk_20 1 166 (dk_at dksX0_put_1 4 rfl rfl)
theorem dX0_put_31 : decode cX0_put 31 = .ok (.invokestatic 72, 3) := dk_184 0 72 (dk_at dksX0_put_1 7 rfl rfl)
theorem dX0_put_34 : decode cX0_put 34 = .ok (.ifCond .ne 7, 3) := dk_154 0 7 (dk_at dksX0_put_1 10 rfl rfl)
theorem dX0_put_37 : decode cX0_put 37 = .ok (.sipush (-1000), 3) := dk_17 252 24 (dk_at dksX0_put_1 13 rfl rfl)
theorem dX0_put_40 : decode cX0_put 40 = .ok (.ireturn, 1) := dk_172 (dk_at dksX0_put_1 16 rfl rfl)
theorem dX0_put_41 : decode cX0_put 41 = .ok (.aload_n 0, 1) := dk_42 (dk_at dksX0_put_1 17 rfl rfl)
theorem dX0_put_42 : decode cX0_put 42 = .ok (.iload_n 1, 1) := dk_27 (dk_at dksX0_put_1 18 rfl rfl)
theorem dX0_put_43 : decode cX0_put 43 = .ok (.invokevirtual 142, 3) := dk_182 0 142 (dk_at dksX0_put_1 19 rfl rfl)
theorem dX0_put_46 : decode cX0_put 46 = .ok (.getfield 384, 3) := dk_180 1 128 (dk_at dksX0_put_2 0 rfl rfl)
theorem dX0_put_49 : decode cX0_put 49 = .ok (.invokevirtual 397, 3) := dk_182 1 141 (dk_at dksX0_put_2 3 rfl rfl)
theorem dX0_put_52 : decode cX0_put 52 = .ok (.astore 5, 2) := dk_58 5 (dk_at dksX0_put_2 6 rfl rfl)
theorem dX0_put_54 : decode cX0_put 54 = .ok (.aload 5, 2) := dk_25 5 (dk_at dksX0_put_2 8 rfl rfl)
theorem dX0_put_56 : decode cX0_put 56 = .ok (.getfield 150, 3) := dk_180 0 150 (dk_at dksX0_put_2 10 rfl rfl)
theorem dX0_put_59 : decode cX0_put 59 = .ok (.iload_n 2, 1) := dk_28 (dk_at dksX0_put_2 13 rfl rfl)
theorem dX0_put_60 : decode cX0_put 60 = .ok (.aaload, 1) := dk_50 (dk_at dksX0_put_2 14 rfl rfl)
theorem dX0_put_61 : decode cX0_put 61 = .ok (.iload_n 3, 1) := dk_29 (dk_at dksX0_put_2 15 rfl rfl)
theorem dX0_put_62 : decode cX0_put 62 = .ok (.laload, 1) := dk_47 (dk_at dksX0_put_2 16 rfl rfl)
theorem dX0_put_63 : decode cX0_put 63 = .ok (.l2i, 1) := dk_136 (dk_at dksX0_put_2 17 rfl rfl)
theorem dX0_put_64 : decode cX0_put 64 = .ok (.istore 6, 2) := dk_54 6 (dk_at dksX0_put_2 18 rfl rfl)
theorem dX0_put_66 : decode cX0_put 66 = .ok (.aload 5, 2) := dk_25 5 (dk_at dksX0_put_2 20 rfl rfl)
theorem dX0_put_68 : decode cX0_put 68 = .ok (.getfield 150, 3) := dk_180 0 150 (dk_at dksX0_put_3 0 rfl rfl)
theorem dX0_put_71 : decode cX0_put 71 = .ok (.iload_n 2, 1) := dk_28 (dk_at dksX0_put_3 3 rfl rfl)
theorem dX0_put_72 : decode cX0_put 72 = .ok (.aaload, 1) := dk_50 (dk_at dksX0_put_3 4 rfl rfl)
theorem dX0_put_73 : decode cX0_put 73 = .ok (.iload_n 3, 1) := dk_29 (dk_at dksX0_put_3 5 rfl rfl)
theorem dX0_put_74 : decode cX0_put 74 = .ok (.iload 4, 2) := dk_21 4 (dk_at dksX0_put_3 6 rfl rfl)
theorem dX0_put_76 : decode cX0_put 76 = .ok (.i2l, 1) := dk_133 (dk_at dksX0_put_3 8 rfl rfl)
theorem dX0_put_77 : decode cX0_put 77 = .ok (.lastore, 1) := dk_80 (dk_at dksX0_put_3 9 rfl rfl)
theorem dX0_put_78 : decode cX0_put 78 = .ok (.aload_n 0, 1) := dk_42 (dk_at dksX0_put_3 10 rfl rfl)
theorem dX0_put_79 : decode cX0_put 79 = .ok (.iconst 4, 1) := dk_7 (dk_at dksX0_put_3 11 rfl rfl)
theorem dX0_put_80 : decode cX0_put 80 = .ok (.iload_n 1, 1) := dk_27 (dk_at dksX0_put_3 12 rfl rfl)
theorem dX0_put_81 : decode cX0_put 81 = .ok (.aload 5, 2) := dk_25 5 (dk_at dksX0_put_3 13 rfl rfl)
theorem dX0_put_83 : decode cX0_put 83 = .ok (.iload_n 2, 1) := dk_28 (dk_at dksX0_put_3 15 rfl rfl)
theorem dX0_put_84 : decode cX0_put 84 = .ok (.invokevirtual 402, 3) := dk_182 1 146 (dk_at dksX0_put_3 16 rfl rfl)
theorem dX0_put_87 : decode cX0_put 87 = .ok (.iload 6, 2) := dk_21 6 (dk_at dksX0_put_3 19 rfl rfl)
theorem dX0_put_89 : decode cX0_put 89 = .ok (.ireturn, 1) := dk_172 (dk_at dksX0_put_3 21 rfl rfl)
theorem dX0_put_90 : decode cX0_put 90 = .ok (.astore 7, 2) := dk_58 7 (dk_at dksX0_put_3 22 rfl rfl)
theorem dX0_put_92 : decode cX0_put 92 = .ok (.aload_n 0, 1) := dk_42 (dk_at dksX0_put_4 0 rfl rfl)
theorem dX0_put_93 : decode cX0_put 93 = .ok (.aload 7, 2) := dk_25 7 (dk_at dksX0_put_4 1 rfl rfl)
theorem dX0_put_95 : decode cX0_put 95 = .ok (.putfield 103, 3) := dk_181 0 103 (dk_at dksX0_put_4 3 rfl rfl)
theorem dX0_put_98 : decode cX0_put 98 = .ok (.sipush (-2000), 3) := dk_17 248 48 (dk_at dksX0_put_4 6 rfl rfl)
theorem dX0_put_101 : decode cX0_put 101 = .ok (.ireturn, 1) := dk_172 (dk_at dksX0_put_4 9 rfl rfl)
abbrev cX0_why : ByteArray := prog_1_method_77_code
def yX0_why : MethodName := ⟨RX0, "why", "(I)I"⟩
def dkwX0_why_4 : List UInt8 := [180, 1, 179, 172, 42, 180, 0, 103, 182, 1, 171, 180, 1, 182, 172]
abbrev dktX0_why_4 : List UInt8 := dkwX0_why_4 ++ []
def dkwX0_why_3 : List UInt8 := [42, 180, 0, 103, 180, 1, 168, 172, 42, 180, 0, 103, 182, 1, 171, 182, 1, 175, 172, 42, 180, 0, 103]
abbrev dktX0_why_3 : List UInt8 := dkwX0_why_3 ++ dktX0_why_4
def dkwX0_why_2 : List UInt8 := [170, 0, 0, 0, 0, 0, 54, 0, 0, 0, 0, 0, 0, 0, 2, 0, 0, 0, 27, 0, 0, 0, 35, 0, 0, 0, 46]
abbrev dktX0_why_2 : List UInt8 := dkwX0_why_2 ++ dktX0_why_3
def dkwX0_why_1 : List UInt8 := [27]
abbrev dktX0_why_1 : List UInt8 := dkwX0_why_1 ++ dktX0_why_2
def dkwX0_why_0 : List UInt8 := [27, 133, 9, 20, 0, 171, 184, 0, 72, 154, 0, 6, 16, 254, 172, 42, 180, 0, 103, 199, 0, 5, 2, 172]
abbrev dktX0_why_0 : List UInt8 := dkwX0_why_0 ++ dktX0_why_1
theorem dksX0_why_0 : cX0_why.data.toList.drop 0 = dktX0_why_0 := by decide +kernel
theorem dksX0_why_1 : cX0_why.data.toList.drop 24 = dktX0_why_1 := dk_seg dksX0_why_0 24 rfl rfl
theorem dksX0_why_2 : cX0_why.data.toList.drop 25 = dktX0_why_2 := dk_seg dksX0_why_1 1 rfl rfl
theorem dksX0_why_3 : cX0_why.data.toList.drop 52 = dktX0_why_3 := dk_seg dksX0_why_2 27 rfl rfl
theorem dksX0_why_4 : cX0_why.data.toList.drop 75 = dktX0_why_4 := dk_seg dksX0_why_3 23 rfl rfl
theorem dX0_why_0 : decode cX0_why 0 = .ok (.iload_n 1, 1) := dk_27 (dk_at dksX0_why_0 0 rfl rfl)
theorem dX0_why_1 : decode cX0_why 1 = .ok (.i2l, 1) := dk_133 (dk_at dksX0_why_0 1 rfl rfl)
theorem dX0_why_2 : decode cX0_why 2 = .ok (.lconst 0, 1) := dk_9 (dk_at dksX0_why_0 2 rfl rfl)
theorem dX0_why_3 : decode cX0_why 3 = .ok (.ldc2_w 171, 3) := dk_20 0 171 (dk_at dksX0_why_0 3 rfl rfl)
theorem dX0_why_6 : decode cX0_why 6 = .ok (.invokestatic 72, 3) := dk_184 0 72 (dk_at dksX0_why_0 6 rfl rfl)
theorem dX0_why_9 : decode cX0_why 9 = .ok (.ifCond .ne 6, 3) := dk_154 0 6 (dk_at dksX0_why_0 9 rfl rfl)
theorem dX0_why_12 : decode cX0_why 12 = .ok (.bipush (-2), 2) := dk_16 254 (dk_at dksX0_why_0 12 rfl rfl)
theorem dX0_why_14 : decode cX0_why 14 = .ok (.ireturn, 1) := dk_172 (dk_at dksX0_why_0 14 rfl rfl)
theorem dX0_why_15 : decode cX0_why 15 = .ok (.aload_n 0, 1) := dk_42 (dk_at dksX0_why_0 15 rfl rfl)
theorem dX0_why_16 : decode cX0_why 16 = .ok (.getfield 103, 3) := dk_180 0 103 (dk_at dksX0_why_0 16 rfl rfl)
theorem dX0_why_19 : decode cX0_why 19 = .ok (.ifnonnull 5, 3) := dk_199 0 5 (dk_at dksX0_why_0 19 rfl rfl)
theorem dX0_why_22 : decode cX0_why 22 = .ok (.iconst (-1), 1) := dk_2 (dk_at dksX0_why_0 22 rfl rfl)
theorem dX0_why_23 : decode cX0_why 23 = .ok (.ireturn, 1) := dk_172 (dk_at dksX0_why_0 23 rfl rfl)
theorem dX0_why_24 : decode cX0_why 24 = .ok (.iload_n 1, 1) := dk_27 (dk_at dksX0_why_1 0 rfl rfl)
theorem dX0_why_25 : decode cX0_why 25 = .ok (.tableswitch 54 0 2 #[27, 35, 46], 27) := by decide +kernel
theorem dX0_why_52 : decode cX0_why 52 = .ok (.aload_n 0, 1) := dk_42 (dk_at dksX0_why_3 0 rfl rfl)
theorem dX0_why_53 : decode cX0_why 53 = .ok (.getfield 103, 3) := dk_180 0 103 (dk_at dksX0_why_3 1 rfl rfl)
theorem dX0_why_56 : decode cX0_why 56 = .ok (.getfield 424, 3) := dk_180 1 168 (dk_at dksX0_why_3 4 rfl rfl)
theorem dX0_why_59 : decode cX0_why 59 = .ok (.ireturn, 1) := dk_172 (dk_at dksX0_why_3 7 rfl rfl)
theorem dX0_why_60 : decode cX0_why 60 = .ok (.aload_n 0, 1) := dk_42 (dk_at dksX0_why_3 8 rfl rfl)
theorem dX0_why_61 : decode cX0_why 61 = .ok (.getfield 103, 3) := dk_180 0 103 (dk_at dksX0_why_3 9 rfl rfl)
theorem dX0_why_64 : decode cX0_why 64 = .ok (.invokevirtual 427, 3) := dk_182 1 171 (dk_at dksX0_why_3 12 rfl rfl)
theorem dX0_why_67 : decode cX0_why 67 = .ok (.invokevirtual 431, 3) := dk_182 1 175 (dk_at dksX0_why_3 15 rfl rfl)
theorem dX0_why_70 : decode cX0_why 70 = .ok (.ireturn, 1) := dk_172 (dk_at dksX0_why_3 18 rfl rfl)
theorem dX0_why_71 : decode cX0_why 71 = .ok (.aload_n 0, 1) := dk_42 (dk_at dksX0_why_3 19 rfl rfl)
theorem dX0_why_72 : decode cX0_why 72 = .ok (.getfield 103, 3) := dk_180 0 103 (dk_at dksX0_why_3 20 rfl rfl)
theorem dX0_why_75 : decode cX0_why 75 = .ok (.getfield 435, 3) := dk_180 1 179 (dk_at dksX0_why_4 0 rfl rfl)
theorem dX0_why_78 : decode cX0_why 78 = .ok (.ireturn, 1) := dk_172 (dk_at dksX0_why_4 3 rfl rfl)
theorem dX0_why_79 : decode cX0_why 79 = .ok (.aload_n 0, 1) := dk_42 (dk_at dksX0_why_4 4 rfl rfl)
theorem dX0_why_80 : decode cX0_why 80 = .ok (.getfield 103, 3) := dk_180 0 103 (dk_at dksX0_why_4 5 rfl rfl)
theorem dX0_why_83 : decode cX0_why 83 = .ok (.invokevirtual 427, 3) := dk_182 1 171 (dk_at dksX0_why_4 8 rfl rfl)
theorem dX0_why_86 : decode cX0_why 86 = .ok (.getfield 438, 3) := dk_180 1 182 (dk_at dksX0_why_4 11 rfl rfl)
theorem dX0_why_89 : decode cX0_why 89 = .ok (.ireturn, 1) := dk_172 (dk_at dksX0_why_4 14 rfl rfl)
abbrev cX0_undo : ByteArray := prog_1_method_79_code
def yX0_undo : MethodName := ⟨RX0, "undo", "()I"⟩
def dkwX0_undo_1 : List UInt8 := [16, 251, 172, 42, 182, 1, 193, 42, 180, 0, 63, 182, 0, 115, 172]
abbrev dktX0_undo_1 : List UInt8 := dkwX0_undo_1 ++ []
def dkwX0_undo_0 : List UInt8 := [42, 180, 0, 24, 182, 1, 190, 153, 0, 6, 16, 254, 172, 42, 180, 0, 63, 182, 1, 190, 153, 0, 6]
abbrev dktX0_undo_0 : List UInt8 := dkwX0_undo_0 ++ dktX0_undo_1
theorem dksX0_undo_0 : cX0_undo.data.toList.drop 0 = dktX0_undo_0 := by decide +kernel
theorem dksX0_undo_1 : cX0_undo.data.toList.drop 23 = dktX0_undo_1 := dk_seg dksX0_undo_0 23 rfl rfl
theorem dX0_undo_0 : decode cX0_undo 0 = .ok (.aload_n 0, 1) := dk_42 (dk_at dksX0_undo_0 0 rfl rfl)
theorem dX0_undo_1 : decode cX0_undo 1 = .ok (.getfield 24, 3) := dk_180 0 24 (dk_at dksX0_undo_0 1 rfl rfl)
theorem dX0_undo_4 : decode cX0_undo 4 = .ok (.invokevirtual 446, 3) := dk_182 1 190 (dk_at dksX0_undo_0 4 rfl rfl)
theorem dX0_undo_7 : decode cX0_undo 7 = .ok (.ifCond .eq 6, 3) := dk_153 0 6 (dk_at dksX0_undo_0 7 rfl rfl)
theorem dX0_undo_10 : decode cX0_undo 10 = .ok (.bipush (-2), 2) := dk_16 254 (dk_at dksX0_undo_0 10 rfl rfl)
theorem dX0_undo_12 : decode cX0_undo 12 = .ok (.ireturn, 1) := dk_172 (dk_at dksX0_undo_0 12 rfl rfl)
theorem dX0_undo_13 : decode cX0_undo 13 = .ok (.aload_n 0, 1) := dk_42 (dk_at dksX0_undo_0 13 rfl rfl)
theorem dX0_undo_14 : decode cX0_undo 14 = .ok (.getfield 63, 3) := dk_180 0 63 (dk_at dksX0_undo_0 14 rfl rfl)
theorem dX0_undo_17 : decode cX0_undo 17 = .ok (.invokevirtual 446, 3) := dk_182 1 190 (dk_at dksX0_undo_0 17 rfl rfl)
theorem dX0_undo_20 : decode cX0_undo 20 = .ok (.ifCond .eq 6, 3) := dk_153 0 6 (dk_at dksX0_undo_0 20 rfl rfl)
theorem dX0_undo_23 : decode cX0_undo 23 = .ok (.bipush (-5), 2) := dk_16 251 (dk_at dksX0_undo_1 0 rfl rfl)
theorem dX0_undo_25 : decode cX0_undo 25 = .ok (.ireturn, 1) := dk_172 (dk_at dksX0_undo_1 2 rfl rfl)
theorem dX0_undo_26 : decode cX0_undo 26 = .ok (.aload_n 0, 1) := dk_42 (dk_at dksX0_undo_1 3 rfl rfl)
theorem dX0_undo_27 : decode cX0_undo 27 = .ok (.invokevirtual 449, 3) := dk_182 1 193 (dk_at dksX0_undo_1 4 rfl rfl)
theorem dX0_undo_30 : decode cX0_undo 30 = .ok (.aload_n 0, 1) := dk_42 (dk_at dksX0_undo_1 7 rfl rfl)
theorem dX0_undo_31 : decode cX0_undo 31 = .ok (.getfield 63, 3) := dk_180 0 63 (dk_at dksX0_undo_1 8 rfl rfl)
theorem dX0_undo_34 : decode cX0_undo 34 = .ok (.invokevirtual 115, 3) := dk_182 0 115 (dk_at dksX0_undo_1 11 rfl rfl)
theorem dX0_undo_37 : decode cX0_undo 37 = .ok (.ireturn, 1) := dk_172 (dk_at dksX0_undo_1 14 rfl rfl)
abbrev cX0_takesBack : ByteArray := prog_1_method_78_code
def yX0_takesBack : MethodName := ⟨RX0, "takesBack", "()V"⟩
def dkwX0_takesBack_1 : List UInt8 := [180, 1, 186, 182, 0, 142, 43, 180, 1, 187, 181, 1, 128, 177]
abbrev dktX0_takesBack_1 : List UInt8 := dkwX0_takesBack_1 ++ []
def dkwX0_takesBack_0 : List UInt8 := [42, 180, 0, 63, 42, 180, 0, 63, 182, 0, 115, 4, 100, 182, 1, 183, 192, 1, 126, 76, 42, 43]
abbrev dktX0_takesBack_0 : List UInt8 := dkwX0_takesBack_0 ++ dktX0_takesBack_1
theorem dksX0_takesBack_0 : cX0_takesBack.data.toList.drop 0 = dktX0_takesBack_0 := by decide +kernel
theorem dksX0_takesBack_1 : cX0_takesBack.data.toList.drop 22 = dktX0_takesBack_1 := dk_seg dksX0_takesBack_0 22 rfl rfl
theorem dX0_takesBack_0 : decode cX0_takesBack 0 = .ok (.aload_n 0, 1) := dk_42 (dk_at dksX0_takesBack_0 0 rfl rfl)
theorem dX0_takesBack_1 : decode cX0_takesBack 1 = .ok (.getfield 63, 3) := dk_180 0 63 (dk_at dksX0_takesBack_0 1 rfl rfl)
theorem dX0_takesBack_4 : decode cX0_takesBack 4 = .ok (.aload_n 0, 1) := dk_42 (dk_at dksX0_takesBack_0 4 rfl rfl)
theorem dX0_takesBack_5 : decode cX0_takesBack 5 = .ok (.getfield 63, 3) := dk_180 0 63 (dk_at dksX0_takesBack_0 5 rfl rfl)
theorem dX0_takesBack_8 : decode cX0_takesBack 8 = .ok (.invokevirtual 115, 3) := dk_182 0 115 (dk_at dksX0_takesBack_0 8 rfl rfl)
theorem dX0_takesBack_11 : decode cX0_takesBack 11 = .ok (.iconst 1, 1) := dk_4 (dk_at dksX0_takesBack_0 11 rfl rfl)
theorem dX0_takesBack_12 : decode cX0_takesBack 12 = .ok (.isub, 1) := dk_100 (dk_at dksX0_takesBack_0 12 rfl rfl)
theorem dX0_takesBack_13 : decode cX0_takesBack 13 = .ok (.invokevirtual 439, 3) := dk_182 1 183 (dk_at dksX0_takesBack_0 13 rfl rfl)
theorem dX0_takesBack_16 : decode cX0_takesBack 16 = .ok (.checkcast 382, 3) := dk_192 1 126 (dk_at dksX0_takesBack_0 16 rfl rfl)
theorem dX0_takesBack_19 : decode cX0_takesBack 19 = .ok (.astore_n 1, 1) := dk_76 (dk_at dksX0_takesBack_0 19 rfl rfl)
theorem dX0_takesBack_20 : decode cX0_takesBack 20 = .ok (.aload_n 0, 1) := dk_42 (dk_at dksX0_takesBack_0 20 rfl rfl)
theorem dX0_takesBack_21 : decode cX0_takesBack 21 = .ok (.aload_n 1, 1) := dk_43 (dk_at dksX0_takesBack_0 21 rfl rfl)
theorem dX0_takesBack_22 : decode cX0_takesBack 22 = .ok (.getfield 442, 3) := dk_180 1 186 (dk_at dksX0_takesBack_1 0 rfl rfl)
theorem dX0_takesBack_25 : decode cX0_takesBack 25 = .ok (.invokevirtual 142, 3) := dk_182 0 142 (dk_at dksX0_takesBack_1 3 rfl rfl)
theorem dX0_takesBack_28 : decode cX0_takesBack 28 = .ok (.aload_n 1, 1) := dk_43 (dk_at dksX0_takesBack_1 6 rfl rfl)
theorem dX0_takesBack_29 : decode cX0_takesBack 29 = .ok (.getfield 443, 3) := dk_180 1 187 (dk_at dksX0_takesBack_1 7 rfl rfl)
theorem dX0_takesBack_32 : decode cX0_takesBack 32 = .ok (.putfield 384, 3) := dk_181 1 128 (dk_at dksX0_takesBack_1 10 rfl rfl)
theorem dX0_takesBack_35 : decode cX0_takesBack 35 = .ok (.return_, 1) := dk_177 (dk_at dksX0_takesBack_1 13 rfl rfl)
abbrev cX0_anew : ByteArray := prog_1_method_80_code
def yX0_anew : MethodName := ⟨RX0, "anew", "()I"⟩
def dkwX0_anew_1 : List UInt8 := [180, 0, 63, 182, 1, 190, 154, 0, 10, 42, 182, 1, 193, 167, 255, 242, 27, 172]
abbrev dktX0_anew_1 : List UInt8 := dkwX0_anew_1 ++ []
def dkwX0_anew_0 : List UInt8 := [42, 180, 0, 24, 182, 1, 190, 153, 0, 6, 16, 254, 172, 42, 180, 0, 63, 182, 0, 115, 60, 42]
abbrev dktX0_anew_0 : List UInt8 := dkwX0_anew_0 ++ dktX0_anew_1
theorem dksX0_anew_0 : cX0_anew.data.toList.drop 0 = dktX0_anew_0 := by decide +kernel
theorem dksX0_anew_1 : cX0_anew.data.toList.drop 22 = dktX0_anew_1 := dk_seg dksX0_anew_0 22 rfl rfl
theorem dX0_anew_0 : decode cX0_anew 0 = .ok (.aload_n 0, 1) := dk_42 (dk_at dksX0_anew_0 0 rfl rfl)
theorem dX0_anew_1 : decode cX0_anew 1 = .ok (.getfield 24, 3) := dk_180 0 24 (dk_at dksX0_anew_0 1 rfl rfl)
theorem dX0_anew_4 : decode cX0_anew 4 = .ok (.invokevirtual 446, 3) := dk_182 1 190 (dk_at dksX0_anew_0 4 rfl rfl)
theorem dX0_anew_7 : decode cX0_anew 7 = .ok (.ifCond .eq 6, 3) := dk_153 0 6 (dk_at dksX0_anew_0 7 rfl rfl)
theorem dX0_anew_10 : decode cX0_anew 10 = .ok (.bipush (-2), 2) := dk_16 254 (dk_at dksX0_anew_0 10 rfl rfl)
theorem dX0_anew_12 : decode cX0_anew 12 = .ok (.ireturn, 1) := dk_172 (dk_at dksX0_anew_0 12 rfl rfl)
theorem dX0_anew_13 : decode cX0_anew 13 = .ok (.aload_n 0, 1) := dk_42 (dk_at dksX0_anew_0 13 rfl rfl)
theorem dX0_anew_14 : decode cX0_anew 14 = .ok (.getfield 63, 3) := dk_180 0 63 (dk_at dksX0_anew_0 14 rfl rfl)
theorem dX0_anew_17 : decode cX0_anew 17 = .ok (.invokevirtual 115, 3) := dk_182 0 115 (dk_at dksX0_anew_0 17 rfl rfl)
theorem dX0_anew_20 : decode cX0_anew 20 = .ok (.istore_n 1, 1) := dk_60 (dk_at dksX0_anew_0 20 rfl rfl)
theorem dX0_anew_21 : decode cX0_anew 21 = .ok (.aload_n 0, 1) := dk_42 (dk_at dksX0_anew_0 21 rfl rfl)
theorem dX0_anew_22 : decode cX0_anew 22 = .ok (.getfield 63, 3) := dk_180 0 63 (dk_at dksX0_anew_1 0 rfl rfl)
theorem dX0_anew_25 : decode cX0_anew 25 = .ok (.invokevirtual 446, 3) := dk_182 1 190 (dk_at dksX0_anew_1 3 rfl rfl)
theorem dX0_anew_28 : decode cX0_anew 28 = .ok (.ifCond .ne 10, 3) := dk_154 0 10 (dk_at dksX0_anew_1 6 rfl rfl)
theorem dX0_anew_31 : decode cX0_anew 31 = .ok (.aload_n 0, 1) := dk_42 (dk_at dksX0_anew_1 9 rfl rfl)
theorem dX0_anew_32 : decode cX0_anew 32 = .ok (.invokevirtual 449, 3) := dk_182 1 193 (dk_at dksX0_anew_1 10 rfl rfl)
theorem dX0_anew_35 : decode cX0_anew 35 = .ok (.goto (-14), 3) := dk_167 255 242 (dk_at dksX0_anew_1 13 rfl rfl)
theorem dX0_anew_38 : decode cX0_anew 38 = .ok (.iload_n 1, 1) := dk_27 (dk_at dksX0_anew_1 16 rfl rfl)
theorem dX0_anew_39 : decode cX0_anew 39 = .ok (.ireturn, 1) := dk_172 (dk_at dksX0_anew_1 17 rfl rfl)
theorem q119 : (Jvm.Cond.initialized "CoincideBench") ∈ lw_all := lw_g (lw_at lw_m1 1 rfl) rfl
theorem q156 : (Jvm.Cond.instantiable "CoincideBench" (15 : Nat)) ∈ lw_all := lw_g (lw_at lw_m1 38 rfl) rfl
theorem q158 : (Jvm.Cond.instanceMethod ({ cls := "CoincideBench", name := "<init>", desc := "()V" } : Jvm.MethodName)) ∈ lw_all := lw_g (lw_at lw_m1 40 rfl) rfl
theorem q159 : (Jvm.Cond.code ({ cls := "CoincideBench", name := "<init>", desc := "()V" } : Jvm.MethodName) prog_1_method_4_code (1 : Nat) (Option.none : Option Jvm.ClassFile.FieldType)) ∈ lw_all := lw_g (lw_at lw_m1 41 rfl) rfl
theorem q160 : (Jvm.Cond.methodLink "CoincideBench" (13 : Nat) ({ cls := "java/lang/Object", name := "<init>", desc := "()V" } : Jvm.MethodName)) ∈ lw_all := lw_g (lw_at lw_m1 42 rfl) rfl
theorem q163 : (Jvm.Cond.classLink "CoincideBench" (19 : Nat) "java/util/ArrayList") ∈ lw_all := lw_g (lw_at lw_m1 45 rfl) rfl
theorem q165 : (Jvm.Cond.methodLink "CoincideBench" (21 : Nat) ({ cls := "java/util/ArrayList", name := "<init>", desc := "(I)V" } : Jvm.MethodName)) ∈ lw_all := lw_g (lw_at lw_m1 47 rfl) rfl
theorem q191 : (Jvm.Cond.classLink "CoincideBench" (40 : Nat) "CoincideBench$Small") ∈ lw_all := lw_g (lw_at lw_m1 73 rfl) rfl
theorem q193 : (Jvm.Cond.methodLink "CoincideBench" (42 : Nat) ({ cls := "CoincideBench$Small", name := "<init>", desc := "(J)V" } : Jvm.MethodName)) ∈ lw_all := lw_g (lw_at lw_m1 75 rfl) rfl
theorem q211 : (Jvm.Cond.fieldLinkNest "CoincideBench" (150 : Nat) "CoincideBench$Rows" "at" "[[J" "CoincideBench") ∈ lw_tbl := lw_at lw_m1 93 rfl
theorem q223 : (Jvm.Cond.fieldLinkNest "CoincideBench" (243 : Nat) "CoincideBench$Small" "form" "LCoincideBench$Rows;" "CoincideBench") ∈ lw_tbl := lw_at lw_m1 105 rfl
theorem q233 : (Jvm.Cond.classLink "CoincideBench" (49 : Nat) "[[I") ∈ lw_all := lw_g (lw_at lw_m1 115 rfl) rfl
theorem q235 : (Jvm.Cond.classLink "CoincideBench" (54 : Nat) "[[J") ∈ lw_all := lw_g (lw_at lw_m1 117 rfl) rfl
theorem q236 : (Jvm.Cond.classLink "CoincideBench" (59 : Nat) "[I") ∈ lw_all := lw_g (lw_at lw_m1 118 rfl) rfl
theorem q237 : (Jvm.Cond.fieldLink "CoincideBench" (24 : Nat) "CoincideBench" "lattices" "Ljava/util/ArrayList;") ∈ lw_all := lw_g (lw_at lw_m1 119 rfl) rfl
theorem q238 : (Jvm.Cond.fieldLink "CoincideBench" (100 : Nat) "CoincideBench" "lines" "I") ∈ lw_all := lw_g (lw_at lw_m1 120 rfl) rfl
theorem q240 : (Jvm.Cond.fieldLink "CoincideBench" (28 : Nat) "CoincideBench" "tape" "[B") ∈ lw_all := lw_g (lw_at lw_m1 122 rfl) rfl
theorem q242 : (Jvm.Cond.fieldLink "CoincideBench" (66 : Nat) "CoincideBench" "taped" "I") ∈ lw_all := lw_g (lw_at lw_m1 124 rfl) rfl
theorem q243 : (Jvm.Cond.fieldLink "CoincideBench" (76 : Nat) "CoincideBench" "faultKind" "I") ∈ lw_all := lw_g (lw_at lw_m1 125 rfl) rfl
theorem q244 : (Jvm.Cond.fieldLink "CoincideBench" (32 : Nat) "CoincideBench" "faultPlace" "I") ∈ lw_all := lw_g (lw_at lw_m1 126 rfl) rfl
theorem q245 : (Jvm.Cond.fieldLink "CoincideBench" (36 : Nat) "CoincideBench" "plane" "[I") ∈ lw_all := lw_g (lw_at lw_m1 127 rfl) rfl
theorem q246 : (Jvm.Cond.fieldLink "CoincideBench" (45 : Nat) "CoincideBench" "both" "LCoincideBench$Small;") ∈ lw_all := lw_g (lw_at lw_m1 128 rfl) rfl
theorem q247 : (Jvm.Cond.fieldLink "CoincideBench" (51 : Nat) "CoincideBench" "turn" "[[I") ∈ lw_all := lw_g (lw_at lw_m1 129 rfl) rfl
theorem q248 : (Jvm.Cond.fieldLink "CoincideBench" (56 : Nat) "CoincideBench" "turnedAt" "[[J") ∈ lw_all := lw_g (lw_at lw_m1 130 rfl) rfl
theorem q249 : (Jvm.Cond.fieldLink "CoincideBench" (339 : Nat) "CoincideBench" "turnsFound" "I") ∈ lw_all := lw_g (lw_at lw_m1 131 rfl) rfl
theorem q250 : (Jvm.Cond.fieldLink "CoincideBench" (342 : Nat) "CoincideBench" "turnFound" "I") ∈ lw_all := lw_g (lw_at lw_m1 132 rfl) rfl
theorem q251 : (Jvm.Cond.fieldLink "CoincideBench" (60 : Nat) "CoincideBench" "orders" "[[I") ∈ lw_all := lw_g (lw_at lw_m1 133 rfl) rfl
theorem q252 : (Jvm.Cond.fieldLink "CoincideBench" (103 : Nat) "CoincideBench" "refused" "LCoincideBench$Refused;") ∈ lw_all := lw_g (lw_at lw_m1 134 rfl) rfl
theorem q253 : (Jvm.Cond.fieldLink "CoincideBench" (63 : Nat) "CoincideBench" "acts" "Ljava/util/ArrayList;") ∈ lw_all := lw_g (lw_at lw_m1 135 rfl) rfl
theorem q254 : (Jvm.Cond.laysFinal "CoincideBench" "CoincideBench" "lattices" "Ljava/util/ArrayList;") ∈ lw_all := lw_g (lw_at lw_m1 136 rfl) rfl
theorem q255 : (Jvm.Cond.soleField "CoincideBench" "lattices") ∈ lw_all := lw_g (lw_at lw_m1 137 rfl) rfl
theorem q256 : (Jvm.Cond.lays "CoincideBench" "CoincideBench" "lines" "I") ∈ lw_all := lw_g (lw_at lw_m1 138 rfl) rfl
theorem q257 : (Jvm.Cond.soleField "CoincideBench" "lines") ∈ lw_all := lw_g (lw_at lw_m1 139 rfl) rfl
theorem q258 : (Jvm.Cond.laysFinal "CoincideBench" "CoincideBench" "tape" "[B") ∈ lw_all := lw_g (lw_at lw_m1 140 rfl) rfl
theorem q259 : (Jvm.Cond.soleField "CoincideBench" "tape") ∈ lw_all := lw_g (lw_at lw_m1 141 rfl) rfl
theorem q260 : (Jvm.Cond.lays "CoincideBench" "CoincideBench" "taped" "I") ∈ lw_all := lw_g (lw_at lw_m1 142 rfl) rfl
theorem q261 : (Jvm.Cond.soleField "CoincideBench" "taped") ∈ lw_all := lw_g (lw_at lw_m1 143 rfl) rfl
theorem q262 : (Jvm.Cond.lays "CoincideBench" "CoincideBench" "faultKind" "I") ∈ lw_all := lw_g (lw_at lw_m1 144 rfl) rfl
theorem q263 : (Jvm.Cond.soleField "CoincideBench" "faultKind") ∈ lw_all := lw_g (lw_at lw_m1 145 rfl) rfl
theorem q264 : (Jvm.Cond.lays "CoincideBench" "CoincideBench" "faultPlace" "I") ∈ lw_all := lw_g (lw_at lw_m1 146 rfl) rfl
theorem q265 : (Jvm.Cond.soleField "CoincideBench" "faultPlace") ∈ lw_all := lw_g (lw_at lw_m1 147 rfl) rfl
theorem q266 : (Jvm.Cond.laysFinal "CoincideBench" "CoincideBench" "plane" "[I") ∈ lw_all := lw_g (lw_at lw_m1 148 rfl) rfl
theorem q267 : (Jvm.Cond.soleField "CoincideBench" "plane") ∈ lw_all := lw_g (lw_at lw_m1 149 rfl) rfl
theorem q268 : (Jvm.Cond.laysFinal "CoincideBench" "CoincideBench" "both" "LCoincideBench$Small;") ∈ lw_all := lw_g (lw_at lw_m1 150 rfl) rfl
theorem q269 : (Jvm.Cond.soleField "CoincideBench" "both") ∈ lw_all := lw_g (lw_at lw_m1 151 rfl) rfl
theorem q270 : (Jvm.Cond.laysFinal "CoincideBench" "CoincideBench" "turn" "[[I") ∈ lw_all := lw_g (lw_at lw_m1 152 rfl) rfl
theorem q271 : (Jvm.Cond.soleField "CoincideBench" "turn") ∈ lw_all := lw_g (lw_at lw_m1 153 rfl) rfl
theorem q272 : (Jvm.Cond.laysFinal "CoincideBench" "CoincideBench" "turnedAt" "[[J") ∈ lw_all := lw_g (lw_at lw_m1 154 rfl) rfl
theorem q273 : (Jvm.Cond.soleField "CoincideBench" "turnedAt") ∈ lw_all := lw_g (lw_at lw_m1 155 rfl) rfl
theorem q274 : (Jvm.Cond.lays "CoincideBench" "CoincideBench" "turnsFound" "I") ∈ lw_all := lw_g (lw_at lw_m1 156 rfl) rfl
theorem q275 : (Jvm.Cond.soleField "CoincideBench" "turnsFound") ∈ lw_all := lw_g (lw_at lw_m1 157 rfl) rfl
theorem q276 : (Jvm.Cond.lays "CoincideBench" "CoincideBench" "turnFound" "I") ∈ lw_all := lw_g (lw_at lw_m1 158 rfl) rfl
theorem q277 : (Jvm.Cond.soleField "CoincideBench" "turnFound") ∈ lw_all := lw_g (lw_at lw_m1 159 rfl) rfl
theorem q278 : (Jvm.Cond.laysFinal "CoincideBench" "CoincideBench" "orders" "[[I") ∈ lw_all := lw_g (lw_at lw_m1 160 rfl) rfl
theorem q279 : (Jvm.Cond.soleField "CoincideBench" "orders") ∈ lw_all := lw_g (lw_at lw_m1 161 rfl) rfl
theorem q280 : (Jvm.Cond.lays "CoincideBench" "CoincideBench" "refused" "LCoincideBench$Refused;") ∈ lw_all := lw_g (lw_at lw_m1 162 rfl) rfl
theorem q281 : (Jvm.Cond.soleField "CoincideBench" "refused") ∈ lw_all := lw_g (lw_at lw_m1 163 rfl) rfl
theorem q282 : (Jvm.Cond.laysFinal "CoincideBench" "CoincideBench" "acts" "Ljava/util/ArrayList;") ∈ lw_all := lw_g (lw_at lw_m1 164 rfl) rfl
theorem q283 : (Jvm.Cond.soleField "CoincideBench" "acts") ∈ lw_all := lw_g (lw_at lw_m1 165 rfl) rfl
theorem q284 : (Jvm.Cond.superclass "CoincideBench" "java/lang/Object") ∈ lw_all := lw_g (lw_at lw_m1 166 rfl) rfl
theorem q286 : (Jvm.Cond.instanceMethod ({ cls := "CoincideBench", name := "feed", desc := "(IIIII)I" } : Jvm.MethodName)) ∈ lw_all := lw_g (lw_at lw_m1 168 rfl) rfl
theorem q287 : (Jvm.Cond.selects "CoincideBench" ({ cls := "CoincideBench", name := "feed", desc := "(IIIII)I" } : Jvm.MethodName) ({ cls := "CoincideBench", name := "feed", desc := "(IIIII)I" } : Jvm.MethodName)) ∈ lw_all := lw_g (lw_at lw_m1 169 rfl) rfl
theorem q288 : (Jvm.Cond.code ({ cls := "CoincideBench", name := "feed", desc := "(IIIII)I" } : Jvm.MethodName) prog_1_method_5_code (6 : Nat) (Option.some Jvm.ClassFile.FieldType.int)) ∈ lw_all := lw_g (lw_at lw_m1 170 rfl) rfl
theorem q289 : (Jvm.Cond.methodLink "CoincideBench" (69 : Nat) ({ cls := "CoincideBench", name := "puts", desc := "(I)V" } : Jvm.MethodName)) ∈ lw_all := lw_g (lw_at lw_m1 171 rfl) rfl
theorem q290 : (Jvm.Cond.privateMethod ({ cls := "CoincideBench", name := "puts", desc := "(I)V" } : Jvm.MethodName)) ∈ lw_tbl := lw_at lw_m1 172 rfl
theorem q291 : (Jvm.Cond.instanceMethod ({ cls := "CoincideBench", name := "puts", desc := "(I)V" } : Jvm.MethodName)) ∈ lw_all := lw_g (lw_at lw_m1 173 rfl) rfl
theorem q292 : (Jvm.Cond.code ({ cls := "CoincideBench", name := "puts", desc := "(I)V" } : Jvm.MethodName) prog_1_method_6_code (3 : Nat) (Option.none : Option Jvm.ClassFile.FieldType)) ∈ lw_all := lw_g (lw_at lw_m1 174 rfl) rfl
theorem q294 : (Jvm.Cond.instanceMethod ({ cls := "CoincideBench", name := "end", desc := "(I)I" } : Jvm.MethodName)) ∈ lw_all := lw_g (lw_at lw_m1 176 rfl) rfl
theorem q295 : (Jvm.Cond.selects "CoincideBench" ({ cls := "CoincideBench", name := "end", desc := "(I)I" } : Jvm.MethodName) ({ cls := "CoincideBench", name := "end", desc := "(I)I" } : Jvm.MethodName)) ∈ lw_all := lw_g (lw_at lw_m1 177 rfl) rfl
theorem q296 : (Jvm.Cond.code ({ cls := "CoincideBench", name := "end", desc := "(I)I" } : Jvm.MethodName) prog_1_method_7_code (2 : Nat) (Option.some Jvm.ClassFile.FieldType.int)) ∈ lw_all := lw_g (lw_at lw_m1 178 rfl) rfl
theorem q297 : (Jvm.Cond.methodLink "CoincideBench" (72 : Nat) ({ cls := "CoincideBench", name := "isIn", desc := "(JJJ)Z" } : Jvm.MethodName)) ∈ lw_all := lw_g (lw_at lw_m1 179 rfl) rfl
theorem q298 : (Jvm.Cond.static ({ cls := "CoincideBench", name := "isIn", desc := "(JJJ)Z" } : Jvm.MethodName)) ∈ lw_all := lw_g (lw_at lw_m1 180 rfl) rfl
theorem q299 : (Jvm.Cond.code ({ cls := "CoincideBench", name := "isIn", desc := "(JJJ)Z" } : Jvm.MethodName) prog_1_method_1_code (6 : Nat) (Option.some Jvm.ClassFile.FieldType.boolean)) ∈ lw_all := lw_g (lw_at lw_m1 181 rfl) rfl
theorem q301 : (Jvm.Cond.instanceMethod ({ cls := "CoincideBench", name := "lattices", desc := "()I" } : Jvm.MethodName)) ∈ lw_all := lw_g (lw_at lw_m1 183 rfl) rfl
theorem q302 : (Jvm.Cond.selects "CoincideBench" ({ cls := "CoincideBench", name := "lattices", desc := "()I" } : Jvm.MethodName) ({ cls := "CoincideBench", name := "lattices", desc := "()I" } : Jvm.MethodName)) ∈ lw_all := lw_g (lw_at lw_m1 184 rfl) rfl
theorem q303 : (Jvm.Cond.codeWith ({ cls := "CoincideBench", name := "lattices", desc := "()I" } : Jvm.MethodName) prog_1_method_8_code (4 : Nat) (Option.some Jvm.ClassFile.FieldType.int) [((10 : Nat), (67 : Nat), (74 : Nat), (107 : Nat)), ((10 : Nat), (67 : Nat), (101 : Nat), (0 : Nat)), ((74 : Nat), (94 : Nat), (101 : Nat), (0 : Nat))]) ∈ lw_all := lw_g (lw_at lw_m1 185 rfl) rfl
theorem q304 : (Jvm.Cond.classLink "CoincideBench" (107 : Nat) "CoincideBench$Fault") ∈ lw_all := lw_g (lw_at lw_m1 186 rfl) rfl
theorem q305 : (Jvm.Cond.classLink "CoincideBench" (79 : Nat) "CoincideBench$Reader") ∈ lw_all := lw_g (lw_at lw_m1 187 rfl) rfl
theorem q307 : (Jvm.Cond.methodLinkNest "CoincideBench" (81 : Nat) ({ cls := "CoincideBench$Reader", name := "<init>", desc := "(LCoincideBench;)V" } : Jvm.MethodName) "CoincideBench") ∈ lw_tbl := lw_at lw_m1 189 rfl
theorem q315 : (Jvm.Cond.fieldLinkNest "CoincideBench" (90 : Nat) "CoincideBench$Reader" "fresh" "Ljava/util/ArrayList;" "CoincideBench") ∈ lw_tbl := lw_at lw_m1 197 rfl
theorem q320 : (Jvm.Cond.fieldLinkNest "CoincideBench" (97 : Nat) "CoincideBench$Reader" "lined" "I" "CoincideBench") ∈ lw_tbl := lw_at lw_m1 202 rfl
theorem q347 : (Jvm.Cond.methodLink "CoincideBench" (84 : Nat) ({ cls := "CoincideBench$Reader", name := "read", desc := "()V" } : Jvm.MethodName)) ∈ lw_all := lw_g (lw_at lw_m1 229 rfl) rfl
theorem q635 : (Jvm.Cond.fieldLinkNest "CoincideBench" (109 : Nat) "CoincideBench$Fault" "kind" "I" "CoincideBench") ∈ lw_tbl := lw_at lw_m3 37 rfl
theorem q637 : (Jvm.Cond.fieldLinkNest "CoincideBench" (112 : Nat) "CoincideBench$Fault" "place" "I" "CoincideBench") ∈ lw_tbl := lw_at lw_m3 39 rfl
theorem q689 : (Jvm.Cond.selects "CoincideBench" ({ cls := "java/lang/Object", name := "equals", desc := "(Ljava/lang/Object;)Z" } : Jvm.MethodName) ({ cls := "java/lang/Object", name := "equals", desc := "(Ljava/lang/Object;)Z" } : Jvm.MethodName)) ∈ lw_all := lw_g (lw_at lw_m3 91 rfl) rfl
theorem q763 : (Jvm.Cond.fieldLinkNest "CoincideBench" (332 : Nat) "CoincideBench$Turned" "over" "J" "CoincideBench") ∈ lw_tbl := lw_at lw_m3 165 rfl
theorem q765 : (Jvm.Cond.fieldLinkNest "CoincideBench" (329 : Nat) "CoincideBench$Turned" "upon" "J" "CoincideBench") ∈ lw_tbl := lw_at lw_m3 167 rfl
theorem q768 : (Jvm.Cond.fieldLinkNest "CoincideBench" (384 : Nat) "CoincideBench$Lattice" "rows" "LCoincideBench$Rows;" "CoincideBench") ∈ lw_tbl := lw_at lw_m3 170 rfl
theorem q825 : (Jvm.Cond.selects "CoincideBench" ({ cls := "java/lang/Object", name := "getClass", desc := "()Ljava/lang/Class;" } : Jvm.MethodName) ({ cls := "java/lang/Object", name := "getClass", desc := "()Ljava/lang/Class;" } : Jvm.MethodName)) ∈ lw_all := lw_g (lw_at lw_m3 227 rfl) rfl
theorem q853 : (Jvm.Cond.methodLink "CoincideBench" (87 : Nat) ({ cls := "java/util/ArrayList", name := "clear", desc := "()V" } : Jvm.MethodName)) ∈ lw_all := lw_g (lw_at lw_m4 15 rfl) rfl
theorem q857 : (Jvm.Cond.methodLink "CoincideBench" (93 : Nat) ({ cls := "java/util/ArrayList", name := "addAll", desc := "(Ljava/util/Collection;)Z" } : Jvm.MethodName)) ∈ lw_all := lw_g (lw_at lw_m4 19 rfl) rfl
theorem q873 : (Jvm.Cond.instanceMethod ({ cls := "CoincideBench", name := "fault", desc := "(I)I" } : Jvm.MethodName)) ∈ lw_all := lw_g (lw_at lw_m4 35 rfl) rfl
theorem q874 : (Jvm.Cond.selects "CoincideBench" ({ cls := "CoincideBench", name := "fault", desc := "(I)I" } : Jvm.MethodName) ({ cls := "CoincideBench", name := "fault", desc := "(I)I" } : Jvm.MethodName)) ∈ lw_all := lw_g (lw_at lw_m4 36 rfl) rfl
theorem q875 : (Jvm.Cond.code ({ cls := "CoincideBench", name := "fault", desc := "(I)I" } : Jvm.MethodName) prog_1_method_9_code (2 : Nat) (Option.some Jvm.ClassFile.FieldType.int)) ∈ lw_all := lw_g (lw_at lw_m4 37 rfl) rfl
theorem q877 : (Jvm.Cond.instanceMethod ({ cls := "CoincideBench", name := "count", desc := "(I)I" } : Jvm.MethodName)) ∈ lw_all := lw_g (lw_at lw_m4 39 rfl) rfl
theorem q878 : (Jvm.Cond.selects "CoincideBench" ({ cls := "CoincideBench", name := "count", desc := "(I)I" } : Jvm.MethodName) ({ cls := "CoincideBench", name := "count", desc := "(I)I" } : Jvm.MethodName)) ∈ lw_all := lw_g (lw_at lw_m4 40 rfl) rfl
theorem q879 : (Jvm.Cond.code ({ cls := "CoincideBench", name := "count", desc := "(I)I" } : Jvm.MethodName) prog_1_method_10_code (4 : Nat) (Option.some Jvm.ClassFile.FieldType.int)) ∈ lw_all := lw_g (lw_at lw_m4 41 rfl) rfl
theorem q880 : (Jvm.Cond.methodLink "CoincideBench" (115 : Nat) ({ cls := "java/util/ArrayList", name := "size", desc := "()I" } : Jvm.MethodName)) ∈ lw_all := lw_g (lw_at lw_m4 42 rfl) rfl
theorem q881 : (Jvm.Cond.methodLink "CoincideBench" (119 : Nat) ({ cls := "java/util/ArrayList", name := "get", desc := "(I)Ljava/lang/Object;" } : Jvm.MethodName)) ∈ lw_all := lw_g (lw_at lw_m4 43 rfl) rfl
theorem q882 : (Jvm.Cond.classLink "CoincideBench" (123 : Nat) "CoincideBench$Lattice") ∈ lw_all := lw_g (lw_at lw_m4 44 rfl) rfl
theorem q883 : (Jvm.Cond.methodLink "CoincideBench" (125 : Nat) ({ cls := "CoincideBench$Lattice", name := "isTurned", desc := "()Z" } : Jvm.MethodName)) ∈ lw_all := lw_g (lw_at lw_m4 45 rfl) rfl
theorem q885 : (Jvm.Cond.instanceMethod ({ cls := "CoincideBench", name := "row", desc := "(III)I" } : Jvm.MethodName)) ∈ lw_all := lw_g (lw_at lw_m4 47 rfl) rfl
theorem q886 : (Jvm.Cond.selects "CoincideBench" ({ cls := "CoincideBench", name := "row", desc := "(III)I" } : Jvm.MethodName) ({ cls := "CoincideBench", name := "row", desc := "(III)I" } : Jvm.MethodName)) ∈ lw_all := lw_g (lw_at lw_m4 48 rfl) rfl
theorem q887 : (Jvm.Cond.code ({ cls := "CoincideBench", name := "row", desc := "(III)I" } : Jvm.MethodName) prog_1_method_15_code (4 : Nat) (Option.some Jvm.ClassFile.FieldType.int)) ∈ lw_all := lw_g (lw_at lw_m4 49 rfl) rfl
theorem q888 : (Jvm.Cond.methodLink "CoincideBench" (138 : Nat) ({ cls := "CoincideBench", name := "isAt", desc := "(III)Z" } : Jvm.MethodName)) ∈ lw_all := lw_g (lw_at lw_m4 50 rfl) rfl
theorem q889 : (Jvm.Cond.privateMethod ({ cls := "CoincideBench", name := "isAt", desc := "(III)Z" } : Jvm.MethodName)) ∈ lw_tbl := lw_at lw_m4 51 rfl
theorem q890 : (Jvm.Cond.instanceMethod ({ cls := "CoincideBench", name := "isAt", desc := "(III)Z" } : Jvm.MethodName)) ∈ lw_all := lw_g (lw_at lw_m4 52 rfl) rfl
theorem q891 : (Jvm.Cond.code ({ cls := "CoincideBench", name := "isAt", desc := "(III)Z" } : Jvm.MethodName) prog_1_method_13_code (4 : Nat) (Option.some Jvm.ClassFile.FieldType.boolean)) ∈ lw_all := lw_g (lw_at lw_m4 53 rfl) rfl
theorem q892 : (Jvm.Cond.methodLink "CoincideBench" (131 : Nat) ({ cls := "CoincideBench", name := "isLattice", desc := "(I)Z" } : Jvm.MethodName)) ∈ lw_all := lw_g (lw_at lw_m4 54 rfl) rfl
theorem q893 : (Jvm.Cond.privateMethod ({ cls := "CoincideBench", name := "isLattice", desc := "(I)Z" } : Jvm.MethodName)) ∈ lw_tbl := lw_at lw_m4 55 rfl
theorem q894 : (Jvm.Cond.instanceMethod ({ cls := "CoincideBench", name := "isLattice", desc := "(I)Z" } : Jvm.MethodName)) ∈ lw_all := lw_g (lw_at lw_m4 56 rfl) rfl
theorem q895 : (Jvm.Cond.code ({ cls := "CoincideBench", name := "isLattice", desc := "(I)Z" } : Jvm.MethodName) prog_1_method_11_code (2 : Nat) (Option.some Jvm.ClassFile.FieldType.boolean)) ∈ lw_all := lw_g (lw_at lw_m4 57 rfl) rfl
theorem q896 : (Jvm.Cond.methodLink "CoincideBench" (135 : Nat) ({ cls := "CoincideBench", name := "isSide", desc := "(I)Z" } : Jvm.MethodName)) ∈ lw_all := lw_g (lw_at lw_m4 58 rfl) rfl
theorem q897 : (Jvm.Cond.static ({ cls := "CoincideBench", name := "isSide", desc := "(I)Z" } : Jvm.MethodName)) ∈ lw_all := lw_g (lw_at lw_m4 59 rfl) rfl
theorem q898 : (Jvm.Cond.code ({ cls := "CoincideBench", name := "isSide", desc := "(I)Z" } : Jvm.MethodName) prog_1_method_12_code (1 : Nat) (Option.some Jvm.ClassFile.FieldType.boolean)) ∈ lw_all := lw_g (lw_at lw_m4 60 rfl) rfl
theorem q899 : (Jvm.Cond.constantLong "CoincideBench" (129 : Nat) (2 : Int64)) ∈ lw_all := lw_g (lw_at lw_m4 61 rfl) rfl
theorem q900 : (Jvm.Cond.methodLink "CoincideBench" (142 : Nat) ({ cls := "CoincideBench", name := "at", desc := "(I)LCoincideBench$Lattice;" } : Jvm.MethodName)) ∈ lw_all := lw_g (lw_at lw_m4 62 rfl) rfl
theorem q901 : (Jvm.Cond.privateMethod ({ cls := "CoincideBench", name := "at", desc := "(I)LCoincideBench$Lattice;" } : Jvm.MethodName)) ∈ lw_tbl := lw_at lw_m4 63 rfl
theorem q902 : (Jvm.Cond.instanceMethod ({ cls := "CoincideBench", name := "at", desc := "(I)LCoincideBench$Lattice;" } : Jvm.MethodName)) ∈ lw_all := lw_g (lw_at lw_m4 64 rfl) rfl
theorem q903 : (Jvm.Cond.code ({ cls := "CoincideBench", name := "at", desc := "(I)LCoincideBench$Lattice;" } : Jvm.MethodName) prog_1_method_14_code (2 : Nat) (Option.some (Jvm.ClassFile.FieldType.object "CoincideBench$Lattice"))) ∈ lw_all := lw_g (lw_at lw_m4 65 rfl) rfl
theorem q904 : (Jvm.Cond.methodLink "CoincideBench" (146 : Nat) ({ cls := "CoincideBench$Lattice", name := "rows", desc := "()LCoincideBench$Rows;" } : Jvm.MethodName)) ∈ lw_all := lw_g (lw_at lw_m4 66 rfl) rfl
theorem q931 : (Jvm.Cond.static ({ cls := "CoincideBench", name := "divisor", desc := "(JJ)J" } : Jvm.MethodName)) ∈ lw_all := lw_g (lw_at lw_m4 93 rfl) rfl
theorem q932 : (Jvm.Cond.code ({ cls := "CoincideBench", name := "divisor", desc := "(JJ)J" } : Jvm.MethodName) prog_1_method_2_code (4 : Nat) (Option.some Jvm.ClassFile.FieldType.long)) ∈ lw_all := lw_g (lw_at lw_m4 94 rfl) rfl
theorem q933 : (Jvm.Cond.methodLink "CoincideBench" (1 : Nat) ({ cls := "java/lang/Math", name := "abs", desc := "(J)J" } : Jvm.MethodName)) ∈ lw_all := lw_g (lw_at lw_m4 95 rfl) rfl
theorem q934 : (Jvm.Cond.methodLink "CoincideBench" (7 : Nat) ({ cls := "CoincideBench", name := "divisor", desc := "(JJ)J" } : Jvm.MethodName)) ∈ lw_all := lw_g (lw_at lw_m4 96 rfl) rfl
theorem q942 : (Jvm.Cond.instanceMethod ({ cls := "CoincideBench", name := "over", desc := "(I)I" } : Jvm.MethodName)) ∈ lw_all := lw_g (lw_at lw_m4 104 rfl) rfl
theorem q943 : (Jvm.Cond.selects "CoincideBench" ({ cls := "CoincideBench", name := "over", desc := "(I)I" } : Jvm.MethodName) ({ cls := "CoincideBench", name := "over", desc := "(I)I" } : Jvm.MethodName)) ∈ lw_all := lw_g (lw_at lw_m4 105 rfl) rfl
theorem q944 : (Jvm.Cond.code ({ cls := "CoincideBench", name := "over", desc := "(I)I" } : Jvm.MethodName) prog_1_method_16_code (2 : Nat) (Option.some Jvm.ClassFile.FieldType.int)) ∈ lw_all := lw_g (lw_at lw_m4 106 rfl) rfl
theorem q945 : (Jvm.Cond.methodLink "CoincideBench" (154 : Nat) ({ cls := "CoincideBench$Lattice", name := "over", desc := "()J" } : Jvm.MethodName)) ∈ lw_all := lw_g (lw_at lw_m4 107 rfl) rfl
theorem q954 : (Jvm.Cond.instanceMethod ({ cls := "CoincideBench", name := "hermite", desc := "(III)J" } : Jvm.MethodName)) ∈ lw_all := lw_g (lw_at lw_m4 116 rfl) rfl
theorem q955 : (Jvm.Cond.selects "CoincideBench" ({ cls := "CoincideBench", name := "hermite", desc := "(III)J" } : Jvm.MethodName) ({ cls := "CoincideBench", name := "hermite", desc := "(III)J" } : Jvm.MethodName)) ∈ lw_all := lw_g (lw_at lw_m4 117 rfl) rfl
theorem q956 : (Jvm.Cond.code ({ cls := "CoincideBench", name := "hermite", desc := "(III)J" } : Jvm.MethodName) prog_1_method_17_code (4 : Nat) (Option.some Jvm.ClassFile.FieldType.long)) ∈ lw_all := lw_g (lw_at lw_m4 118 rfl) rfl
theorem q957 : (Jvm.Cond.classLink "CoincideBench" (158 : Nat) "CoincideBench$Hermite") ∈ lw_all := lw_g (lw_at lw_m4 119 rfl) rfl
theorem q959 : (Jvm.Cond.methodLink "CoincideBench" (160 : Nat) ({ cls := "CoincideBench$Hermite", name := "<init>", desc := "(LCoincideBench$Rows;)V" } : Jvm.MethodName)) ∈ lw_all := lw_g (lw_at lw_m4 121 rfl) rfl
theorem q995 : (Jvm.Cond.fieldLinkNest "CoincideBench" (176 : Nat) "CoincideBench$Step" "kind" "I" "CoincideBench") ∈ lw_tbl := lw_at lw_m4 157 rfl
theorem q997 : (Jvm.Cond.fieldLinkNest "CoincideBench" (177 : Nat) "CoincideBench$Step" "row" "I" "CoincideBench") ∈ lw_tbl := lw_at lw_m4 159 rfl
theorem q999 : (Jvm.Cond.fieldLinkNest "CoincideBench" (180 : Nat) "CoincideBench$Step" "other" "I" "CoincideBench") ∈ lw_tbl := lw_at lw_m4 161 rfl
theorem q1001 : (Jvm.Cond.fieldLinkNest "CoincideBench" (183 : Nat) "CoincideBench$Step" "times" "J" "CoincideBench") ∈ lw_tbl := lw_at lw_m4 163 rfl
theorem q1032 : (Jvm.Cond.fieldLinkNest "CoincideBench" (163 : Nat) "CoincideBench$Hermite" "rows" "LCoincideBench$Rows;" "CoincideBench") ∈ lw_tbl := lw_at lw_m4 194 rfl
theorem q1034 : (Jvm.Cond.fieldLinkNest "CoincideBench" (168 : Nat) "CoincideBench$Hermite" "steps" "Ljava/util/ArrayList;" "CoincideBench") ∈ lw_tbl := lw_at lw_m4 196 rfl
theorem q1040 : (Jvm.Cond.constantLong "CoincideBench" (166 : Nat) (-1 : Int64)) ∈ lw_all := lw_g (lw_at lw_m4 202 rfl) rfl
theorem q1042 : (Jvm.Cond.instanceMethod ({ cls := "CoincideBench", name := "steps", desc := "(I)I" } : Jvm.MethodName)) ∈ lw_all := lw_g (lw_at lw_m4 204 rfl) rfl
theorem q1043 : (Jvm.Cond.selects "CoincideBench" ({ cls := "CoincideBench", name := "steps", desc := "(I)I" } : Jvm.MethodName) ({ cls := "CoincideBench", name := "steps", desc := "(I)I" } : Jvm.MethodName)) ∈ lw_all := lw_g (lw_at lw_m4 205 rfl) rfl
theorem q1044 : (Jvm.Cond.code ({ cls := "CoincideBench", name := "steps", desc := "(I)I" } : Jvm.MethodName) prog_1_method_18_code (2 : Nat) (Option.some Jvm.ClassFile.FieldType.int)) ∈ lw_all := lw_g (lw_at lw_m4 206 rfl) rfl
theorem q1046 : (Jvm.Cond.instanceMethod ({ cls := "CoincideBench", name := "step", desc := "(III)I" } : Jvm.MethodName)) ∈ lw_all := lw_g (lw_at lw_m4 208 rfl) rfl
theorem q1047 : (Jvm.Cond.selects "CoincideBench" ({ cls := "CoincideBench", name := "step", desc := "(III)I" } : Jvm.MethodName) ({ cls := "CoincideBench", name := "step", desc := "(III)I" } : Jvm.MethodName)) ∈ lw_all := lw_g (lw_at lw_m4 209 rfl) rfl
theorem q1048 : (Jvm.Cond.code ({ cls := "CoincideBench", name := "step", desc := "(III)I" } : Jvm.MethodName) prog_1_method_19_code (6 : Nat) (Option.some Jvm.ClassFile.FieldType.int)) ∈ lw_all := lw_g (lw_at lw_m4 210 rfl) rfl
theorem q1049 : (Jvm.Cond.constantLong "CoincideBench" (171 : Nat) (3 : Int64)) ∈ lw_all := lw_g (lw_at lw_m4 211 rfl) rfl
theorem q1050 : (Jvm.Cond.constant "CoincideBench" (173 : Nat) (-1000000 : Int32)) ∈ lw_all := lw_g (lw_at lw_m4 212 rfl) rfl
theorem q1051 : (Jvm.Cond.classLink "CoincideBench" (174 : Nat) "CoincideBench$Step") ∈ lw_all := lw_g (lw_at lw_m4 213 rfl) rfl
theorem q1053 : (Jvm.Cond.instanceMethod ({ cls := "CoincideBench", name := "volume", desc := "(II)J" } : Jvm.MethodName)) ∈ lw_all := lw_g (lw_at lw_m4 215 rfl) rfl
theorem q1054 : (Jvm.Cond.selects "CoincideBench" ({ cls := "CoincideBench", name := "volume", desc := "(II)J" } : Jvm.MethodName) ({ cls := "CoincideBench", name := "volume", desc := "(II)J" } : Jvm.MethodName)) ∈ lw_all := lw_g (lw_at lw_m4 216 rfl) rfl
theorem q1055 : (Jvm.Cond.code ({ cls := "CoincideBench", name := "volume", desc := "(II)J" } : Jvm.MethodName) prog_1_method_22_code (5 : Nat) (Option.some Jvm.ClassFile.FieldType.long)) ∈ lw_all := lw_g (lw_at lw_m4 217 rfl) rfl
theorem q1056 : (Jvm.Cond.methodLink "CoincideBench" (187 : Nat) ({ cls := "CoincideBench", name := "isPart", desc := "(I)Z" } : Jvm.MethodName)) ∈ lw_all := lw_g (lw_at lw_m4 218 rfl) rfl
theorem q1057 : (Jvm.Cond.static ({ cls := "CoincideBench", name := "isPart", desc := "(I)Z" } : Jvm.MethodName)) ∈ lw_all := lw_g (lw_at lw_m4 219 rfl) rfl
theorem q1058 : (Jvm.Cond.code ({ cls := "CoincideBench", name := "isPart", desc := "(I)Z" } : Jvm.MethodName) prog_1_method_21_code (1 : Nat) (Option.some Jvm.ClassFile.FieldType.boolean)) ∈ lw_all := lw_g (lw_at lw_m4 220 rfl) rfl
theorem q1059 : (Jvm.Cond.constantLong "CoincideBench" (190 : Nat) (-2 : Int64)) ∈ lw_all := lw_g (lw_at lw_m4 221 rfl) rfl
theorem q1060 : (Jvm.Cond.methodLink "CoincideBench" (192 : Nat) ({ cls := "CoincideBench$Rows", name := "determinant", desc := "()J" } : Jvm.MethodName)) ∈ lw_all := lw_g (lw_at lw_m4 222 rfl) rfl
theorem q1061 : (Jvm.Cond.methodLink "CoincideBench" (195 : Nat) ({ cls := "CoincideBench", name := "part", desc := "(JJI)J" } : Jvm.MethodName)) ∈ lw_all := lw_g (lw_at lw_m4 223 rfl) rfl
theorem q1062 : (Jvm.Cond.static ({ cls := "CoincideBench", name := "part", desc := "(JJI)J" } : Jvm.MethodName)) ∈ lw_all := lw_g (lw_at lw_m4 224 rfl) rfl
theorem q1063 : (Jvm.Cond.code ({ cls := "CoincideBench", name := "part", desc := "(JJI)J" } : Jvm.MethodName) prog_1_method_20_code (5 : Nat) (Option.some Jvm.ClassFile.FieldType.long)) ∈ lw_all := lw_g (lw_at lw_m4 225 rfl) rfl
theorem q1065 : (Jvm.Cond.instanceMethod ({ cls := "CoincideBench", name := "smith", desc := "(II)J" } : Jvm.MethodName)) ∈ lw_all := lw_g (lw_at lw_m4 227 rfl) rfl
theorem q1066 : (Jvm.Cond.selects "CoincideBench" ({ cls := "CoincideBench", name := "smith", desc := "(II)J" } : Jvm.MethodName) ({ cls := "CoincideBench", name := "smith", desc := "(II)J" } : Jvm.MethodName)) ∈ lw_all := lw_g (lw_at lw_m4 228 rfl) rfl
theorem q1067 : (Jvm.Cond.code ({ cls := "CoincideBench", name := "smith", desc := "(II)J" } : Jvm.MethodName) prog_1_method_23_code (3 : Nat) (Option.some Jvm.ClassFile.FieldType.long)) ∈ lw_all := lw_g (lw_at lw_m4 229 rfl) rfl
theorem q1068 : (Jvm.Cond.methodLink "CoincideBench" (199 : Nat) ({ cls := "CoincideBench$Rows", name := "smith", desc := "(I)J" } : Jvm.MethodName)) ∈ lw_all := lw_g (lw_at lw_m4 230 rfl) rfl
theorem q1076 : (Jvm.Cond.instanceMethod ({ cls := "CoincideBench", name := "has", desc := "(IIIII)I" } : Jvm.MethodName)) ∈ lw_all := lw_g (lw_at lw_m4 238 rfl) rfl
theorem q1077 : (Jvm.Cond.selects "CoincideBench" ({ cls := "CoincideBench", name := "has", desc := "(IIIII)I" } : Jvm.MethodName) ({ cls := "CoincideBench", name := "has", desc := "(IIIII)I" } : Jvm.MethodName)) ∈ lw_all := lw_g (lw_at lw_m4 239 rfl) rfl
theorem q1078 : (Jvm.Cond.code ({ cls := "CoincideBench", name := "has", desc := "(IIIII)I" } : Jvm.MethodName) prog_1_method_26_code (6 : Nat) (Option.some Jvm.ClassFile.FieldType.int)) ∈ lw_all := lw_g (lw_at lw_m5 0 rfl) rfl
theorem q1079 : (Jvm.Cond.methodLink "CoincideBench" (212 : Nat) ({ cls := "CoincideBench", name := "isPoint", desc := "(IIII)Z" } : Jvm.MethodName)) ∈ lw_all := lw_g (lw_at lw_m5 1 rfl) rfl
theorem q1080 : (Jvm.Cond.static ({ cls := "CoincideBench", name := "isPoint", desc := "(IIII)Z" } : Jvm.MethodName)) ∈ lw_all := lw_g (lw_at lw_m5 2 rfl) rfl
theorem q1081 : (Jvm.Cond.code ({ cls := "CoincideBench", name := "isPoint", desc := "(IIII)Z" } : Jvm.MethodName) prog_1_method_25_code (4 : Nat) (Option.some Jvm.ClassFile.FieldType.boolean)) ∈ lw_all := lw_g (lw_at lw_m5 3 rfl) rfl
theorem q1082 : (Jvm.Cond.constantLong "CoincideBench" (206 : Nat) (-999 : Int64)) ∈ lw_all := lw_g (lw_at lw_m5 4 rfl) rfl
theorem q1083 : (Jvm.Cond.constantLong "CoincideBench" (208 : Nat) (999 : Int64)) ∈ lw_all := lw_g (lw_at lw_m5 5 rfl) rfl
theorem q1084 : (Jvm.Cond.constantLong "CoincideBench" (210 : Nat) (36 : Int64)) ∈ lw_all := lw_g (lw_at lw_m5 6 rfl) rfl
theorem q1085 : (Jvm.Cond.methodLink "CoincideBench" (216 : Nat) ({ cls := "CoincideBench", name := "have", desc := "(LCoincideBench$Rows;JJJJJ)Z" } : Jvm.MethodName)) ∈ lw_all := lw_g (lw_at lw_m5 7 rfl) rfl
theorem q1086 : (Jvm.Cond.static ({ cls := "CoincideBench", name := "have", desc := "(LCoincideBench$Rows;JJJJJ)Z" } : Jvm.MethodName)) ∈ lw_all := lw_g (lw_at lw_m5 8 rfl) rfl
theorem q1087 : (Jvm.Cond.code ({ cls := "CoincideBench", name := "have", desc := "(LCoincideBench$Rows;JJJJJ)Z" } : Jvm.MethodName) prog_1_method_24_code (15 : Nat) (Option.some Jvm.ClassFile.FieldType.boolean)) ∈ lw_all := lw_g (lw_at lw_m5 9 rfl) rfl
theorem q1088 : (Jvm.Cond.methodLink "CoincideBench" (203 : Nat) ({ cls := "CoincideBench$Rows", name := "adjoint", desc := "()LCoincideBench$Rows;" } : Jvm.MethodName)) ∈ lw_all := lw_g (lw_at lw_m5 10 rfl) rfl
theorem q1093 : (Jvm.Cond.instanceMethod ({ cls := "CoincideBench", name := "inside", desc := "(II)I" } : Jvm.MethodName)) ∈ lw_all := lw_g (lw_at lw_m5 15 rfl) rfl
theorem q1094 : (Jvm.Cond.selects "CoincideBench" ({ cls := "CoincideBench", name := "inside", desc := "(II)I" } : Jvm.MethodName) ({ cls := "CoincideBench", name := "inside", desc := "(II)I" } : Jvm.MethodName)) ∈ lw_all := lw_g (lw_at lw_m5 16 rfl) rfl
theorem q1095 : (Jvm.Cond.code ({ cls := "CoincideBench", name := "inside", desc := "(II)I" } : Jvm.MethodName) prog_1_method_28_code (6 : Nat) (Option.some Jvm.ClassFile.FieldType.int)) ∈ lw_all := lw_g (lw_at lw_m5 17 rfl) rfl
theorem q1096 : (Jvm.Cond.methodLink "CoincideBench" (220 : Nat) ({ cls := "CoincideBench", name := "asks", desc := "(II)I" } : Jvm.MethodName)) ∈ lw_all := lw_g (lw_at lw_m5 18 rfl) rfl
theorem q1097 : (Jvm.Cond.privateMethod ({ cls := "CoincideBench", name := "asks", desc := "(II)I" } : Jvm.MethodName)) ∈ lw_tbl := lw_at lw_m5 19 rfl
theorem q1098 : (Jvm.Cond.instanceMethod ({ cls := "CoincideBench", name := "asks", desc := "(II)I" } : Jvm.MethodName)) ∈ lw_all := lw_g (lw_at lw_m5 20 rfl) rfl
theorem q1099 : (Jvm.Cond.code ({ cls := "CoincideBench", name := "asks", desc := "(II)I" } : Jvm.MethodName) prog_1_method_27_code (3 : Nat) (Option.some Jvm.ClassFile.FieldType.int)) ∈ lw_all := lw_g (lw_at lw_m5 21 rfl) rfl
theorem q1101 : (Jvm.Cond.instanceMethod ({ cls := "CoincideBench", name := "meetOver", desc := "(II)I" } : Jvm.MethodName)) ∈ lw_all := lw_g (lw_at lw_m5 23 rfl) rfl
theorem q1102 : (Jvm.Cond.selects "CoincideBench" ({ cls := "CoincideBench", name := "meetOver", desc := "(II)I" } : Jvm.MethodName) ({ cls := "CoincideBench", name := "meetOver", desc := "(II)I" } : Jvm.MethodName)) ∈ lw_all := lw_g (lw_at lw_m5 24 rfl) rfl
theorem q1103 : (Jvm.Cond.code ({ cls := "CoincideBench", name := "meetOver", desc := "(II)I" } : Jvm.MethodName) prog_1_method_33_code (4 : Nat) (Option.some Jvm.ClassFile.FieldType.int)) ∈ lw_all := lw_g (lw_at lw_m5 25 rfl) rfl
theorem q1104 : (Jvm.Cond.methodLink "CoincideBench" (259 : Nat) ({ cls := "CoincideBench", name := "meetOf", desc := "(II)LCoincideBench$Both;" } : Jvm.MethodName)) ∈ lw_all := lw_g (lw_at lw_m5 26 rfl) rfl
theorem q1105 : (Jvm.Cond.privateMethod ({ cls := "CoincideBench", name := "meetOf", desc := "(II)LCoincideBench$Both;" } : Jvm.MethodName)) ∈ lw_tbl := lw_at lw_m5 27 rfl
theorem q1106 : (Jvm.Cond.instanceMethod ({ cls := "CoincideBench", name := "meetOf", desc := "(II)LCoincideBench$Both;" } : Jvm.MethodName)) ∈ lw_all := lw_g (lw_at lw_m5 28 rfl) rfl
theorem q1107 : (Jvm.Cond.code ({ cls := "CoincideBench", name := "meetOf", desc := "(II)LCoincideBench$Both;" } : Jvm.MethodName) prog_1_method_32_code (14 : Nat) (Option.some (Jvm.ClassFile.FieldType.object "CoincideBench$Both"))) ∈ lw_all := lw_g (lw_at lw_m5 29 rfl) rfl
theorem q1108 : (Jvm.Cond.methodLink "CoincideBench" (230 : Nat) ({ cls := "CoincideBench", name := "overBoth", desc := "(II)J" } : Jvm.MethodName)) ∈ lw_all := lw_g (lw_at lw_m5 30 rfl) rfl
theorem q1109 : (Jvm.Cond.privateMethod ({ cls := "CoincideBench", name := "overBoth", desc := "(II)J" } : Jvm.MethodName)) ∈ lw_tbl := lw_at lw_m5 31 rfl
theorem q1110 : (Jvm.Cond.instanceMethod ({ cls := "CoincideBench", name := "overBoth", desc := "(II)J" } : Jvm.MethodName)) ∈ lw_all := lw_g (lw_at lw_m5 32 rfl) rfl
theorem q1111 : (Jvm.Cond.code ({ cls := "CoincideBench", name := "overBoth", desc := "(II)J" } : Jvm.MethodName) prog_1_method_29_code (3 : Nat) (Option.some Jvm.ClassFile.FieldType.long)) ∈ lw_all := lw_g (lw_at lw_m5 33 rfl) rfl
theorem q1112 : (Jvm.Cond.methodLink "CoincideBench" (224 : Nat) ({ cls := "CoincideBench", name := "multiple", desc := "(JJ)J" } : Jvm.MethodName)) ∈ lw_all := lw_g (lw_at lw_m5 34 rfl) rfl
theorem q1113 : (Jvm.Cond.static ({ cls := "CoincideBench", name := "multiple", desc := "(JJ)J" } : Jvm.MethodName)) ∈ lw_all := lw_g (lw_at lw_m5 35 rfl) rfl
theorem q1114 : (Jvm.Cond.code ({ cls := "CoincideBench", name := "multiple", desc := "(JJ)J" } : Jvm.MethodName) prog_1_method_3_code (4 : Nat) (Option.some Jvm.ClassFile.FieldType.long)) ∈ lw_all := lw_g (lw_at lw_m5 36 rfl) rfl
theorem q1115 : (Jvm.Cond.methodLink "CoincideBench" (234 : Nat) ({ cls := "CoincideBench", name := "rowsBy", desc := "(IJ)LCoincideBench$Rows;" } : Jvm.MethodName)) ∈ lw_all := lw_g (lw_at lw_m5 37 rfl) rfl
theorem q1116 : (Jvm.Cond.privateMethod ({ cls := "CoincideBench", name := "rowsBy", desc := "(IJ)LCoincideBench$Rows;" } : Jvm.MethodName)) ∈ lw_tbl := lw_at lw_m5 38 rfl
theorem q1117 : (Jvm.Cond.instanceMethod ({ cls := "CoincideBench", name := "rowsBy", desc := "(IJ)LCoincideBench$Rows;" } : Jvm.MethodName)) ∈ lw_all := lw_g (lw_at lw_m5 39 rfl) rfl
theorem q1118 : (Jvm.Cond.code ({ cls := "CoincideBench", name := "rowsBy", desc := "(IJ)LCoincideBench$Rows;" } : Jvm.MethodName) prog_1_method_30_code (4 : Nat) (Option.some (Jvm.ClassFile.FieldType.object "CoincideBench$Rows"))) ∈ lw_all := lw_g (lw_at lw_m5 40 rfl) rfl
theorem q1119 : (Jvm.Cond.methodLink "CoincideBench" (227 : Nat) ({ cls := "CoincideBench$Rows", name := "times", desc := "(J)LCoincideBench$Rows;" } : Jvm.MethodName)) ∈ lw_all := lw_g (lw_at lw_m5 41 rfl) rfl
theorem q1123 : (Jvm.Cond.methodLink "CoincideBench" (249 : Nat) ({ cls := "CoincideBench$Rows", name := "times", desc := "(LCoincideBench$Rows;)LCoincideBench$Rows;" } : Jvm.MethodName)) ∈ lw_all := lw_g (lw_at lw_m5 45 rfl) rfl
theorem q1124 : (Jvm.Cond.methodLink "CoincideBench" (252 : Nat) ({ cls := "CoincideBench$Small", name := "takes", desc := "(JJJ)V" } : Jvm.MethodName)) ∈ lw_all := lw_g (lw_at lw_m5 46 rfl) rfl
theorem q1140 : (Jvm.Cond.methodLink "CoincideBench" (256 : Nat) ({ cls := "CoincideBench$Small", name := "dual", desc := "()LCoincideBench$Rows;" } : Jvm.MethodName)) ∈ lw_all := lw_g (lw_at lw_m5 62 rfl) rfl
theorem q1144 : (Jvm.Cond.methodLink "CoincideBench" (238 : Nat) ({ cls := "CoincideBench$Small", name := "takesAll", desc := "(LCoincideBench$Rows;)V" } : Jvm.MethodName)) ∈ lw_all := lw_g (lw_at lw_m5 66 rfl) rfl
theorem q1149 : (Jvm.Cond.classLink "CoincideBench" (241 : Nat) "CoincideBench$Both") ∈ lw_all := lw_g (lw_at lw_m5 71 rfl) rfl
theorem q1151 : (Jvm.Cond.methodLink "CoincideBench" (246 : Nat) ({ cls := "CoincideBench$Both", name := "<init>", desc := "(LCoincideBench$Rows;J)V" } : Jvm.MethodName)) ∈ lw_all := lw_g (lw_at lw_m5 73 rfl) rfl
theorem q1159 : (Jvm.Cond.fieldLinkNest "CoincideBench" (265 : Nat) "CoincideBench$Both" "rows" "LCoincideBench$Rows;" "CoincideBench") ∈ lw_tbl := lw_at lw_m5 81 rfl
theorem q1161 : (Jvm.Cond.fieldLinkNest "CoincideBench" (263 : Nat) "CoincideBench$Both" "over" "J" "CoincideBench") ∈ lw_tbl := lw_at lw_m5 83 rfl
theorem q1168 : (Jvm.Cond.instanceMethod ({ cls := "CoincideBench", name := "meet", desc := "(IIII)J" } : Jvm.MethodName)) ∈ lw_all := lw_g (lw_at lw_m5 90 rfl) rfl
theorem q1169 : (Jvm.Cond.selects "CoincideBench" ({ cls := "CoincideBench", name := "meet", desc := "(IIII)J" } : Jvm.MethodName) ({ cls := "CoincideBench", name := "meet", desc := "(IIII)J" } : Jvm.MethodName)) ∈ lw_all := lw_g (lw_at lw_m5 91 rfl) rfl
theorem q1170 : (Jvm.Cond.code ({ cls := "CoincideBench", name := "meet", desc := "(IIII)J" } : Jvm.MethodName) prog_1_method_34_code (6 : Nat) (Option.some Jvm.ClassFile.FieldType.long)) ∈ lw_all := lw_g (lw_at lw_m5 92 rfl) rfl
theorem q1172 : (Jvm.Cond.instanceMethod ({ cls := "CoincideBench", name := "joinOver", desc := "(II)I" } : Jvm.MethodName)) ∈ lw_all := lw_g (lw_at lw_m5 94 rfl) rfl
theorem q1173 : (Jvm.Cond.selects "CoincideBench" ({ cls := "CoincideBench", name := "joinOver", desc := "(II)I" } : Jvm.MethodName) ({ cls := "CoincideBench", name := "joinOver", desc := "(II)I" } : Jvm.MethodName)) ∈ lw_all := lw_g (lw_at lw_m5 95 rfl) rfl
theorem q1174 : (Jvm.Cond.code ({ cls := "CoincideBench", name := "joinOver", desc := "(II)I" } : Jvm.MethodName) prog_1_method_35_code (4 : Nat) (Option.some Jvm.ClassFile.FieldType.int)) ∈ lw_all := lw_g (lw_at lw_m5 96 rfl) rfl
theorem q1175 : (Jvm.Cond.methodLink "CoincideBench" (266 : Nat) ({ cls := "CoincideBench", name := "joinOf", desc := "(II)LCoincideBench$Both;" } : Jvm.MethodName)) ∈ lw_all := lw_g (lw_at lw_m5 97 rfl) rfl
theorem q1176 : (Jvm.Cond.privateMethod ({ cls := "CoincideBench", name := "joinOf", desc := "(II)LCoincideBench$Both;" } : Jvm.MethodName)) ∈ lw_tbl := lw_at lw_m5 98 rfl
theorem q1177 : (Jvm.Cond.instanceMethod ({ cls := "CoincideBench", name := "joinOf", desc := "(II)LCoincideBench$Both;" } : Jvm.MethodName)) ∈ lw_all := lw_g (lw_at lw_m5 99 rfl) rfl
theorem q1178 : (Jvm.Cond.code ({ cls := "CoincideBench", name := "joinOf", desc := "(II)LCoincideBench$Both;" } : Jvm.MethodName) prog_1_method_31_code (7 : Nat) (Option.some (Jvm.ClassFile.FieldType.object "CoincideBench$Both"))) ∈ lw_all := lw_g (lw_at lw_m5 100 rfl) rfl
theorem q1180 : (Jvm.Cond.instanceMethod ({ cls := "CoincideBench", name := "join", desc := "(IIII)J" } : Jvm.MethodName)) ∈ lw_all := lw_g (lw_at lw_m5 102 rfl) rfl
theorem q1181 : (Jvm.Cond.selects "CoincideBench" ({ cls := "CoincideBench", name := "join", desc := "(IIII)J" } : Jvm.MethodName) ({ cls := "CoincideBench", name := "join", desc := "(IIII)J" } : Jvm.MethodName)) ∈ lw_all := lw_g (lw_at lw_m5 103 rfl) rfl
theorem q1182 : (Jvm.Cond.code ({ cls := "CoincideBench", name := "join", desc := "(IIII)J" } : Jvm.MethodName) prog_1_method_36_code (6 : Nat) (Option.some Jvm.ClassFile.FieldType.long)) ∈ lw_all := lw_g (lw_at lw_m5 104 rfl) rfl
theorem q1184 : (Jvm.Cond.instanceMethod ({ cls := "CoincideBench", name := "index", desc := "(II)J" } : Jvm.MethodName)) ∈ lw_all := lw_g (lw_at lw_m5 106 rfl) rfl
theorem q1185 : (Jvm.Cond.selects "CoincideBench" ({ cls := "CoincideBench", name := "index", desc := "(II)J" } : Jvm.MethodName) ({ cls := "CoincideBench", name := "index", desc := "(II)J" } : Jvm.MethodName)) ∈ lw_all := lw_g (lw_at lw_m5 107 rfl) rfl
theorem q1186 : (Jvm.Cond.code ({ cls := "CoincideBench", name := "index", desc := "(II)J" } : Jvm.MethodName) prog_1_method_38_code (4 : Nat) (Option.some Jvm.ClassFile.FieldType.long)) ∈ lw_all := lw_g (lw_at lw_m5 108 rfl) rfl
theorem q1187 : (Jvm.Cond.methodLink "CoincideBench" (272 : Nat) ({ cls := "CoincideBench", name := "toldBy", desc := "(II)LCoincideBench$Rows;" } : Jvm.MethodName)) ∈ lw_all := lw_g (lw_at lw_m5 109 rfl) rfl
theorem q1188 : (Jvm.Cond.privateMethod ({ cls := "CoincideBench", name := "toldBy", desc := "(II)LCoincideBench$Rows;" } : Jvm.MethodName)) ∈ lw_tbl := lw_at lw_m5 110 rfl
theorem q1189 : (Jvm.Cond.instanceMethod ({ cls := "CoincideBench", name := "toldBy", desc := "(II)LCoincideBench$Rows;" } : Jvm.MethodName)) ∈ lw_all := lw_g (lw_at lw_m5 111 rfl) rfl
theorem q1190 : (Jvm.Cond.code ({ cls := "CoincideBench", name := "toldBy", desc := "(II)LCoincideBench$Rows;" } : Jvm.MethodName) prog_1_method_37_code (7 : Nat) (Option.some (Jvm.ClassFile.FieldType.object "CoincideBench$Rows"))) ∈ lw_all := lw_g (lw_at lw_m5 112 rfl) rfl
theorem q1191 : (Jvm.Cond.methodLink "CoincideBench" (269 : Nat) ({ cls := "CoincideBench$Rows", name := "by", desc := "(J)LCoincideBench$Rows;" } : Jvm.MethodName)) ∈ lw_all := lw_g (lw_at lw_m5 113 rfl) rfl
theorem q1193 : (Jvm.Cond.instanceMethod ({ cls := "CoincideBench", name := "group", desc := "(III)J" } : Jvm.MethodName)) ∈ lw_all := lw_g (lw_at lw_m5 115 rfl) rfl
theorem q1194 : (Jvm.Cond.selects "CoincideBench" ({ cls := "CoincideBench", name := "group", desc := "(III)J" } : Jvm.MethodName) ({ cls := "CoincideBench", name := "group", desc := "(III)J" } : Jvm.MethodName)) ∈ lw_all := lw_g (lw_at lw_m5 116 rfl) rfl
theorem q1195 : (Jvm.Cond.code ({ cls := "CoincideBench", name := "group", desc := "(III)J" } : Jvm.MethodName) prog_1_method_39_code (5 : Nat) (Option.some Jvm.ClassFile.FieldType.long)) ∈ lw_all := lw_g (lw_at lw_m5 117 rfl) rfl
theorem q1197 : (Jvm.Cond.instanceMethod ({ cls := "CoincideBench", name := "met", desc := "(IIIIII)I" } : Jvm.MethodName)) ∈ lw_all := lw_g (lw_at lw_m5 119 rfl) rfl
theorem q1198 : (Jvm.Cond.selects "CoincideBench" ({ cls := "CoincideBench", name := "met", desc := "(IIIIII)I" } : Jvm.MethodName) ({ cls := "CoincideBench", name := "met", desc := "(IIIIII)I" } : Jvm.MethodName)) ∈ lw_all := lw_g (lw_at lw_m5 120 rfl) rfl
theorem q1199 : (Jvm.Cond.code ({ cls := "CoincideBench", name := "met", desc := "(IIIIII)I" } : Jvm.MethodName) prog_1_method_42_code (8 : Nat) (Option.some Jvm.ClassFile.FieldType.int)) ∈ lw_all := lw_g (lw_at lw_m5 121 rfl) rfl
theorem q1200 : (Jvm.Cond.methodLink "CoincideBench" (280 : Nat) ({ cls := "CoincideBench", name := "asksPoint", desc := "(IIIIII)I" } : Jvm.MethodName)) ∈ lw_all := lw_g (lw_at lw_m5 122 rfl) rfl
theorem q1201 : (Jvm.Cond.privateMethod ({ cls := "CoincideBench", name := "asksPoint", desc := "(IIIIII)I" } : Jvm.MethodName)) ∈ lw_tbl := lw_at lw_m5 123 rfl
theorem q1202 : (Jvm.Cond.instanceMethod ({ cls := "CoincideBench", name := "asksPoint", desc := "(IIIIII)I" } : Jvm.MethodName)) ∈ lw_all := lw_g (lw_at lw_m5 124 rfl) rfl
theorem q1203 : (Jvm.Cond.code ({ cls := "CoincideBench", name := "asksPoint", desc := "(IIIIII)I" } : Jvm.MethodName) prog_1_method_41_code (8 : Nat) (Option.some Jvm.ClassFile.FieldType.int)) ∈ lw_all := lw_g (lw_at lw_m5 125 rfl) rfl
theorem q1204 : (Jvm.Cond.methodLink "CoincideBench" (276 : Nat) ({ cls := "CoincideBench", name := "has", desc := "(IIIII)I" } : Jvm.MethodName)) ∈ lw_all := lw_g (lw_at lw_m5 126 rfl) rfl
theorem q1205 : (Jvm.Cond.methodLink "CoincideBench" (284 : Nat) ({ cls := "CoincideBench", name := "orderOf", desc := "(IIIIII)I" } : Jvm.MethodName)) ∈ lw_all := lw_g (lw_at lw_m5 127 rfl) rfl
theorem q1206 : (Jvm.Cond.privateMethod ({ cls := "CoincideBench", name := "orderOf", desc := "(IIIIII)I" } : Jvm.MethodName)) ∈ lw_tbl := lw_at lw_m5 128 rfl
theorem q1207 : (Jvm.Cond.instanceMethod ({ cls := "CoincideBench", name := "orderOf", desc := "(IIIIII)I" } : Jvm.MethodName)) ∈ lw_all := lw_g (lw_at lw_m5 129 rfl) rfl
theorem q1208 : (Jvm.Cond.code ({ cls := "CoincideBench", name := "orderOf", desc := "(IIIIII)I" } : Jvm.MethodName) prog_1_method_40_code (21 : Nat) (Option.some Jvm.ClassFile.FieldType.int)) ∈ lw_all := lw_g (lw_at lw_m5 130 rfl) rfl
theorem q1210 : (Jvm.Cond.instanceMethod ({ cls := "CoincideBench", name := "order", desc := "(IIIIII)I" } : Jvm.MethodName)) ∈ lw_all := lw_g (lw_at lw_m5 132 rfl) rfl
theorem q1211 : (Jvm.Cond.selects "CoincideBench" ({ cls := "CoincideBench", name := "order", desc := "(IIIIII)I" } : Jvm.MethodName) ({ cls := "CoincideBench", name := "order", desc := "(IIIIII)I" } : Jvm.MethodName)) ∈ lw_all := lw_g (lw_at lw_m5 133 rfl) rfl
theorem q1212 : (Jvm.Cond.code ({ cls := "CoincideBench", name := "order", desc := "(IIIIII)I" } : Jvm.MethodName) prog_1_method_43_code (8 : Nat) (Option.some Jvm.ClassFile.FieldType.int)) ∈ lw_all := lw_g (lw_at lw_m5 134 rfl) rfl
theorem q1214 : (Jvm.Cond.instanceMethod ({ cls := "CoincideBench", name := "reduced", desc := "(III)I" } : Jvm.MethodName)) ∈ lw_all := lw_g (lw_at lw_m5 136 rfl) rfl
theorem q1215 : (Jvm.Cond.selects "CoincideBench" ({ cls := "CoincideBench", name := "reduced", desc := "(III)I" } : Jvm.MethodName) ({ cls := "CoincideBench", name := "reduced", desc := "(III)I" } : Jvm.MethodName)) ∈ lw_all := lw_g (lw_at lw_m5 137 rfl) rfl
theorem q1216 : (Jvm.Cond.code ({ cls := "CoincideBench", name := "reduced", desc := "(III)I" } : Jvm.MethodName) prog_1_method_45_code (4 : Nat) (Option.some Jvm.ClassFile.FieldType.int)) ∈ lw_all := lw_g (lw_at lw_m5 138 rfl) rfl
theorem q1217 : (Jvm.Cond.methodLink "CoincideBench" (290 : Nat) ({ cls := "CoincideBench", name := "reducedOf", desc := "(I)LCoincideBench$Reduced;" } : Jvm.MethodName)) ∈ lw_all := lw_g (lw_at lw_m5 139 rfl) rfl
theorem q1218 : (Jvm.Cond.privateMethod ({ cls := "CoincideBench", name := "reducedOf", desc := "(I)LCoincideBench$Reduced;" } : Jvm.MethodName)) ∈ lw_tbl := lw_at lw_m5 140 rfl
theorem q1219 : (Jvm.Cond.instanceMethod ({ cls := "CoincideBench", name := "reducedOf", desc := "(I)LCoincideBench$Reduced;" } : Jvm.MethodName)) ∈ lw_all := lw_g (lw_at lw_m5 141 rfl) rfl
theorem q1220 : (Jvm.Cond.code ({ cls := "CoincideBench", name := "reducedOf", desc := "(I)LCoincideBench$Reduced;" } : Jvm.MethodName) prog_1_method_44_code (2 : Nat) (Option.some (Jvm.ClassFile.FieldType.object "CoincideBench$Reduced"))) ∈ lw_all := lw_g (lw_at lw_m5 142 rfl) rfl
theorem q1221 : (Jvm.Cond.classLink "CoincideBench" (287 : Nat) "CoincideBench$Reduced") ∈ lw_all := lw_g (lw_at lw_m5 143 rfl) rfl
theorem q1223 : (Jvm.Cond.methodLink "CoincideBench" (289 : Nat) ({ cls := "CoincideBench$Reduced", name := "<init>", desc := "(LCoincideBench$Rows;)V" } : Jvm.MethodName)) ∈ lw_all := lw_g (lw_at lw_m5 145 rfl) rfl
theorem q1256 : (Jvm.Cond.fieldLinkNest "CoincideBench" (294 : Nat) "CoincideBench$Reduced" "rows" "LCoincideBench$Rows;" "CoincideBench") ∈ lw_tbl := lw_at lw_m5 178 rfl
theorem q1258 : (Jvm.Cond.fieldLinkNest "CoincideBench" (295 : Nat) "CoincideBench$Reduced" "bettered" "I" "CoincideBench") ∈ lw_tbl := lw_at lw_m5 180 rfl
theorem q1265 : (Jvm.Cond.instanceMethod ({ cls := "CoincideBench", name := "bettered", desc := "(I)I" } : Jvm.MethodName)) ∈ lw_all := lw_g (lw_at lw_m5 187 rfl) rfl
theorem q1266 : (Jvm.Cond.selects "CoincideBench" ({ cls := "CoincideBench", name := "bettered", desc := "(I)I" } : Jvm.MethodName) ({ cls := "CoincideBench", name := "bettered", desc := "(I)I" } : Jvm.MethodName)) ∈ lw_all := lw_g (lw_at lw_m5 188 rfl) rfl
theorem q1267 : (Jvm.Cond.code ({ cls := "CoincideBench", name := "bettered", desc := "(I)I" } : Jvm.MethodName) prog_1_method_46_code (2 : Nat) (Option.some Jvm.ClassFile.FieldType.int)) ∈ lw_all := lw_g (lw_at lw_m5 189 rfl) rfl
theorem q1269 : (Jvm.Cond.instanceMethod ({ cls := "CoincideBench", name := "length", desc := "(III)J" } : Jvm.MethodName)) ∈ lw_all := lw_g (lw_at lw_m5 191 rfl) rfl
theorem q1270 : (Jvm.Cond.selects "CoincideBench" ({ cls := "CoincideBench", name := "length", desc := "(III)J" } : Jvm.MethodName) ({ cls := "CoincideBench", name := "length", desc := "(III)J" } : Jvm.MethodName)) ∈ lw_all := lw_g (lw_at lw_m5 192 rfl) rfl
theorem q1271 : (Jvm.Cond.code ({ cls := "CoincideBench", name := "length", desc := "(III)J" } : Jvm.MethodName) prog_1_method_47_code (6 : Nat) (Option.some Jvm.ClassFile.FieldType.long)) ∈ lw_all := lw_g (lw_at lw_m5 193 rfl) rfl
theorem q1272 : (Jvm.Cond.methodLink "CoincideBench" (298 : Nat) ({ cls := "CoincideBench$Rows", name := "square", desc := "(I)J" } : Jvm.MethodName)) ∈ lw_all := lw_g (lw_at lw_m5 194 rfl) rfl
theorem q1274 : (Jvm.Cond.instanceMethod ({ cls := "CoincideBench", name := "kiss", desc := "(I)I" } : Jvm.MethodName)) ∈ lw_all := lw_g (lw_at lw_m5 196 rfl) rfl
theorem q1275 : (Jvm.Cond.selects "CoincideBench" ({ cls := "CoincideBench", name := "kiss", desc := "(I)I" } : Jvm.MethodName) ({ cls := "CoincideBench", name := "kiss", desc := "(I)I" } : Jvm.MethodName)) ∈ lw_all := lw_g (lw_at lw_m5 197 rfl) rfl
theorem q1276 : (Jvm.Cond.code ({ cls := "CoincideBench", name := "kiss", desc := "(I)I" } : Jvm.MethodName) prog_1_method_48_code (2 : Nat) (Option.some Jvm.ClassFile.FieldType.int)) ∈ lw_all := lw_g (lw_at lw_m5 198 rfl) rfl
theorem q1277 : (Jvm.Cond.methodLinkNest "CoincideBench" (301 : Nat) ({ cls := "CoincideBench$Reduced", name := "kissing", desc := "()I" } : Jvm.MethodName) "CoincideBench") ∈ lw_tbl := lw_at lw_m5 199 rfl
theorem q1282 : (Jvm.Cond.instanceMethod ({ cls := "CoincideBench", name := "meetLength", desc := "(III)J" } : Jvm.MethodName)) ∈ lw_all := lw_g (lw_at lw_m5 204 rfl) rfl
theorem q1283 : (Jvm.Cond.selects "CoincideBench" ({ cls := "CoincideBench", name := "meetLength", desc := "(III)J" } : Jvm.MethodName) ({ cls := "CoincideBench", name := "meetLength", desc := "(III)J" } : Jvm.MethodName)) ∈ lw_all := lw_g (lw_at lw_m5 205 rfl) rfl
theorem q1284 : (Jvm.Cond.code ({ cls := "CoincideBench", name := "meetLength", desc := "(III)J" } : Jvm.MethodName) prog_1_method_49_code (6 : Nat) (Option.some Jvm.ClassFile.FieldType.long)) ∈ lw_all := lw_g (lw_at lw_m5 206 rfl) rfl
theorem q1286 : (Jvm.Cond.instanceMethod ({ cls := "CoincideBench", name := "area", desc := "(IIIII)J" } : Jvm.MethodName)) ∈ lw_all := lw_g (lw_at lw_m5 208 rfl) rfl
theorem q1287 : (Jvm.Cond.selects "CoincideBench" ({ cls := "CoincideBench", name := "area", desc := "(IIIII)J" } : Jvm.MethodName) ({ cls := "CoincideBench", name := "area", desc := "(IIIII)J" } : Jvm.MethodName)) ∈ lw_all := lw_g (lw_at lw_m5 209 rfl) rfl
theorem q1288 : (Jvm.Cond.code ({ cls := "CoincideBench", name := "area", desc := "(IIIII)J" } : Jvm.MethodName) prog_1_method_51_code (13 : Nat) (Option.some Jvm.ClassFile.FieldType.long)) ∈ lw_all := lw_g (lw_at lw_m5 210 rfl) rfl
theorem q1289 : (Jvm.Cond.methodLink "CoincideBench" (308 : Nat) ({ cls := "CoincideBench", name := "isPlane", desc := "(III)Z" } : Jvm.MethodName)) ∈ lw_all := lw_g (lw_at lw_m5 211 rfl) rfl
theorem q1290 : (Jvm.Cond.privateMethod ({ cls := "CoincideBench", name := "isPlane", desc := "(III)Z" } : Jvm.MethodName)) ∈ lw_tbl := lw_at lw_m5 212 rfl
theorem q1291 : (Jvm.Cond.instanceMethod ({ cls := "CoincideBench", name := "isPlane", desc := "(III)Z" } : Jvm.MethodName)) ∈ lw_all := lw_g (lw_at lw_m5 213 rfl) rfl
theorem q1292 : (Jvm.Cond.code ({ cls := "CoincideBench", name := "isPlane", desc := "(III)Z" } : Jvm.MethodName) prog_1_method_50_code (4 : Nat) (Option.some Jvm.ClassFile.FieldType.boolean)) ∈ lw_all := lw_g (lw_at lw_m5 214 rfl) rfl
theorem q1293 : (Jvm.Cond.constantLong "CoincideBench" (304 : Nat) (-9 : Int64)) ∈ lw_all := lw_g (lw_at lw_m5 215 rfl) rfl
theorem q1294 : (Jvm.Cond.constantLong "CoincideBench" (306 : Nat) (9 : Int64)) ∈ lw_all := lw_g (lw_at lw_m5 216 rfl) rfl
theorem q1295 : (Jvm.Cond.methodLink "CoincideBench" (311 : Nat) ({ cls := "CoincideBench$Rows", name := "across", desc := "([I)J" } : Jvm.MethodName)) ∈ lw_all := lw_g (lw_at lw_m5 217 rfl) rfl
theorem q1300 : (Jvm.Cond.instanceMethod ({ cls := "CoincideBench", name := "layers", desc := "(IIIII)J" } : Jvm.MethodName)) ∈ lw_all := lw_g (lw_at lw_m5 222 rfl) rfl
theorem q1301 : (Jvm.Cond.selects "CoincideBench" ({ cls := "CoincideBench", name := "layers", desc := "(IIIII)J" } : Jvm.MethodName) ({ cls := "CoincideBench", name := "layers", desc := "(IIIII)J" } : Jvm.MethodName)) ∈ lw_all := lw_g (lw_at lw_m5 223 rfl) rfl
theorem q1302 : (Jvm.Cond.code ({ cls := "CoincideBench", name := "layers", desc := "(IIIII)J" } : Jvm.MethodName) prog_1_method_54_code (7 : Nat) (Option.some Jvm.ClassFile.FieldType.long)) ∈ lw_all := lw_g (lw_at lw_m5 224 rfl) rfl
theorem q1303 : (Jvm.Cond.methodLink "CoincideBench" (315 : Nat) ({ cls := "CoincideBench", name := "asksPlane", desc := "(IIIII)I" } : Jvm.MethodName)) ∈ lw_all := lw_g (lw_at lw_m5 225 rfl) rfl
theorem q1304 : (Jvm.Cond.privateMethod ({ cls := "CoincideBench", name := "asksPlane", desc := "(IIIII)I" } : Jvm.MethodName)) ∈ lw_tbl := lw_at lw_m5 226 rfl
theorem q1305 : (Jvm.Cond.instanceMethod ({ cls := "CoincideBench", name := "asksPlane", desc := "(IIIII)I" } : Jvm.MethodName)) ∈ lw_all := lw_g (lw_at lw_m5 227 rfl) rfl
theorem q1306 : (Jvm.Cond.code ({ cls := "CoincideBench", name := "asksPlane", desc := "(IIIII)I" } : Jvm.MethodName) prog_1_method_53_code (7 : Nat) (Option.some Jvm.ClassFile.FieldType.int)) ∈ lw_all := lw_g (lw_at lw_m5 228 rfl) rfl
theorem q1307 : (Jvm.Cond.methodLink "CoincideBench" (318 : Nat) ({ cls := "CoincideBench", name := "layersOf", desc := "(II)J" } : Jvm.MethodName)) ∈ lw_all := lw_g (lw_at lw_m5 229 rfl) rfl
theorem q1308 : (Jvm.Cond.privateMethod ({ cls := "CoincideBench", name := "layersOf", desc := "(II)J" } : Jvm.MethodName)) ∈ lw_tbl := lw_at lw_m5 230 rfl
theorem q1309 : (Jvm.Cond.instanceMethod ({ cls := "CoincideBench", name := "layersOf", desc := "(II)J" } : Jvm.MethodName)) ∈ lw_all := lw_g (lw_at lw_m5 231 rfl) rfl
theorem q1310 : (Jvm.Cond.code ({ cls := "CoincideBench", name := "layersOf", desc := "(II)J" } : Jvm.MethodName) prog_1_method_52_code (6 : Nat) (Option.some Jvm.ClassFile.FieldType.long)) ∈ lw_all := lw_g (lw_at lw_m5 232 rfl) rfl
theorem q1312 : (Jvm.Cond.instanceMethod ({ cls := "CoincideBench", name := "planar", desc := "(IIIII)J" } : Jvm.MethodName)) ∈ lw_all := lw_g (lw_at lw_m5 234 rfl) rfl
theorem q1313 : (Jvm.Cond.selects "CoincideBench" ({ cls := "CoincideBench", name := "planar", desc := "(IIIII)J" } : Jvm.MethodName) ({ cls := "CoincideBench", name := "planar", desc := "(IIIII)J" } : Jvm.MethodName)) ∈ lw_all := lw_g (lw_at lw_m5 235 rfl) rfl
theorem q1314 : (Jvm.Cond.code ({ cls := "CoincideBench", name := "planar", desc := "(IIIII)J" } : Jvm.MethodName) prog_1_method_55_code (7 : Nat) (Option.some Jvm.ClassFile.FieldType.long)) ∈ lw_all := lw_g (lw_at lw_m5 236 rfl) rfl
theorem q1315 : (Jvm.Cond.methodLink "CoincideBench" (321 : Nat) ({ cls := "CoincideBench", name := "index", desc := "(II)J" } : Jvm.MethodName)) ∈ lw_all := lw_g (lw_at lw_m5 237 rfl) rfl
theorem q1317 : (Jvm.Cond.instanceMethod ({ cls := "CoincideBench", name := "best", desc := "(II)I" } : Jvm.MethodName)) ∈ lw_all := lw_g (lw_at lw_m5 239 rfl) rfl
theorem q1318 : (Jvm.Cond.selects "CoincideBench" ({ cls := "CoincideBench", name := "best", desc := "(II)I" } : Jvm.MethodName) ({ cls := "CoincideBench", name := "best", desc := "(II)I" } : Jvm.MethodName)) ∈ lw_all := lw_g (lw_at lw_m6 0 rfl) rfl
theorem q1319 : (Jvm.Cond.code ({ cls := "CoincideBench", name := "best", desc := "(II)I" } : Jvm.MethodName) prog_1_method_57_code (17 : Nat) (Option.some Jvm.ClassFile.FieldType.int)) ∈ lw_all := lw_g (lw_at lw_m6 1 rfl) rfl
theorem q1320 : (Jvm.Cond.methodLink "CoincideBench" (324 : Nat) ({ cls := "CoincideBench", name := "isNormal", desc := "(III)Z" } : Jvm.MethodName)) ∈ lw_all := lw_g (lw_at lw_m6 2 rfl) rfl
theorem q1321 : (Jvm.Cond.static ({ cls := "CoincideBench", name := "isNormal", desc := "(III)Z" } : Jvm.MethodName)) ∈ lw_all := lw_g (lw_at lw_m6 3 rfl) rfl
theorem q1322 : (Jvm.Cond.code ({ cls := "CoincideBench", name := "isNormal", desc := "(III)Z" } : Jvm.MethodName) prog_1_method_56_code (4 : Nat) (Option.some Jvm.ClassFile.FieldType.boolean)) ∈ lw_all := lw_g (lw_at lw_m6 4 rfl) rfl
theorem q1324 : (Jvm.Cond.instanceMethod ({ cls := "CoincideBench", name := "cosine", desc := "(II)I" } : Jvm.MethodName)) ∈ lw_all := lw_g (lw_at lw_m6 6 rfl) rfl
theorem q1325 : (Jvm.Cond.selects "CoincideBench" ({ cls := "CoincideBench", name := "cosine", desc := "(II)I" } : Jvm.MethodName) ({ cls := "CoincideBench", name := "cosine", desc := "(II)I" } : Jvm.MethodName)) ∈ lw_all := lw_g (lw_at lw_m6 7 rfl) rfl
theorem q1326 : (Jvm.Cond.code ({ cls := "CoincideBench", name := "cosine", desc := "(II)I" } : Jvm.MethodName) prog_1_method_58_code (5 : Nat) (Option.some Jvm.ClassFile.FieldType.int)) ∈ lw_all := lw_g (lw_at lw_m6 8 rfl) rfl
theorem q1327 : (Jvm.Cond.classLink "CoincideBench" (327 : Nat) "CoincideBench$Turned") ∈ lw_all := lw_g (lw_at lw_m6 9 rfl) rfl
theorem q1329 : (Jvm.Cond.instanceMethod ({ cls := "CoincideBench", name := "coset", desc := "(IIIIII)J" } : Jvm.MethodName)) ∈ lw_all := lw_g (lw_at lw_m6 11 rfl) rfl
theorem q1330 : (Jvm.Cond.selects "CoincideBench" ({ cls := "CoincideBench", name := "coset", desc := "(IIIIII)J" } : Jvm.MethodName) ({ cls := "CoincideBench", name := "coset", desc := "(IIIIII)J" } : Jvm.MethodName)) ∈ lw_all := lw_g (lw_at lw_m6 12 rfl) rfl
theorem q1331 : (Jvm.Cond.code ({ cls := "CoincideBench", name := "coset", desc := "(IIIIII)J" } : Jvm.MethodName) prog_1_method_59_code (19 : Nat) (Option.some Jvm.ClassFile.FieldType.long)) ∈ lw_all := lw_g (lw_at lw_m6 13 rfl) rfl
theorem q1332 : (Jvm.Cond.methodLink "CoincideBench" (333 : Nat) ({ cls := "java/lang/Math", name := "floorDiv", desc := "(JJ)J" } : Jvm.MethodName)) ∈ lw_all := lw_g (lw_at lw_m6 14 rfl) rfl
theorem q1334 : (Jvm.Cond.instanceMethod ({ cls := "CoincideBench", name := "turned", desc := "(II)I" } : Jvm.MethodName)) ∈ lw_all := lw_g (lw_at lw_m6 16 rfl) rfl
theorem q1335 : (Jvm.Cond.selects "CoincideBench" ({ cls := "CoincideBench", name := "turned", desc := "(II)I" } : Jvm.MethodName) ({ cls := "CoincideBench", name := "turned", desc := "(II)I" } : Jvm.MethodName)) ∈ lw_all := lw_g (lw_at lw_m6 17 rfl) rfl
theorem q1336 : (Jvm.Cond.code ({ cls := "CoincideBench", name := "turned", desc := "(II)I" } : Jvm.MethodName) prog_1_method_64_code (3 : Nat) (Option.some Jvm.ClassFile.FieldType.int)) ∈ lw_all := lw_g (lw_at lw_m6 18 rfl) rfl
theorem q1337 : (Jvm.Cond.methodLink "CoincideBench" (357 : Nat) ({ cls := "CoincideBench", name := "asksTurns", desc := "(II)Z" } : Jvm.MethodName)) ∈ lw_all := lw_g (lw_at lw_m6 19 rfl) rfl
theorem q1338 : (Jvm.Cond.privateMethod ({ cls := "CoincideBench", name := "asksTurns", desc := "(II)Z" } : Jvm.MethodName)) ∈ lw_tbl := lw_at lw_m6 20 rfl
theorem q1339 : (Jvm.Cond.instanceMethod ({ cls := "CoincideBench", name := "asksTurns", desc := "(II)Z" } : Jvm.MethodName)) ∈ lw_all := lw_g (lw_at lw_m6 21 rfl) rfl
theorem q1340 : (Jvm.Cond.code ({ cls := "CoincideBench", name := "asksTurns", desc := "(II)Z" } : Jvm.MethodName) prog_1_method_63_code (3 : Nat) (Option.some Jvm.ClassFile.FieldType.boolean)) ∈ lw_all := lw_g (lw_at lw_m6 22 rfl) rfl
theorem q1341 : (Jvm.Cond.methodLink "CoincideBench" (353 : Nat) ({ cls := "CoincideBench", name := "seeksTurns", desc := "(LCoincideBench$Lattice;I)V" } : Jvm.MethodName)) ∈ lw_all := lw_g (lw_at lw_m6 23 rfl) rfl
theorem q1342 : (Jvm.Cond.privateMethod ({ cls := "CoincideBench", name := "seeksTurns", desc := "(LCoincideBench$Lattice;I)V" } : Jvm.MethodName)) ∈ lw_tbl := lw_at lw_m6 24 rfl
theorem q1343 : (Jvm.Cond.instanceMethod ({ cls := "CoincideBench", name := "seeksTurns", desc := "(LCoincideBench$Lattice;I)V" } : Jvm.MethodName)) ∈ lw_all := lw_g (lw_at lw_m6 25 rfl) rfl
theorem q1344 : (Jvm.Cond.code ({ cls := "CoincideBench", name := "seeksTurns", desc := "(LCoincideBench$Lattice;I)V" } : Jvm.MethodName) prog_1_method_62_code (6 : Nat) (Option.none : Option Jvm.ClassFile.FieldType)) ∈ lw_all := lw_g (lw_at lw_m6 26 rfl) rfl
theorem q1345 : (Jvm.Cond.methodLink "CoincideBench" (345 : Nat) ({ cls := "CoincideBench", name := "laysTurn", desc := "(IIII)I" } : Jvm.MethodName)) ∈ lw_all := lw_g (lw_at lw_m6 27 rfl) rfl
theorem q1346 : (Jvm.Cond.privateMethod ({ cls := "CoincideBench", name := "laysTurn", desc := "(IIII)I" } : Jvm.MethodName)) ∈ lw_tbl := lw_at lw_m6 28 rfl
theorem q1347 : (Jvm.Cond.instanceMethod ({ cls := "CoincideBench", name := "laysTurn", desc := "(IIII)I" } : Jvm.MethodName)) ∈ lw_all := lw_g (lw_at lw_m6 29 rfl) rfl
theorem q1348 : (Jvm.Cond.code ({ cls := "CoincideBench", name := "laysTurn", desc := "(IIII)I" } : Jvm.MethodName) prog_1_method_60_code (5 : Nat) (Option.some Jvm.ClassFile.FieldType.int)) ∈ lw_all := lw_g (lw_at lw_m6 30 rfl) rfl
theorem q1349 : (Jvm.Cond.methodLink "CoincideBench" (349 : Nat) ({ cls := "CoincideBench", name := "indexBy", desc := "(LCoincideBench$Rows;J)J" } : Jvm.MethodName)) ∈ lw_all := lw_g (lw_at lw_m6 31 rfl) rfl
theorem q1350 : (Jvm.Cond.privateMethod ({ cls := "CoincideBench", name := "indexBy", desc := "(LCoincideBench$Rows;J)J" } : Jvm.MethodName)) ∈ lw_tbl := lw_at lw_m6 32 rfl
theorem q1351 : (Jvm.Cond.instanceMethod ({ cls := "CoincideBench", name := "indexBy", desc := "(LCoincideBench$Rows;J)J" } : Jvm.MethodName)) ∈ lw_all := lw_g (lw_at lw_m6 33 rfl) rfl
theorem q1352 : (Jvm.Cond.code ({ cls := "CoincideBench", name := "indexBy", desc := "(LCoincideBench$Rows;J)J" } : Jvm.MethodName) prog_1_method_61_code (8 : Nat) (Option.some Jvm.ClassFile.FieldType.long)) ∈ lw_all := lw_g (lw_at lw_m6 34 rfl) rfl
theorem q1353 : (Jvm.Cond.methodLink "CoincideBench" (336 : Nat) ({ cls := "CoincideBench$Small", name := "begins", desc := "(J)V" } : Jvm.MethodName)) ∈ lw_all := lw_g (lw_at lw_m6 35 rfl) rfl
theorem q1355 : (Jvm.Cond.instanceMethod ({ cls := "CoincideBench", name := "turnOf", desc := "(II)I" } : Jvm.MethodName)) ∈ lw_all := lw_g (lw_at lw_m6 37 rfl) rfl
theorem q1356 : (Jvm.Cond.selects "CoincideBench" ({ cls := "CoincideBench", name := "turnOf", desc := "(II)I" } : Jvm.MethodName) ({ cls := "CoincideBench", name := "turnOf", desc := "(II)I" } : Jvm.MethodName)) ∈ lw_all := lw_g (lw_at lw_m6 38 rfl) rfl
theorem q1357 : (Jvm.Cond.code ({ cls := "CoincideBench", name := "turnOf", desc := "(II)I" } : Jvm.MethodName) prog_1_method_65_code (3 : Nat) (Option.some Jvm.ClassFile.FieldType.int)) ∈ lw_all := lw_g (lw_at lw_m6 39 rfl) rfl
theorem q1359 : (Jvm.Cond.instanceMethod ({ cls := "CoincideBench", name := "symmetries", desc := "(I)I" } : Jvm.MethodName)) ∈ lw_all := lw_g (lw_at lw_m6 41 rfl) rfl
theorem q1360 : (Jvm.Cond.selects "CoincideBench" ({ cls := "CoincideBench", name := "symmetries", desc := "(I)I" } : Jvm.MethodName) ({ cls := "CoincideBench", name := "symmetries", desc := "(I)I" } : Jvm.MethodName)) ∈ lw_all := lw_g (lw_at lw_m6 42 rfl) rfl
theorem q1361 : (Jvm.Cond.code ({ cls := "CoincideBench", name := "symmetries", desc := "(I)I" } : Jvm.MethodName) prog_1_method_67_code (4 : Nat) (Option.some Jvm.ClassFile.FieldType.int)) ∈ lw_all := lw_g (lw_at lw_m6 43 rfl) rfl
theorem q1362 : (Jvm.Cond.methodLink "CoincideBench" (361 : Nat) ({ cls := "CoincideBench", name := "goes", desc := "(ILCoincideBench$Lattice;LCoincideBench$Lattice;)Z" } : Jvm.MethodName)) ∈ lw_all := lw_g (lw_at lw_m6 44 rfl) rfl
theorem q1363 : (Jvm.Cond.privateMethod ({ cls := "CoincideBench", name := "goes", desc := "(ILCoincideBench$Lattice;LCoincideBench$Lattice;)Z" } : Jvm.MethodName)) ∈ lw_tbl := lw_at lw_m6 45 rfl
theorem q1364 : (Jvm.Cond.instanceMethod ({ cls := "CoincideBench", name := "goes", desc := "(ILCoincideBench$Lattice;LCoincideBench$Lattice;)Z" } : Jvm.MethodName)) ∈ lw_all := lw_g (lw_at lw_m6 46 rfl) rfl
theorem q1365 : (Jvm.Cond.code ({ cls := "CoincideBench", name := "goes", desc := "(ILCoincideBench$Lattice;LCoincideBench$Lattice;)Z" } : Jvm.MethodName) prog_1_method_66_code (11 : Nat) (Option.some Jvm.ClassFile.FieldType.boolean)) ∈ lw_all := lw_g (lw_at lw_m6 47 rfl) rfl
theorem q1367 : (Jvm.Cond.instanceMethod ({ cls := "CoincideBench", name := "takes", desc := "(II)I" } : Jvm.MethodName)) ∈ lw_all := lw_g (lw_at lw_m6 49 rfl) rfl
theorem q1368 : (Jvm.Cond.selects "CoincideBench" ({ cls := "CoincideBench", name := "takes", desc := "(II)I" } : Jvm.MethodName) ({ cls := "CoincideBench", name := "takes", desc := "(II)I" } : Jvm.MethodName)) ∈ lw_all := lw_g (lw_at lw_m6 50 rfl) rfl
theorem q1369 : (Jvm.Cond.code ({ cls := "CoincideBench", name := "takes", desc := "(II)I" } : Jvm.MethodName) prog_1_method_68_code (4 : Nat) (Option.some Jvm.ClassFile.FieldType.int)) ∈ lw_all := lw_g (lw_at lw_m6 51 rfl) rfl
theorem q1371 : (Jvm.Cond.instanceMethod ({ cls := "CoincideBench", name := "add", desc := "(IIII)I" } : Jvm.MethodName)) ∈ lw_all := lw_g (lw_at lw_m6 53 rfl) rfl
theorem q1372 : (Jvm.Cond.selects "CoincideBench" ({ cls := "CoincideBench", name := "add", desc := "(IIII)I" } : Jvm.MethodName) ({ cls := "CoincideBench", name := "add", desc := "(IIII)I" } : Jvm.MethodName)) ∈ lw_all := lw_g (lw_at lw_m6 54 rfl) rfl
theorem q1373 : (Jvm.Cond.code ({ cls := "CoincideBench", name := "add", desc := "(IIII)I" } : Jvm.MethodName) prog_1_method_73_code (5 : Nat) (Option.some Jvm.ClassFile.FieldType.int)) ∈ lw_all := lw_g (lw_at lw_m6 55 rfl) rfl
theorem q1374 : (Jvm.Cond.methodLink "CoincideBench" (406 : Nat) ({ cls := "CoincideBench", name := "isOwn", desc := "(I)Z" } : Jvm.MethodName)) ∈ lw_all := lw_g (lw_at lw_m6 56 rfl) rfl
theorem q1375 : (Jvm.Cond.privateMethod ({ cls := "CoincideBench", name := "isOwn", desc := "(I)Z" } : Jvm.MethodName)) ∈ lw_tbl := lw_at lw_m6 57 rfl
theorem q1376 : (Jvm.Cond.instanceMethod ({ cls := "CoincideBench", name := "isOwn", desc := "(I)Z" } : Jvm.MethodName)) ∈ lw_all := lw_g (lw_at lw_m6 58 rfl) rfl
theorem q1377 : (Jvm.Cond.code ({ cls := "CoincideBench", name := "isOwn", desc := "(I)Z" } : Jvm.MethodName) prog_1_method_71_code (2 : Nat) (Option.some Jvm.ClassFile.FieldType.boolean)) ∈ lw_all := lw_g (lw_at lw_m6 59 rfl) rfl
theorem q1378 : (Jvm.Cond.constantLong "CoincideBench" (409 : Nat) (-99 : Int64)) ∈ lw_all := lw_g (lw_at lw_m6 60 rfl) rfl
theorem q1379 : (Jvm.Cond.constantLong "CoincideBench" (411 : Nat) (99 : Int64)) ∈ lw_all := lw_g (lw_at lw_m6 61 rfl) rfl
theorem q1380 : (Jvm.Cond.methodLink "CoincideBench" (413 : Nat) ({ cls := "CoincideBench$Step", name := "<init>", desc := "(IIIJ)V" } : Jvm.MethodName)) ∈ lw_all := lw_g (lw_at lw_m6 62 rfl) rfl
theorem q1381 : (Jvm.Cond.methodLink "CoincideBench" (416 : Nat) ({ cls := "CoincideBench", name := "does", desc := "(IILCoincideBench$Step;)I" } : Jvm.MethodName)) ∈ lw_all := lw_g (lw_at lw_m6 63 rfl) rfl
theorem q1382 : (Jvm.Cond.privateMethod ({ cls := "CoincideBench", name := "does", desc := "(IILCoincideBench$Step;)I" } : Jvm.MethodName)) ∈ lw_tbl := lw_at lw_m6 64 rfl
theorem q1383 : (Jvm.Cond.instanceMethod ({ cls := "CoincideBench", name := "does", desc := "(IILCoincideBench$Step;)I" } : Jvm.MethodName)) ∈ lw_all := lw_g (lw_at lw_m6 65 rfl) rfl
theorem q1384 : (Jvm.Cond.codeWith ({ cls := "CoincideBench", name := "does", desc := "(IILCoincideBench$Step;)I" } : Jvm.MethodName) prog_1_method_72_code (6 : Nat) (Option.some Jvm.ClassFile.FieldType.int) [((19 : Nat), (32 : Nat), (33 : Nat), (392 : Nat))]) ∈ lw_all := lw_g (lw_at lw_m6 66 rfl) rfl
theorem q1385 : (Jvm.Cond.classLink "CoincideBench" (392 : Nat) "CoincideBench$Refused") ∈ lw_all := lw_g (lw_at lw_m6 67 rfl) rfl
theorem q1386 : (Jvm.Cond.methodLink "CoincideBench" (397 : Nat) ({ cls := "CoincideBench$Rows", name := "copy", desc := "()LCoincideBench$Rows;" } : Jvm.MethodName)) ∈ lw_all := lw_g (lw_at lw_m6 68 rfl) rfl
theorem q1387 : (Jvm.Cond.methodLink "CoincideBench" (400 : Nat) ({ cls := "CoincideBench$Step", name := "goes", desc := "(LCoincideBench$Rows;)V" } : Jvm.MethodName)) ∈ lw_all := lw_g (lw_at lw_m6 69 rfl) rfl
theorem q1388 : (Jvm.Cond.methodLink "CoincideBench" (402 : Nat) ({ cls := "CoincideBench", name := "changes", desc := "(IILCoincideBench$Rows;I)V" } : Jvm.MethodName)) ∈ lw_all := lw_g (lw_at lw_m6 70 rfl) rfl
theorem q1389 : (Jvm.Cond.privateMethod ({ cls := "CoincideBench", name := "changes", desc := "(IILCoincideBench$Rows;I)V" } : Jvm.MethodName)) ∈ lw_tbl := lw_at lw_m6 71 rfl
theorem q1390 : (Jvm.Cond.instanceMethod ({ cls := "CoincideBench", name := "changes", desc := "(IILCoincideBench$Rows;I)V" } : Jvm.MethodName)) ∈ lw_all := lw_g (lw_at lw_m6 72 rfl) rfl
theorem q1391 : (Jvm.Cond.codeWith ({ cls := "CoincideBench", name := "changes", desc := "(IILCoincideBench$Rows;I)V" } : Jvm.MethodName) prog_1_method_70_code (6 : Nat) (Option.none : Option Jvm.ClassFile.FieldType) [((0 : Nat), (59 : Nat), (62 : Nat), (367 : Nat)), ((0 : Nat), (59 : Nat), (62 : Nat), (372 : Nat)), ((0 : Nat), (59 : Nat), (76 : Nat), (375 : Nat))]) ∈ lw_all := lw_g (lw_at lw_m6 73 rfl) rfl
theorem q1392 : (Jvm.Cond.classLink "CoincideBench" (367 : Nat) "CoincideBench$TooGreat") ∈ lw_all := lw_g (lw_at lw_m6 74 rfl) rfl
theorem q1393 : (Jvm.Cond.classLink "CoincideBench" (372 : Nat) "CoincideBench$Flat") ∈ lw_all := lw_g (lw_at lw_m6 75 rfl) rfl
theorem q1394 : (Jvm.Cond.classLink "CoincideBench" (375 : Nat) "CoincideBench$Full") ∈ lw_all := lw_g (lw_at lw_m6 76 rfl) rfl
theorem q1403 : (Jvm.Cond.methodLink "CoincideBench" (377 : Nat) ({ cls := "CoincideBench$Full", name := "<init>", desc := "()V" } : Jvm.MethodName)) ∈ lw_all := lw_g (lw_at lw_m6 85 rfl) rfl
theorem q1411 : (Jvm.Cond.fieldLinkNest "CoincideBench" (438 : Nat) "CoincideBench$Hindrance" "row" "I" "CoincideBench") ∈ lw_tbl := lw_at lw_m6 93 rfl
theorem q1416 : (Jvm.Cond.methodLink "CoincideBench" (378 : Nat) ({ cls := "CoincideBench", name := "checks", desc := "(LCoincideBench$Rows;I)V" } : Jvm.MethodName)) ∈ lw_all := lw_g (lw_at lw_m6 98 rfl) rfl
theorem q1417 : (Jvm.Cond.static ({ cls := "CoincideBench", name := "checks", desc := "(LCoincideBench$Rows;I)V" } : Jvm.MethodName)) ∈ lw_all := lw_g (lw_at lw_m6 99 rfl) rfl
theorem q1418 : (Jvm.Cond.code ({ cls := "CoincideBench", name := "checks", desc := "(LCoincideBench$Rows;I)V" } : Jvm.MethodName) prog_1_method_69_code (3 : Nat) (Option.none : Option Jvm.ClassFile.FieldType)) ∈ lw_all := lw_g (lw_at lw_m6 100 rfl) rfl
theorem q1419 : (Jvm.Cond.constantLong "CoincideBench" (365 : Nat) (20 : Int64)) ∈ lw_all := lw_g (lw_at lw_m6 101 rfl) rfl
theorem q1428 : (Jvm.Cond.methodLink "CoincideBench" (369 : Nat) ({ cls := "CoincideBench$TooGreat", name := "<init>", desc := "(I)V" } : Jvm.MethodName)) ∈ lw_all := lw_g (lw_at lw_m6 110 rfl) rfl
theorem q1435 : (Jvm.Cond.constantLong "CoincideBench" (370 : Nat) (60 : Int64)) ∈ lw_all := lw_g (lw_at lw_m6 117 rfl) rfl
theorem q1444 : (Jvm.Cond.methodLink "CoincideBench" (374 : Nat) ({ cls := "CoincideBench$Flat", name := "<init>", desc := "(I)V" } : Jvm.MethodName)) ∈ lw_all := lw_g (lw_at lw_m6 126 rfl) rfl
theorem q1451 : (Jvm.Cond.classLink "CoincideBench" (382 : Nat) "CoincideBench$Act") ∈ lw_all := lw_g (lw_at lw_m6 133 rfl) rfl
theorem q1453 : (Jvm.Cond.methodLink "CoincideBench" (385 : Nat) ({ cls := "CoincideBench$Act", name := "<init>", desc := "(ILCoincideBench$Rows;)V" } : Jvm.MethodName)) ∈ lw_all := lw_g (lw_at lw_m6 135 rfl) rfl
theorem q1458 : (Jvm.Cond.fieldLinkNest "CoincideBench" (442 : Nat) "CoincideBench$Act" "lattice" "I" "CoincideBench") ∈ lw_tbl := lw_at lw_m6 140 rfl
theorem q1460 : (Jvm.Cond.fieldLinkNest "CoincideBench" (443 : Nat) "CoincideBench$Act" "were" "LCoincideBench$Rows;" "CoincideBench") ∈ lw_tbl := lw_at lw_m6 142 rfl
theorem q1466 : (Jvm.Cond.methodLink "CoincideBench" (388 : Nat) ({ cls := "java/util/ArrayList", name := "add", desc := "(Ljava/lang/Object;)Z" } : Jvm.MethodName)) ∈ lw_all := lw_g (lw_at lw_m6 148 rfl) rfl
theorem q1475 : (Jvm.Cond.methodLink "CoincideBench" (394 : Nat) ({ cls := "CoincideBench$Refused", name := "<init>", desc := "(IILCoincideBench$Hindrance;)V" } : Jvm.MethodName)) ∈ lw_all := lw_g (lw_at lw_m6 157 rfl) rfl
theorem q1486 : (Jvm.Cond.fieldLinkNest "CoincideBench" (424 : Nat) "CoincideBench$Refused" "act" "I" "CoincideBench") ∈ lw_tbl := lw_at lw_m6 168 rfl
theorem q1488 : (Jvm.Cond.fieldLinkNest "CoincideBench" (435 : Nat) "CoincideBench$Refused" "lattice" "I" "CoincideBench") ∈ lw_tbl := lw_at lw_m6 170 rfl
theorem q1496 : (Jvm.Cond.instanceMethod ({ cls := "CoincideBench", name := "exchange", desc := "(III)I" } : Jvm.MethodName)) ∈ lw_all := lw_g (lw_at lw_m6 178 rfl) rfl
theorem q1497 : (Jvm.Cond.selects "CoincideBench" ({ cls := "CoincideBench", name := "exchange", desc := "(III)I" } : Jvm.MethodName) ({ cls := "CoincideBench", name := "exchange", desc := "(III)I" } : Jvm.MethodName)) ∈ lw_all := lw_g (lw_at lw_m6 179 rfl) rfl
theorem q1498 : (Jvm.Cond.code ({ cls := "CoincideBench", name := "exchange", desc := "(III)I" } : Jvm.MethodName) prog_1_method_74_code (4 : Nat) (Option.some Jvm.ClassFile.FieldType.int)) ∈ lw_all := lw_g (lw_at lw_m6 180 rfl) rfl
theorem q1500 : (Jvm.Cond.instanceMethod ({ cls := "CoincideBench", name := "negate", desc := "(II)I" } : Jvm.MethodName)) ∈ lw_all := lw_g (lw_at lw_m6 182 rfl) rfl
theorem q1501 : (Jvm.Cond.selects "CoincideBench" ({ cls := "CoincideBench", name := "negate", desc := "(II)I" } : Jvm.MethodName) ({ cls := "CoincideBench", name := "negate", desc := "(II)I" } : Jvm.MethodName)) ∈ lw_all := lw_g (lw_at lw_m6 183 rfl) rfl
theorem q1502 : (Jvm.Cond.code ({ cls := "CoincideBench", name := "negate", desc := "(II)I" } : Jvm.MethodName) prog_1_method_75_code (3 : Nat) (Option.some Jvm.ClassFile.FieldType.int)) ∈ lw_all := lw_g (lw_at lw_m6 184 rfl) rfl
theorem q1504 : (Jvm.Cond.instanceMethod ({ cls := "CoincideBench", name := "put", desc := "(IIII)I" } : Jvm.MethodName)) ∈ lw_all := lw_g (lw_at lw_m6 186 rfl) rfl
theorem q1505 : (Jvm.Cond.selects "CoincideBench" ({ cls := "CoincideBench", name := "put", desc := "(IIII)I" } : Jvm.MethodName) ({ cls := "CoincideBench", name := "put", desc := "(IIII)I" } : Jvm.MethodName)) ∈ lw_all := lw_g (lw_at lw_m6 187 rfl) rfl
theorem q1506 : (Jvm.Cond.codeWith ({ cls := "CoincideBench", name := "put", desc := "(IIII)I" } : Jvm.MethodName) prog_1_method_76_code (8 : Nat) (Option.some Jvm.ClassFile.FieldType.int) [((78 : Nat), (89 : Nat), (90 : Nat), (392 : Nat))]) ∈ lw_all := lw_g (lw_at lw_m6 188 rfl) rfl
theorem q1507 : (Jvm.Cond.constantLong "CoincideBench" (420 : Nat) (-6 : Int64)) ∈ lw_all := lw_g (lw_at lw_m6 189 rfl) rfl
theorem q1508 : (Jvm.Cond.constantLong "CoincideBench" (422 : Nat) (6 : Int64)) ∈ lw_all := lw_g (lw_at lw_m6 190 rfl) rfl
theorem q1510 : (Jvm.Cond.instanceMethod ({ cls := "CoincideBench", name := "why", desc := "(I)I" } : Jvm.MethodName)) ∈ lw_all := lw_g (lw_at lw_m6 192 rfl) rfl
theorem q1511 : (Jvm.Cond.selects "CoincideBench" ({ cls := "CoincideBench", name := "why", desc := "(I)I" } : Jvm.MethodName) ({ cls := "CoincideBench", name := "why", desc := "(I)I" } : Jvm.MethodName)) ∈ lw_all := lw_g (lw_at lw_m6 193 rfl) rfl
theorem q1512 : (Jvm.Cond.code ({ cls := "CoincideBench", name := "why", desc := "(I)I" } : Jvm.MethodName) prog_1_method_77_code (2 : Nat) (Option.some Jvm.ClassFile.FieldType.int)) ∈ lw_all := lw_g (lw_at lw_m6 194 rfl) rfl
theorem q1513 : (Jvm.Cond.methodLink "CoincideBench" (427 : Nat) ({ cls := "CoincideBench$Refused", name := "hindrance", desc := "()LCoincideBench$Hindrance;" } : Jvm.MethodName)) ∈ lw_all := lw_g (lw_at lw_m6 195 rfl) rfl
theorem q1524 : (Jvm.Cond.methodLink "CoincideBench" (431 : Nat) ({ cls := "CoincideBench$Hindrance", name := "kind", desc := "()I" } : Jvm.MethodName)) ∈ lw_all := lw_g (lw_at lw_m6 206 rfl) rfl
theorem q1537 : (Jvm.Cond.instanceMethod ({ cls := "CoincideBench", name := "undo", desc := "()I" } : Jvm.MethodName)) ∈ lw_all := lw_g (lw_at lw_m6 219 rfl) rfl
theorem q1538 : (Jvm.Cond.selects "CoincideBench" ({ cls := "CoincideBench", name := "undo", desc := "()I" } : Jvm.MethodName) ({ cls := "CoincideBench", name := "undo", desc := "()I" } : Jvm.MethodName)) ∈ lw_all := lw_g (lw_at lw_m6 220 rfl) rfl
theorem q1539 : (Jvm.Cond.code ({ cls := "CoincideBench", name := "undo", desc := "()I" } : Jvm.MethodName) prog_1_method_79_code (1 : Nat) (Option.some Jvm.ClassFile.FieldType.int)) ∈ lw_all := lw_g (lw_at lw_m6 221 rfl) rfl
theorem q1540 : (Jvm.Cond.methodLink "CoincideBench" (446 : Nat) ({ cls := "java/util/ArrayList", name := "isEmpty", desc := "()Z" } : Jvm.MethodName)) ∈ lw_all := lw_g (lw_at lw_m6 222 rfl) rfl
theorem q1544 : (Jvm.Cond.methodLink "CoincideBench" (449 : Nat) ({ cls := "CoincideBench", name := "takesBack", desc := "()V" } : Jvm.MethodName)) ∈ lw_all := lw_g (lw_at lw_m6 226 rfl) rfl
theorem q1545 : (Jvm.Cond.privateMethod ({ cls := "CoincideBench", name := "takesBack", desc := "()V" } : Jvm.MethodName)) ∈ lw_tbl := lw_at lw_m6 227 rfl
theorem q1546 : (Jvm.Cond.instanceMethod ({ cls := "CoincideBench", name := "takesBack", desc := "()V" } : Jvm.MethodName)) ∈ lw_all := lw_g (lw_at lw_m6 228 rfl) rfl
theorem q1547 : (Jvm.Cond.code ({ cls := "CoincideBench", name := "takesBack", desc := "()V" } : Jvm.MethodName) prog_1_method_78_code (2 : Nat) (Option.none : Option Jvm.ClassFile.FieldType)) ∈ lw_all := lw_g (lw_at lw_m6 229 rfl) rfl
theorem q1548 : (Jvm.Cond.methodLink "CoincideBench" (439 : Nat) ({ cls := "java/util/ArrayList", name := "remove", desc := "(I)Ljava/lang/Object;" } : Jvm.MethodName)) ∈ lw_all := lw_g (lw_at lw_m6 230 rfl) rfl
theorem q1557 : (Jvm.Cond.instanceMethod ({ cls := "CoincideBench", name := "anew", desc := "()I" } : Jvm.MethodName)) ∈ lw_all := lw_g (lw_at lw_m6 239 rfl) rfl
theorem q1558 : (Jvm.Cond.selects "CoincideBench" ({ cls := "CoincideBench", name := "anew", desc := "()I" } : Jvm.MethodName) ({ cls := "CoincideBench", name := "anew", desc := "()I" } : Jvm.MethodName)) ∈ lw_all := lw_g (lw_at lw_m7 0 rfl) rfl
theorem q1559 : (Jvm.Cond.code ({ cls := "CoincideBench", name := "anew", desc := "()I" } : Jvm.MethodName) prog_1_method_80_code (2 : Nat) (Option.some Jvm.ClassFile.FieldType.int)) ∈ lw_all := lw_g (lw_at lw_m7 1 rfl) rfl
theorem q2195 : (Jvm.Cond.castable "CoincideBench" "java/lang/Object") ∈ lw_tbl := lw_at lw_m9 157 rfl
theorem in_X0 : ∀ w ∈ wsX00, w ∈ lw_all := lw_in wsX00 [254, 256, 258, 260, 262, 264, 266, 268, 270, 272, 274, 276, 278, 280, 282] (by decide +kernel) (by decide +kernel)
