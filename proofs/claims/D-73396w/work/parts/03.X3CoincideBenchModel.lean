/-! CoincideBenchModel -/
set_option maxRecDepth 100000
def RX3 : String := "CoincideBenchModel"
def TX3 : u_T := fun k => match k with
  | 0 => ("CoincideBenchModel", "mem", "[I", true)
  | 1 => ("CoincideBenchModel", "was", "[I", true)
  | 2 => ("CoincideBenchModel", "past", "[I", true)
  | 3 => ("CoincideBenchModel", "tape", "[I", true)
  | 4 => ("CoincideBenchModel", "taped", "I", false)
  | 5 => ("CoincideBenchModel", "faultKind", "I", false)
  | 6 => ("CoincideBenchModel", "faultPlace", "I", false)
  | 7 => ("CoincideBenchModel", "whyAct", "I", false)
  | 8 => ("CoincideBenchModel", "whyKind", "I", false)
  | 9 => ("CoincideBenchModel", "whyLattice", "I", false)
  | 10 => ("CoincideBenchModel", "whyRow", "I", false)
  | 11 => ("CoincideBenchModel", "at", "I", false)
  | 12 => ("CoincideBenchModel", "begin", "I", false)
  | 13 => ("CoincideBenchModel", "token", "I", false)
  | 14 => ("CoincideBenchModel", "value", "I", false)
  | 15 => ("CoincideBenchModel", "bad", "Z", false)
  | 16 => ("CoincideBenchModel", "nameAt", "[I", true)
  | 17 => ("CoincideBenchModel", "nameLong", "[I", true)
  | 18 => ("CoincideBenchModel", "rows", "[J", true)
  | 19 => ("CoincideBenchModel", "over", "J", false)
  | 20 => ("CoincideBenchModel", "turn", "[J", true)
  | 21 => ("CoincideBenchModel", "stepKind", "[I", true)
  | 22 => ("CoincideBenchModel", "stepRow", "[I", true)
  | 23 => ("CoincideBenchModel", "stepBy", "[I", true)
  | 24 => ("CoincideBenchModel", "stepTimes", "[J", true)
  | 25 => ("CoincideBenchModel", "stepMany", "I", false)
  | 26 => ("CoincideBenchModel", "point", "[J", true)
  | 27 => ("CoincideBenchModel", "first", "[J", true)
  | 28 => ("CoincideBenchModel", "firstOver", "J", false)
  | 29 => ("CoincideBenchModel", "other", "[J", true)
  | 30 => ("CoincideBenchModel", "otherOver", "J", false)
  | 31 => ("CoincideBenchModel", "both", "J", false)
  | 32 => ("CoincideBenchModel", "told", "[J", true)
  | 33 => ("CoincideBenchModel", "wide", "[J", true)
  | 34 => ("CoincideBenchModel", "six", "[J", true)
  | 35 => ("CoincideBenchModel", "bettered", "I", false)
  | 36 => ("CoincideBenchModel", "tried", "[J", true)
  | 37 => ("CoincideBenchModel", "best", "[J", true)
  | 38 => ("CoincideBenchModel", "crossed", "[J", true)
  | _ => ("CoincideBenchModel", "high", "[J", true)
def tyX3 : Nat → FieldType := fun k => match k with
  | 0 => .array .int
  | 1 => .array .int
  | 2 => .array .int
  | 3 => .array .int
  | 4 => .int
  | 5 => .int
  | 6 => .int
  | 7 => .int
  | 8 => .int
  | 9 => .int
  | 10 => .int
  | 11 => .int
  | 12 => .int
  | 13 => .int
  | 14 => .int
  | 15 => .boolean
  | 16 => .array .int
  | 17 => .array .int
  | 18 => .array .long
  | 19 => .long
  | 20 => .array .long
  | 21 => .array .int
  | 22 => .array .int
  | 23 => .array .int
  | 24 => .array .long
  | 25 => .int
  | 26 => .array .long
  | 27 => .array .long
  | 28 => .long
  | 29 => .array .long
  | 30 => .long
  | 31 => .long
  | 32 => .array .long
  | 33 => .array .long
  | 34 => .array .long
  | 35 => .int
  | 36 => .array .long
  | 37 => .array .long
  | 38 => .array .long
  | _ => .array .long
abbrev wsX30 : List Cond := u_ws RX3 TX3 40
set_option maxRecDepth 100000 in
theorem nmX3 : ∀ a, a < 40 → ∀ b, b < 40 → a ≠ b → (TX3 a).2.1 ≠ (TX3 b).2.1 := by decide +kernel
set_option maxRecDepth 100000 in
theorem tyX3_ok : ∀ k, k < 40 → parseFieldDescriptor (TX3 k).2.2.1 = some (tyX3 k) := by decide +kernel
abbrev cX3_init : ByteArray := prog_20_method_4_code
def yX3_init : MethodName := ⟨RX3, "<init>", "()V"⟩
def dkwX3_init_7 : List UInt8 := [6, 188, 11, 181, 0, 76, 42, 6, 188, 11, 181, 0, 79, 42, 6, 188, 11, 181, 0, 82, 177]
abbrev dktX3_init_7 : List UInt8 := dkwX3_init_7 ++ []
def dkwX3_init_6 : List UInt8 := [42, 16, 16, 188, 11, 181, 0, 67, 42, 16, 18, 188, 11, 181, 0, 70, 42, 6, 188, 11, 181, 0, 73, 42]
abbrev dktX3_init_6 : List UInt8 := dkwX3_init_6 ++ dktX3_init_7
def dkwX3_init_5 : List UInt8 := [42, 16, 9, 188, 11, 181, 0, 58, 42, 16, 9, 188, 11, 181, 0, 61, 42, 16, 9, 188, 11, 181, 0, 64]
abbrev dktX3_init_5 : List UInt8 := dkwX3_init_5 ++ dktX3_init_6
def dkwX3_init_4 : List UInt8 := [17, 1, 144, 188, 10, 181, 0, 49, 42, 17, 1, 144, 188, 11, 181, 0, 52, 42, 6, 188, 11, 181, 0, 55]
abbrev dktX3_init_4 : List UInt8 := dkwX3_init_4 ++ dktX3_init_5
def dkwX3_init_3 : List UInt8 := [181, 0, 40, 42, 17, 1, 144, 188, 10, 181, 0, 43, 42, 17, 1, 144, 188, 10, 181, 0, 46, 42]
abbrev dktX3_init_3 : List UInt8 := dkwX3_init_3 ++ dktX3_init_4
def dkwX3_init_2 : List UInt8 := [181, 0, 30, 42, 8, 188, 10, 181, 0, 33, 42, 16, 9, 188, 11, 181, 0, 36, 42, 16, 9, 188, 11]
abbrev dktX3_init_2 : List UInt8 := dkwX3_init_2 ++ dktX3_init_3
def dkwX3_init_1 : List UInt8 := [188, 10, 181, 0, 20, 42, 17, 1, 244, 188, 10, 181, 0, 23, 42, 2, 181, 0, 26, 42, 8, 188, 10]
abbrev dktX3_init_1 : List UInt8 := dkwX3_init_1 ++ dktX3_init_2
def dkwX3_init_0 : List UInt8 := [42, 183, 0, 7, 42, 16, 73, 188, 10, 181, 0, 13, 42, 16, 73, 188, 10, 181, 0, 17, 42, 17, 3, 132]
abbrev dktX3_init_0 : List UInt8 := dkwX3_init_0 ++ dktX3_init_1
theorem dksX3_init_0 : cX3_init.data.toList.drop 0 = dktX3_init_0 := by decide +kernel
theorem dksX3_init_1 : cX3_init.data.toList.drop 24 = dktX3_init_1 := dk_seg dksX3_init_0 24 rfl rfl
theorem dksX3_init_2 : cX3_init.data.toList.drop 47 = dktX3_init_2 := dk_seg dksX3_init_1 23 rfl rfl
theorem dksX3_init_3 : cX3_init.data.toList.drop 70 = dktX3_init_3 := dk_seg dksX3_init_2 23 rfl rfl
theorem dksX3_init_4 : cX3_init.data.toList.drop 92 = dktX3_init_4 := dk_seg dksX3_init_3 22 rfl rfl
theorem dksX3_init_5 : cX3_init.data.toList.drop 116 = dktX3_init_5 := dk_seg dksX3_init_4 24 rfl rfl
theorem dksX3_init_6 : cX3_init.data.toList.drop 140 = dktX3_init_6 := dk_seg dksX3_init_5 24 rfl rfl
theorem dksX3_init_7 : cX3_init.data.toList.drop 164 = dktX3_init_7 := dk_seg dksX3_init_6 24 rfl rfl
theorem dX3_init_0 : decode cX3_init 0 = .ok (.aload_n 0, 1) := dk_42 (dk_at dksX3_init_0 0 rfl rfl)
theorem dX3_init_1 : decode cX3_init 1 = .ok (.invokespecial 7, 3) := dk_183 0 7 (dk_at dksX3_init_0 1 rfl rfl)
theorem dX3_init_4 : decode cX3_init 4 = .ok (.aload_n 0, 1) := dk_42 (dk_at dksX3_init_0 4 rfl rfl)
theorem dX3_init_5 : decode cX3_init 5 = .ok (.bipush 73, 2) := dk_16 73 (dk_at dksX3_init_0 5 rfl rfl)
theorem dX3_init_7 : decode cX3_init 7 = .ok (.newarray .int, 2) := dk_188_10 (dk_at dksX3_init_0 7 rfl rfl)
theorem dX3_init_9 : decode cX3_init 9 = .ok (.putfield 13, 3) := dk_181 0 13 (dk_at dksX3_init_0 9 rfl rfl)
theorem dX3_init_12 : decode cX3_init 12 = .ok (.aload_n 0, 1) := dk_42 (dk_at dksX3_init_0 12 rfl rfl)
theorem dX3_init_13 : decode cX3_init 13 = .ok (.bipush 73, 2) := dk_16 73 (dk_at dksX3_init_0 13 rfl rfl)
theorem dX3_init_15 : decode cX3_init 15 = .ok (.newarray .int, 2) := dk_188_10 (dk_at dksX3_init_0 15 rfl rfl)
theorem dX3_init_17 : decode cX3_init 17 = .ok (.putfield 17, 3) := dk_181 0 17 (dk_at dksX3_init_0 17 rfl rfl)
theorem dX3_init_20 : decode cX3_init 20 = .ok (.aload_n 0, 1) := dk_42 (dk_at dksX3_init_0 20 rfl rfl)
theorem dX3_init_21 : decode cX3_init 21 = .ok (.sipush 900, 3) := dk_17 3 132 (dk_at dksX3_init_0 21 rfl rfl)
theorem dX3_init_24 : decode cX3_init 24 = .ok (.newarray .int, 2) := dk_188_10 (dk_at dksX3_init_1 0 rfl rfl)
theorem dX3_init_26 : decode cX3_init 26 = .ok (.putfield 20, 3) := dk_181 0 20 (dk_at dksX3_init_1 2 rfl rfl)
theorem dX3_init_29 : decode cX3_init 29 = .ok (.aload_n 0, 1) := dk_42 (dk_at dksX3_init_1 5 rfl rfl)
theorem dX3_init_30 : decode cX3_init 30 = .ok (.sipush 500, 3) := dk_17 1 244 (dk_at dksX3_init_1 6 rfl rfl)
theorem dX3_init_33 : decode cX3_init 33 = .ok (.newarray .int, 2) := dk_188_10 (dk_at dksX3_init_1 9 rfl rfl)
theorem dX3_init_35 : decode cX3_init 35 = .ok (.putfield 23, 3) := dk_181 0 23 (dk_at dksX3_init_1 11 rfl rfl)
theorem dX3_init_38 : decode cX3_init 38 = .ok (.aload_n 0, 1) := dk_42 (dk_at dksX3_init_1 14 rfl rfl)
theorem dX3_init_39 : decode cX3_init 39 = .ok (.iconst (-1), 1) := dk_2 (dk_at dksX3_init_1 15 rfl rfl)
theorem dX3_init_40 : decode cX3_init 40 = .ok (.putfield 26, 3) := dk_181 0 26 (dk_at dksX3_init_1 16 rfl rfl)
theorem dX3_init_43 : decode cX3_init 43 = .ok (.aload_n 0, 1) := dk_42 (dk_at dksX3_init_1 19 rfl rfl)
theorem dX3_init_44 : decode cX3_init 44 = .ok (.iconst 5, 1) := dk_8 (dk_at dksX3_init_1 20 rfl rfl)
theorem dX3_init_45 : decode cX3_init 45 = .ok (.newarray .int, 2) := dk_188_10 (dk_at dksX3_init_1 21 rfl rfl)
theorem dX3_init_47 : decode cX3_init 47 = .ok (.putfield 30, 3) := dk_181 0 30 (dk_at dksX3_init_2 0 rfl rfl)
theorem dX3_init_50 : decode cX3_init 50 = .ok (.aload_n 0, 1) := dk_42 (dk_at dksX3_init_2 3 rfl rfl)
theorem dX3_init_51 : decode cX3_init 51 = .ok (.iconst 5, 1) := dk_8 (dk_at dksX3_init_2 4 rfl rfl)
theorem dX3_init_52 : decode cX3_init 52 = .ok (.newarray .int, 2) := dk_188_10 (dk_at dksX3_init_2 5 rfl rfl)
theorem dX3_init_54 : decode cX3_init 54 = .ok (.putfield 33, 3) := dk_181 0 33 (dk_at dksX3_init_2 7 rfl rfl)
theorem dX3_init_57 : decode cX3_init 57 = .ok (.aload_n 0, 1) := dk_42 (dk_at dksX3_init_2 10 rfl rfl)
theorem dX3_init_58 : decode cX3_init 58 = .ok (.bipush 9, 2) := dk_16 9 (dk_at dksX3_init_2 11 rfl rfl)
theorem dX3_init_60 : decode cX3_init 60 = .ok (.newarray .long, 2) := dk_188_11 (dk_at dksX3_init_2 13 rfl rfl)
theorem dX3_init_62 : decode cX3_init 62 = .ok (.putfield 36, 3) := dk_181 0 36 (dk_at dksX3_init_2 15 rfl rfl)
theorem dX3_init_65 : decode cX3_init 65 = .ok (.aload_n 0, 1) := dk_42 (dk_at dksX3_init_2 18 rfl rfl)
theorem dX3_init_66 : decode cX3_init 66 = .ok (.bipush 9, 2) := dk_16 9 (dk_at dksX3_init_2 19 rfl rfl)
theorem dX3_init_68 : decode cX3_init 68 = .ok (.newarray .long, 2) := dk_188_11 (dk_at dksX3_init_2 21 rfl rfl)
theorem dX3_init_70 : decode cX3_init 70 = .ok (.putfield 40, 3) := dk_181 0 40 (dk_at dksX3_init_3 0 rfl rfl)
theorem dX3_init_73 : decode cX3_init 73 = .ok (.aload_n 0, 1) := dk_42 (dk_at dksX3_init_3 3 rfl rfl)
theorem dX3_init_74 : decode cX3_init 74 = .ok (.sipush 400, 3) := dk_17 1 144 (dk_at dksX3_init_3 4 rfl rfl)
theorem dX3_init_77 : decode cX3_init 77 = .ok (.newarray .int, 2) := dk_188_10 (dk_at dksX3_init_3 7 rfl rfl)
theorem dX3_init_79 : decode cX3_init 79 = .ok (.putfield 43, 3) := dk_181 0 43 (dk_at dksX3_init_3 9 rfl rfl)
theorem dX3_init_82 : decode cX3_init 82 = .ok (.aload_n 0, 1) := dk_42 (dk_at dksX3_init_3 12 rfl rfl)
theorem dX3_init_83 : decode cX3_init 83 = .ok (.sipush 400, 3) := dk_17 1 144 (dk_at dksX3_init_3 13 rfl rfl)
theorem dX3_init_86 : decode cX3_init 86 = .ok (.newarray .int, 2) := dk_188_10 (dk_at dksX3_init_3 16 rfl rfl)
theorem dX3_init_88 : decode cX3_init 88 = .ok (.putfield 46, 3) := dk_181 0 46 (dk_at dksX3_init_3 18 rfl rfl)
theorem dX3_init_91 : decode cX3_init 91 = .ok (.aload_n 0, 1) := dk_42 (dk_at dksX3_init_3 21 rfl rfl)
theorem dX3_init_92 : decode cX3_init 92 = .ok (.sipush 400, 3) := dk_17 1 144 (dk_at dksX3_init_4 0 rfl rfl)
theorem dX3_init_95 : decode cX3_init 95 = .ok (.newarray .int, 2) := dk_188_10 (dk_at dksX3_init_4 3 rfl rfl)
theorem dX3_init_97 : decode cX3_init 97 = .ok (.putfield 49, 3) := dk_181 0 49 (dk_at dksX3_init_4 5 rfl rfl)
theorem dX3_init_100 : decode cX3_init 100 = .ok (.aload_n 0, 1) := dk_42 (dk_at dksX3_init_4 8 rfl rfl)
theorem dX3_init_101 : decode cX3_init 101 = .ok (.sipush 400, 3) := dk_17 1 144 (dk_at dksX3_init_4 9 rfl rfl)
theorem dX3_init_104 : decode cX3_init 104 = .ok (.newarray .long, 2) := dk_188_11 (dk_at dksX3_init_4 12 rfl rfl)
theorem dX3_init_106 : decode cX3_init 106 = .ok (.putfield 52, 3) := dk_181 0 52 (dk_at dksX3_init_4 14 rfl rfl)
theorem dX3_init_109 : decode cX3_init 109 = .ok (.aload_n 0, 1) := dk_42 (dk_at dksX3_init_4 17 rfl rfl)
theorem dX3_init_110 : decode cX3_init 110 = .ok (.iconst 3, 1) := dk_6 (dk_at dksX3_init_4 18 rfl rfl)
theorem dX3_init_111 : decode cX3_init 111 = .ok (.newarray .long, 2) := dk_188_11 (dk_at dksX3_init_4 19 rfl rfl)
theorem dX3_init_113 : decode cX3_init 113 = .ok (.putfield 55, 3) := dk_181 0 55 (dk_at dksX3_init_4 21 rfl rfl)
theorem dX3_init_116 : decode cX3_init 116 = .ok (.aload_n 0, 1) := dk_42 (dk_at dksX3_init_5 0 rfl rfl)
theorem dX3_init_117 : decode cX3_init 117 = .ok (.bipush 9, 2) := dk_16 9 (dk_at dksX3_init_5 1 rfl rfl)
theorem dX3_init_119 : decode cX3_init 119 = .ok (.newarray .long, 2) := dk_188_11 (dk_at dksX3_init_5 3 rfl rfl)
theorem dX3_init_121 : decode cX3_init 121 = .ok (.putfield 58, 3) := dk_181 0 58 (dk_at dksX3_init_5 5 rfl rfl)
theorem dX3_init_124 : decode cX3_init 124 = .ok (.aload_n 0, 1) := dk_42 (dk_at dksX3_init_5 8 rfl rfl)
theorem dX3_init_125 : decode cX3_init 125 = .ok (.bipush 9, 2) := dk_16 9 (dk_at dksX3_init_5 9 rfl rfl)
theorem dX3_init_127 : decode cX3_init 127 = .ok (.newarray .long, 2) := dk_188_11 (dk_at dksX3_init_5 11 rfl rfl)
theorem dX3_init_129 : decode cX3_init 129 = .ok (.putfield 61, 3) := dk_181 0 61 (dk_at dksX3_init_5 13 rfl rfl)
theorem dX3_init_132 : decode cX3_init 132 = .ok (.aload_n 0, 1) := dk_42 (dk_at dksX3_init_5 16 rfl rfl)
theorem dX3_init_133 : decode cX3_init 133 = .ok (.bipush 9, 2) := dk_16 9 (dk_at dksX3_init_5 17 rfl rfl)
theorem dX3_init_135 : decode cX3_init 135 = .ok (.newarray .long, 2) := dk_188_11 (dk_at dksX3_init_5 19 rfl rfl)
theorem dX3_init_137 : decode cX3_init 137 = .ok (.putfield 64, 3) := dk_181 0 64 (dk_at dksX3_init_5 21 rfl rfl)
theorem dX3_init_140 : decode cX3_init 140 = .ok (.aload_n 0, 1) := dk_42 (dk_at dksX3_init_6 0 rfl rfl)
theorem dX3_init_141 : decode cX3_init 141 = .ok (.bipush 16, 2) := dk_16 16 (dk_at dksX3_init_6 1 rfl rfl)
theorem dX3_init_143 : decode cX3_init 143 = .ok (.newarray .long, 2) := dk_188_11 (dk_at dksX3_init_6 3 rfl rfl)
theorem dX3_init_145 : decode cX3_init 145 = .ok (.putfield 67, 3) := dk_181 0 67 (dk_at dksX3_init_6 5 rfl rfl)
theorem dX3_init_148 : decode cX3_init 148 = .ok (.aload_n 0, 1) := dk_42 (dk_at dksX3_init_6 8 rfl rfl)
theorem dX3_init_149 : decode cX3_init 149 = .ok (.bipush 18, 2) := dk_16 18 (dk_at dksX3_init_6 9 rfl rfl)
theorem dX3_init_151 : decode cX3_init 151 = .ok (.newarray .long, 2) := dk_188_11 (dk_at dksX3_init_6 11 rfl rfl)
theorem dX3_init_153 : decode cX3_init 153 = .ok (.putfield 70, 3) := dk_181 0 70 (dk_at dksX3_init_6 13 rfl rfl)
theorem dX3_init_156 : decode cX3_init 156 = .ok (.aload_n 0, 1) := dk_42 (dk_at dksX3_init_6 16 rfl rfl)
theorem dX3_init_157 : decode cX3_init 157 = .ok (.iconst 3, 1) := dk_6 (dk_at dksX3_init_6 17 rfl rfl)
theorem dX3_init_158 : decode cX3_init 158 = .ok (.newarray .long, 2) := dk_188_11 (dk_at dksX3_init_6 18 rfl rfl)
theorem dX3_init_160 : decode cX3_init 160 = .ok (.putfield 73, 3) := dk_181 0 73 (dk_at dksX3_init_6 20 rfl rfl)
theorem dX3_init_163 : decode cX3_init 163 = .ok (.aload_n 0, 1) := dk_42 (dk_at dksX3_init_6 23 rfl rfl)
theorem dX3_init_164 : decode cX3_init 164 = .ok (.iconst 3, 1) := dk_6 (dk_at dksX3_init_7 0 rfl rfl)
theorem dX3_init_165 : decode cX3_init 165 = .ok (.newarray .long, 2) := dk_188_11 (dk_at dksX3_init_7 1 rfl rfl)
theorem dX3_init_167 : decode cX3_init 167 = .ok (.putfield 76, 3) := dk_181 0 76 (dk_at dksX3_init_7 3 rfl rfl)
theorem dX3_init_170 : decode cX3_init 170 = .ok (.aload_n 0, 1) := dk_42 (dk_at dksX3_init_7 6 rfl rfl)
theorem dX3_init_171 : decode cX3_init 171 = .ok (.iconst 3, 1) := dk_6 (dk_at dksX3_init_7 7 rfl rfl)
theorem dX3_init_172 : decode cX3_init 172 = .ok (.newarray .long, 2) := dk_188_11 (dk_at dksX3_init_7 8 rfl rfl)
theorem dX3_init_174 : decode cX3_init 174 = .ok (.putfield 79, 3) := dk_181 0 79 (dk_at dksX3_init_7 10 rfl rfl)
theorem dX3_init_177 : decode cX3_init 177 = .ok (.aload_n 0, 1) := dk_42 (dk_at dksX3_init_7 13 rfl rfl)
theorem dX3_init_178 : decode cX3_init 178 = .ok (.iconst 3, 1) := dk_6 (dk_at dksX3_init_7 14 rfl rfl)
theorem dX3_init_179 : decode cX3_init 179 = .ok (.newarray .long, 2) := dk_188_11 (dk_at dksX3_init_7 15 rfl rfl)
theorem dX3_init_181 : decode cX3_init 181 = .ok (.putfield 82, 3) := dk_181 0 82 (dk_at dksX3_init_7 17 rfl rfl)
theorem dX3_init_184 : decode cX3_init 184 = .ok (.return_, 1) := dk_177 (dk_at dksX3_init_7 20 rfl rfl)
abbrev cX3_feed : ByteArray := prog_20_method_5_code
def yX3_feed : MethodName := ⟨RX3, "feed", "(IIIII)I"⟩
def dkwX3_feed_4 : List UInt8 := [180, 0, 85, 16, 20, 96, 181, 0, 85, 42, 180, 0, 85, 172]
abbrev dktX3_feed_4 : List UInt8 := dkwX3_feed_4 ++ []
def dkwX3_feed_3 : List UInt8 := [16, 8, 21, 7, 7, 112, 104, 100, 124, 17, 0, 255, 126, 79, 132, 7, 1, 167, 255, 212, 42, 89]
abbrev dktX3_feed_3 : List UInt8 := dkwX3_feed_3 ++ dktX3_feed_4
def dkwX3_feed_2 : List UInt8 := [162, 0, 43, 42, 180, 0, 23, 42, 180, 0, 85, 21, 7, 96, 25, 6, 21, 7, 7, 108, 46, 16, 24]
abbrev dktX3_feed_2 : List UInt8 := dkwX3_feed_2 ++ dktX3_feed_3
def dkwX3_feed_1 : List UInt8 := [5, 29, 79, 89, 6, 21, 4, 79, 89, 7, 21, 5, 79, 58, 6, 3, 54, 7, 21, 7, 16, 20]
abbrev dktX3_feed_1 : List UInt8 := dkwX3_feed_1 ++ dktX3_feed_2
def dkwX3_feed_0 : List UInt8 := [42, 180, 0, 85, 17, 1, 224, 164, 0, 5, 2, 172, 8, 188, 10, 89, 3, 27, 79, 89, 4, 28, 79, 89]
abbrev dktX3_feed_0 : List UInt8 := dkwX3_feed_0 ++ dktX3_feed_1
theorem dksX3_feed_0 : cX3_feed.data.toList.drop 0 = dktX3_feed_0 := by decide +kernel
theorem dksX3_feed_1 : cX3_feed.data.toList.drop 24 = dktX3_feed_1 := dk_seg dksX3_feed_0 24 rfl rfl
theorem dksX3_feed_2 : cX3_feed.data.toList.drop 46 = dktX3_feed_2 := dk_seg dksX3_feed_1 22 rfl rfl
theorem dksX3_feed_3 : cX3_feed.data.toList.drop 69 = dktX3_feed_3 := dk_seg dksX3_feed_2 23 rfl rfl
theorem dksX3_feed_4 : cX3_feed.data.toList.drop 91 = dktX3_feed_4 := dk_seg dksX3_feed_3 22 rfl rfl
theorem dX3_feed_0 : decode cX3_feed 0 = .ok (.aload_n 0, 1) := dk_42 (dk_at dksX3_feed_0 0 rfl rfl)
theorem dX3_feed_1 : decode cX3_feed 1 = .ok (.getfield 85, 3) := dk_180 0 85 (dk_at dksX3_feed_0 1 rfl rfl)
theorem dX3_feed_4 : decode cX3_feed 4 = .ok (.sipush 480, 3) := dk_17 1 224 (dk_at dksX3_feed_0 4 rfl rfl)
theorem dX3_feed_7 : decode cX3_feed 7 = .ok (.if_icmp .le 5, 3) := dk_164 0 5 (dk_at dksX3_feed_0 7 rfl rfl)
theorem dX3_feed_10 : decode cX3_feed 10 = .ok (.iconst (-1), 1) := dk_2 (dk_at dksX3_feed_0 10 rfl rfl)
theorem dX3_feed_11 : decode cX3_feed 11 = .ok (.ireturn, 1) := dk_172 (dk_at dksX3_feed_0 11 rfl rfl)
theorem dX3_feed_12 : decode cX3_feed 12 = .ok (.iconst 5, 1) := dk_8 (dk_at dksX3_feed_0 12 rfl rfl)
theorem dX3_feed_13 : decode cX3_feed 13 = .ok (.newarray .int, 2) := dk_188_10 (dk_at dksX3_feed_0 13 rfl rfl)
theorem dX3_feed_15 : decode cX3_feed 15 = .ok (.dup, 1) := dk_89 (dk_at dksX3_feed_0 15 rfl rfl)
theorem dX3_feed_16 : decode cX3_feed 16 = .ok (.iconst 0, 1) := dk_3 (dk_at dksX3_feed_0 16 rfl rfl)
theorem dX3_feed_17 : decode cX3_feed 17 = .ok (.iload_n 1, 1) := dk_27 (dk_at dksX3_feed_0 17 rfl rfl)
theorem dX3_feed_18 : decode cX3_feed 18 = .ok (.iastore, 1) := dk_79 (dk_at dksX3_feed_0 18 rfl rfl)
theorem dX3_feed_19 : decode cX3_feed 19 = .ok (.dup, 1) := dk_89 (dk_at dksX3_feed_0 19 rfl rfl)
theorem dX3_feed_20 : decode cX3_feed 20 = .ok (.iconst 1, 1) := dk_4 (dk_at dksX3_feed_0 20 rfl rfl)
theorem dX3_feed_21 : decode cX3_feed 21 = .ok (.iload_n 2, 1) := dk_28 (dk_at dksX3_feed_0 21 rfl rfl)
theorem dX3_feed_22 : decode cX3_feed 22 = .ok (.iastore, 1) := dk_79 (dk_at dksX3_feed_0 22 rfl rfl)
theorem dX3_feed_23 : decode cX3_feed 23 = .ok (.dup, 1) := dk_89 (dk_at dksX3_feed_0 23 rfl rfl)
theorem dX3_feed_24 : decode cX3_feed 24 = .ok (.iconst 2, 1) := dk_5 (dk_at dksX3_feed_1 0 rfl rfl)
theorem dX3_feed_25 : decode cX3_feed 25 = .ok (.iload_n 3, 1) := dk_29 (dk_at dksX3_feed_1 1 rfl rfl)
theorem dX3_feed_26 : decode cX3_feed 26 = .ok (.iastore, 1) := dk_79 (dk_at dksX3_feed_1 2 rfl rfl)
theorem dX3_feed_27 : decode cX3_feed 27 = .ok (.dup, 1) := dk_89 (dk_at dksX3_feed_1 3 rfl rfl)
theorem dX3_feed_28 : decode cX3_feed 28 = .ok (.iconst 3, 1) := dk_6 (dk_at dksX3_feed_1 4 rfl rfl)
theorem dX3_feed_29 : decode cX3_feed 29 = .ok (.iload 4, 2) := dk_21 4 (dk_at dksX3_feed_1 5 rfl rfl)
theorem dX3_feed_31 : decode cX3_feed 31 = .ok (.iastore, 1) := dk_79 (dk_at dksX3_feed_1 7 rfl rfl)
theorem dX3_feed_32 : decode cX3_feed 32 = .ok (.dup, 1) := dk_89 (dk_at dksX3_feed_1 8 rfl rfl)
theorem dX3_feed_33 : decode cX3_feed 33 = .ok (.iconst 4, 1) := dk_7 (dk_at dksX3_feed_1 9 rfl rfl)
theorem dX3_feed_34 : decode cX3_feed 34 = .ok (.iload 5, 2) := dk_21 5 (dk_at dksX3_feed_1 10 rfl rfl)
theorem dX3_feed_36 : decode cX3_feed 36 = .ok (.iastore, 1) := dk_79 (dk_at dksX3_feed_1 12 rfl rfl)
theorem dX3_feed_37 : decode cX3_feed 37 = .ok (.astore 6, 2) := dk_58 6 (dk_at dksX3_feed_1 13 rfl rfl)
theorem dX3_feed_39 : decode cX3_feed 39 = .ok (.iconst 0, 1) := dk_3 (dk_at dksX3_feed_1 15 rfl rfl)
theorem dX3_feed_40 : decode cX3_feed 40 = .ok (.istore 7, 2) := dk_54 7 (dk_at dksX3_feed_1 16 rfl rfl)
theorem dX3_feed_42 : decode cX3_feed 42 = .ok (.iload 7, 2) := dk_21 7 (dk_at dksX3_feed_1 18 rfl rfl)
theorem dX3_feed_44 : decode cX3_feed 44 = .ok (.bipush 20, 2) := dk_16 20 (dk_at dksX3_feed_1 20 rfl rfl)
theorem dX3_feed_46 : decode cX3_feed 46 = .ok (.if_icmp .ge 43, 3) := dk_162 0 43 (dk_at dksX3_feed_2 0 rfl rfl)
theorem dX3_feed_49 : decode cX3_feed 49 = .ok (.aload_n 0, 1) := dk_42 (dk_at dksX3_feed_2 3 rfl rfl)
theorem dX3_feed_50 : decode cX3_feed 50 = .ok (.getfield 23, 3) := dk_180 0 23 (dk_at dksX3_feed_2 4 rfl rfl)
theorem dX3_feed_53 : decode cX3_feed 53 = .ok (.aload_n 0, 1) := dk_42 (dk_at dksX3_feed_2 7 rfl rfl)
theorem dX3_feed_54 : decode cX3_feed 54 = .ok (.getfield 85, 3) := dk_180 0 85 (dk_at dksX3_feed_2 8 rfl rfl)
theorem dX3_feed_57 : decode cX3_feed 57 = .ok (.iload 7, 2) := dk_21 7 (dk_at dksX3_feed_2 11 rfl rfl)
theorem dX3_feed_59 : decode cX3_feed 59 = .ok (.iadd, 1) := dk_96 (dk_at dksX3_feed_2 13 rfl rfl)
theorem dX3_feed_60 : decode cX3_feed 60 = .ok (.aload 6, 2) := dk_25 6 (dk_at dksX3_feed_2 14 rfl rfl)
theorem dX3_feed_62 : decode cX3_feed 62 = .ok (.iload 7, 2) := dk_21 7 (dk_at dksX3_feed_2 16 rfl rfl)
theorem dX3_feed_64 : decode cX3_feed 64 = .ok (.iconst 4, 1) := dk_7 (dk_at dksX3_feed_2 18 rfl rfl)
theorem dX3_feed_65 : decode cX3_feed 65 = .ok (.idiv, 1) := dk_108 (dk_at dksX3_feed_2 19 rfl rfl)
theorem dX3_feed_66 : decode cX3_feed 66 = .ok (.iaload, 1) := dk_46 (dk_at dksX3_feed_2 20 rfl rfl)
theorem dX3_feed_67 : decode cX3_feed 67 = .ok (.bipush 24, 2) := dk_16 24 (dk_at dksX3_feed_2 21 rfl rfl)
theorem dX3_feed_69 : decode cX3_feed 69 = .ok (.bipush 8, 2) := dk_16 8 (dk_at dksX3_feed_3 0 rfl rfl)
theorem dX3_feed_71 : decode cX3_feed 71 = .ok (.iload 7, 2) := dk_21 7 (dk_at dksX3_feed_3 2 rfl rfl)
theorem dX3_feed_73 : decode cX3_feed 73 = .ok (.iconst 4, 1) := dk_7 (dk_at dksX3_feed_3 4 rfl rfl)
theorem dX3_feed_74 : decode cX3_feed 74 = .ok (.irem, 1) := dk_112 (dk_at dksX3_feed_3 5 rfl rfl)
theorem dX3_feed_75 : decode cX3_feed 75 = .ok (.imul, 1) := dk_104 (dk_at dksX3_feed_3 6 rfl rfl)
theorem dX3_feed_76 : decode cX3_feed 76 = .ok (.isub, 1) := dk_100 (dk_at dksX3_feed_3 7 rfl rfl)
theorem dX3_feed_77 : decode cX3_feed 77 = .ok (.iushr, 1) := dk_124 (dk_at dksX3_feed_3 8 rfl rfl)
theorem dX3_feed_78 : decode cX3_feed 78 = .ok (.sipush 255, 3) := dk_17 0 255 (dk_at dksX3_feed_3 9 rfl rfl)
theorem dX3_feed_81 : decode cX3_feed 81 = .ok (.iand, 1) := dk_126 (dk_at dksX3_feed_3 12 rfl rfl)
theorem dX3_feed_82 : decode cX3_feed 82 = .ok (.iastore, 1) := dk_79 (dk_at dksX3_feed_3 13 rfl rfl)
theorem dX3_feed_83 : decode cX3_feed 83 = .ok (.iinc 7 1, 3) := dk_132 7 1 (dk_at dksX3_feed_3 14 rfl rfl)
theorem dX3_feed_86 : decode cX3_feed 86 = .ok (.goto (-44), 3) := dk_167 255 212 (dk_at dksX3_feed_3 17 rfl rfl)
theorem dX3_feed_89 : decode cX3_feed 89 = .ok (.aload_n 0, 1) := dk_42 (dk_at dksX3_feed_3 20 rfl rfl)
theorem dX3_feed_90 : decode cX3_feed 90 = .ok (.dup, 1) := dk_89 (dk_at dksX3_feed_3 21 rfl rfl)
theorem dX3_feed_91 : decode cX3_feed 91 = .ok (.getfield 85, 3) := dk_180 0 85 (dk_at dksX3_feed_4 0 rfl rfl)
theorem dX3_feed_94 : decode cX3_feed 94 = .ok (.bipush 20, 2) := dk_16 20 (dk_at dksX3_feed_4 3 rfl rfl)
theorem dX3_feed_96 : decode cX3_feed 96 = .ok (.iadd, 1) := dk_96 (dk_at dksX3_feed_4 5 rfl rfl)
theorem dX3_feed_97 : decode cX3_feed 97 = .ok (.putfield 85, 3) := dk_181 0 85 (dk_at dksX3_feed_4 6 rfl rfl)
theorem dX3_feed_100 : decode cX3_feed 100 = .ok (.aload_n 0, 1) := dk_42 (dk_at dksX3_feed_4 9 rfl rfl)
theorem dX3_feed_101 : decode cX3_feed 101 = .ok (.getfield 85, 3) := dk_180 0 85 (dk_at dksX3_feed_4 10 rfl rfl)
theorem dX3_feed_104 : decode cX3_feed 104 = .ok (.ireturn, 1) := dk_172 (dk_at dksX3_feed_4 13 rfl rfl)
abbrev cX3_end : ByteArray := prog_20_method_6_code
def yX3_end : MethodName := ⟨RX3, "end", "(I)I"⟩
def dkwX3_end_0 : List UInt8 := [27, 133, 9, 42, 180, 0, 85, 133, 184, 0, 88, 154, 0, 5, 2, 172, 42, 27, 181, 0, 85, 27, 172]
abbrev dktX3_end_0 : List UInt8 := dkwX3_end_0 ++ []
theorem dksX3_end_0 : cX3_end.data.toList.drop 0 = dktX3_end_0 := by decide +kernel
theorem dX3_end_0 : decode cX3_end 0 = .ok (.iload_n 1, 1) := dk_27 (dk_at dksX3_end_0 0 rfl rfl)
theorem dX3_end_1 : decode cX3_end 1 = .ok (.i2l, 1) := dk_133 (dk_at dksX3_end_0 1 rfl rfl)
theorem dX3_end_2 : decode cX3_end 2 = .ok (.lconst 0, 1) := dk_9 (dk_at dksX3_end_0 2 rfl rfl)
theorem dX3_end_3 : decode cX3_end 3 = .ok (.aload_n 0, 1) := dk_42 (dk_at dksX3_end_0 3 rfl rfl)
theorem dX3_end_4 : decode cX3_end 4 = .ok (.getfield 85, 3) := dk_180 0 85 (dk_at dksX3_end_0 4 rfl rfl)
theorem dX3_end_7 : decode cX3_end 7 = .ok (.i2l, 1) := dk_133 (dk_at dksX3_end_0 7 rfl rfl)
theorem dX3_end_8 : decode cX3_end 8 = .ok (.invokestatic 88, 3) := dk_184 0 88 (dk_at dksX3_end_0 8 rfl rfl)
theorem dX3_end_11 : decode cX3_end 11 = .ok (.ifCond .ne 5, 3) := dk_154 0 5 (dk_at dksX3_end_0 11 rfl rfl)
theorem dX3_end_14 : decode cX3_end 14 = .ok (.iconst (-1), 1) := dk_2 (dk_at dksX3_end_0 14 rfl rfl)
theorem dX3_end_15 : decode cX3_end 15 = .ok (.ireturn, 1) := dk_172 (dk_at dksX3_end_0 15 rfl rfl)
theorem dX3_end_16 : decode cX3_end 16 = .ok (.aload_n 0, 1) := dk_42 (dk_at dksX3_end_0 16 rfl rfl)
theorem dX3_end_17 : decode cX3_end 17 = .ok (.iload_n 1, 1) := dk_27 (dk_at dksX3_end_0 17 rfl rfl)
theorem dX3_end_18 : decode cX3_end 18 = .ok (.putfield 85, 3) := dk_181 0 85 (dk_at dksX3_end_0 18 rfl rfl)
theorem dX3_end_21 : decode cX3_end 21 = .ok (.iload_n 1, 1) := dk_27 (dk_at dksX3_end_0 21 rfl rfl)
theorem dX3_end_22 : decode cX3_end 22 = .ok (.ireturn, 1) := dk_172 (dk_at dksX3_end_0 22 rfl rfl)
abbrev cX3_in : ByteArray := prog_20_method_1_code
def yX3_in : MethodName := ⟨RX3, "in", "(JJJ)Z"⟩
def dkwX3_in_0 : List UInt8 := [30, 32, 148, 155, 0, 14, 30, 22, 4, 148, 157, 0, 7, 4, 167, 0, 4, 3, 172]
abbrev dktX3_in_0 : List UInt8 := dkwX3_in_0 ++ []
theorem dksX3_in_0 : cX3_in.data.toList.drop 0 = dktX3_in_0 := by decide +kernel
theorem dX3_in_0 : decode cX3_in 0 = .ok (.lload_n 0, 1) := dk_30 (dk_at dksX3_in_0 0 rfl rfl)
theorem dX3_in_1 : decode cX3_in 1 = .ok (.lload_n 2, 1) := dk_32 (dk_at dksX3_in_0 1 rfl rfl)
theorem dX3_in_2 : decode cX3_in 2 = .ok (.lcmp, 1) := dk_148 (dk_at dksX3_in_0 2 rfl rfl)
theorem dX3_in_3 : decode cX3_in 3 = .ok (.ifCond .lt 14, 3) := dk_155 0 14 (dk_at dksX3_in_0 3 rfl rfl)
theorem dX3_in_6 : decode cX3_in 6 = .ok (.lload_n 0, 1) := dk_30 (dk_at dksX3_in_0 6 rfl rfl)
theorem dX3_in_7 : decode cX3_in 7 = .ok (.lload 4, 2) := dk_22 4 (dk_at dksX3_in_0 7 rfl rfl)
theorem dX3_in_9 : decode cX3_in 9 = .ok (.lcmp, 1) := dk_148 (dk_at dksX3_in_0 9 rfl rfl)
theorem dX3_in_10 : decode cX3_in 10 = .ok (.ifCond .gt 7, 3) := dk_157 0 7 (dk_at dksX3_in_0 10 rfl rfl)
theorem dX3_in_13 : decode cX3_in 13 = .ok (.iconst 1, 1) := dk_4 (dk_at dksX3_in_0 13 rfl rfl)
theorem dX3_in_14 : decode cX3_in 14 = .ok (.goto 4, 3) := dk_167 0 4 (dk_at dksX3_in_0 14 rfl rfl)
theorem dX3_in_17 : decode cX3_in 17 = .ok (.iconst 0, 1) := dk_3 (dk_at dksX3_in_0 17 rfl rfl)
theorem dX3_in_18 : decode cX3_in 18 = .ok (.ireturn, 1) := dk_172 (dk_at dksX3_in_0 18 rfl rfl)
abbrev cX3_lattices : ByteArray := prog_20_method_20_code
def yX3_lattices : MethodName := ⟨RX3, "lattices", "()I"⟩
def dkwX3_lattices_8 : List UInt8 := [181, 0, 184, 42, 180, 0, 13, 4, 46, 172]
abbrev dktX3_lattices_8 : List UInt8 := dkwX3_lattices_8 ++ []
def dkwX3_lattices_7 : List UInt8 := [180, 0, 13, 27, 42, 180, 0, 17, 27, 46, 79, 132, 1, 1, 167, 255, 235, 16, 252, 172, 42, 3]
abbrev dktX3_lattices_7 : List UInt8 := dkwX3_lattices_7 ++ dktX3_lattices_8
def dkwX3_lattices_6 : List UInt8 := [167, 255, 170, 42, 3, 181, 0, 85, 42, 180, 0, 115, 153, 0, 32, 3, 60, 27, 16, 73, 162, 0, 21, 42]
abbrev dktX3_lattices_6 : List UInt8 := dkwX3_lattices_6 ++ dktX3_lattices_7
def dkwX3_lattices_5 : List UInt8 := [182, 0, 161, 153, 0, 7, 4, 167, 0, 4, 3, 182, 0, 150, 42, 180, 0, 13, 4, 92, 46, 4, 96, 79]
abbrev dktX3_lattices_5 : List UInt8 := dkwX3_lattices_5 ++ dktX3_lattices_6
def dkwX3_lattices_4 : List UInt8 := [42, 182, 0, 181, 167, 0, 8, 42, 4, 182, 0, 132, 42, 42, 180, 0, 115, 154, 0, 12, 42, 16, 59]
abbrev dktX3_lattices_4 : List UInt8 := dkwX3_lattices_4 ++ dktX3_lattices_5
def dkwX3_lattices_3 : List UInt8 := [18, 139, 182, 0, 141, 153, 0, 10, 42, 182, 0, 178, 167, 0, 24, 42, 18, 145, 182, 0, 141, 153, 0, 10]
abbrev dktX3_lattices_3 : List UInt8 := dkwX3_lattices_3 ++ dktX3_lattices_4
def dkwX3_lattices_2 : List UInt8 := [42, 2, 181, 0, 26, 42, 182, 0, 136, 42, 180, 0, 115, 154, 0, 85, 42, 180, 0, 105, 153, 0, 78, 42]
abbrev dktX3_lattices_2 : List UInt8 := dkwX3_lattices_2 ++ dktX3_lattices_3
def dkwX3_lattices_1 : List UInt8 := [27, 3, 79, 132, 1, 1, 167, 255, 228, 42, 3, 181, 0, 92, 42, 3, 181, 0, 115, 42, 3, 181, 0, 119]
abbrev dktX3_lattices_1 : List UInt8 := dkwX3_lattices_1 ++ dktX3_lattices_2
def dkwX3_lattices_0 : List UInt8 := [3, 60, 27, 16, 73, 162, 0, 28, 42, 180, 0, 17, 27, 42, 180, 0, 13, 27, 46, 79, 42, 180, 0, 13]
abbrev dktX3_lattices_0 : List UInt8 := dkwX3_lattices_0 ++ dktX3_lattices_1
theorem dksX3_lattices_0 : cX3_lattices.data.toList.drop 0 = dktX3_lattices_0 := by decide +kernel
theorem dksX3_lattices_1 : cX3_lattices.data.toList.drop 24 = dktX3_lattices_1 := dk_seg dksX3_lattices_0 24 rfl rfl
theorem dksX3_lattices_2 : cX3_lattices.data.toList.drop 48 = dktX3_lattices_2 := dk_seg dksX3_lattices_1 24 rfl rfl
theorem dksX3_lattices_3 : cX3_lattices.data.toList.drop 72 = dktX3_lattices_3 := dk_seg dksX3_lattices_2 24 rfl rfl
theorem dksX3_lattices_4 : cX3_lattices.data.toList.drop 96 = dktX3_lattices_4 := dk_seg dksX3_lattices_3 24 rfl rfl
theorem dksX3_lattices_5 : cX3_lattices.data.toList.drop 119 = dktX3_lattices_5 := dk_seg dksX3_lattices_4 23 rfl rfl
theorem dksX3_lattices_6 : cX3_lattices.data.toList.drop 143 = dktX3_lattices_6 := dk_seg dksX3_lattices_5 24 rfl rfl
theorem dksX3_lattices_7 : cX3_lattices.data.toList.drop 167 = dktX3_lattices_7 := dk_seg dksX3_lattices_6 24 rfl rfl
theorem dksX3_lattices_8 : cX3_lattices.data.toList.drop 189 = dktX3_lattices_8 := dk_seg dksX3_lattices_7 22 rfl rfl
theorem dX3_lattices_0 : decode cX3_lattices 0 = .ok (.iconst 0, 1) := dk_3 (dk_at dksX3_lattices_0 0 rfl rfl)
theorem dX3_lattices_1 : decode cX3_lattices 1 = .ok (.istore_n 1, 1) := dk_60 (dk_at dksX3_lattices_0 1 rfl rfl)
theorem dX3_lattices_2 : decode cX3_lattices 2 = .ok (.iload_n 1, 1) := dk_27 (dk_at dksX3_lattices_0 2 rfl rfl)
theorem dX3_lattices_3 : decode cX3_lattices 3 = .ok (.bipush 73, 2) := dk_16 73 (dk_at dksX3_lattices_0 3 rfl rfl)
theorem dX3_lattices_5 : decode cX3_lattices 5 = .ok (.if_icmp .ge 28, 3) := dk_162 0 28 (dk_at dksX3_lattices_0 5 rfl rfl)
theorem dX3_lattices_8 : decode cX3_lattices 8 = .ok (.aload_n 0, 1) := dk_42 (dk_at dksX3_lattices_0 8 rfl rfl)
theorem dX3_lattices_9 : decode cX3_lattices 9 = .ok (.getfield 17, 3) := dk_180 0 17 (dk_at dksX3_lattices_0 9 rfl rfl)
theorem dX3_lattices_12 : decode cX3_lattices 12 = .ok (.iload_n 1, 1) := dk_27 (dk_at dksX3_lattices_0 12 rfl rfl)
theorem dX3_lattices_13 : decode cX3_lattices 13 = .ok (.aload_n 0, 1) := dk_42 (dk_at dksX3_lattices_0 13 rfl rfl)
theorem dX3_lattices_14 : decode cX3_lattices 14 = .ok (.getfield 13, 3) := dk_180 0 13 (dk_at dksX3_lattices_0 14 rfl rfl)
theorem dX3_lattices_17 : decode cX3_lattices 17 = .ok (.iload_n 1, 1) := dk_27 (dk_at dksX3_lattices_0 17 rfl rfl)
theorem dX3_lattices_18 : decode cX3_lattices 18 = .ok (.iaload, 1) := dk_46 (dk_at dksX3_lattices_0 18 rfl rfl)
theorem dX3_lattices_19 : decode cX3_lattices 19 = .ok (.iastore, 1) := dk_79 (dk_at dksX3_lattices_0 19 rfl rfl)
theorem dX3_lattices_20 : decode cX3_lattices 20 = .ok (.aload_n 0, 1) := dk_42 (dk_at dksX3_lattices_0 20 rfl rfl)
theorem dX3_lattices_21 : decode cX3_lattices 21 = .ok (.getfield 13, 3) := dk_180 0 13 (dk_at dksX3_lattices_0 21 rfl rfl)
theorem dX3_lattices_24 : decode cX3_lattices 24 = .ok (.iload_n 1, 1) := dk_27 (dk_at dksX3_lattices_1 0 rfl rfl)
theorem dX3_lattices_25 : decode cX3_lattices 25 = .ok (.iconst 0, 1) := dk_3 (dk_at dksX3_lattices_1 1 rfl rfl)
theorem dX3_lattices_26 : decode cX3_lattices 26 = .ok (.iastore, 1) := dk_79 (dk_at dksX3_lattices_1 2 rfl rfl)
theorem dX3_lattices_27 : decode cX3_lattices 27 = .ok (.iinc 1 1, 3) := dk_132 1 1 (dk_at dksX3_lattices_1 3 rfl rfl)
theorem dX3_lattices_30 : decode cX3_lattices 30 = .ok (.goto (-28), 3) := dk_167 255 228 (dk_at dksX3_lattices_1 6 rfl rfl)
theorem dX3_lattices_33 : decode cX3_lattices 33 = .ok (.aload_n 0, 1) := dk_42 (dk_at dksX3_lattices_1 9 rfl rfl)
theorem dX3_lattices_34 : decode cX3_lattices 34 = .ok (.iconst 0, 1) := dk_3 (dk_at dksX3_lattices_1 10 rfl rfl)
theorem dX3_lattices_35 : decode cX3_lattices 35 = .ok (.putfield 92, 3) := dk_181 0 92 (dk_at dksX3_lattices_1 11 rfl rfl)
theorem dX3_lattices_38 : decode cX3_lattices 38 = .ok (.aload_n 0, 1) := dk_42 (dk_at dksX3_lattices_1 14 rfl rfl)
theorem dX3_lattices_39 : decode cX3_lattices 39 = .ok (.iconst 0, 1) := dk_3 (dk_at dksX3_lattices_1 15 rfl rfl)
theorem dX3_lattices_40 : decode cX3_lattices 40 = .ok (.putfield 115, 3) := dk_181 0 115 (dk_at dksX3_lattices_1 16 rfl rfl)
theorem dX3_lattices_43 : decode cX3_lattices 43 = .ok (.aload_n 0, 1) := dk_42 (dk_at dksX3_lattices_1 19 rfl rfl)
theorem dX3_lattices_44 : decode cX3_lattices 44 = .ok (.iconst 0, 1) := dk_3 (dk_at dksX3_lattices_1 20 rfl rfl)
theorem dX3_lattices_45 : decode cX3_lattices 45 = .ok (.putfield 119, 3) := dk_181 0 119 (dk_at dksX3_lattices_1 21 rfl rfl)
theorem dX3_lattices_48 : decode cX3_lattices 48 = .ok (.aload_n 0, 1) := dk_42 (dk_at dksX3_lattices_2 0 rfl rfl)
theorem dX3_lattices_49 : decode cX3_lattices 49 = .ok (.iconst (-1), 1) := dk_2 (dk_at dksX3_lattices_2 1 rfl rfl)
theorem dX3_lattices_50 : decode cX3_lattices 50 = .ok (.putfield 26, 3) := dk_181 0 26 (dk_at dksX3_lattices_2 2 rfl rfl)
theorem dX3_lattices_53 : decode cX3_lattices 53 = .ok (.aload_n 0, 1) := dk_42 (dk_at dksX3_lattices_2 5 rfl rfl)
theorem dX3_lattices_54 : decode cX3_lattices 54 = .ok (.invokevirtual 136, 3) := dk_182 0 136 (dk_at dksX3_lattices_2 6 rfl rfl)
theorem dX3_lattices_57 : decode cX3_lattices 57 = .ok (.aload_n 0, 1) := dk_42 (dk_at dksX3_lattices_2 9 rfl rfl)
theorem dX3_lattices_58 : decode cX3_lattices 58 = .ok (.getfield 115, 3) := dk_180 0 115 (dk_at dksX3_lattices_2 10 rfl rfl)
theorem dX3_lattices_61 : decode cX3_lattices 61 = .ok (.ifCond .ne 85, 3) := dk_154 0 85 (dk_at dksX3_lattices_2 13 rfl rfl)
theorem dX3_lattices_64 : decode cX3_lattices 64 = .ok (.aload_n 0, 1) := dk_42 (dk_at dksX3_lattices_2 16 rfl rfl)
theorem dX3_lattices_65 : decode cX3_lattices 65 = .ok (.getfield 105, 3) := dk_180 0 105 (dk_at dksX3_lattices_2 17 rfl rfl)
theorem dX3_lattices_68 : decode cX3_lattices 68 = .ok (.ifCond .eq 78, 3) := dk_153 0 78 (dk_at dksX3_lattices_2 20 rfl rfl)
theorem dX3_lattices_71 : decode cX3_lattices 71 = .ok (.aload_n 0, 1) := dk_42 (dk_at dksX3_lattices_2 23 rfl rfl)
theorem dX3_lattices_72 : decode cX3_lattices 72 = .ok (.ldc 139, 2) := dk_18 139 (dk_at dksX3_lattices_3 0 rfl rfl)
theorem dX3_lattices_74 : decode cX3_lattices 74 = .ok (.invokevirtual 141, 3) := dk_182 0 141 (dk_at dksX3_lattices_3 2 rfl rfl)
theorem dX3_lattices_77 : decode cX3_lattices 77 = .ok (.ifCond .eq 10, 3) := dk_153 0 10 (dk_at dksX3_lattices_3 5 rfl rfl)
theorem dX3_lattices_80 : decode cX3_lattices 80 = .ok (.aload_n 0, 1) := dk_42 (dk_at dksX3_lattices_3 8 rfl rfl)
theorem dX3_lattices_81 : decode cX3_lattices 81 = .ok (.invokevirtual 178, 3) := dk_182 0 178 (dk_at dksX3_lattices_3 9 rfl rfl)
theorem dX3_lattices_84 : decode cX3_lattices 84 = .ok (.goto 24, 3) := dk_167 0 24 (dk_at dksX3_lattices_3 12 rfl rfl)
theorem dX3_lattices_87 : decode cX3_lattices 87 = .ok (.aload_n 0, 1) := dk_42 (dk_at dksX3_lattices_3 15 rfl rfl)
theorem dX3_lattices_88 : decode cX3_lattices 88 = .ok (.ldc 145, 2) := dk_18 145 (dk_at dksX3_lattices_3 16 rfl rfl)
theorem dX3_lattices_90 : decode cX3_lattices 90 = .ok (.invokevirtual 141, 3) := dk_182 0 141 (dk_at dksX3_lattices_3 18 rfl rfl)
theorem dX3_lattices_93 : decode cX3_lattices 93 = .ok (.ifCond .eq 10, 3) := dk_153 0 10 (dk_at dksX3_lattices_3 21 rfl rfl)
theorem dX3_lattices_96 : decode cX3_lattices 96 = .ok (.aload_n 0, 1) := dk_42 (dk_at dksX3_lattices_4 0 rfl rfl)
theorem dX3_lattices_97 : decode cX3_lattices 97 = .ok (.invokevirtual 181, 3) := dk_182 0 181 (dk_at dksX3_lattices_4 1 rfl rfl)
theorem dX3_lattices_100 : decode cX3_lattices 100 = .ok (.goto 8, 3) := dk_167 0 8 (dk_at dksX3_lattices_4 4 rfl rfl)
theorem dX3_lattices_103 : decode cX3_lattices 103 = .ok (.aload_n 0, 1) := dk_42 (dk_at dksX3_lattices_4 7 rfl rfl)
theorem dX3_lattices_104 : decode cX3_lattices 104 = .ok (.iconst 1, 1) := dk_4 (dk_at dksX3_lattices_4 8 rfl rfl)
theorem dX3_lattices_105 : decode cX3_lattices 105 = .ok (.invokevirtual 132, 3) := dk_182 0 132 (dk_at dksX3_lattices_4 9 rfl rfl)
theorem dX3_lattices_108 : decode cX3_lattices 108 = .ok (.aload_n 0, 1) := dk_42 (dk_at dksX3_lattices_4 12 rfl rfl)
theorem dX3_lattices_109 : decode cX3_lattices 109 = .ok (.aload_n 0, 1) := dk_42 (dk_at dksX3_lattices_4 13 rfl rfl)
theorem dX3_lattices_110 : decode cX3_lattices 110 = .ok (.getfield 115, 3) := dk_180 0 115 (dk_at dksX3_lattices_4 14 rfl rfl)
theorem dX3_lattices_113 : decode cX3_lattices 113 = .ok (.ifCond .ne 12, 3) := dk_154 0 12 (dk_at dksX3_lattices_4 17 rfl rfl)
theorem dX3_lattices_116 : decode cX3_lattices 116 = .ok (.aload_n 0, 1) := dk_42 (dk_at dksX3_lattices_4 20 rfl rfl)
theorem dX3_lattices_117 : decode cX3_lattices 117 = .ok (.bipush 59, 2) := dk_16 59 (dk_at dksX3_lattices_4 21 rfl rfl)
theorem dX3_lattices_119 : decode cX3_lattices 119 = .ok (.invokevirtual 161, 3) := dk_182 0 161 (dk_at dksX3_lattices_5 0 rfl rfl)
theorem dX3_lattices_122 : decode cX3_lattices 122 = .ok (.ifCond .eq 7, 3) := dk_153 0 7 (dk_at dksX3_lattices_5 3 rfl rfl)
theorem dX3_lattices_125 : decode cX3_lattices 125 = .ok (.iconst 1, 1) := dk_4 (dk_at dksX3_lattices_5 6 rfl rfl)
theorem dX3_lattices_126 : decode cX3_lattices 126 = .ok (.goto 4, 3) := dk_167 0 4 (dk_at dksX3_lattices_5 7 rfl rfl)
theorem dX3_lattices_129 : decode cX3_lattices 129 = .ok (.iconst 0, 1) := dk_3 (dk_at dksX3_lattices_5 10 rfl rfl)
theorem dX3_lattices_130 : decode cX3_lattices 130 = .ok (.invokevirtual 150, 3) := dk_182 0 150 (dk_at dksX3_lattices_5 11 rfl rfl)
theorem dX3_lattices_133 : decode cX3_lattices 133 = .ok (.aload_n 0, 1) := dk_42 (dk_at dksX3_lattices_5 14 rfl rfl)
theorem dX3_lattices_134 : decode cX3_lattices 134 = .ok (.getfield 13, 3) := dk_180 0 13 (dk_at dksX3_lattices_5 15 rfl rfl)
theorem dX3_lattices_137 : decode cX3_lattices 137 = .ok (.iconst 1, 1) := dk_4 (dk_at dksX3_lattices_5 18 rfl rfl)
theorem dX3_lattices_138 : decode cX3_lattices 138 = .ok (.dup2, 1) := dk_92 (dk_at dksX3_lattices_5 19 rfl rfl)
theorem dX3_lattices_139 : decode cX3_lattices 139 = .ok (.iaload, 1) := dk_46 (dk_at dksX3_lattices_5 20 rfl rfl)
theorem dX3_lattices_140 : decode cX3_lattices 140 = .ok (.iconst 1, 1) := dk_4 (dk_at dksX3_lattices_5 21 rfl rfl)
theorem dX3_lattices_141 : decode cX3_lattices 141 = .ok (.iadd, 1) := dk_96 (dk_at dksX3_lattices_5 22 rfl rfl)
theorem dX3_lattices_142 : decode cX3_lattices 142 = .ok (.iastore, 1) := dk_79 (dk_at dksX3_lattices_5 23 rfl rfl)
theorem dX3_lattices_143 : decode cX3_lattices 143 = .ok (.goto (-86), 3) := dk_167 255 170 (dk_at dksX3_lattices_6 0 rfl rfl)
theorem dX3_lattices_146 : decode cX3_lattices 146 = .ok (.aload_n 0, 1) := dk_42 (dk_at dksX3_lattices_6 3 rfl rfl)
theorem dX3_lattices_147 : decode cX3_lattices 147 = .ok (.iconst 0, 1) := dk_3 (dk_at dksX3_lattices_6 4 rfl rfl)
theorem dX3_lattices_148 : decode cX3_lattices 148 = .ok (.putfield 85, 3) := dk_181 0 85 (dk_at dksX3_lattices_6 5 rfl rfl)
theorem dX3_lattices_151 : decode cX3_lattices 151 = .ok (.aload_n 0, 1) := dk_42 (dk_at dksX3_lattices_6 8 rfl rfl)
theorem dX3_lattices_152 : decode cX3_lattices 152 = .ok (.getfield 115, 3) := dk_180 0 115 (dk_at dksX3_lattices_6 9 rfl rfl)
theorem dX3_lattices_155 : decode cX3_lattices 155 = .ok (.ifCond .eq 32, 3) := dk_153 0 32 (dk_at dksX3_lattices_6 12 rfl rfl)
theorem dX3_lattices_158 : decode cX3_lattices 158 = .ok (.iconst 0, 1) := dk_3 (dk_at dksX3_lattices_6 15 rfl rfl)
theorem dX3_lattices_159 : decode cX3_lattices 159 = .ok (.istore_n 1, 1) := dk_60 (dk_at dksX3_lattices_6 16 rfl rfl)
theorem dX3_lattices_160 : decode cX3_lattices 160 = .ok (.iload_n 1, 1) := dk_27 (dk_at dksX3_lattices_6 17 rfl rfl)
theorem dX3_lattices_161 : decode cX3_lattices 161 = .ok (.bipush 73, 2) := dk_16 73 (dk_at dksX3_lattices_6 18 rfl rfl)
theorem dX3_lattices_163 : decode cX3_lattices 163 = .ok (.if_icmp .ge 21, 3) := dk_162 0 21 (dk_at dksX3_lattices_6 20 rfl rfl)
theorem dX3_lattices_166 : decode cX3_lattices 166 = .ok (.aload_n 0, 1) := dk_42 (dk_at dksX3_lattices_6 23 rfl rfl)
theorem dX3_lattices_167 : decode cX3_lattices 167 = .ok (.getfield 13, 3) := dk_180 0 13 (dk_at dksX3_lattices_7 0 rfl rfl)
theorem dX3_lattices_170 : decode cX3_lattices 170 = .ok (.iload_n 1, 1) := dk_27 (dk_at dksX3_lattices_7 3 rfl rfl)
theorem dX3_lattices_171 : decode cX3_lattices 171 = .ok (.aload_n 0, 1) := dk_42 (dk_at dksX3_lattices_7 4 rfl rfl)
theorem dX3_lattices_172 : decode cX3_lattices 172 = .ok (.getfield 17, 3) := dk_180 0 17 (dk_at dksX3_lattices_7 5 rfl rfl)
theorem dX3_lattices_175 : decode cX3_lattices 175 = .ok (.iload_n 1, 1) := dk_27 (dk_at dksX3_lattices_7 8 rfl rfl)
theorem dX3_lattices_176 : decode cX3_lattices 176 = .ok (.iaload, 1) := dk_46 (dk_at dksX3_lattices_7 9 rfl rfl)
theorem dX3_lattices_177 : decode cX3_lattices 177 = .ok (.iastore, 1) := dk_79 (dk_at dksX3_lattices_7 10 rfl rfl)
theorem dX3_lattices_178 : decode cX3_lattices 178 = .ok (.iinc 1 1, 3) := dk_132 1 1 (dk_at dksX3_lattices_7 11 rfl rfl)
theorem dX3_lattices_181 : decode cX3_lattices 181 = .ok (.goto (-21), 3) := dk_167 255 235 (dk_at dksX3_lattices_7 14 rfl rfl)
theorem dX3_lattices_184 : decode cX3_lattices 184 = .ok (.bipush (-4), 2) := dk_16 252 (dk_at dksX3_lattices_7 17 rfl rfl)
theorem dX3_lattices_186 : decode cX3_lattices 186 = .ok (.ireturn, 1) := dk_172 (dk_at dksX3_lattices_7 19 rfl rfl)
theorem dX3_lattices_187 : decode cX3_lattices 187 = .ok (.aload_n 0, 1) := dk_42 (dk_at dksX3_lattices_7 20 rfl rfl)
theorem dX3_lattices_188 : decode cX3_lattices 188 = .ok (.iconst 0, 1) := dk_3 (dk_at dksX3_lattices_7 21 rfl rfl)
theorem dX3_lattices_189 : decode cX3_lattices 189 = .ok (.putfield 184, 3) := dk_181 0 184 (dk_at dksX3_lattices_8 0 rfl rfl)
theorem dX3_lattices_192 : decode cX3_lattices 192 = .ok (.aload_n 0, 1) := dk_42 (dk_at dksX3_lattices_8 3 rfl rfl)
theorem dX3_lattices_193 : decode cX3_lattices 193 = .ok (.getfield 13, 3) := dk_180 0 13 (dk_at dksX3_lattices_8 4 rfl rfl)
theorem dX3_lattices_196 : decode cX3_lattices 196 = .ok (.iconst 1, 1) := dk_4 (dk_at dksX3_lattices_8 7 rfl rfl)
theorem dX3_lattices_197 : decode cX3_lattices 197 = .ok (.iaload, 1) := dk_46 (dk_at dksX3_lattices_8 8 rfl rfl)
theorem dX3_lattices_198 : decode cX3_lattices 198 = .ok (.ireturn, 1) := dk_172 (dk_at dksX3_lattices_8 9 rfl rfl)
abbrev cX3_next : ByteArray := prog_20_method_8_code
def yX3_next : MethodName := ⟨RX3, "next", "()V"⟩
def dkwX3_next_9 : List UInt8 := [181, 0, 92, 177]
abbrev dktX3_next_9 : List UInt8 := dkwX3_next_9 ++ []
def dkwX3_next_8 : List UInt8 := [16, 45, 182, 0, 95, 153, 0, 7, 6, 167, 0, 4, 7, 181, 0, 105, 42, 89, 180, 0, 92, 4, 96]
abbrev dktX3_next_8 : List UInt8 := dkwX3_next_8 ++ dktX3_next_9
def dkwX3_next_7 : List UInt8 := [4, 96, 181, 0, 92, 167, 255, 206, 42, 42, 16, 59, 16, 59, 182, 0, 95, 154, 0, 14, 42, 16, 45]
abbrev dktX3_next_7 : List UInt8 := dkwX3_next_7 ++ dktX3_next_8
def dkwX3_next_6 : List UInt8 := [42, 180, 0, 23, 42, 180, 0, 92, 46, 96, 16, 48, 100, 184, 0, 109, 181, 0, 102, 42, 89, 180, 0, 92]
abbrev dktX3_next_6 : List UInt8 := dkwX3_next_6 ++ dktX3_next_7
def dkwX3_next_5 : List UInt8 := [181, 0, 105, 42, 16, 48, 16, 57, 182, 0, 95, 153, 0, 86, 42, 18, 108, 16, 10, 42, 180, 0, 102, 104]
abbrev dktX3_next_5 : List UInt8 := dkwX3_next_5 ++ dktX3_next_6
def dkwX3_next_4 : List UInt8 := [180, 0, 92, 4, 96, 181, 0, 92, 167, 255, 235, 42, 16, 48, 16, 57, 182, 0, 95, 153, 0, 61, 42, 5]
abbrev dktX3_next_4 : List UInt8 := dkwX3_next_4 ++ dktX3_next_5
def dkwX3_next_3 : List UInt8 := [182, 0, 95, 153, 0, 32, 42, 4, 181, 0, 105, 42, 16, 97, 16, 122, 182, 0, 95, 153, 0, 126, 42, 89]
abbrev dktX3_next_3 : List UInt8 := dkwX3_next_3 ++ dktX3_next_4
def dkwX3_next_2 : List UInt8 := [42, 180, 0, 92, 42, 180, 0, 85, 160, 0, 11, 42, 3, 181, 0, 105, 167, 0, 153, 42, 16, 97, 16, 122]
abbrev dktX3_next_2 : List UInt8 := dkwX3_next_2 ++ dktX3_next_3
def dkwX3_next_1 : List UInt8 := [180, 0, 92, 4, 96, 181, 0, 92, 167, 255, 224, 42, 42, 180, 0, 92, 181, 0, 99, 42, 3, 181, 0, 102]
abbrev dktX3_next_1 : List UInt8 := dkwX3_next_1 ++ dktX3_next_2
def dkwX3_next_0 : List UInt8 := [42, 16, 32, 16, 32, 182, 0, 95, 154, 0, 14, 42, 16, 10, 16, 10, 182, 0, 95, 153, 0, 16, 42, 89]
abbrev dktX3_next_0 : List UInt8 := dkwX3_next_0 ++ dktX3_next_1
theorem dksX3_next_0 : cX3_next.data.toList.drop 0 = dktX3_next_0 := by decide +kernel
theorem dksX3_next_1 : cX3_next.data.toList.drop 24 = dktX3_next_1 := dk_seg dksX3_next_0 24 rfl rfl
theorem dksX3_next_2 : cX3_next.data.toList.drop 48 = dktX3_next_2 := dk_seg dksX3_next_1 24 rfl rfl
theorem dksX3_next_3 : cX3_next.data.toList.drop 72 = dktX3_next_3 := dk_seg dksX3_next_2 24 rfl rfl
theorem dksX3_next_4 : cX3_next.data.toList.drop 96 = dktX3_next_4 := dk_seg dksX3_next_3 24 rfl rfl
theorem dksX3_next_5 : cX3_next.data.toList.drop 120 = dktX3_next_5 := dk_seg dksX3_next_4 24 rfl rfl
theorem dksX3_next_6 : cX3_next.data.toList.drop 144 = dktX3_next_6 := dk_seg dksX3_next_5 24 rfl rfl
theorem dksX3_next_7 : cX3_next.data.toList.drop 168 = dktX3_next_7 := dk_seg dksX3_next_6 24 rfl rfl
theorem dksX3_next_8 : cX3_next.data.toList.drop 191 = dktX3_next_8 := dk_seg dksX3_next_7 23 rfl rfl
theorem dksX3_next_9 : cX3_next.data.toList.drop 214 = dktX3_next_9 := dk_seg dksX3_next_8 23 rfl rfl
theorem dX3_next_0 : decode cX3_next 0 = .ok (.aload_n 0, 1) := dk_42 (dk_at dksX3_next_0 0 rfl rfl)
theorem dX3_next_1 : decode cX3_next 1 = .ok (.bipush 32, 2) := dk_16 32 (dk_at dksX3_next_0 1 rfl rfl)
theorem dX3_next_3 : decode cX3_next 3 = .ok (.bipush 32, 2) := dk_16 32 (dk_at dksX3_next_0 3 rfl rfl)
theorem dX3_next_5 : decode cX3_next 5 = .ok (.invokevirtual 95, 3) := dk_182 0 95 (dk_at dksX3_next_0 5 rfl rfl)
theorem dX3_next_8 : decode cX3_next 8 = .ok (.ifCond .ne 14, 3) := dk_154 0 14 (dk_at dksX3_next_0 8 rfl rfl)
theorem dX3_next_11 : decode cX3_next 11 = .ok (.aload_n 0, 1) := dk_42 (dk_at dksX3_next_0 11 rfl rfl)
theorem dX3_next_12 : decode cX3_next 12 = .ok (.bipush 10, 2) := dk_16 10 (dk_at dksX3_next_0 12 rfl rfl)
theorem dX3_next_14 : decode cX3_next 14 = .ok (.bipush 10, 2) := dk_16 10 (dk_at dksX3_next_0 14 rfl rfl)
theorem dX3_next_16 : decode cX3_next 16 = .ok (.invokevirtual 95, 3) := dk_182 0 95 (dk_at dksX3_next_0 16 rfl rfl)
theorem dX3_next_19 : decode cX3_next 19 = .ok (.ifCond .eq 16, 3) := dk_153 0 16 (dk_at dksX3_next_0 19 rfl rfl)
theorem dX3_next_22 : decode cX3_next 22 = .ok (.aload_n 0, 1) := dk_42 (dk_at dksX3_next_0 22 rfl rfl)
theorem dX3_next_23 : decode cX3_next 23 = .ok (.dup, 1) := dk_89 (dk_at dksX3_next_0 23 rfl rfl)
theorem dX3_next_24 : decode cX3_next 24 = .ok (.getfield 92, 3) := dk_180 0 92 (dk_at dksX3_next_1 0 rfl rfl)
theorem dX3_next_27 : decode cX3_next 27 = .ok (.iconst 1, 1) := dk_4 (dk_at dksX3_next_1 3 rfl rfl)
theorem dX3_next_28 : decode cX3_next 28 = .ok (.iadd, 1) := dk_96 (dk_at dksX3_next_1 4 rfl rfl)
theorem dX3_next_29 : decode cX3_next 29 = .ok (.putfield 92, 3) := dk_181 0 92 (dk_at dksX3_next_1 5 rfl rfl)
theorem dX3_next_32 : decode cX3_next 32 = .ok (.goto (-32), 3) := dk_167 255 224 (dk_at dksX3_next_1 8 rfl rfl)
theorem dX3_next_35 : decode cX3_next 35 = .ok (.aload_n 0, 1) := dk_42 (dk_at dksX3_next_1 11 rfl rfl)
theorem dX3_next_36 : decode cX3_next 36 = .ok (.aload_n 0, 1) := dk_42 (dk_at dksX3_next_1 12 rfl rfl)
theorem dX3_next_37 : decode cX3_next 37 = .ok (.getfield 92, 3) := dk_180 0 92 (dk_at dksX3_next_1 13 rfl rfl)
theorem dX3_next_40 : decode cX3_next 40 = .ok (.putfield 99, 3) := dk_181 0 99 (dk_at dksX3_next_1 16 rfl rfl)
theorem dX3_next_43 : decode cX3_next 43 = .ok (.aload_n 0, 1) := dk_42 (dk_at dksX3_next_1 19 rfl rfl)
theorem dX3_next_44 : decode cX3_next 44 = .ok (.iconst 0, 1) := dk_3 (dk_at dksX3_next_1 20 rfl rfl)
theorem dX3_next_45 : decode cX3_next 45 = .ok (.putfield 102, 3) := dk_181 0 102 (dk_at dksX3_next_1 21 rfl rfl)
theorem dX3_next_48 : decode cX3_next 48 = .ok (.aload_n 0, 1) := dk_42 (dk_at dksX3_next_2 0 rfl rfl)
theorem dX3_next_49 : decode cX3_next 49 = .ok (.getfield 92, 3) := dk_180 0 92 (dk_at dksX3_next_2 1 rfl rfl)
theorem dX3_next_52 : decode cX3_next 52 = .ok (.aload_n 0, 1) := dk_42 (dk_at dksX3_next_2 4 rfl rfl)
theorem dX3_next_53 : decode cX3_next 53 = .ok (.getfield 85, 3) := dk_180 0 85 (dk_at dksX3_next_2 5 rfl rfl)
theorem dX3_next_56 : decode cX3_next 56 = .ok (.if_icmp .ne 11, 3) := dk_160 0 11 (dk_at dksX3_next_2 8 rfl rfl)
theorem dX3_next_59 : decode cX3_next 59 = .ok (.aload_n 0, 1) := dk_42 (dk_at dksX3_next_2 11 rfl rfl)
theorem dX3_next_60 : decode cX3_next 60 = .ok (.iconst 0, 1) := dk_3 (dk_at dksX3_next_2 12 rfl rfl)
theorem dX3_next_61 : decode cX3_next 61 = .ok (.putfield 105, 3) := dk_181 0 105 (dk_at dksX3_next_2 13 rfl rfl)
theorem dX3_next_64 : decode cX3_next 64 = .ok (.goto 153, 3) := dk_167 0 153 (dk_at dksX3_next_2 16 rfl rfl)
theorem dX3_next_67 : decode cX3_next 67 = .ok (.aload_n 0, 1) := dk_42 (dk_at dksX3_next_2 19 rfl rfl)
theorem dX3_next_68 : decode cX3_next 68 = .ok (.bipush 97, 2) := dk_16 97 (dk_at dksX3_next_2 20 rfl rfl)
theorem dX3_next_70 : decode cX3_next 70 = .ok (.bipush 122, 2) := dk_16 122 (dk_at dksX3_next_2 22 rfl rfl)
theorem dX3_next_72 : decode cX3_next 72 = .ok (.invokevirtual 95, 3) := dk_182 0 95 (dk_at dksX3_next_3 0 rfl rfl)
theorem dX3_next_75 : decode cX3_next 75 = .ok (.ifCond .eq 32, 3) := dk_153 0 32 (dk_at dksX3_next_3 3 rfl rfl)
theorem dX3_next_78 : decode cX3_next 78 = .ok (.aload_n 0, 1) := dk_42 (dk_at dksX3_next_3 6 rfl rfl)
theorem dX3_next_79 : decode cX3_next 79 = .ok (.iconst 1, 1) := dk_4 (dk_at dksX3_next_3 7 rfl rfl)
theorem dX3_next_80 : decode cX3_next 80 = .ok (.putfield 105, 3) := dk_181 0 105 (dk_at dksX3_next_3 8 rfl rfl)
theorem dX3_next_83 : decode cX3_next 83 = .ok (.aload_n 0, 1) := dk_42 (dk_at dksX3_next_3 11 rfl rfl)
theorem dX3_next_84 : decode cX3_next 84 = .ok (.bipush 97, 2) := dk_16 97 (dk_at dksX3_next_3 12 rfl rfl)
theorem dX3_next_86 : decode cX3_next 86 = .ok (.bipush 122, 2) := dk_16 122 (dk_at dksX3_next_3 14 rfl rfl)
theorem dX3_next_88 : decode cX3_next 88 = .ok (.invokevirtual 95, 3) := dk_182 0 95 (dk_at dksX3_next_3 16 rfl rfl)
theorem dX3_next_91 : decode cX3_next 91 = .ok (.ifCond .eq 126, 3) := dk_153 0 126 (dk_at dksX3_next_3 19 rfl rfl)
theorem dX3_next_94 : decode cX3_next 94 = .ok (.aload_n 0, 1) := dk_42 (dk_at dksX3_next_3 22 rfl rfl)
theorem dX3_next_95 : decode cX3_next 95 = .ok (.dup, 1) := dk_89 (dk_at dksX3_next_3 23 rfl rfl)
theorem dX3_next_96 : decode cX3_next 96 = .ok (.getfield 92, 3) := dk_180 0 92 (dk_at dksX3_next_4 0 rfl rfl)
theorem dX3_next_99 : decode cX3_next 99 = .ok (.iconst 1, 1) := dk_4 (dk_at dksX3_next_4 3 rfl rfl)
theorem dX3_next_100 : decode cX3_next 100 = .ok (.iadd, 1) := dk_96 (dk_at dksX3_next_4 4 rfl rfl)
theorem dX3_next_101 : decode cX3_next 101 = .ok (.putfield 92, 3) := dk_181 0 92 (dk_at dksX3_next_4 5 rfl rfl)
theorem dX3_next_104 : decode cX3_next 104 = .ok (.goto (-21), 3) := dk_167 255 235 (dk_at dksX3_next_4 8 rfl rfl)
theorem dX3_next_107 : decode cX3_next 107 = .ok (.aload_n 0, 1) := dk_42 (dk_at dksX3_next_4 11 rfl rfl)
theorem dX3_next_108 : decode cX3_next 108 = .ok (.bipush 48, 2) := dk_16 48 (dk_at dksX3_next_4 12 rfl rfl)
theorem dX3_next_110 : decode cX3_next 110 = .ok (.bipush 57, 2) := dk_16 57 (dk_at dksX3_next_4 14 rfl rfl)
theorem dX3_next_112 : decode cX3_next 112 = .ok (.invokevirtual 95, 3) := dk_182 0 95 (dk_at dksX3_next_4 16 rfl rfl)
theorem dX3_next_115 : decode cX3_next 115 = .ok (.ifCond .eq 61, 3) := dk_153 0 61 (dk_at dksX3_next_4 19 rfl rfl)
theorem dX3_next_118 : decode cX3_next 118 = .ok (.aload_n 0, 1) := dk_42 (dk_at dksX3_next_4 22 rfl rfl)
theorem dX3_next_119 : decode cX3_next 119 = .ok (.iconst 2, 1) := dk_5 (dk_at dksX3_next_4 23 rfl rfl)
theorem dX3_next_120 : decode cX3_next 120 = .ok (.putfield 105, 3) := dk_181 0 105 (dk_at dksX3_next_5 0 rfl rfl)
theorem dX3_next_123 : decode cX3_next 123 = .ok (.aload_n 0, 1) := dk_42 (dk_at dksX3_next_5 3 rfl rfl)
theorem dX3_next_124 : decode cX3_next 124 = .ok (.bipush 48, 2) := dk_16 48 (dk_at dksX3_next_5 4 rfl rfl)
theorem dX3_next_126 : decode cX3_next 126 = .ok (.bipush 57, 2) := dk_16 57 (dk_at dksX3_next_5 6 rfl rfl)
theorem dX3_next_128 : decode cX3_next 128 = .ok (.invokevirtual 95, 3) := dk_182 0 95 (dk_at dksX3_next_5 8 rfl rfl)
theorem dX3_next_131 : decode cX3_next 131 = .ok (.ifCond .eq 86, 3) := dk_153 0 86 (dk_at dksX3_next_5 11 rfl rfl)
theorem dX3_next_134 : decode cX3_next 134 = .ok (.aload_n 0, 1) := dk_42 (dk_at dksX3_next_5 14 rfl rfl)
theorem dX3_next_135 : decode cX3_next 135 = .ok (.ldc 108, 2) := dk_18 108 (dk_at dksX3_next_5 15 rfl rfl)
theorem dX3_next_137 : decode cX3_next 137 = .ok (.bipush 10, 2) := dk_16 10 (dk_at dksX3_next_5 17 rfl rfl)
theorem dX3_next_139 : decode cX3_next 139 = .ok (.aload_n 0, 1) := dk_42 (dk_at dksX3_next_5 19 rfl rfl)
theorem dX3_next_140 : decode cX3_next 140 = .ok (.getfield 102, 3) := dk_180 0 102 (dk_at dksX3_next_5 20 rfl rfl)
theorem dX3_next_143 : decode cX3_next 143 = .ok (.imul, 1) := dk_104 (dk_at dksX3_next_5 23 rfl rfl)
theorem dX3_next_144 : decode cX3_next 144 = .ok (.aload_n 0, 1) := dk_42 (dk_at dksX3_next_6 0 rfl rfl)
theorem dX3_next_145 : decode cX3_next 145 = .ok (.getfield 23, 3) := dk_180 0 23 (dk_at dksX3_next_6 1 rfl rfl)
theorem dX3_next_148 : decode cX3_next 148 = .ok (.aload_n 0, 1) := dk_42 (dk_at dksX3_next_6 4 rfl rfl)
theorem dX3_next_149 : decode cX3_next 149 = .ok (.getfield 92, 3) := dk_180 0 92 (dk_at dksX3_next_6 5 rfl rfl)
theorem dX3_next_152 : decode cX3_next 152 = .ok (.iaload, 1) := dk_46 (dk_at dksX3_next_6 8 rfl rfl)
theorem dX3_next_153 : decode cX3_next 153 = .ok (.iadd, 1) := dk_96 (dk_at dksX3_next_6 9 rfl rfl)
theorem dX3_next_154 : decode cX3_next 154 = .ok (.bipush 48, 2) := dk_16 48 (dk_at dksX3_next_6 10 rfl rfl)
theorem dX3_next_156 : decode cX3_next 156 = .ok (.isub, 1) := dk_100 (dk_at dksX3_next_6 12 rfl rfl)
theorem dX3_next_157 : decode cX3_next 157 = .ok (.invokestatic 109, 3) := dk_184 0 109 (dk_at dksX3_next_6 13 rfl rfl)
theorem dX3_next_160 : decode cX3_next 160 = .ok (.putfield 102, 3) := dk_181 0 102 (dk_at dksX3_next_6 16 rfl rfl)
theorem dX3_next_163 : decode cX3_next 163 = .ok (.aload_n 0, 1) := dk_42 (dk_at dksX3_next_6 19 rfl rfl)
theorem dX3_next_164 : decode cX3_next 164 = .ok (.dup, 1) := dk_89 (dk_at dksX3_next_6 20 rfl rfl)
theorem dX3_next_165 : decode cX3_next 165 = .ok (.getfield 92, 3) := dk_180 0 92 (dk_at dksX3_next_6 21 rfl rfl)
theorem dX3_next_168 : decode cX3_next 168 = .ok (.iconst 1, 1) := dk_4 (dk_at dksX3_next_7 0 rfl rfl)
theorem dX3_next_169 : decode cX3_next 169 = .ok (.iadd, 1) := dk_96 (dk_at dksX3_next_7 1 rfl rfl)
theorem dX3_next_170 : decode cX3_next 170 = .ok (.putfield 92, 3) := dk_181 0 92 (dk_at dksX3_next_7 2 rfl rfl)
theorem dX3_next_173 : decode cX3_next 173 = .ok (.goto (-50), 3) := dk_167 255 206 (dk_at dksX3_next_7 5 rfl rfl)
theorem dX3_next_176 : decode cX3_next 176 = .ok (.aload_n 0, 1) := dk_42 (dk_at dksX3_next_7 8 rfl rfl)
theorem dX3_next_177 : decode cX3_next 177 = .ok (.aload_n 0, 1) := dk_42 (dk_at dksX3_next_7 9 rfl rfl)
theorem dX3_next_178 : decode cX3_next 178 = .ok (.bipush 59, 2) := dk_16 59 (dk_at dksX3_next_7 10 rfl rfl)
theorem dX3_next_180 : decode cX3_next 180 = .ok (.bipush 59, 2) := dk_16 59 (dk_at dksX3_next_7 12 rfl rfl)
theorem dX3_next_182 : decode cX3_next 182 = .ok (.invokevirtual 95, 3) := dk_182 0 95 (dk_at dksX3_next_7 14 rfl rfl)
theorem dX3_next_185 : decode cX3_next 185 = .ok (.ifCond .ne 14, 3) := dk_154 0 14 (dk_at dksX3_next_7 17 rfl rfl)
theorem dX3_next_188 : decode cX3_next 188 = .ok (.aload_n 0, 1) := dk_42 (dk_at dksX3_next_7 20 rfl rfl)
theorem dX3_next_189 : decode cX3_next 189 = .ok (.bipush 45, 2) := dk_16 45 (dk_at dksX3_next_7 21 rfl rfl)
theorem dX3_next_191 : decode cX3_next 191 = .ok (.bipush 45, 2) := dk_16 45 (dk_at dksX3_next_8 0 rfl rfl)
theorem dX3_next_193 : decode cX3_next 193 = .ok (.invokevirtual 95, 3) := dk_182 0 95 (dk_at dksX3_next_8 2 rfl rfl)
theorem dX3_next_196 : decode cX3_next 196 = .ok (.ifCond .eq 7, 3) := dk_153 0 7 (dk_at dksX3_next_8 5 rfl rfl)
theorem dX3_next_199 : decode cX3_next 199 = .ok (.iconst 3, 1) := dk_6 (dk_at dksX3_next_8 8 rfl rfl)
theorem dX3_next_200 : decode cX3_next 200 = .ok (.goto 4, 3) := dk_167 0 4 (dk_at dksX3_next_8 9 rfl rfl)
theorem dX3_next_203 : decode cX3_next 203 = .ok (.iconst 4, 1) := dk_7 (dk_at dksX3_next_8 12 rfl rfl)
theorem dX3_next_204 : decode cX3_next 204 = .ok (.putfield 105, 3) := dk_181 0 105 (dk_at dksX3_next_8 13 rfl rfl)
theorem dX3_next_207 : decode cX3_next 207 = .ok (.aload_n 0, 1) := dk_42 (dk_at dksX3_next_8 16 rfl rfl)
theorem dX3_next_208 : decode cX3_next 208 = .ok (.dup, 1) := dk_89 (dk_at dksX3_next_8 17 rfl rfl)
theorem dX3_next_209 : decode cX3_next 209 = .ok (.getfield 92, 3) := dk_180 0 92 (dk_at dksX3_next_8 18 rfl rfl)
theorem dX3_next_212 : decode cX3_next 212 = .ok (.iconst 1, 1) := dk_4 (dk_at dksX3_next_8 21 rfl rfl)
theorem dX3_next_213 : decode cX3_next 213 = .ok (.iadd, 1) := dk_96 (dk_at dksX3_next_8 22 rfl rfl)
theorem dX3_next_214 : decode cX3_next 214 = .ok (.putfield 92, 3) := dk_181 0 92 (dk_at dksX3_next_9 0 rfl rfl)
theorem dX3_next_217 : decode cX3_next 217 = .ok (.return_, 1) := dk_177 (dk_at dksX3_next_9 3 rfl rfl)
abbrev cX3_isAt : ByteArray := prog_20_method_7_code
def yX3_isAt : MethodName := ⟨RX3, "isAt", "(II)Z"⟩
def dkwX3_isAt_1 : List UInt8 := [133, 184, 0, 88, 153, 0, 7, 4, 167, 0, 4, 3, 172]
abbrev dktX3_isAt_1 : List UInt8 := dkwX3_isAt_1 ++ []
def dkwX3_isAt_0 : List UInt8 := [42, 180, 0, 92, 42, 180, 0, 85, 162, 0, 27, 42, 180, 0, 23, 42, 180, 0, 92, 46, 133, 27, 133, 28]
abbrev dktX3_isAt_0 : List UInt8 := dkwX3_isAt_0 ++ dktX3_isAt_1
theorem dksX3_isAt_0 : cX3_isAt.data.toList.drop 0 = dktX3_isAt_0 := by decide +kernel
theorem dksX3_isAt_1 : cX3_isAt.data.toList.drop 24 = dktX3_isAt_1 := dk_seg dksX3_isAt_0 24 rfl rfl
theorem dX3_isAt_0 : decode cX3_isAt 0 = .ok (.aload_n 0, 1) := dk_42 (dk_at dksX3_isAt_0 0 rfl rfl)
theorem dX3_isAt_1 : decode cX3_isAt 1 = .ok (.getfield 92, 3) := dk_180 0 92 (dk_at dksX3_isAt_0 1 rfl rfl)
theorem dX3_isAt_4 : decode cX3_isAt 4 = .ok (.aload_n 0, 1) := dk_42 (dk_at dksX3_isAt_0 4 rfl rfl)
theorem dX3_isAt_5 : decode cX3_isAt 5 = .ok (.getfield 85, 3) := dk_180 0 85 (dk_at dksX3_isAt_0 5 rfl rfl)
theorem dX3_isAt_8 : decode cX3_isAt 8 = .ok (.if_icmp .ge 27, 3) := dk_162 0 27 (dk_at dksX3_isAt_0 8 rfl rfl)
theorem dX3_isAt_11 : decode cX3_isAt 11 = .ok (.aload_n 0, 1) := dk_42 (dk_at dksX3_isAt_0 11 rfl rfl)
theorem dX3_isAt_12 : decode cX3_isAt 12 = .ok (.getfield 23, 3) := dk_180 0 23 (dk_at dksX3_isAt_0 12 rfl rfl)
theorem dX3_isAt_15 : decode cX3_isAt 15 = .ok (.aload_n 0, 1) := dk_42 (dk_at dksX3_isAt_0 15 rfl rfl)
theorem dX3_isAt_16 : decode cX3_isAt 16 = .ok (.getfield 92, 3) := dk_180 0 92 (dk_at dksX3_isAt_0 16 rfl rfl)
theorem dX3_isAt_19 : decode cX3_isAt 19 = .ok (.iaload, 1) := dk_46 (dk_at dksX3_isAt_0 19 rfl rfl)
theorem dX3_isAt_20 : decode cX3_isAt 20 = .ok (.i2l, 1) := dk_133 (dk_at dksX3_isAt_0 20 rfl rfl)
theorem dX3_isAt_21 : decode cX3_isAt 21 = .ok (.iload_n 1, 1) := dk_27 (dk_at dksX3_isAt_0 21 rfl rfl)
theorem dX3_isAt_22 : decode cX3_isAt 22 = .ok (.i2l, 1) := dk_133 (dk_at dksX3_isAt_0 22 rfl rfl)
theorem dX3_isAt_23 : decode cX3_isAt 23 = .ok (.iload_n 2, 1) := dk_28 (dk_at dksX3_isAt_0 23 rfl rfl)
theorem dX3_isAt_24 : decode cX3_isAt 24 = .ok (.i2l, 1) := dk_133 (dk_at dksX3_isAt_1 0 rfl rfl)
theorem dX3_isAt_25 : decode cX3_isAt 25 = .ok (.invokestatic 88, 3) := dk_184 0 88 (dk_at dksX3_isAt_1 1 rfl rfl)
theorem dX3_isAt_28 : decode cX3_isAt 28 = .ok (.ifCond .eq 7, 3) := dk_153 0 7 (dk_at dksX3_isAt_1 4 rfl rfl)
theorem dX3_isAt_31 : decode cX3_isAt 31 = .ok (.iconst 1, 1) := dk_4 (dk_at dksX3_isAt_1 7 rfl rfl)
theorem dX3_isAt_32 : decode cX3_isAt 32 = .ok (.goto 4, 3) := dk_167 0 4 (dk_at dksX3_isAt_1 8 rfl rfl)
theorem dX3_isAt_35 : decode cX3_isAt 35 = .ok (.iconst 0, 1) := dk_3 (dk_at dksX3_isAt_1 11 rfl rfl)
theorem dX3_isAt_36 : decode cX3_isAt 36 = .ok (.ireturn, 1) := dk_172 (dk_at dksX3_isAt_1 12 rfl rfl)
abbrev cX3_isWord : ByteArray := prog_20_method_10_code
def yX3_isWord : MethodName := ⟨RX3, "isWord", "(Ljava/lang/String;)Z"⟩
def dkwX3_isWord_3 : List UInt8 := [167, 255, 216, 28, 172]
abbrev dktX3_isWord_3 : List UInt8 := dkwX3_isWord_3 ++ []
def dkwX3_isWord_2 : List UInt8 := [42, 180, 0, 99, 29, 96, 46, 43, 29, 182, 0, 128, 160, 0, 7, 4, 167, 0, 4, 3, 61, 132, 3, 1]
abbrev dktX3_isWord_2 : List UInt8 := dkwX3_isWord_2 ++ dktX3_isWord_3
def dkwX3_isWord_1 : List UInt8 := [4, 167, 0, 4, 3, 61, 3, 62, 29, 43, 182, 0, 122, 162, 0, 38, 28, 153, 0, 34, 42, 180, 0, 23]
abbrev dktX3_isWord_1 : List UInt8 := dkwX3_isWord_1 ++ dktX3_isWord_2
def dkwX3_isWord_0 : List UInt8 := [42, 180, 0, 105, 4, 160, 0, 23, 42, 180, 0, 92, 42, 180, 0, 99, 100, 43, 182, 0, 122, 160, 0, 7]
abbrev dktX3_isWord_0 : List UInt8 := dkwX3_isWord_0 ++ dktX3_isWord_1
theorem dksX3_isWord_0 : cX3_isWord.data.toList.drop 0 = dktX3_isWord_0 := by decide +kernel
theorem dksX3_isWord_1 : cX3_isWord.data.toList.drop 24 = dktX3_isWord_1 := dk_seg dksX3_isWord_0 24 rfl rfl
theorem dksX3_isWord_2 : cX3_isWord.data.toList.drop 48 = dktX3_isWord_2 := dk_seg dksX3_isWord_1 24 rfl rfl
theorem dksX3_isWord_3 : cX3_isWord.data.toList.drop 72 = dktX3_isWord_3 := dk_seg dksX3_isWord_2 24 rfl rfl
theorem dX3_isWord_0 : decode cX3_isWord 0 = .ok (.aload_n 0, 1) := dk_42 (dk_at dksX3_isWord_0 0 rfl rfl)
theorem dX3_isWord_1 : decode cX3_isWord 1 = .ok (.getfield 105, 3) := dk_180 0 105 (dk_at dksX3_isWord_0 1 rfl rfl)
theorem dX3_isWord_4 : decode cX3_isWord 4 = .ok (.iconst 1, 1) := dk_4 (dk_at dksX3_isWord_0 4 rfl rfl)
theorem dX3_isWord_5 : decode cX3_isWord 5 = .ok (.if_icmp .ne 23, 3) := dk_160 0 23 (dk_at dksX3_isWord_0 5 rfl rfl)
theorem dX3_isWord_8 : decode cX3_isWord 8 = .ok (.aload_n 0, 1) := dk_42 (dk_at dksX3_isWord_0 8 rfl rfl)
theorem dX3_isWord_9 : decode cX3_isWord 9 = .ok (.getfield 92, 3) := dk_180 0 92 (dk_at dksX3_isWord_0 9 rfl rfl)
theorem dX3_isWord_12 : decode cX3_isWord 12 = .ok (.aload_n 0, 1) := dk_42 (dk_at dksX3_isWord_0 12 rfl rfl)
theorem dX3_isWord_13 : decode cX3_isWord 13 = .ok (.getfield 99, 3) := dk_180 0 99 (dk_at dksX3_isWord_0 13 rfl rfl)
theorem dX3_isWord_16 : decode cX3_isWord 16 = .ok (.isub, 1) := dk_100 (dk_at dksX3_isWord_0 16 rfl rfl)
theorem dX3_isWord_17 : decode cX3_isWord 17 = .ok (.aload_n 1, 1) := dk_43 (dk_at dksX3_isWord_0 17 rfl rfl)
theorem dX3_isWord_18 : decode cX3_isWord 18 = .ok (.invokevirtual 122, 3) := dk_182 0 122 (dk_at dksX3_isWord_0 18 rfl rfl)
theorem dX3_isWord_21 : decode cX3_isWord 21 = .ok (.if_icmp .ne 7, 3) := dk_160 0 7 (dk_at dksX3_isWord_0 21 rfl rfl)
theorem dX3_isWord_24 : decode cX3_isWord 24 = .ok (.iconst 1, 1) := dk_4 (dk_at dksX3_isWord_1 0 rfl rfl)
theorem dX3_isWord_25 : decode cX3_isWord 25 = .ok (.goto 4, 3) := dk_167 0 4 (dk_at dksX3_isWord_1 1 rfl rfl)
theorem dX3_isWord_28 : decode cX3_isWord 28 = .ok (.iconst 0, 1) := dk_3 (dk_at dksX3_isWord_1 4 rfl rfl)
theorem dX3_isWord_29 : decode cX3_isWord 29 = .ok (.istore_n 2, 1) := dk_61 (dk_at dksX3_isWord_1 5 rfl rfl)
theorem dX3_isWord_30 : decode cX3_isWord 30 = .ok (.iconst 0, 1) := dk_3 (dk_at dksX3_isWord_1 6 rfl rfl)
theorem dX3_isWord_31 : decode cX3_isWord 31 = .ok (.istore_n 3, 1) := dk_62 (dk_at dksX3_isWord_1 7 rfl rfl)
theorem dX3_isWord_32 : decode cX3_isWord 32 = .ok (.iload_n 3, 1) := dk_29 (dk_at dksX3_isWord_1 8 rfl rfl)
theorem dX3_isWord_33 : decode cX3_isWord 33 = .ok (.aload_n 1, 1) := dk_43 (dk_at dksX3_isWord_1 9 rfl rfl)
theorem dX3_isWord_34 : decode cX3_isWord 34 = .ok (.invokevirtual 122, 3) := dk_182 0 122 (dk_at dksX3_isWord_1 10 rfl rfl)
theorem dX3_isWord_37 : decode cX3_isWord 37 = .ok (.if_icmp .ge 38, 3) := dk_162 0 38 (dk_at dksX3_isWord_1 13 rfl rfl)
theorem dX3_isWord_40 : decode cX3_isWord 40 = .ok (.iload_n 2, 1) := dk_28 (dk_at dksX3_isWord_1 16 rfl rfl)
theorem dX3_isWord_41 : decode cX3_isWord 41 = .ok (.ifCond .eq 34, 3) := dk_153 0 34 (dk_at dksX3_isWord_1 17 rfl rfl)
theorem dX3_isWord_44 : decode cX3_isWord 44 = .ok (.aload_n 0, 1) := dk_42 (dk_at dksX3_isWord_1 20 rfl rfl)
theorem dX3_isWord_45 : decode cX3_isWord 45 = .ok (.getfield 23, 3) := dk_180 0 23 (dk_at dksX3_isWord_1 21 rfl rfl)
theorem dX3_isWord_48 : decode cX3_isWord 48 = .ok (.aload_n 0, 1) := dk_42 (dk_at dksX3_isWord_2 0 rfl rfl)
theorem dX3_isWord_49 : decode cX3_isWord 49 = .ok (.getfield 99, 3) := dk_180 0 99 (dk_at dksX3_isWord_2 1 rfl rfl)
theorem dX3_isWord_52 : decode cX3_isWord 52 = .ok (.iload_n 3, 1) := dk_29 (dk_at dksX3_isWord_2 4 rfl rfl)
theorem dX3_isWord_53 : decode cX3_isWord 53 = .ok (.iadd, 1) := dk_96 (dk_at dksX3_isWord_2 5 rfl rfl)
theorem dX3_isWord_54 : decode cX3_isWord 54 = .ok (.iaload, 1) := dk_46 (dk_at dksX3_isWord_2 6 rfl rfl)
theorem dX3_isWord_55 : decode cX3_isWord 55 = .ok (.aload_n 1, 1) := dk_43 (dk_at dksX3_isWord_2 7 rfl rfl)
theorem dX3_isWord_56 : decode cX3_isWord 56 = .ok (.iload_n 3, 1) := dk_29 (dk_at dksX3_isWord_2 8 rfl rfl)
theorem dX3_isWord_57 : decode cX3_isWord 57 = .ok (.invokevirtual 128, 3) := dk_182 0 128 (dk_at dksX3_isWord_2 9 rfl rfl)
theorem dX3_isWord_60 : decode cX3_isWord 60 = .ok (.if_icmp .ne 7, 3) := dk_160 0 7 (dk_at dksX3_isWord_2 12 rfl rfl)
theorem dX3_isWord_63 : decode cX3_isWord 63 = .ok (.iconst 1, 1) := dk_4 (dk_at dksX3_isWord_2 15 rfl rfl)
theorem dX3_isWord_64 : decode cX3_isWord 64 = .ok (.goto 4, 3) := dk_167 0 4 (dk_at dksX3_isWord_2 16 rfl rfl)
theorem dX3_isWord_67 : decode cX3_isWord 67 = .ok (.iconst 0, 1) := dk_3 (dk_at dksX3_isWord_2 19 rfl rfl)
theorem dX3_isWord_68 : decode cX3_isWord 68 = .ok (.istore_n 2, 1) := dk_61 (dk_at dksX3_isWord_2 20 rfl rfl)
theorem dX3_isWord_69 : decode cX3_isWord 69 = .ok (.iinc 3 1, 3) := dk_132 3 1 (dk_at dksX3_isWord_2 21 rfl rfl)
theorem dX3_isWord_72 : decode cX3_isWord 72 = .ok (.goto (-40), 3) := dk_167 255 216 (dk_at dksX3_isWord_3 0 rfl rfl)
theorem dX3_isWord_75 : decode cX3_isWord 75 = .ok (.iload_n 2, 1) := dk_28 (dk_at dksX3_isWord_3 3 rfl rfl)
theorem dX3_isWord_76 : decode cX3_isWord 76 = .ok (.ireturn, 1) := dk_172 (dk_at dksX3_isWord_3 4 rfl rfl)
abbrev cX3_readsLattice : ByteArray := prog_20_method_17_code
def yX3_readsLattice : MethodName := ⟨RX3, "readsLattice", "()V"⟩
def dkwX3_readsLattice_5 : List UInt8 := [180, 0, 13, 3, 46, 96, 2, 79, 42, 180, 0, 13, 3, 92, 46, 4, 96, 79, 177]
abbrev dktX3_readsLattice_5 : List UInt8 := dkwX3_readsLattice_5 ++ []
def dkwX3_readsLattice_4 : List UInt8 := [182, 0, 150, 132, 2, 1, 167, 255, 185, 42, 180, 0, 115, 154, 0, 27, 42, 180, 0, 13, 6, 42]
abbrev dktX3_readsLattice_4 : List UInt8 := dkwX3_readsLattice_4 ++ dktX3_readsLattice_5
def dkwX3_readsLattice_3 : List UInt8 := [182, 0, 172, 184, 0, 1, 10, 20, 0, 176, 184, 0, 88, 154, 0, 8, 42, 5, 182, 0, 132, 42, 4]
abbrev dktX3_readsLattice_3 : List UInt8 := dkwX3_readsLattice_3 ++ dktX3_readsLattice_4
def dkwX3_readsLattice_2 : List UInt8 := [28, 96, 42, 16, 6, 182, 0, 168, 79, 42, 180, 0, 115, 154, 0, 32, 28, 16, 8, 160, 0, 26, 42, 27]
abbrev dktX3_readsLattice_2 : List UInt8 := dkwX3_readsLattice_2 ++ dktX3_readsLattice_3
def dkwX3_readsLattice_1 : List UInt8 := [46, 104, 96, 60, 3, 61, 28, 16, 9, 162, 0, 71, 42, 180, 0, 115, 154, 0, 64, 42, 180, 0, 13, 27]
abbrev dktX3_readsLattice_1 : List UInt8 := dkwX3_readsLattice_1 ++ dktX3_readsLattice_2
def dkwX3_readsLattice_0 : List UInt8 := [42, 182, 0, 165, 16, 28, 16, 9, 42, 180, 0, 115, 153, 0, 7, 3, 167, 0, 9, 42, 180, 0, 13, 3]
abbrev dktX3_readsLattice_0 : List UInt8 := dkwX3_readsLattice_0 ++ dktX3_readsLattice_1
theorem dksX3_readsLattice_0 : cX3_readsLattice.data.toList.drop 0 = dktX3_readsLattice_0 := by decide +kernel
theorem dksX3_readsLattice_1 : cX3_readsLattice.data.toList.drop 24 = dktX3_readsLattice_1 := dk_seg dksX3_readsLattice_0 24 rfl rfl
theorem dksX3_readsLattice_2 : cX3_readsLattice.data.toList.drop 48 = dktX3_readsLattice_2 := dk_seg dksX3_readsLattice_1 24 rfl rfl
theorem dksX3_readsLattice_3 : cX3_readsLattice.data.toList.drop 72 = dktX3_readsLattice_3 := dk_seg dksX3_readsLattice_2 24 rfl rfl
theorem dksX3_readsLattice_4 : cX3_readsLattice.data.toList.drop 95 = dktX3_readsLattice_4 := dk_seg dksX3_readsLattice_3 23 rfl rfl
theorem dksX3_readsLattice_5 : cX3_readsLattice.data.toList.drop 117 = dktX3_readsLattice_5 := dk_seg dksX3_readsLattice_4 22 rfl rfl
theorem dX3_readsLattice_0 : decode cX3_readsLattice 0 = .ok (.aload_n 0, 1) := dk_42 (dk_at dksX3_readsLattice_0 0 rfl rfl)
theorem dX3_readsLattice_1 : decode cX3_readsLattice 1 = .ok (.invokevirtual 165, 3) := dk_182 0 165 (dk_at dksX3_readsLattice_0 1 rfl rfl)
theorem dX3_readsLattice_4 : decode cX3_readsLattice 4 = .ok (.bipush 28, 2) := dk_16 28 (dk_at dksX3_readsLattice_0 4 rfl rfl)
theorem dX3_readsLattice_6 : decode cX3_readsLattice 6 = .ok (.bipush 9, 2) := dk_16 9 (dk_at dksX3_readsLattice_0 6 rfl rfl)
theorem dX3_readsLattice_8 : decode cX3_readsLattice 8 = .ok (.aload_n 0, 1) := dk_42 (dk_at dksX3_readsLattice_0 8 rfl rfl)
theorem dX3_readsLattice_9 : decode cX3_readsLattice 9 = .ok (.getfield 115, 3) := dk_180 0 115 (dk_at dksX3_readsLattice_0 9 rfl rfl)
theorem dX3_readsLattice_12 : decode cX3_readsLattice 12 = .ok (.ifCond .eq 7, 3) := dk_153 0 7 (dk_at dksX3_readsLattice_0 12 rfl rfl)
theorem dX3_readsLattice_15 : decode cX3_readsLattice 15 = .ok (.iconst 0, 1) := dk_3 (dk_at dksX3_readsLattice_0 15 rfl rfl)
theorem dX3_readsLattice_16 : decode cX3_readsLattice 16 = .ok (.goto 9, 3) := dk_167 0 9 (dk_at dksX3_readsLattice_0 16 rfl rfl)
theorem dX3_readsLattice_19 : decode cX3_readsLattice 19 = .ok (.aload_n 0, 1) := dk_42 (dk_at dksX3_readsLattice_0 19 rfl rfl)
theorem dX3_readsLattice_20 : decode cX3_readsLattice 20 = .ok (.getfield 13, 3) := dk_180 0 13 (dk_at dksX3_readsLattice_0 20 rfl rfl)
theorem dX3_readsLattice_23 : decode cX3_readsLattice 23 = .ok (.iconst 0, 1) := dk_3 (dk_at dksX3_readsLattice_0 23 rfl rfl)
theorem dX3_readsLattice_24 : decode cX3_readsLattice 24 = .ok (.iaload, 1) := dk_46 (dk_at dksX3_readsLattice_1 0 rfl rfl)
theorem dX3_readsLattice_25 : decode cX3_readsLattice 25 = .ok (.imul, 1) := dk_104 (dk_at dksX3_readsLattice_1 1 rfl rfl)
theorem dX3_readsLattice_26 : decode cX3_readsLattice 26 = .ok (.iadd, 1) := dk_96 (dk_at dksX3_readsLattice_1 2 rfl rfl)
theorem dX3_readsLattice_27 : decode cX3_readsLattice 27 = .ok (.istore_n 1, 1) := dk_60 (dk_at dksX3_readsLattice_1 3 rfl rfl)
theorem dX3_readsLattice_28 : decode cX3_readsLattice 28 = .ok (.iconst 0, 1) := dk_3 (dk_at dksX3_readsLattice_1 4 rfl rfl)
theorem dX3_readsLattice_29 : decode cX3_readsLattice 29 = .ok (.istore_n 2, 1) := dk_61 (dk_at dksX3_readsLattice_1 5 rfl rfl)
theorem dX3_readsLattice_30 : decode cX3_readsLattice 30 = .ok (.iload_n 2, 1) := dk_28 (dk_at dksX3_readsLattice_1 6 rfl rfl)
theorem dX3_readsLattice_31 : decode cX3_readsLattice 31 = .ok (.bipush 9, 2) := dk_16 9 (dk_at dksX3_readsLattice_1 7 rfl rfl)
theorem dX3_readsLattice_33 : decode cX3_readsLattice 33 = .ok (.if_icmp .ge 71, 3) := dk_162 0 71 (dk_at dksX3_readsLattice_1 9 rfl rfl)
theorem dX3_readsLattice_36 : decode cX3_readsLattice 36 = .ok (.aload_n 0, 1) := dk_42 (dk_at dksX3_readsLattice_1 12 rfl rfl)
theorem dX3_readsLattice_37 : decode cX3_readsLattice 37 = .ok (.getfield 115, 3) := dk_180 0 115 (dk_at dksX3_readsLattice_1 13 rfl rfl)
theorem dX3_readsLattice_40 : decode cX3_readsLattice 40 = .ok (.ifCond .ne 64, 3) := dk_154 0 64 (dk_at dksX3_readsLattice_1 16 rfl rfl)
theorem dX3_readsLattice_43 : decode cX3_readsLattice 43 = .ok (.aload_n 0, 1) := dk_42 (dk_at dksX3_readsLattice_1 19 rfl rfl)
theorem dX3_readsLattice_44 : decode cX3_readsLattice 44 = .ok (.getfield 13, 3) := dk_180 0 13 (dk_at dksX3_readsLattice_1 20 rfl rfl)
theorem dX3_readsLattice_47 : decode cX3_readsLattice 47 = .ok (.iload_n 1, 1) := dk_27 (dk_at dksX3_readsLattice_1 23 rfl rfl)
theorem dX3_readsLattice_48 : decode cX3_readsLattice 48 = .ok (.iload_n 2, 1) := dk_28 (dk_at dksX3_readsLattice_2 0 rfl rfl)
theorem dX3_readsLattice_49 : decode cX3_readsLattice 49 = .ok (.iadd, 1) := dk_96 (dk_at dksX3_readsLattice_2 1 rfl rfl)
theorem dX3_readsLattice_50 : decode cX3_readsLattice 50 = .ok (.aload_n 0, 1) := dk_42 (dk_at dksX3_readsLattice_2 2 rfl rfl)
theorem dX3_readsLattice_51 : decode cX3_readsLattice 51 = .ok (.bipush 6, 2) := dk_16 6 (dk_at dksX3_readsLattice_2 3 rfl rfl)
theorem dX3_readsLattice_53 : decode cX3_readsLattice 53 = .ok (.invokevirtual 168, 3) := dk_182 0 168 (dk_at dksX3_readsLattice_2 5 rfl rfl)
theorem dX3_readsLattice_56 : decode cX3_readsLattice 56 = .ok (.iastore, 1) := dk_79 (dk_at dksX3_readsLattice_2 8 rfl rfl)
theorem dX3_readsLattice_57 : decode cX3_readsLattice 57 = .ok (.aload_n 0, 1) := dk_42 (dk_at dksX3_readsLattice_2 9 rfl rfl)
theorem dX3_readsLattice_58 : decode cX3_readsLattice 58 = .ok (.getfield 115, 3) := dk_180 0 115 (dk_at dksX3_readsLattice_2 10 rfl rfl)
theorem dX3_readsLattice_61 : decode cX3_readsLattice 61 = .ok (.ifCond .ne 32, 3) := dk_154 0 32 (dk_at dksX3_readsLattice_2 13 rfl rfl)
theorem dX3_readsLattice_64 : decode cX3_readsLattice 64 = .ok (.iload_n 2, 1) := dk_28 (dk_at dksX3_readsLattice_2 16 rfl rfl)
theorem dX3_readsLattice_65 : decode cX3_readsLattice 65 = .ok (.bipush 8, 2) := dk_16 8 (dk_at dksX3_readsLattice_2 17 rfl rfl)
theorem dX3_readsLattice_67 : decode cX3_readsLattice 67 = .ok (.if_icmp .ne 26, 3) := dk_160 0 26 (dk_at dksX3_readsLattice_2 19 rfl rfl)
theorem dX3_readsLattice_70 : decode cX3_readsLattice 70 = .ok (.aload_n 0, 1) := dk_42 (dk_at dksX3_readsLattice_2 22 rfl rfl)
theorem dX3_readsLattice_71 : decode cX3_readsLattice 71 = .ok (.iload_n 1, 1) := dk_27 (dk_at dksX3_readsLattice_2 23 rfl rfl)
theorem dX3_readsLattice_72 : decode cX3_readsLattice 72 = .ok (.invokevirtual 172, 3) := dk_182 0 172 (dk_at dksX3_readsLattice_3 0 rfl rfl)
theorem dX3_readsLattice_75 : decode cX3_readsLattice 75 = .ok (.invokestatic 1, 3) := dk_184 0 1 (dk_at dksX3_readsLattice_3 3 rfl rfl)
theorem dX3_readsLattice_78 : decode cX3_readsLattice 78 = .ok (.lconst 1, 1) := dk_10 (dk_at dksX3_readsLattice_3 6 rfl rfl)
theorem dX3_readsLattice_79 : decode cX3_readsLattice 79 = .ok (.ldc2_w 176, 3) := dk_20 0 176 (dk_at dksX3_readsLattice_3 7 rfl rfl)
theorem dX3_readsLattice_82 : decode cX3_readsLattice 82 = .ok (.invokestatic 88, 3) := dk_184 0 88 (dk_at dksX3_readsLattice_3 10 rfl rfl)
theorem dX3_readsLattice_85 : decode cX3_readsLattice 85 = .ok (.ifCond .ne 8, 3) := dk_154 0 8 (dk_at dksX3_readsLattice_3 13 rfl rfl)
theorem dX3_readsLattice_88 : decode cX3_readsLattice 88 = .ok (.aload_n 0, 1) := dk_42 (dk_at dksX3_readsLattice_3 16 rfl rfl)
theorem dX3_readsLattice_89 : decode cX3_readsLattice 89 = .ok (.iconst 2, 1) := dk_5 (dk_at dksX3_readsLattice_3 17 rfl rfl)
theorem dX3_readsLattice_90 : decode cX3_readsLattice 90 = .ok (.invokevirtual 132, 3) := dk_182 0 132 (dk_at dksX3_readsLattice_3 18 rfl rfl)
theorem dX3_readsLattice_93 : decode cX3_readsLattice 93 = .ok (.aload_n 0, 1) := dk_42 (dk_at dksX3_readsLattice_3 21 rfl rfl)
theorem dX3_readsLattice_94 : decode cX3_readsLattice 94 = .ok (.iconst 1, 1) := dk_4 (dk_at dksX3_readsLattice_3 22 rfl rfl)
theorem dX3_readsLattice_95 : decode cX3_readsLattice 95 = .ok (.invokevirtual 150, 3) := dk_182 0 150 (dk_at dksX3_readsLattice_4 0 rfl rfl)
theorem dX3_readsLattice_98 : decode cX3_readsLattice 98 = .ok (.iinc 2 1, 3) := dk_132 2 1 (dk_at dksX3_readsLattice_4 3 rfl rfl)
theorem dX3_readsLattice_101 : decode cX3_readsLattice 101 = .ok (.goto (-71), 3) := dk_167 255 185 (dk_at dksX3_readsLattice_4 6 rfl rfl)
theorem dX3_readsLattice_104 : decode cX3_readsLattice 104 = .ok (.aload_n 0, 1) := dk_42 (dk_at dksX3_readsLattice_4 9 rfl rfl)
theorem dX3_readsLattice_105 : decode cX3_readsLattice 105 = .ok (.getfield 115, 3) := dk_180 0 115 (dk_at dksX3_readsLattice_4 10 rfl rfl)
theorem dX3_readsLattice_108 : decode cX3_readsLattice 108 = .ok (.ifCond .ne 27, 3) := dk_154 0 27 (dk_at dksX3_readsLattice_4 13 rfl rfl)
theorem dX3_readsLattice_111 : decode cX3_readsLattice 111 = .ok (.aload_n 0, 1) := dk_42 (dk_at dksX3_readsLattice_4 16 rfl rfl)
theorem dX3_readsLattice_112 : decode cX3_readsLattice 112 = .ok (.getfield 13, 3) := dk_180 0 13 (dk_at dksX3_readsLattice_4 17 rfl rfl)
theorem dX3_readsLattice_115 : decode cX3_readsLattice 115 = .ok (.iconst 3, 1) := dk_6 (dk_at dksX3_readsLattice_4 20 rfl rfl)
theorem dX3_readsLattice_116 : decode cX3_readsLattice 116 = .ok (.aload_n 0, 1) := dk_42 (dk_at dksX3_readsLattice_4 21 rfl rfl)
theorem dX3_readsLattice_117 : decode cX3_readsLattice 117 = .ok (.getfield 13, 3) := dk_180 0 13 (dk_at dksX3_readsLattice_5 0 rfl rfl)
theorem dX3_readsLattice_120 : decode cX3_readsLattice 120 = .ok (.iconst 0, 1) := dk_3 (dk_at dksX3_readsLattice_5 3 rfl rfl)
theorem dX3_readsLattice_121 : decode cX3_readsLattice 121 = .ok (.iaload, 1) := dk_46 (dk_at dksX3_readsLattice_5 4 rfl rfl)
theorem dX3_readsLattice_122 : decode cX3_readsLattice 122 = .ok (.iadd, 1) := dk_96 (dk_at dksX3_readsLattice_5 5 rfl rfl)
theorem dX3_readsLattice_123 : decode cX3_readsLattice 123 = .ok (.iconst (-1), 1) := dk_2 (dk_at dksX3_readsLattice_5 6 rfl rfl)
theorem dX3_readsLattice_124 : decode cX3_readsLattice 124 = .ok (.iastore, 1) := dk_79 (dk_at dksX3_readsLattice_5 7 rfl rfl)
theorem dX3_readsLattice_125 : decode cX3_readsLattice 125 = .ok (.aload_n 0, 1) := dk_42 (dk_at dksX3_readsLattice_5 8 rfl rfl)
theorem dX3_readsLattice_126 : decode cX3_readsLattice 126 = .ok (.getfield 13, 3) := dk_180 0 13 (dk_at dksX3_readsLattice_5 9 rfl rfl)
theorem dX3_readsLattice_129 : decode cX3_readsLattice 129 = .ok (.iconst 0, 1) := dk_3 (dk_at dksX3_readsLattice_5 12 rfl rfl)
theorem dX3_readsLattice_130 : decode cX3_readsLattice 130 = .ok (.dup2, 1) := dk_92 (dk_at dksX3_readsLattice_5 13 rfl rfl)
theorem dX3_readsLattice_131 : decode cX3_readsLattice 131 = .ok (.iaload, 1) := dk_46 (dk_at dksX3_readsLattice_5 14 rfl rfl)
theorem dX3_readsLattice_132 : decode cX3_readsLattice 132 = .ok (.iconst 1, 1) := dk_4 (dk_at dksX3_readsLattice_5 15 rfl rfl)
theorem dX3_readsLattice_133 : decode cX3_readsLattice 133 = .ok (.iadd, 1) := dk_96 (dk_at dksX3_readsLattice_5 16 rfl rfl)
theorem dX3_readsLattice_134 : decode cX3_readsLattice 134 = .ok (.iastore, 1) := dk_79 (dk_at dksX3_readsLattice_5 17 rfl rfl)
theorem dX3_readsLattice_135 : decode cX3_readsLattice 135 = .ok (.return_, 1) := dk_177 (dk_at dksX3_readsLattice_5 18 rfl rfl)
abbrev cX3_readsName : ByteArray := prog_20_method_15_code
def yX3_readsName : MethodName := ⟨RX3, "readsName", "()V"⟩
def dkwX3_readsName_5 : List UInt8 := [154, 0, 11, 42, 180, 0, 105, 4, 160, 0, 7, 4, 167, 0, 4, 3, 182, 0, 150, 177]
abbrev dktX3_readsName_5 : List UInt8 := dkwX3_readsName_5 ++ []
def dkwX3_readsName_4 : List UInt8 := [180, 0, 33, 42, 180, 0, 13, 3, 46, 42, 180, 0, 92, 42, 180, 0, 99, 100, 79, 42, 42, 180, 0, 115]
abbrev dktX3_readsName_4 : List UInt8 := dkwX3_readsName_4 ++ dktX3_readsName_5
def dkwX3_readsName_3 : List UInt8 := [180, 0, 115, 154, 0, 38, 42, 180, 0, 30, 42, 180, 0, 13, 3, 46, 42, 180, 0, 99, 79, 42]
abbrev dktX3_readsName_3 : List UInt8 := dkwX3_readsName_3 ++ dktX3_readsName_4
def dkwX3_readsName_2 : List UInt8 := [163, 0, 18, 42, 182, 0, 154, 154, 0, 11, 42, 182, 0, 158, 2, 159, 0, 8, 42, 5, 182, 0, 132, 42]
abbrev dktX3_readsName_2 : List UInt8 := dkwX3_readsName_2 ++ dktX3_readsName_3
def dkwX3_readsName_1 : List UInt8 := [154, 0, 45, 42, 180, 0, 105, 4, 160, 0, 37, 42, 180, 0, 92, 42, 180, 0, 99, 100, 16, 6]
abbrev dktX3_readsName_1 : List UInt8 := dkwX3_readsName_1 ++ dktX3_readsName_2
def dkwX3_readsName_0 : List UInt8 := [42, 180, 0, 13, 3, 46, 8, 160, 0, 8, 42, 6, 182, 0, 132, 42, 4, 182, 0, 150, 42, 180, 0, 115]
abbrev dktX3_readsName_0 : List UInt8 := dkwX3_readsName_0 ++ dktX3_readsName_1
theorem dksX3_readsName_0 : cX3_readsName.data.toList.drop 0 = dktX3_readsName_0 := by decide +kernel
theorem dksX3_readsName_1 : cX3_readsName.data.toList.drop 24 = dktX3_readsName_1 := dk_seg dksX3_readsName_0 24 rfl rfl
theorem dksX3_readsName_2 : cX3_readsName.data.toList.drop 46 = dktX3_readsName_2 := dk_seg dksX3_readsName_1 22 rfl rfl
theorem dksX3_readsName_3 : cX3_readsName.data.toList.drop 70 = dktX3_readsName_3 := dk_seg dksX3_readsName_2 24 rfl rfl
theorem dksX3_readsName_4 : cX3_readsName.data.toList.drop 92 = dktX3_readsName_4 := dk_seg dksX3_readsName_3 22 rfl rfl
theorem dksX3_readsName_5 : cX3_readsName.data.toList.drop 116 = dktX3_readsName_5 := dk_seg dksX3_readsName_4 24 rfl rfl
theorem dX3_readsName_0 : decode cX3_readsName 0 = .ok (.aload_n 0, 1) := dk_42 (dk_at dksX3_readsName_0 0 rfl rfl)
theorem dX3_readsName_1 : decode cX3_readsName 1 = .ok (.getfield 13, 3) := dk_180 0 13 (dk_at dksX3_readsName_0 1 rfl rfl)
theorem dX3_readsName_4 : decode cX3_readsName 4 = .ok (.iconst 0, 1) := dk_3 (dk_at dksX3_readsName_0 4 rfl rfl)
theorem dX3_readsName_5 : decode cX3_readsName 5 = .ok (.iaload, 1) := dk_46 (dk_at dksX3_readsName_0 5 rfl rfl)
theorem dX3_readsName_6 : decode cX3_readsName 6 = .ok (.iconst 5, 1) := dk_8 (dk_at dksX3_readsName_0 6 rfl rfl)
theorem dX3_readsName_7 : decode cX3_readsName 7 = .ok (.if_icmp .ne 8, 3) := dk_160 0 8 (dk_at dksX3_readsName_0 7 rfl rfl)
theorem dX3_readsName_10 : decode cX3_readsName 10 = .ok (.aload_n 0, 1) := dk_42 (dk_at dksX3_readsName_0 10 rfl rfl)
theorem dX3_readsName_11 : decode cX3_readsName 11 = .ok (.iconst 3, 1) := dk_6 (dk_at dksX3_readsName_0 11 rfl rfl)
theorem dX3_readsName_12 : decode cX3_readsName 12 = .ok (.invokevirtual 132, 3) := dk_182 0 132 (dk_at dksX3_readsName_0 12 rfl rfl)
theorem dX3_readsName_15 : decode cX3_readsName 15 = .ok (.aload_n 0, 1) := dk_42 (dk_at dksX3_readsName_0 15 rfl rfl)
theorem dX3_readsName_16 : decode cX3_readsName 16 = .ok (.iconst 1, 1) := dk_4 (dk_at dksX3_readsName_0 16 rfl rfl)
theorem dX3_readsName_17 : decode cX3_readsName 17 = .ok (.invokevirtual 150, 3) := dk_182 0 150 (dk_at dksX3_readsName_0 17 rfl rfl)
theorem dX3_readsName_20 : decode cX3_readsName 20 = .ok (.aload_n 0, 1) := dk_42 (dk_at dksX3_readsName_0 20 rfl rfl)
theorem dX3_readsName_21 : decode cX3_readsName 21 = .ok (.getfield 115, 3) := dk_180 0 115 (dk_at dksX3_readsName_0 21 rfl rfl)
theorem dX3_readsName_24 : decode cX3_readsName 24 = .ok (.ifCond .ne 45, 3) := dk_154 0 45 (dk_at dksX3_readsName_1 0 rfl rfl)
theorem dX3_readsName_27 : decode cX3_readsName 27 = .ok (.aload_n 0, 1) := dk_42 (dk_at dksX3_readsName_1 3 rfl rfl)
theorem dX3_readsName_28 : decode cX3_readsName 28 = .ok (.getfield 105, 3) := dk_180 0 105 (dk_at dksX3_readsName_1 4 rfl rfl)
theorem dX3_readsName_31 : decode cX3_readsName 31 = .ok (.iconst 1, 1) := dk_4 (dk_at dksX3_readsName_1 7 rfl rfl)
theorem dX3_readsName_32 : decode cX3_readsName 32 = .ok (.if_icmp .ne 37, 3) := dk_160 0 37 (dk_at dksX3_readsName_1 8 rfl rfl)
theorem dX3_readsName_35 : decode cX3_readsName 35 = .ok (.aload_n 0, 1) := dk_42 (dk_at dksX3_readsName_1 11 rfl rfl)
theorem dX3_readsName_36 : decode cX3_readsName 36 = .ok (.getfield 92, 3) := dk_180 0 92 (dk_at dksX3_readsName_1 12 rfl rfl)
theorem dX3_readsName_39 : decode cX3_readsName 39 = .ok (.aload_n 0, 1) := dk_42 (dk_at dksX3_readsName_1 15 rfl rfl)
theorem dX3_readsName_40 : decode cX3_readsName 40 = .ok (.getfield 99, 3) := dk_180 0 99 (dk_at dksX3_readsName_1 16 rfl rfl)
theorem dX3_readsName_43 : decode cX3_readsName 43 = .ok (.isub, 1) := dk_100 (dk_at dksX3_readsName_1 19 rfl rfl)
theorem dX3_readsName_44 : decode cX3_readsName 44 = .ok (.bipush 6, 2) := dk_16 6 (dk_at dksX3_readsName_1 20 rfl rfl)
theorem dX3_readsName_46 : decode cX3_readsName 46 = .ok (.if_icmp .gt 18, 3) := dk_163 0 18 (dk_at dksX3_readsName_2 0 rfl rfl)
theorem dX3_readsName_49 : decode cX3_readsName 49 = .ok (.aload_n 0, 1) := dk_42 (dk_at dksX3_readsName_2 3 rfl rfl)
theorem dX3_readsName_50 : decode cX3_readsName 50 = .ok (.invokevirtual 154, 3) := dk_182 0 154 (dk_at dksX3_readsName_2 4 rfl rfl)
theorem dX3_readsName_53 : decode cX3_readsName 53 = .ok (.ifCond .ne 11, 3) := dk_154 0 11 (dk_at dksX3_readsName_2 7 rfl rfl)
theorem dX3_readsName_56 : decode cX3_readsName 56 = .ok (.aload_n 0, 1) := dk_42 (dk_at dksX3_readsName_2 10 rfl rfl)
theorem dX3_readsName_57 : decode cX3_readsName 57 = .ok (.invokevirtual 158, 3) := dk_182 0 158 (dk_at dksX3_readsName_2 11 rfl rfl)
theorem dX3_readsName_60 : decode cX3_readsName 60 = .ok (.iconst (-1), 1) := dk_2 (dk_at dksX3_readsName_2 14 rfl rfl)
theorem dX3_readsName_61 : decode cX3_readsName 61 = .ok (.if_icmp .eq 8, 3) := dk_159 0 8 (dk_at dksX3_readsName_2 15 rfl rfl)
theorem dX3_readsName_64 : decode cX3_readsName 64 = .ok (.aload_n 0, 1) := dk_42 (dk_at dksX3_readsName_2 18 rfl rfl)
theorem dX3_readsName_65 : decode cX3_readsName 65 = .ok (.iconst 2, 1) := dk_5 (dk_at dksX3_readsName_2 19 rfl rfl)
theorem dX3_readsName_66 : decode cX3_readsName 66 = .ok (.invokevirtual 132, 3) := dk_182 0 132 (dk_at dksX3_readsName_2 20 rfl rfl)
theorem dX3_readsName_69 : decode cX3_readsName 69 = .ok (.aload_n 0, 1) := dk_42 (dk_at dksX3_readsName_2 23 rfl rfl)
theorem dX3_readsName_70 : decode cX3_readsName 70 = .ok (.getfield 115, 3) := dk_180 0 115 (dk_at dksX3_readsName_3 0 rfl rfl)
theorem dX3_readsName_73 : decode cX3_readsName 73 = .ok (.ifCond .ne 38, 3) := dk_154 0 38 (dk_at dksX3_readsName_3 3 rfl rfl)
theorem dX3_readsName_76 : decode cX3_readsName 76 = .ok (.aload_n 0, 1) := dk_42 (dk_at dksX3_readsName_3 6 rfl rfl)
theorem dX3_readsName_77 : decode cX3_readsName 77 = .ok (.getfield 30, 3) := dk_180 0 30 (dk_at dksX3_readsName_3 7 rfl rfl)
theorem dX3_readsName_80 : decode cX3_readsName 80 = .ok (.aload_n 0, 1) := dk_42 (dk_at dksX3_readsName_3 10 rfl rfl)
theorem dX3_readsName_81 : decode cX3_readsName 81 = .ok (.getfield 13, 3) := dk_180 0 13 (dk_at dksX3_readsName_3 11 rfl rfl)
theorem dX3_readsName_84 : decode cX3_readsName 84 = .ok (.iconst 0, 1) := dk_3 (dk_at dksX3_readsName_3 14 rfl rfl)
theorem dX3_readsName_85 : decode cX3_readsName 85 = .ok (.iaload, 1) := dk_46 (dk_at dksX3_readsName_3 15 rfl rfl)
theorem dX3_readsName_86 : decode cX3_readsName 86 = .ok (.aload_n 0, 1) := dk_42 (dk_at dksX3_readsName_3 16 rfl rfl)
theorem dX3_readsName_87 : decode cX3_readsName 87 = .ok (.getfield 99, 3) := dk_180 0 99 (dk_at dksX3_readsName_3 17 rfl rfl)
theorem dX3_readsName_90 : decode cX3_readsName 90 = .ok (.iastore, 1) := dk_79 (dk_at dksX3_readsName_3 20 rfl rfl)
theorem dX3_readsName_91 : decode cX3_readsName 91 = .ok (.aload_n 0, 1) := dk_42 (dk_at dksX3_readsName_3 21 rfl rfl)
theorem dX3_readsName_92 : decode cX3_readsName 92 = .ok (.getfield 33, 3) := dk_180 0 33 (dk_at dksX3_readsName_4 0 rfl rfl)
theorem dX3_readsName_95 : decode cX3_readsName 95 = .ok (.aload_n 0, 1) := dk_42 (dk_at dksX3_readsName_4 3 rfl rfl)
theorem dX3_readsName_96 : decode cX3_readsName 96 = .ok (.getfield 13, 3) := dk_180 0 13 (dk_at dksX3_readsName_4 4 rfl rfl)
theorem dX3_readsName_99 : decode cX3_readsName 99 = .ok (.iconst 0, 1) := dk_3 (dk_at dksX3_readsName_4 7 rfl rfl)
theorem dX3_readsName_100 : decode cX3_readsName 100 = .ok (.iaload, 1) := dk_46 (dk_at dksX3_readsName_4 8 rfl rfl)
theorem dX3_readsName_101 : decode cX3_readsName 101 = .ok (.aload_n 0, 1) := dk_42 (dk_at dksX3_readsName_4 9 rfl rfl)
theorem dX3_readsName_102 : decode cX3_readsName 102 = .ok (.getfield 92, 3) := dk_180 0 92 (dk_at dksX3_readsName_4 10 rfl rfl)
theorem dX3_readsName_105 : decode cX3_readsName 105 = .ok (.aload_n 0, 1) := dk_42 (dk_at dksX3_readsName_4 13 rfl rfl)
theorem dX3_readsName_106 : decode cX3_readsName 106 = .ok (.getfield 99, 3) := dk_180 0 99 (dk_at dksX3_readsName_4 14 rfl rfl)
theorem dX3_readsName_109 : decode cX3_readsName 109 = .ok (.isub, 1) := dk_100 (dk_at dksX3_readsName_4 17 rfl rfl)
theorem dX3_readsName_110 : decode cX3_readsName 110 = .ok (.iastore, 1) := dk_79 (dk_at dksX3_readsName_4 18 rfl rfl)
theorem dX3_readsName_111 : decode cX3_readsName 111 = .ok (.aload_n 0, 1) := dk_42 (dk_at dksX3_readsName_4 19 rfl rfl)
theorem dX3_readsName_112 : decode cX3_readsName 112 = .ok (.aload_n 0, 1) := dk_42 (dk_at dksX3_readsName_4 20 rfl rfl)
theorem dX3_readsName_113 : decode cX3_readsName 113 = .ok (.getfield 115, 3) := dk_180 0 115 (dk_at dksX3_readsName_4 21 rfl rfl)
theorem dX3_readsName_116 : decode cX3_readsName 116 = .ok (.ifCond .ne 11, 3) := dk_154 0 11 (dk_at dksX3_readsName_5 0 rfl rfl)
theorem dX3_readsName_119 : decode cX3_readsName 119 = .ok (.aload_n 0, 1) := dk_42 (dk_at dksX3_readsName_5 3 rfl rfl)
theorem dX3_readsName_120 : decode cX3_readsName 120 = .ok (.getfield 105, 3) := dk_180 0 105 (dk_at dksX3_readsName_5 4 rfl rfl)
theorem dX3_readsName_123 : decode cX3_readsName 123 = .ok (.iconst 1, 1) := dk_4 (dk_at dksX3_readsName_5 7 rfl rfl)
theorem dX3_readsName_124 : decode cX3_readsName 124 = .ok (.if_icmp .ne 7, 3) := dk_160 0 7 (dk_at dksX3_readsName_5 8 rfl rfl)
theorem dX3_readsName_127 : decode cX3_readsName 127 = .ok (.iconst 1, 1) := dk_4 (dk_at dksX3_readsName_5 11 rfl rfl)
theorem dX3_readsName_128 : decode cX3_readsName 128 = .ok (.goto 4, 3) := dk_167 0 4 (dk_at dksX3_readsName_5 12 rfl rfl)
theorem dX3_readsName_131 : decode cX3_readsName 131 = .ok (.iconst 0, 1) := dk_3 (dk_at dksX3_readsName_5 15 rfl rfl)
theorem dX3_readsName_132 : decode cX3_readsName 132 = .ok (.invokevirtual 150, 3) := dk_182 0 150 (dk_at dksX3_readsName_5 16 rfl rfl)
theorem dX3_readsName_135 : decode cX3_readsName 135 = .ok (.return_, 1) := dk_177 (dk_at dksX3_readsName_5 19 rfl rfl)
abbrev cX3_faults : ByteArray := prog_20_method_9_code
def yX3_faults : MethodName := ⟨RX3, "faults", "(I)V"⟩
def dkwX3_faults_1 : List UInt8 := [181, 0, 26, 177]
abbrev dktX3_faults_1 : List UInt8 := dkwX3_faults_1 ++ []
def dkwX3_faults_0 : List UInt8 := [42, 180, 0, 115, 154, 0, 21, 42, 4, 181, 0, 115, 42, 27, 181, 0, 119, 42, 42, 180, 0, 99]
abbrev dktX3_faults_0 : List UInt8 := dkwX3_faults_0 ++ dktX3_faults_1
theorem dksX3_faults_0 : cX3_faults.data.toList.drop 0 = dktX3_faults_0 := by decide +kernel
theorem dksX3_faults_1 : cX3_faults.data.toList.drop 22 = dktX3_faults_1 := dk_seg dksX3_faults_0 22 rfl rfl
theorem dX3_faults_0 : decode cX3_faults 0 = .ok (.aload_n 0, 1) := dk_42 (dk_at dksX3_faults_0 0 rfl rfl)
theorem dX3_faults_1 : decode cX3_faults 1 = .ok (.getfield 115, 3) := dk_180 0 115 (dk_at dksX3_faults_0 1 rfl rfl)
theorem dX3_faults_4 : decode cX3_faults 4 = .ok (.ifCond .ne 21, 3) := dk_154 0 21 (dk_at dksX3_faults_0 4 rfl rfl)
theorem dX3_faults_7 : decode cX3_faults 7 = .ok (.aload_n 0, 1) := dk_42 (dk_at dksX3_faults_0 7 rfl rfl)
theorem dX3_faults_8 : decode cX3_faults 8 = .ok (.iconst 1, 1) := dk_4 (dk_at dksX3_faults_0 8 rfl rfl)
theorem dX3_faults_9 : decode cX3_faults 9 = .ok (.putfield 115, 3) := dk_181 0 115 (dk_at dksX3_faults_0 9 rfl rfl)
theorem dX3_faults_12 : decode cX3_faults 12 = .ok (.aload_n 0, 1) := dk_42 (dk_at dksX3_faults_0 12 rfl rfl)
theorem dX3_faults_13 : decode cX3_faults 13 = .ok (.iload_n 1, 1) := dk_27 (dk_at dksX3_faults_0 13 rfl rfl)
theorem dX3_faults_14 : decode cX3_faults 14 = .ok (.putfield 119, 3) := dk_181 0 119 (dk_at dksX3_faults_0 14 rfl rfl)
theorem dX3_faults_17 : decode cX3_faults 17 = .ok (.aload_n 0, 1) := dk_42 (dk_at dksX3_faults_0 17 rfl rfl)
theorem dX3_faults_18 : decode cX3_faults 18 = .ok (.aload_n 0, 1) := dk_42 (dk_at dksX3_faults_0 18 rfl rfl)
theorem dX3_faults_19 : decode cX3_faults 19 = .ok (.getfield 99, 3) := dk_180 0 99 (dk_at dksX3_faults_0 19 rfl rfl)
theorem dX3_faults_22 : decode cX3_faults 22 = .ok (.putfield 26, 3) := dk_181 0 26 (dk_at dksX3_faults_1 0 rfl rfl)
theorem dX3_faults_25 : decode cX3_faults 25 = .ok (.return_, 1) := dk_177 (dk_at dksX3_faults_1 3 rfl rfl)
abbrev cX3_passes : ByteArray := prog_20_method_12_code
def yX3_passes : MethodName := ⟨RX3, "passes", "(Z)V"⟩
def dkwX3_passes_0 : List UInt8 := [27, 154, 0, 8, 42, 4, 182, 0, 132, 42, 180, 0, 115, 154, 0, 7, 42, 182, 0, 136, 177]
abbrev dktX3_passes_0 : List UInt8 := dkwX3_passes_0 ++ []
theorem dksX3_passes_0 : cX3_passes.data.toList.drop 0 = dktX3_passes_0 := by decide +kernel
theorem dX3_passes_0 : decode cX3_passes 0 = .ok (.iload_n 1, 1) := dk_27 (dk_at dksX3_passes_0 0 rfl rfl)
theorem dX3_passes_1 : decode cX3_passes 1 = .ok (.ifCond .ne 8, 3) := dk_154 0 8 (dk_at dksX3_passes_0 1 rfl rfl)
theorem dX3_passes_4 : decode cX3_passes 4 = .ok (.aload_n 0, 1) := dk_42 (dk_at dksX3_passes_0 4 rfl rfl)
theorem dX3_passes_5 : decode cX3_passes 5 = .ok (.iconst 1, 1) := dk_4 (dk_at dksX3_passes_0 5 rfl rfl)
theorem dX3_passes_6 : decode cX3_passes 6 = .ok (.invokevirtual 132, 3) := dk_182 0 132 (dk_at dksX3_passes_0 6 rfl rfl)
theorem dX3_passes_9 : decode cX3_passes 9 = .ok (.aload_n 0, 1) := dk_42 (dk_at dksX3_passes_0 9 rfl rfl)
theorem dX3_passes_10 : decode cX3_passes 10 = .ok (.getfield 115, 3) := dk_180 0 115 (dk_at dksX3_passes_0 10 rfl rfl)
theorem dX3_passes_13 : decode cX3_passes 13 = .ok (.ifCond .ne 7, 3) := dk_154 0 7 (dk_at dksX3_passes_0 13 rfl rfl)
theorem dX3_passes_16 : decode cX3_passes 16 = .ok (.aload_n 0, 1) := dk_42 (dk_at dksX3_passes_0 16 rfl rfl)
theorem dX3_passes_17 : decode cX3_passes 17 = .ok (.invokevirtual 136, 3) := dk_182 0 136 (dk_at dksX3_passes_0 17 rfl rfl)
theorem dX3_passes_20 : decode cX3_passes 20 = .ok (.return_, 1) := dk_177 (dk_at dksX3_passes_0 20 rfl rfl)
abbrev cX3_isKept : ByteArray := prog_20_method_13_code
def yX3_isKept : MethodName := ⟨RX3, "isKept", "()Z"⟩
def dkwX3_isKept_1 : List UInt8 := [154, 0, 12, 42, 18, 148, 182, 0, 141, 153, 0, 7, 4, 167, 0, 4, 3, 172]
abbrev dktX3_isKept_1 : List UInt8 := dkwX3_isKept_1 ++ []
def dkwX3_isKept_0 : List UInt8 := [42, 18, 139, 182, 0, 141, 154, 0, 30, 42, 18, 145, 182, 0, 141, 154, 0, 21, 42, 18, 146, 182, 0, 141]
abbrev dktX3_isKept_0 : List UInt8 := dkwX3_isKept_0 ++ dktX3_isKept_1
theorem dksX3_isKept_0 : cX3_isKept.data.toList.drop 0 = dktX3_isKept_0 := by decide +kernel
theorem dksX3_isKept_1 : cX3_isKept.data.toList.drop 24 = dktX3_isKept_1 := dk_seg dksX3_isKept_0 24 rfl rfl
theorem dX3_isKept_0 : decode cX3_isKept 0 = .ok (.aload_n 0, 1) := dk_42 (dk_at dksX3_isKept_0 0 rfl rfl)
theorem dX3_isKept_1 : decode cX3_isKept 1 = .ok (.ldc 139, 2) := dk_18 139 (dk_at dksX3_isKept_0 1 rfl rfl)
theorem dX3_isKept_3 : decode cX3_isKept 3 = .ok (.invokevirtual 141, 3) := dk_182 0 141 (dk_at dksX3_isKept_0 3 rfl rfl)
theorem dX3_isKept_6 : decode cX3_isKept 6 = .ok (.ifCond .ne 30, 3) := dk_154 0 30 (dk_at dksX3_isKept_0 6 rfl rfl)
theorem dX3_isKept_9 : decode cX3_isKept 9 = .ok (.aload_n 0, 1) := dk_42 (dk_at dksX3_isKept_0 9 rfl rfl)
theorem dX3_isKept_10 : decode cX3_isKept 10 = .ok (.ldc 145, 2) := dk_18 145 (dk_at dksX3_isKept_0 10 rfl rfl)
theorem dX3_isKept_12 : decode cX3_isKept 12 = .ok (.invokevirtual 141, 3) := dk_182 0 141 (dk_at dksX3_isKept_0 12 rfl rfl)
theorem dX3_isKept_15 : decode cX3_isKept 15 = .ok (.ifCond .ne 21, 3) := dk_154 0 21 (dk_at dksX3_isKept_0 15 rfl rfl)
theorem dX3_isKept_18 : decode cX3_isKept 18 = .ok (.aload_n 0, 1) := dk_42 (dk_at dksX3_isKept_0 18 rfl rfl)
theorem dX3_isKept_19 : decode cX3_isKept 19 = .ok (.ldc 146, 2) := dk_18 146 (dk_at dksX3_isKept_0 19 rfl rfl)
theorem dX3_isKept_21 : decode cX3_isKept 21 = .ok (.invokevirtual 141, 3) := dk_182 0 141 (dk_at dksX3_isKept_0 21 rfl rfl)
theorem dX3_isKept_24 : decode cX3_isKept 24 = .ok (.ifCond .ne 12, 3) := dk_154 0 12 (dk_at dksX3_isKept_1 0 rfl rfl)
theorem dX3_isKept_27 : decode cX3_isKept 27 = .ok (.aload_n 0, 1) := dk_42 (dk_at dksX3_isKept_1 3 rfl rfl)
theorem dX3_isKept_28 : decode cX3_isKept 28 = .ok (.ldc 148, 2) := dk_18 148 (dk_at dksX3_isKept_1 4 rfl rfl)
theorem dX3_isKept_30 : decode cX3_isKept 30 = .ok (.invokevirtual 141, 3) := dk_182 0 141 (dk_at dksX3_isKept_1 6 rfl rfl)
theorem dX3_isKept_33 : decode cX3_isKept 33 = .ok (.ifCond .eq 7, 3) := dk_153 0 7 (dk_at dksX3_isKept_1 9 rfl rfl)
theorem dX3_isKept_36 : decode cX3_isKept 36 = .ok (.iconst 1, 1) := dk_4 (dk_at dksX3_isKept_1 12 rfl rfl)
theorem dX3_isKept_37 : decode cX3_isKept 37 = .ok (.goto 4, 3) := dk_167 0 4 (dk_at dksX3_isKept_1 13 rfl rfl)
theorem dX3_isKept_40 : decode cX3_isKept 40 = .ok (.iconst 0, 1) := dk_3 (dk_at dksX3_isKept_1 16 rfl rfl)
theorem dX3_isKept_41 : decode cX3_isKept 41 = .ok (.ireturn, 1) := dk_172 (dk_at dksX3_isKept_1 17 rfl rfl)
abbrev cX3_named : ByteArray := prog_20_method_14_code
def yX3_named : MethodName := ⟨RX3, "named", "()I"⟩
def dkwX3_named_4 : List UInt8 := [153, 0, 5, 27, 172, 132, 1, 1, 167, 255, 158, 2, 172]
abbrev dktX3_named_4 : List UInt8 := dkwX3_named_4 ++ []
def dkwX3_named_3 : List UInt8 := [42, 180, 0, 99, 29, 96, 46, 160, 0, 7, 4, 167, 0, 4, 3, 61, 132, 3, 1, 167, 255, 206, 28]
abbrev dktX3_named_3 : List UInt8 := dkwX3_named_3 ++ dktX3_named_4
def dkwX3_named_2 : List UInt8 := [162, 0, 46, 28, 153, 0, 42, 42, 180, 0, 23, 42, 180, 0, 30, 27, 46, 29, 96, 46, 42, 180, 0, 23]
abbrev dktX3_named_2 : List UInt8 := dkwX3_named_2 ++ dktX3_named_3
def dkwX3_named_1 : List UInt8 := [180, 0, 99, 100, 160, 0, 7, 4, 167, 0, 4, 3, 61, 3, 62, 29, 42, 180, 0, 33, 27, 46]
abbrev dktX3_named_1 : List UInt8 := dkwX3_named_1 ++ dktX3_named_2
def dkwX3_named_0 : List UInt8 := [3, 60, 27, 42, 180, 0, 13, 3, 46, 162, 0, 94, 42, 180, 0, 33, 27, 46, 42, 180, 0, 92, 42]
abbrev dktX3_named_0 : List UInt8 := dkwX3_named_0 ++ dktX3_named_1
theorem dksX3_named_0 : cX3_named.data.toList.drop 0 = dktX3_named_0 := by decide +kernel
theorem dksX3_named_1 : cX3_named.data.toList.drop 23 = dktX3_named_1 := dk_seg dksX3_named_0 23 rfl rfl
theorem dksX3_named_2 : cX3_named.data.toList.drop 45 = dktX3_named_2 := dk_seg dksX3_named_1 22 rfl rfl
theorem dksX3_named_3 : cX3_named.data.toList.drop 69 = dktX3_named_3 := dk_seg dksX3_named_2 24 rfl rfl
theorem dksX3_named_4 : cX3_named.data.toList.drop 92 = dktX3_named_4 := dk_seg dksX3_named_3 23 rfl rfl
theorem dX3_named_0 : decode cX3_named 0 = .ok (.iconst 0, 1) := dk_3 (dk_at dksX3_named_0 0 rfl rfl)
theorem dX3_named_1 : decode cX3_named 1 = .ok (.istore_n 1, 1) := dk_60 (dk_at dksX3_named_0 1 rfl rfl)
theorem dX3_named_2 : decode cX3_named 2 = .ok (.iload_n 1, 1) := dk_27 (dk_at dksX3_named_0 2 rfl rfl)
theorem dX3_named_3 : decode cX3_named 3 = .ok (.aload_n 0, 1) := dk_42 (dk_at dksX3_named_0 3 rfl rfl)
theorem dX3_named_4 : decode cX3_named 4 = .ok (.getfield 13, 3) := dk_180 0 13 (dk_at dksX3_named_0 4 rfl rfl)
theorem dX3_named_7 : decode cX3_named 7 = .ok (.iconst 0, 1) := dk_3 (dk_at dksX3_named_0 7 rfl rfl)
theorem dX3_named_8 : decode cX3_named 8 = .ok (.iaload, 1) := dk_46 (dk_at dksX3_named_0 8 rfl rfl)
theorem dX3_named_9 : decode cX3_named 9 = .ok (.if_icmp .ge 94, 3) := dk_162 0 94 (dk_at dksX3_named_0 9 rfl rfl)
theorem dX3_named_12 : decode cX3_named 12 = .ok (.aload_n 0, 1) := dk_42 (dk_at dksX3_named_0 12 rfl rfl)
theorem dX3_named_13 : decode cX3_named 13 = .ok (.getfield 33, 3) := dk_180 0 33 (dk_at dksX3_named_0 13 rfl rfl)
theorem dX3_named_16 : decode cX3_named 16 = .ok (.iload_n 1, 1) := dk_27 (dk_at dksX3_named_0 16 rfl rfl)
theorem dX3_named_17 : decode cX3_named 17 = .ok (.iaload, 1) := dk_46 (dk_at dksX3_named_0 17 rfl rfl)
theorem dX3_named_18 : decode cX3_named 18 = .ok (.aload_n 0, 1) := dk_42 (dk_at dksX3_named_0 18 rfl rfl)
theorem dX3_named_19 : decode cX3_named 19 = .ok (.getfield 92, 3) := dk_180 0 92 (dk_at dksX3_named_0 19 rfl rfl)
theorem dX3_named_22 : decode cX3_named 22 = .ok (.aload_n 0, 1) := dk_42 (dk_at dksX3_named_0 22 rfl rfl)
theorem dX3_named_23 : decode cX3_named 23 = .ok (.getfield 99, 3) := dk_180 0 99 (dk_at dksX3_named_1 0 rfl rfl)
theorem dX3_named_26 : decode cX3_named 26 = .ok (.isub, 1) := dk_100 (dk_at dksX3_named_1 3 rfl rfl)
theorem dX3_named_27 : decode cX3_named 27 = .ok (.if_icmp .ne 7, 3) := dk_160 0 7 (dk_at dksX3_named_1 4 rfl rfl)
theorem dX3_named_30 : decode cX3_named 30 = .ok (.iconst 1, 1) := dk_4 (dk_at dksX3_named_1 7 rfl rfl)
theorem dX3_named_31 : decode cX3_named 31 = .ok (.goto 4, 3) := dk_167 0 4 (dk_at dksX3_named_1 8 rfl rfl)
theorem dX3_named_34 : decode cX3_named 34 = .ok (.iconst 0, 1) := dk_3 (dk_at dksX3_named_1 11 rfl rfl)
theorem dX3_named_35 : decode cX3_named 35 = .ok (.istore_n 2, 1) := dk_61 (dk_at dksX3_named_1 12 rfl rfl)
theorem dX3_named_36 : decode cX3_named 36 = .ok (.iconst 0, 1) := dk_3 (dk_at dksX3_named_1 13 rfl rfl)
theorem dX3_named_37 : decode cX3_named 37 = .ok (.istore_n 3, 1) := dk_62 (dk_at dksX3_named_1 14 rfl rfl)
theorem dX3_named_38 : decode cX3_named 38 = .ok (.iload_n 3, 1) := dk_29 (dk_at dksX3_named_1 15 rfl rfl)
theorem dX3_named_39 : decode cX3_named 39 = .ok (.aload_n 0, 1) := dk_42 (dk_at dksX3_named_1 16 rfl rfl)
theorem dX3_named_40 : decode cX3_named 40 = .ok (.getfield 33, 3) := dk_180 0 33 (dk_at dksX3_named_1 17 rfl rfl)
theorem dX3_named_43 : decode cX3_named 43 = .ok (.iload_n 1, 1) := dk_27 (dk_at dksX3_named_1 20 rfl rfl)
theorem dX3_named_44 : decode cX3_named 44 = .ok (.iaload, 1) := dk_46 (dk_at dksX3_named_1 21 rfl rfl)
theorem dX3_named_45 : decode cX3_named 45 = .ok (.if_icmp .ge 46, 3) := dk_162 0 46 (dk_at dksX3_named_2 0 rfl rfl)
theorem dX3_named_48 : decode cX3_named 48 = .ok (.iload_n 2, 1) := dk_28 (dk_at dksX3_named_2 3 rfl rfl)
theorem dX3_named_49 : decode cX3_named 49 = .ok (.ifCond .eq 42, 3) := dk_153 0 42 (dk_at dksX3_named_2 4 rfl rfl)
theorem dX3_named_52 : decode cX3_named 52 = .ok (.aload_n 0, 1) := dk_42 (dk_at dksX3_named_2 7 rfl rfl)
theorem dX3_named_53 : decode cX3_named 53 = .ok (.getfield 23, 3) := dk_180 0 23 (dk_at dksX3_named_2 8 rfl rfl)
theorem dX3_named_56 : decode cX3_named 56 = .ok (.aload_n 0, 1) := dk_42 (dk_at dksX3_named_2 11 rfl rfl)
theorem dX3_named_57 : decode cX3_named 57 = .ok (.getfield 30, 3) := dk_180 0 30 (dk_at dksX3_named_2 12 rfl rfl)
theorem dX3_named_60 : decode cX3_named 60 = .ok (.iload_n 1, 1) := dk_27 (dk_at dksX3_named_2 15 rfl rfl)
theorem dX3_named_61 : decode cX3_named 61 = .ok (.iaload, 1) := dk_46 (dk_at dksX3_named_2 16 rfl rfl)
theorem dX3_named_62 : decode cX3_named 62 = .ok (.iload_n 3, 1) := dk_29 (dk_at dksX3_named_2 17 rfl rfl)
theorem dX3_named_63 : decode cX3_named 63 = .ok (.iadd, 1) := dk_96 (dk_at dksX3_named_2 18 rfl rfl)
theorem dX3_named_64 : decode cX3_named 64 = .ok (.iaload, 1) := dk_46 (dk_at dksX3_named_2 19 rfl rfl)
theorem dX3_named_65 : decode cX3_named 65 = .ok (.aload_n 0, 1) := dk_42 (dk_at dksX3_named_2 20 rfl rfl)
theorem dX3_named_66 : decode cX3_named 66 = .ok (.getfield 23, 3) := dk_180 0 23 (dk_at dksX3_named_2 21 rfl rfl)
theorem dX3_named_69 : decode cX3_named 69 = .ok (.aload_n 0, 1) := dk_42 (dk_at dksX3_named_3 0 rfl rfl)
theorem dX3_named_70 : decode cX3_named 70 = .ok (.getfield 99, 3) := dk_180 0 99 (dk_at dksX3_named_3 1 rfl rfl)
theorem dX3_named_73 : decode cX3_named 73 = .ok (.iload_n 3, 1) := dk_29 (dk_at dksX3_named_3 4 rfl rfl)
theorem dX3_named_74 : decode cX3_named 74 = .ok (.iadd, 1) := dk_96 (dk_at dksX3_named_3 5 rfl rfl)
theorem dX3_named_75 : decode cX3_named 75 = .ok (.iaload, 1) := dk_46 (dk_at dksX3_named_3 6 rfl rfl)
theorem dX3_named_76 : decode cX3_named 76 = .ok (.if_icmp .ne 7, 3) := dk_160 0 7 (dk_at dksX3_named_3 7 rfl rfl)
theorem dX3_named_79 : decode cX3_named 79 = .ok (.iconst 1, 1) := dk_4 (dk_at dksX3_named_3 10 rfl rfl)
theorem dX3_named_80 : decode cX3_named 80 = .ok (.goto 4, 3) := dk_167 0 4 (dk_at dksX3_named_3 11 rfl rfl)
theorem dX3_named_83 : decode cX3_named 83 = .ok (.iconst 0, 1) := dk_3 (dk_at dksX3_named_3 14 rfl rfl)
theorem dX3_named_84 : decode cX3_named 84 = .ok (.istore_n 2, 1) := dk_61 (dk_at dksX3_named_3 15 rfl rfl)
theorem dX3_named_85 : decode cX3_named 85 = .ok (.iinc 3 1, 3) := dk_132 3 1 (dk_at dksX3_named_3 16 rfl rfl)
theorem dX3_named_88 : decode cX3_named 88 = .ok (.goto (-50), 3) := dk_167 255 206 (dk_at dksX3_named_3 19 rfl rfl)
theorem dX3_named_91 : decode cX3_named 91 = .ok (.iload_n 2, 1) := dk_28 (dk_at dksX3_named_3 22 rfl rfl)
theorem dX3_named_92 : decode cX3_named 92 = .ok (.ifCond .eq 5, 3) := dk_153 0 5 (dk_at dksX3_named_4 0 rfl rfl)
theorem dX3_named_95 : decode cX3_named 95 = .ok (.iload_n 1, 1) := dk_27 (dk_at dksX3_named_4 3 rfl rfl)
theorem dX3_named_96 : decode cX3_named 96 = .ok (.ireturn, 1) := dk_172 (dk_at dksX3_named_4 4 rfl rfl)
theorem dX3_named_97 : decode cX3_named 97 = .ok (.iinc 1 1, 3) := dk_132 1 1 (dk_at dksX3_named_4 5 rfl rfl)
theorem dX3_named_100 : decode cX3_named 100 = .ok (.goto (-98), 3) := dk_167 255 158 (dk_at dksX3_named_4 8 rfl rfl)
theorem dX3_named_103 : decode cX3_named 103 = .ok (.iconst (-1), 1) := dk_2 (dk_at dksX3_named_4 11 rfl rfl)
theorem dX3_named_104 : decode cX3_named 104 = .ok (.ireturn, 1) := dk_172 (dk_at dksX3_named_4 12 rfl rfl)
abbrev cX3_sees : ByteArray := prog_20_method_16_code
def yX3_sees : MethodName := ⟨RX3, "sees", "(I)I"⟩
def dkwX3_sees_2 : List UInt8 := [42, 5, 182, 0, 132, 28, 153, 0, 11, 42, 180, 0, 102, 116, 167, 0, 7, 42, 180, 0, 102, 172]
abbrev dktX3_sees_2 : List UInt8 := dkwX3_sees_2 ++ []
def dkwX3_sees_1 : List UInt8 := [42, 180, 0, 105, 5, 159, 0, 11, 42, 4, 182, 0, 132, 167, 0, 16, 42, 180, 0, 102, 27, 164, 0, 8]
abbrev dktX3_sees_1 : List UInt8 := dkwX3_sees_1 ++ dktX3_sees_2
def dkwX3_sees_0 : List UInt8 := [42, 180, 0, 115, 153, 0, 5, 3, 172, 42, 16, 45, 182, 0, 161, 61, 28, 153, 0, 7, 42, 182, 0, 136]
abbrev dktX3_sees_0 : List UInt8 := dkwX3_sees_0 ++ dktX3_sees_1
theorem dksX3_sees_0 : cX3_sees.data.toList.drop 0 = dktX3_sees_0 := by decide +kernel
theorem dksX3_sees_1 : cX3_sees.data.toList.drop 24 = dktX3_sees_1 := dk_seg dksX3_sees_0 24 rfl rfl
theorem dksX3_sees_2 : cX3_sees.data.toList.drop 48 = dktX3_sees_2 := dk_seg dksX3_sees_1 24 rfl rfl
theorem dX3_sees_0 : decode cX3_sees 0 = .ok (.aload_n 0, 1) := dk_42 (dk_at dksX3_sees_0 0 rfl rfl)
theorem dX3_sees_1 : decode cX3_sees 1 = .ok (.getfield 115, 3) := dk_180 0 115 (dk_at dksX3_sees_0 1 rfl rfl)
theorem dX3_sees_4 : decode cX3_sees 4 = .ok (.ifCond .eq 5, 3) := dk_153 0 5 (dk_at dksX3_sees_0 4 rfl rfl)
theorem dX3_sees_7 : decode cX3_sees 7 = .ok (.iconst 0, 1) := dk_3 (dk_at dksX3_sees_0 7 rfl rfl)
theorem dX3_sees_8 : decode cX3_sees 8 = .ok (.ireturn, 1) := dk_172 (dk_at dksX3_sees_0 8 rfl rfl)
theorem dX3_sees_9 : decode cX3_sees 9 = .ok (.aload_n 0, 1) := dk_42 (dk_at dksX3_sees_0 9 rfl rfl)
theorem dX3_sees_10 : decode cX3_sees 10 = .ok (.bipush 45, 2) := dk_16 45 (dk_at dksX3_sees_0 10 rfl rfl)
theorem dX3_sees_12 : decode cX3_sees 12 = .ok (.invokevirtual 161, 3) := dk_182 0 161 (dk_at dksX3_sees_0 12 rfl rfl)
theorem dX3_sees_15 : decode cX3_sees 15 = .ok (.istore_n 2, 1) := dk_61 (dk_at dksX3_sees_0 15 rfl rfl)
theorem dX3_sees_16 : decode cX3_sees 16 = .ok (.iload_n 2, 1) := dk_28 (dk_at dksX3_sees_0 16 rfl rfl)
theorem dX3_sees_17 : decode cX3_sees 17 = .ok (.ifCond .eq 7, 3) := dk_153 0 7 (dk_at dksX3_sees_0 17 rfl rfl)
theorem dX3_sees_20 : decode cX3_sees 20 = .ok (.aload_n 0, 1) := dk_42 (dk_at dksX3_sees_0 20 rfl rfl)
theorem dX3_sees_21 : decode cX3_sees 21 = .ok (.invokevirtual 136, 3) := dk_182 0 136 (dk_at dksX3_sees_0 21 rfl rfl)
theorem dX3_sees_24 : decode cX3_sees 24 = .ok (.aload_n 0, 1) := dk_42 (dk_at dksX3_sees_1 0 rfl rfl)
theorem dX3_sees_25 : decode cX3_sees 25 = .ok (.getfield 105, 3) := dk_180 0 105 (dk_at dksX3_sees_1 1 rfl rfl)
theorem dX3_sees_28 : decode cX3_sees 28 = .ok (.iconst 2, 1) := dk_5 (dk_at dksX3_sees_1 4 rfl rfl)
theorem dX3_sees_29 : decode cX3_sees 29 = .ok (.if_icmp .eq 11, 3) := dk_159 0 11 (dk_at dksX3_sees_1 5 rfl rfl)
theorem dX3_sees_32 : decode cX3_sees 32 = .ok (.aload_n 0, 1) := dk_42 (dk_at dksX3_sees_1 8 rfl rfl)
theorem dX3_sees_33 : decode cX3_sees 33 = .ok (.iconst 1, 1) := dk_4 (dk_at dksX3_sees_1 9 rfl rfl)
theorem dX3_sees_34 : decode cX3_sees 34 = .ok (.invokevirtual 132, 3) := dk_182 0 132 (dk_at dksX3_sees_1 10 rfl rfl)
theorem dX3_sees_37 : decode cX3_sees 37 = .ok (.goto 16, 3) := dk_167 0 16 (dk_at dksX3_sees_1 13 rfl rfl)
theorem dX3_sees_40 : decode cX3_sees 40 = .ok (.aload_n 0, 1) := dk_42 (dk_at dksX3_sees_1 16 rfl rfl)
theorem dX3_sees_41 : decode cX3_sees 41 = .ok (.getfield 102, 3) := dk_180 0 102 (dk_at dksX3_sees_1 17 rfl rfl)
theorem dX3_sees_44 : decode cX3_sees 44 = .ok (.iload_n 1, 1) := dk_27 (dk_at dksX3_sees_1 20 rfl rfl)
theorem dX3_sees_45 : decode cX3_sees 45 = .ok (.if_icmp .le 8, 3) := dk_164 0 8 (dk_at dksX3_sees_1 21 rfl rfl)
theorem dX3_sees_48 : decode cX3_sees 48 = .ok (.aload_n 0, 1) := dk_42 (dk_at dksX3_sees_2 0 rfl rfl)
theorem dX3_sees_49 : decode cX3_sees 49 = .ok (.iconst 2, 1) := dk_5 (dk_at dksX3_sees_2 1 rfl rfl)
theorem dX3_sees_50 : decode cX3_sees 50 = .ok (.invokevirtual 132, 3) := dk_182 0 132 (dk_at dksX3_sees_2 2 rfl rfl)
theorem dX3_sees_53 : decode cX3_sees 53 = .ok (.iload_n 2, 1) := dk_28 (dk_at dksX3_sees_2 5 rfl rfl)
theorem dX3_sees_54 : decode cX3_sees 54 = .ok (.ifCond .eq 11, 3) := dk_153 0 11 (dk_at dksX3_sees_2 6 rfl rfl)
theorem dX3_sees_57 : decode cX3_sees 57 = .ok (.aload_n 0, 1) := dk_42 (dk_at dksX3_sees_2 9 rfl rfl)
theorem dX3_sees_58 : decode cX3_sees 58 = .ok (.getfield 102, 3) := dk_180 0 102 (dk_at dksX3_sees_2 10 rfl rfl)
theorem dX3_sees_61 : decode cX3_sees 61 = .ok (.ineg, 1) := dk_116 (dk_at dksX3_sees_2 13 rfl rfl)
theorem dX3_sees_62 : decode cX3_sees 62 = .ok (.goto 7, 3) := dk_167 0 7 (dk_at dksX3_sees_2 14 rfl rfl)
theorem dX3_sees_65 : decode cX3_sees 65 = .ok (.aload_n 0, 1) := dk_42 (dk_at dksX3_sees_2 17 rfl rfl)
theorem dX3_sees_66 : decode cX3_sees 66 = .ok (.getfield 102, 3) := dk_180 0 102 (dk_at dksX3_sees_2 18 rfl rfl)
theorem dX3_sees_69 : decode cX3_sees 69 = .ok (.ireturn, 1) := dk_172 (dk_at dksX3_sees_2 21 rfl rfl)
abbrev cX3_isSign : ByteArray := prog_20_method_11_code
def yX3_isSign : MethodName := ⟨RX3, "isSign", "(C)Z"⟩
def dkwX3_isSign_1 : List UInt8 := [167, 0, 4, 3, 172]
abbrev dktX3_isSign_1 : List UInt8 := dkwX3_isSign_1 ++ []
def dkwX3_isSign_0 : List UInt8 := [42, 180, 0, 105, 6, 160, 0, 20, 42, 180, 0, 23, 42, 180, 0, 99, 46, 27, 160, 0, 7, 4]
abbrev dktX3_isSign_0 : List UInt8 := dkwX3_isSign_0 ++ dktX3_isSign_1
theorem dksX3_isSign_0 : cX3_isSign.data.toList.drop 0 = dktX3_isSign_0 := by decide +kernel
theorem dksX3_isSign_1 : cX3_isSign.data.toList.drop 22 = dktX3_isSign_1 := dk_seg dksX3_isSign_0 22 rfl rfl
theorem dX3_isSign_0 : decode cX3_isSign 0 = .ok (.aload_n 0, 1) := dk_42 (dk_at dksX3_isSign_0 0 rfl rfl)
theorem dX3_isSign_1 : decode cX3_isSign 1 = .ok (.getfield 105, 3) := dk_180 0 105 (dk_at dksX3_isSign_0 1 rfl rfl)
theorem dX3_isSign_4 : decode cX3_isSign 4 = .ok (.iconst 3, 1) := dk_6 (dk_at dksX3_isSign_0 4 rfl rfl)
theorem dX3_isSign_5 : decode cX3_isSign 5 = .ok (.if_icmp .ne 20, 3) := dk_160 0 20 (dk_at dksX3_isSign_0 5 rfl rfl)
theorem dX3_isSign_8 : decode cX3_isSign 8 = .ok (.aload_n 0, 1) := dk_42 (dk_at dksX3_isSign_0 8 rfl rfl)
theorem dX3_isSign_9 : decode cX3_isSign 9 = .ok (.getfield 23, 3) := dk_180 0 23 (dk_at dksX3_isSign_0 9 rfl rfl)
theorem dX3_isSign_12 : decode cX3_isSign 12 = .ok (.aload_n 0, 1) := dk_42 (dk_at dksX3_isSign_0 12 rfl rfl)
theorem dX3_isSign_13 : decode cX3_isSign 13 = .ok (.getfield 99, 3) := dk_180 0 99 (dk_at dksX3_isSign_0 13 rfl rfl)
theorem dX3_isSign_16 : decode cX3_isSign 16 = .ok (.iaload, 1) := dk_46 (dk_at dksX3_isSign_0 16 rfl rfl)
theorem dX3_isSign_17 : decode cX3_isSign 17 = .ok (.iload_n 1, 1) := dk_27 (dk_at dksX3_isSign_0 17 rfl rfl)
theorem dX3_isSign_18 : decode cX3_isSign 18 = .ok (.if_icmp .ne 7, 3) := dk_160 0 7 (dk_at dksX3_isSign_0 18 rfl rfl)
theorem dX3_isSign_21 : decode cX3_isSign 21 = .ok (.iconst 1, 1) := dk_4 (dk_at dksX3_isSign_0 21 rfl rfl)
theorem dX3_isSign_22 : decode cX3_isSign 22 = .ok (.goto 4, 3) := dk_167 0 4 (dk_at dksX3_isSign_1 0 rfl rfl)
theorem dX3_isSign_25 : decode cX3_isSign 25 = .ok (.iconst 0, 1) := dk_3 (dk_at dksX3_isSign_1 3 rfl rfl)
theorem dX3_isSign_26 : decode cX3_isSign 26 = .ok (.ireturn, 1) := dk_172 (dk_at dksX3_isSign_1 4 rfl rfl)
abbrev cX3_detOf : ByteArray := prog_20_method_19_code
def yX3_detOf : MethodName := ⟨RX3, "detOf", "(I)J"⟩
def dkwX3_detOf_4 : List UInt8 := [167, 255, 167, 32, 173]
abbrev dktX3_detOf_4 : List UInt8 := dkwX3_detOf_4 ++ []
def dkwX3_detOf_3 : List UInt8 := [180, 0, 13, 27, 16, 6, 96, 21, 4, 4, 96, 6, 112, 96, 46, 104, 100, 133, 105, 97, 65, 132, 4, 1]
abbrev dktX3_detOf_3 : List UInt8 := dkwX3_detOf_3 ++ dktX3_detOf_4
def dkwX3_detOf_2 : List UInt8 := [5, 96, 6, 112, 96, 46, 104, 42, 180, 0, 13, 27, 6, 96, 21, 4, 5, 96, 6, 112, 96, 46, 42]
abbrev dktX3_detOf_2 : List UInt8 := dkwX3_detOf_2 ++ dktX3_detOf_3
def dkwX3_detOf_1 : List UInt8 := [180, 0, 13, 27, 6, 96, 21, 4, 4, 96, 6, 112, 96, 46, 42, 180, 0, 13, 27, 16, 6, 96, 21, 4]
abbrev dktX3_detOf_1 : List UInt8 := dkwX3_detOf_1 ++ dktX3_detOf_2
def dkwX3_detOf_0 : List UInt8 := [9, 65, 3, 54, 4, 21, 4, 6, 162, 0, 89, 32, 42, 180, 0, 13, 27, 21, 4, 96, 46, 133, 42]
abbrev dktX3_detOf_0 : List UInt8 := dkwX3_detOf_0 ++ dktX3_detOf_1
theorem dksX3_detOf_0 : cX3_detOf.data.toList.drop 0 = dktX3_detOf_0 := by decide +kernel
theorem dksX3_detOf_1 : cX3_detOf.data.toList.drop 23 = dktX3_detOf_1 := dk_seg dksX3_detOf_0 23 rfl rfl
theorem dksX3_detOf_2 : cX3_detOf.data.toList.drop 47 = dktX3_detOf_2 := dk_seg dksX3_detOf_1 24 rfl rfl
theorem dksX3_detOf_3 : cX3_detOf.data.toList.drop 70 = dktX3_detOf_3 := dk_seg dksX3_detOf_2 23 rfl rfl
theorem dksX3_detOf_4 : cX3_detOf.data.toList.drop 94 = dktX3_detOf_4 := dk_seg dksX3_detOf_3 24 rfl rfl
theorem dX3_detOf_0 : decode cX3_detOf 0 = .ok (.lconst 0, 1) := dk_9 (dk_at dksX3_detOf_0 0 rfl rfl)
theorem dX3_detOf_1 : decode cX3_detOf 1 = .ok (.lstore_n 2, 1) := dk_65 (dk_at dksX3_detOf_0 1 rfl rfl)
theorem dX3_detOf_2 : decode cX3_detOf 2 = .ok (.iconst 0, 1) := dk_3 (dk_at dksX3_detOf_0 2 rfl rfl)
theorem dX3_detOf_3 : decode cX3_detOf 3 = .ok (.istore 4, 2) := dk_54 4 (dk_at dksX3_detOf_0 3 rfl rfl)
theorem dX3_detOf_5 : decode cX3_detOf 5 = .ok (.iload 4, 2) := dk_21 4 (dk_at dksX3_detOf_0 5 rfl rfl)
theorem dX3_detOf_7 : decode cX3_detOf 7 = .ok (.iconst 3, 1) := dk_6 (dk_at dksX3_detOf_0 7 rfl rfl)
theorem dX3_detOf_8 : decode cX3_detOf 8 = .ok (.if_icmp .ge 89, 3) := dk_162 0 89 (dk_at dksX3_detOf_0 8 rfl rfl)
theorem dX3_detOf_11 : decode cX3_detOf 11 = .ok (.lload_n 2, 1) := dk_32 (dk_at dksX3_detOf_0 11 rfl rfl)
theorem dX3_detOf_12 : decode cX3_detOf 12 = .ok (.aload_n 0, 1) := dk_42 (dk_at dksX3_detOf_0 12 rfl rfl)
theorem dX3_detOf_13 : decode cX3_detOf 13 = .ok (.getfield 13, 3) := dk_180 0 13 (dk_at dksX3_detOf_0 13 rfl rfl)
theorem dX3_detOf_16 : decode cX3_detOf 16 = .ok (.iload_n 1, 1) := dk_27 (dk_at dksX3_detOf_0 16 rfl rfl)
theorem dX3_detOf_17 : decode cX3_detOf 17 = .ok (.iload 4, 2) := dk_21 4 (dk_at dksX3_detOf_0 17 rfl rfl)
theorem dX3_detOf_19 : decode cX3_detOf 19 = .ok (.iadd, 1) := dk_96 (dk_at dksX3_detOf_0 19 rfl rfl)
theorem dX3_detOf_20 : decode cX3_detOf 20 = .ok (.iaload, 1) := dk_46 (dk_at dksX3_detOf_0 20 rfl rfl)
theorem dX3_detOf_21 : decode cX3_detOf 21 = .ok (.i2l, 1) := dk_133 (dk_at dksX3_detOf_0 21 rfl rfl)
theorem dX3_detOf_22 : decode cX3_detOf 22 = .ok (.aload_n 0, 1) := dk_42 (dk_at dksX3_detOf_0 22 rfl rfl)
theorem dX3_detOf_23 : decode cX3_detOf 23 = .ok (.getfield 13, 3) := dk_180 0 13 (dk_at dksX3_detOf_1 0 rfl rfl)
theorem dX3_detOf_26 : decode cX3_detOf 26 = .ok (.iload_n 1, 1) := dk_27 (dk_at dksX3_detOf_1 3 rfl rfl)
theorem dX3_detOf_27 : decode cX3_detOf 27 = .ok (.iconst 3, 1) := dk_6 (dk_at dksX3_detOf_1 4 rfl rfl)
theorem dX3_detOf_28 : decode cX3_detOf 28 = .ok (.iadd, 1) := dk_96 (dk_at dksX3_detOf_1 5 rfl rfl)
theorem dX3_detOf_29 : decode cX3_detOf 29 = .ok (.iload 4, 2) := dk_21 4 (dk_at dksX3_detOf_1 6 rfl rfl)
theorem dX3_detOf_31 : decode cX3_detOf 31 = .ok (.iconst 1, 1) := dk_4 (dk_at dksX3_detOf_1 8 rfl rfl)
theorem dX3_detOf_32 : decode cX3_detOf 32 = .ok (.iadd, 1) := dk_96 (dk_at dksX3_detOf_1 9 rfl rfl)
theorem dX3_detOf_33 : decode cX3_detOf 33 = .ok (.iconst 3, 1) := dk_6 (dk_at dksX3_detOf_1 10 rfl rfl)
theorem dX3_detOf_34 : decode cX3_detOf 34 = .ok (.irem, 1) := dk_112 (dk_at dksX3_detOf_1 11 rfl rfl)
theorem dX3_detOf_35 : decode cX3_detOf 35 = .ok (.iadd, 1) := dk_96 (dk_at dksX3_detOf_1 12 rfl rfl)
theorem dX3_detOf_36 : decode cX3_detOf 36 = .ok (.iaload, 1) := dk_46 (dk_at dksX3_detOf_1 13 rfl rfl)
theorem dX3_detOf_37 : decode cX3_detOf 37 = .ok (.aload_n 0, 1) := dk_42 (dk_at dksX3_detOf_1 14 rfl rfl)
theorem dX3_detOf_38 : decode cX3_detOf 38 = .ok (.getfield 13, 3) := dk_180 0 13 (dk_at dksX3_detOf_1 15 rfl rfl)
theorem dX3_detOf_41 : decode cX3_detOf 41 = .ok (.iload_n 1, 1) := dk_27 (dk_at dksX3_detOf_1 18 rfl rfl)
theorem dX3_detOf_42 : decode cX3_detOf 42 = .ok (.bipush 6, 2) := dk_16 6 (dk_at dksX3_detOf_1 19 rfl rfl)
theorem dX3_detOf_44 : decode cX3_detOf 44 = .ok (.iadd, 1) := dk_96 (dk_at dksX3_detOf_1 21 rfl rfl)
theorem dX3_detOf_45 : decode cX3_detOf 45 = .ok (.iload 4, 2) := dk_21 4 (dk_at dksX3_detOf_1 22 rfl rfl)
theorem dX3_detOf_47 : decode cX3_detOf 47 = .ok (.iconst 2, 1) := dk_5 (dk_at dksX3_detOf_2 0 rfl rfl)
theorem dX3_detOf_48 : decode cX3_detOf 48 = .ok (.iadd, 1) := dk_96 (dk_at dksX3_detOf_2 1 rfl rfl)
theorem dX3_detOf_49 : decode cX3_detOf 49 = .ok (.iconst 3, 1) := dk_6 (dk_at dksX3_detOf_2 2 rfl rfl)
theorem dX3_detOf_50 : decode cX3_detOf 50 = .ok (.irem, 1) := dk_112 (dk_at dksX3_detOf_2 3 rfl rfl)
theorem dX3_detOf_51 : decode cX3_detOf 51 = .ok (.iadd, 1) := dk_96 (dk_at dksX3_detOf_2 4 rfl rfl)
theorem dX3_detOf_52 : decode cX3_detOf 52 = .ok (.iaload, 1) := dk_46 (dk_at dksX3_detOf_2 5 rfl rfl)
theorem dX3_detOf_53 : decode cX3_detOf 53 = .ok (.imul, 1) := dk_104 (dk_at dksX3_detOf_2 6 rfl rfl)
theorem dX3_detOf_54 : decode cX3_detOf 54 = .ok (.aload_n 0, 1) := dk_42 (dk_at dksX3_detOf_2 7 rfl rfl)
theorem dX3_detOf_55 : decode cX3_detOf 55 = .ok (.getfield 13, 3) := dk_180 0 13 (dk_at dksX3_detOf_2 8 rfl rfl)
theorem dX3_detOf_58 : decode cX3_detOf 58 = .ok (.iload_n 1, 1) := dk_27 (dk_at dksX3_detOf_2 11 rfl rfl)
theorem dX3_detOf_59 : decode cX3_detOf 59 = .ok (.iconst 3, 1) := dk_6 (dk_at dksX3_detOf_2 12 rfl rfl)
theorem dX3_detOf_60 : decode cX3_detOf 60 = .ok (.iadd, 1) := dk_96 (dk_at dksX3_detOf_2 13 rfl rfl)
theorem dX3_detOf_61 : decode cX3_detOf 61 = .ok (.iload 4, 2) := dk_21 4 (dk_at dksX3_detOf_2 14 rfl rfl)
theorem dX3_detOf_63 : decode cX3_detOf 63 = .ok (.iconst 2, 1) := dk_5 (dk_at dksX3_detOf_2 16 rfl rfl)
theorem dX3_detOf_64 : decode cX3_detOf 64 = .ok (.iadd, 1) := dk_96 (dk_at dksX3_detOf_2 17 rfl rfl)
theorem dX3_detOf_65 : decode cX3_detOf 65 = .ok (.iconst 3, 1) := dk_6 (dk_at dksX3_detOf_2 18 rfl rfl)
theorem dX3_detOf_66 : decode cX3_detOf 66 = .ok (.irem, 1) := dk_112 (dk_at dksX3_detOf_2 19 rfl rfl)
theorem dX3_detOf_67 : decode cX3_detOf 67 = .ok (.iadd, 1) := dk_96 (dk_at dksX3_detOf_2 20 rfl rfl)
theorem dX3_detOf_68 : decode cX3_detOf 68 = .ok (.iaload, 1) := dk_46 (dk_at dksX3_detOf_2 21 rfl rfl)
theorem dX3_detOf_69 : decode cX3_detOf 69 = .ok (.aload_n 0, 1) := dk_42 (dk_at dksX3_detOf_2 22 rfl rfl)
theorem dX3_detOf_70 : decode cX3_detOf 70 = .ok (.getfield 13, 3) := dk_180 0 13 (dk_at dksX3_detOf_3 0 rfl rfl)
theorem dX3_detOf_73 : decode cX3_detOf 73 = .ok (.iload_n 1, 1) := dk_27 (dk_at dksX3_detOf_3 3 rfl rfl)
theorem dX3_detOf_74 : decode cX3_detOf 74 = .ok (.bipush 6, 2) := dk_16 6 (dk_at dksX3_detOf_3 4 rfl rfl)
theorem dX3_detOf_76 : decode cX3_detOf 76 = .ok (.iadd, 1) := dk_96 (dk_at dksX3_detOf_3 6 rfl rfl)
theorem dX3_detOf_77 : decode cX3_detOf 77 = .ok (.iload 4, 2) := dk_21 4 (dk_at dksX3_detOf_3 7 rfl rfl)
theorem dX3_detOf_79 : decode cX3_detOf 79 = .ok (.iconst 1, 1) := dk_4 (dk_at dksX3_detOf_3 9 rfl rfl)
theorem dX3_detOf_80 : decode cX3_detOf 80 = .ok (.iadd, 1) := dk_96 (dk_at dksX3_detOf_3 10 rfl rfl)
theorem dX3_detOf_81 : decode cX3_detOf 81 = .ok (.iconst 3, 1) := dk_6 (dk_at dksX3_detOf_3 11 rfl rfl)
theorem dX3_detOf_82 : decode cX3_detOf 82 = .ok (.irem, 1) := dk_112 (dk_at dksX3_detOf_3 12 rfl rfl)
theorem dX3_detOf_83 : decode cX3_detOf 83 = .ok (.iadd, 1) := dk_96 (dk_at dksX3_detOf_3 13 rfl rfl)
theorem dX3_detOf_84 : decode cX3_detOf 84 = .ok (.iaload, 1) := dk_46 (dk_at dksX3_detOf_3 14 rfl rfl)
theorem dX3_detOf_85 : decode cX3_detOf 85 = .ok (.imul, 1) := dk_104 (dk_at dksX3_detOf_3 15 rfl rfl)
theorem dX3_detOf_86 : decode cX3_detOf 86 = .ok (.isub, 1) := dk_100 (dk_at dksX3_detOf_3 16 rfl rfl)
theorem dX3_detOf_87 : decode cX3_detOf 87 = .ok (.i2l, 1) := dk_133 (dk_at dksX3_detOf_3 17 rfl rfl)
theorem dX3_detOf_88 : decode cX3_detOf 88 = .ok (.lmul, 1) := dk_105 (dk_at dksX3_detOf_3 18 rfl rfl)
theorem dX3_detOf_89 : decode cX3_detOf 89 = .ok (.ladd, 1) := dk_97 (dk_at dksX3_detOf_3 19 rfl rfl)
theorem dX3_detOf_90 : decode cX3_detOf 90 = .ok (.lstore_n 2, 1) := dk_65 (dk_at dksX3_detOf_3 20 rfl rfl)
theorem dX3_detOf_91 : decode cX3_detOf 91 = .ok (.iinc 4 1, 3) := dk_132 4 1 (dk_at dksX3_detOf_3 21 rfl rfl)
theorem dX3_detOf_94 : decode cX3_detOf 94 = .ok (.goto (-89), 3) := dk_167 255 167 (dk_at dksX3_detOf_4 0 rfl rfl)
theorem dX3_detOf_97 : decode cX3_detOf 97 = .ok (.lload_n 2, 1) := dk_32 (dk_at dksX3_detOf_4 3 rfl rfl)
theorem dX3_detOf_98 : decode cX3_detOf 98 = .ok (.lreturn, 1) := dk_173 (dk_at dksX3_detOf_4 4 rfl rfl)
abbrev cX3_sized : ByteArray := prog_20_method_2_code
def yX3_sized : MethodName := ⟨RX3, "sized", "(J)J"⟩
def dkwX3_sized_0 : List UInt8 := [30, 9, 148, 156, 0, 8, 30, 117, 167, 0, 4, 30, 173]
abbrev dktX3_sized_0 : List UInt8 := dkwX3_sized_0 ++ []
theorem dksX3_sized_0 : cX3_sized.data.toList.drop 0 = dktX3_sized_0 := by decide +kernel
theorem dX3_sized_0 : decode cX3_sized 0 = .ok (.lload_n 0, 1) := dk_30 (dk_at dksX3_sized_0 0 rfl rfl)
theorem dX3_sized_1 : decode cX3_sized 1 = .ok (.lconst 0, 1) := dk_9 (dk_at dksX3_sized_0 1 rfl rfl)
theorem dX3_sized_2 : decode cX3_sized 2 = .ok (.lcmp, 1) := dk_148 (dk_at dksX3_sized_0 2 rfl rfl)
theorem dX3_sized_3 : decode cX3_sized 3 = .ok (.ifCond .ge 8, 3) := dk_156 0 8 (dk_at dksX3_sized_0 3 rfl rfl)
theorem dX3_sized_6 : decode cX3_sized 6 = .ok (.lload_n 0, 1) := dk_30 (dk_at dksX3_sized_0 6 rfl rfl)
theorem dX3_sized_7 : decode cX3_sized 7 = .ok (.lneg, 1) := dk_117 (dk_at dksX3_sized_0 7 rfl rfl)
theorem dX3_sized_8 : decode cX3_sized 8 = .ok (.goto 4, 3) := dk_167 0 4 (dk_at dksX3_sized_0 8 rfl rfl)
theorem dX3_sized_11 : decode cX3_sized 11 = .ok (.lload_n 0, 1) := dk_30 (dk_at dksX3_sized_0 11 rfl rfl)
theorem dX3_sized_12 : decode cX3_sized 12 = .ok (.lreturn, 1) := dk_173 (dk_at dksX3_sized_0 12 rfl rfl)
abbrev cX3_readsTurn : ByteArray := prog_20_method_18_code
def yX3_readsTurn : MethodName := ⟨RX3, "readsTurn", "()V"⟩
def dkwX3_readsTurn_11 : List UInt8 := [96, 27, 79, 42, 180, 0, 13, 3, 92, 46, 4, 96, 79, 177]
abbrev dktX3_readsTurn_11 : List UInt8 := dkwX3_readsTurn_11 ++ []
def dkwX3_readsTurn_10 : List UInt8 := [132, 4, 1, 167, 255, 187, 42, 180, 0, 115, 154, 0, 27, 42, 180, 0, 13, 6, 42, 180, 0, 13, 3, 46]
abbrev dktX3_readsTurn_10 : List UInt8 := dkwX3_readsTurn_10 ++ dktX3_readsTurn_11
def dkwX3_readsTurn_9 : List UInt8 := [154, 0, 18, 21, 4, 6, 160, 0, 12, 29, 154, 0, 8, 42, 5, 182, 0, 132, 42, 4, 182, 0, 150]
abbrev dktX3_readsTurn_9 : List UInt8 := dkwX3_readsTurn_9 ++ dktX3_readsTurn_10
def dkwX3_readsTurn_8 : List UInt8 := [96, 42, 6, 182, 0, 168, 79, 29, 42, 180, 0, 13, 28, 21, 4, 96, 46, 128, 62, 42, 180, 0, 115]
abbrev dktX3_readsTurn_8 : List UInt8 := dkwX3_readsTurn_8 ++ dktX3_readsTurn_9
def dkwX3_readsTurn_7 : List UInt8 := [62, 3, 54, 4, 21, 4, 7, 162, 0, 69, 42, 180, 0, 115, 154, 0, 62, 42, 180, 0, 13, 28, 21, 4]
abbrev dktX3_readsTurn_7 : List UInt8 := dkwX3_readsTurn_7 ++ dktX3_readsTurn_8
def dkwX3_readsTurn_6 : List UInt8 := [16, 8, 7, 42, 180, 0, 115, 153, 0, 7, 3, 167, 0, 9, 42, 180, 0, 13, 3, 46, 104, 96, 61, 3]
abbrev dktX3_readsTurn_6 : List UInt8 := dkwX3_readsTurn_6 ++ dktX3_readsTurn_7
def dkwX3_readsTurn_5 : List UInt8 := [180, 0, 115, 154, 0, 12, 42, 18, 148, 182, 0, 141, 153, 0, 7, 4, 167, 0, 4, 3, 182, 0, 150]
abbrev dktX3_readsTurn_5 : List UInt8 := dkwX3_readsTurn_5 ++ dktX3_readsTurn_6
def dkwX3_readsTurn_4 : List UInt8 := [180, 0, 115, 154, 0, 11, 42, 180, 0, 105, 4, 160, 0, 7, 4, 167, 0, 4, 3, 182, 0, 150, 42, 42]
abbrev dktX3_readsTurn_4 : List UInt8 := dkwX3_readsTurn_4 ++ dktX3_readsTurn_5
def dkwX3_readsTurn_3 : List UInt8 := [2, 159, 0, 15, 42, 180, 0, 13, 6, 27, 96, 46, 2, 159, 0, 8, 42, 5, 182, 0, 132, 42, 42]
abbrev dktX3_readsTurn_3 : List UInt8 := dkwX3_readsTurn_3 ++ dktX3_readsTurn_4
def dkwX3_readsTurn_2 : List UInt8 := [167, 0, 7, 42, 182, 0, 158, 60, 42, 180, 0, 115, 154, 0, 33, 42, 180, 0, 105, 4, 160, 0, 25, 27]
abbrev dktX3_readsTurn_2 : List UInt8 := dkwX3_readsTurn_2 ++ dktX3_readsTurn_3
def dkwX3_readsTurn_1 : List UInt8 := [167, 0, 4, 3, 182, 0, 150, 42, 180, 0, 115, 154, 0, 11, 42, 180, 0, 105, 4, 159, 0, 7, 2]
abbrev dktX3_readsTurn_1 : List UInt8 := dkwX3_readsTurn_1 ++ dktX3_readsTurn_2
def dkwX3_readsTurn_0 : List UInt8 := [42, 182, 0, 165, 42, 42, 180, 0, 115, 154, 0, 12, 42, 18, 146, 182, 0, 141, 153, 0, 7, 4]
abbrev dktX3_readsTurn_0 : List UInt8 := dkwX3_readsTurn_0 ++ dktX3_readsTurn_1
theorem dksX3_readsTurn_0 : cX3_readsTurn.data.toList.drop 0 = dktX3_readsTurn_0 := by decide +kernel
theorem dksX3_readsTurn_1 : cX3_readsTurn.data.toList.drop 22 = dktX3_readsTurn_1 := dk_seg dksX3_readsTurn_0 22 rfl rfl
theorem dksX3_readsTurn_2 : cX3_readsTurn.data.toList.drop 45 = dktX3_readsTurn_2 := dk_seg dksX3_readsTurn_1 23 rfl rfl
theorem dksX3_readsTurn_3 : cX3_readsTurn.data.toList.drop 69 = dktX3_readsTurn_3 := dk_seg dksX3_readsTurn_2 24 rfl rfl
theorem dksX3_readsTurn_4 : cX3_readsTurn.data.toList.drop 92 = dktX3_readsTurn_4 := dk_seg dksX3_readsTurn_3 23 rfl rfl
theorem dksX3_readsTurn_5 : cX3_readsTurn.data.toList.drop 116 = dktX3_readsTurn_5 := dk_seg dksX3_readsTurn_4 24 rfl rfl
theorem dksX3_readsTurn_6 : cX3_readsTurn.data.toList.drop 139 = dktX3_readsTurn_6 := dk_seg dksX3_readsTurn_5 23 rfl rfl
theorem dksX3_readsTurn_7 : cX3_readsTurn.data.toList.drop 163 = dktX3_readsTurn_7 := dk_seg dksX3_readsTurn_6 24 rfl rfl
theorem dksX3_readsTurn_8 : cX3_readsTurn.data.toList.drop 187 = dktX3_readsTurn_8 := dk_seg dksX3_readsTurn_7 24 rfl rfl
theorem dksX3_readsTurn_9 : cX3_readsTurn.data.toList.drop 210 = dktX3_readsTurn_9 := dk_seg dksX3_readsTurn_8 23 rfl rfl
theorem dksX3_readsTurn_10 : cX3_readsTurn.data.toList.drop 233 = dktX3_readsTurn_10 := dk_seg dksX3_readsTurn_9 23 rfl rfl
theorem dksX3_readsTurn_11 : cX3_readsTurn.data.toList.drop 257 = dktX3_readsTurn_11 := dk_seg dksX3_readsTurn_10 24 rfl rfl
theorem dX3_readsTurn_0 : decode cX3_readsTurn 0 = .ok (.aload_n 0, 1) := dk_42 (dk_at dksX3_readsTurn_0 0 rfl rfl)
theorem dX3_readsTurn_1 : decode cX3_readsTurn 1 = .ok (.invokevirtual 165, 3) := dk_182 0 165 (dk_at dksX3_readsTurn_0 1 rfl rfl)
theorem dX3_readsTurn_4 : decode cX3_readsTurn 4 = .ok (.aload_n 0, 1) := dk_42 (dk_at dksX3_readsTurn_0 4 rfl rfl)
theorem dX3_readsTurn_5 : decode cX3_readsTurn 5 = .ok (.aload_n 0, 1) := dk_42 (dk_at dksX3_readsTurn_0 5 rfl rfl)
theorem dX3_readsTurn_6 : decode cX3_readsTurn 6 = .ok (.getfield 115, 3) := dk_180 0 115 (dk_at dksX3_readsTurn_0 6 rfl rfl)
theorem dX3_readsTurn_9 : decode cX3_readsTurn 9 = .ok (.ifCond .ne 12, 3) := dk_154 0 12 (dk_at dksX3_readsTurn_0 9 rfl rfl)
theorem dX3_readsTurn_12 : decode cX3_readsTurn 12 = .ok (.aload_n 0, 1) := dk_42 (dk_at dksX3_readsTurn_0 12 rfl rfl)
theorem dX3_readsTurn_13 : decode cX3_readsTurn 13 = .ok (.ldc 146, 2) := dk_18 146 (dk_at dksX3_readsTurn_0 13 rfl rfl)
theorem dX3_readsTurn_15 : decode cX3_readsTurn 15 = .ok (.invokevirtual 141, 3) := dk_182 0 141 (dk_at dksX3_readsTurn_0 15 rfl rfl)
theorem dX3_readsTurn_18 : decode cX3_readsTurn 18 = .ok (.ifCond .eq 7, 3) := dk_153 0 7 (dk_at dksX3_readsTurn_0 18 rfl rfl)
theorem dX3_readsTurn_21 : decode cX3_readsTurn 21 = .ok (.iconst 1, 1) := dk_4 (dk_at dksX3_readsTurn_0 21 rfl rfl)
theorem dX3_readsTurn_22 : decode cX3_readsTurn 22 = .ok (.goto 4, 3) := dk_167 0 4 (dk_at dksX3_readsTurn_1 0 rfl rfl)
theorem dX3_readsTurn_25 : decode cX3_readsTurn 25 = .ok (.iconst 0, 1) := dk_3 (dk_at dksX3_readsTurn_1 3 rfl rfl)
theorem dX3_readsTurn_26 : decode cX3_readsTurn 26 = .ok (.invokevirtual 150, 3) := dk_182 0 150 (dk_at dksX3_readsTurn_1 4 rfl rfl)
theorem dX3_readsTurn_29 : decode cX3_readsTurn 29 = .ok (.aload_n 0, 1) := dk_42 (dk_at dksX3_readsTurn_1 7 rfl rfl)
theorem dX3_readsTurn_30 : decode cX3_readsTurn 30 = .ok (.getfield 115, 3) := dk_180 0 115 (dk_at dksX3_readsTurn_1 8 rfl rfl)
theorem dX3_readsTurn_33 : decode cX3_readsTurn 33 = .ok (.ifCond .ne 11, 3) := dk_154 0 11 (dk_at dksX3_readsTurn_1 11 rfl rfl)
theorem dX3_readsTurn_36 : decode cX3_readsTurn 36 = .ok (.aload_n 0, 1) := dk_42 (dk_at dksX3_readsTurn_1 14 rfl rfl)
theorem dX3_readsTurn_37 : decode cX3_readsTurn 37 = .ok (.getfield 105, 3) := dk_180 0 105 (dk_at dksX3_readsTurn_1 15 rfl rfl)
theorem dX3_readsTurn_40 : decode cX3_readsTurn 40 = .ok (.iconst 1, 1) := dk_4 (dk_at dksX3_readsTurn_1 18 rfl rfl)
theorem dX3_readsTurn_41 : decode cX3_readsTurn 41 = .ok (.if_icmp .eq 7, 3) := dk_159 0 7 (dk_at dksX3_readsTurn_1 19 rfl rfl)
theorem dX3_readsTurn_44 : decode cX3_readsTurn 44 = .ok (.iconst (-1), 1) := dk_2 (dk_at dksX3_readsTurn_1 22 rfl rfl)
theorem dX3_readsTurn_45 : decode cX3_readsTurn 45 = .ok (.goto 7, 3) := dk_167 0 7 (dk_at dksX3_readsTurn_2 0 rfl rfl)
theorem dX3_readsTurn_48 : decode cX3_readsTurn 48 = .ok (.aload_n 0, 1) := dk_42 (dk_at dksX3_readsTurn_2 3 rfl rfl)
theorem dX3_readsTurn_49 : decode cX3_readsTurn 49 = .ok (.invokevirtual 158, 3) := dk_182 0 158 (dk_at dksX3_readsTurn_2 4 rfl rfl)
theorem dX3_readsTurn_52 : decode cX3_readsTurn 52 = .ok (.istore_n 1, 1) := dk_60 (dk_at dksX3_readsTurn_2 7 rfl rfl)
theorem dX3_readsTurn_53 : decode cX3_readsTurn 53 = .ok (.aload_n 0, 1) := dk_42 (dk_at dksX3_readsTurn_2 8 rfl rfl)
theorem dX3_readsTurn_54 : decode cX3_readsTurn 54 = .ok (.getfield 115, 3) := dk_180 0 115 (dk_at dksX3_readsTurn_2 9 rfl rfl)
theorem dX3_readsTurn_57 : decode cX3_readsTurn 57 = .ok (.ifCond .ne 33, 3) := dk_154 0 33 (dk_at dksX3_readsTurn_2 12 rfl rfl)
theorem dX3_readsTurn_60 : decode cX3_readsTurn 60 = .ok (.aload_n 0, 1) := dk_42 (dk_at dksX3_readsTurn_2 15 rfl rfl)
theorem dX3_readsTurn_61 : decode cX3_readsTurn 61 = .ok (.getfield 105, 3) := dk_180 0 105 (dk_at dksX3_readsTurn_2 16 rfl rfl)
theorem dX3_readsTurn_64 : decode cX3_readsTurn 64 = .ok (.iconst 1, 1) := dk_4 (dk_at dksX3_readsTurn_2 19 rfl rfl)
theorem dX3_readsTurn_65 : decode cX3_readsTurn 65 = .ok (.if_icmp .ne 25, 3) := dk_160 0 25 (dk_at dksX3_readsTurn_2 20 rfl rfl)
theorem dX3_readsTurn_68 : decode cX3_readsTurn 68 = .ok (.iload_n 1, 1) := dk_27 (dk_at dksX3_readsTurn_2 23 rfl rfl)
theorem dX3_readsTurn_69 : decode cX3_readsTurn 69 = .ok (.iconst (-1), 1) := dk_2 (dk_at dksX3_readsTurn_3 0 rfl rfl)
theorem dX3_readsTurn_70 : decode cX3_readsTurn 70 = .ok (.if_icmp .eq 15, 3) := dk_159 0 15 (dk_at dksX3_readsTurn_3 1 rfl rfl)
theorem dX3_readsTurn_73 : decode cX3_readsTurn 73 = .ok (.aload_n 0, 1) := dk_42 (dk_at dksX3_readsTurn_3 4 rfl rfl)
theorem dX3_readsTurn_74 : decode cX3_readsTurn 74 = .ok (.getfield 13, 3) := dk_180 0 13 (dk_at dksX3_readsTurn_3 5 rfl rfl)
theorem dX3_readsTurn_77 : decode cX3_readsTurn 77 = .ok (.iconst 3, 1) := dk_6 (dk_at dksX3_readsTurn_3 8 rfl rfl)
theorem dX3_readsTurn_78 : decode cX3_readsTurn 78 = .ok (.iload_n 1, 1) := dk_27 (dk_at dksX3_readsTurn_3 9 rfl rfl)
theorem dX3_readsTurn_79 : decode cX3_readsTurn 79 = .ok (.iadd, 1) := dk_96 (dk_at dksX3_readsTurn_3 10 rfl rfl)
theorem dX3_readsTurn_80 : decode cX3_readsTurn 80 = .ok (.iaload, 1) := dk_46 (dk_at dksX3_readsTurn_3 11 rfl rfl)
theorem dX3_readsTurn_81 : decode cX3_readsTurn 81 = .ok (.iconst (-1), 1) := dk_2 (dk_at dksX3_readsTurn_3 12 rfl rfl)
theorem dX3_readsTurn_82 : decode cX3_readsTurn 82 = .ok (.if_icmp .eq 8, 3) := dk_159 0 8 (dk_at dksX3_readsTurn_3 13 rfl rfl)
theorem dX3_readsTurn_85 : decode cX3_readsTurn 85 = .ok (.aload_n 0, 1) := dk_42 (dk_at dksX3_readsTurn_3 16 rfl rfl)
theorem dX3_readsTurn_86 : decode cX3_readsTurn 86 = .ok (.iconst 2, 1) := dk_5 (dk_at dksX3_readsTurn_3 17 rfl rfl)
theorem dX3_readsTurn_87 : decode cX3_readsTurn 87 = .ok (.invokevirtual 132, 3) := dk_182 0 132 (dk_at dksX3_readsTurn_3 18 rfl rfl)
theorem dX3_readsTurn_90 : decode cX3_readsTurn 90 = .ok (.aload_n 0, 1) := dk_42 (dk_at dksX3_readsTurn_3 21 rfl rfl)
theorem dX3_readsTurn_91 : decode cX3_readsTurn 91 = .ok (.aload_n 0, 1) := dk_42 (dk_at dksX3_readsTurn_3 22 rfl rfl)
theorem dX3_readsTurn_92 : decode cX3_readsTurn 92 = .ok (.getfield 115, 3) := dk_180 0 115 (dk_at dksX3_readsTurn_4 0 rfl rfl)
theorem dX3_readsTurn_95 : decode cX3_readsTurn 95 = .ok (.ifCond .ne 11, 3) := dk_154 0 11 (dk_at dksX3_readsTurn_4 3 rfl rfl)
theorem dX3_readsTurn_98 : decode cX3_readsTurn 98 = .ok (.aload_n 0, 1) := dk_42 (dk_at dksX3_readsTurn_4 6 rfl rfl)
theorem dX3_readsTurn_99 : decode cX3_readsTurn 99 = .ok (.getfield 105, 3) := dk_180 0 105 (dk_at dksX3_readsTurn_4 7 rfl rfl)
theorem dX3_readsTurn_102 : decode cX3_readsTurn 102 = .ok (.iconst 1, 1) := dk_4 (dk_at dksX3_readsTurn_4 10 rfl rfl)
theorem dX3_readsTurn_103 : decode cX3_readsTurn 103 = .ok (.if_icmp .ne 7, 3) := dk_160 0 7 (dk_at dksX3_readsTurn_4 11 rfl rfl)
theorem dX3_readsTurn_106 : decode cX3_readsTurn 106 = .ok (.iconst 1, 1) := dk_4 (dk_at dksX3_readsTurn_4 14 rfl rfl)
theorem dX3_readsTurn_107 : decode cX3_readsTurn 107 = .ok (.goto 4, 3) := dk_167 0 4 (dk_at dksX3_readsTurn_4 15 rfl rfl)
theorem dX3_readsTurn_110 : decode cX3_readsTurn 110 = .ok (.iconst 0, 1) := dk_3 (dk_at dksX3_readsTurn_4 18 rfl rfl)
theorem dX3_readsTurn_111 : decode cX3_readsTurn 111 = .ok (.invokevirtual 150, 3) := dk_182 0 150 (dk_at dksX3_readsTurn_4 19 rfl rfl)
theorem dX3_readsTurn_114 : decode cX3_readsTurn 114 = .ok (.aload_n 0, 1) := dk_42 (dk_at dksX3_readsTurn_4 22 rfl rfl)
theorem dX3_readsTurn_115 : decode cX3_readsTurn 115 = .ok (.aload_n 0, 1) := dk_42 (dk_at dksX3_readsTurn_4 23 rfl rfl)
theorem dX3_readsTurn_116 : decode cX3_readsTurn 116 = .ok (.getfield 115, 3) := dk_180 0 115 (dk_at dksX3_readsTurn_5 0 rfl rfl)
theorem dX3_readsTurn_119 : decode cX3_readsTurn 119 = .ok (.ifCond .ne 12, 3) := dk_154 0 12 (dk_at dksX3_readsTurn_5 3 rfl rfl)
theorem dX3_readsTurn_122 : decode cX3_readsTurn 122 = .ok (.aload_n 0, 1) := dk_42 (dk_at dksX3_readsTurn_5 6 rfl rfl)
theorem dX3_readsTurn_123 : decode cX3_readsTurn 123 = .ok (.ldc 148, 2) := dk_18 148 (dk_at dksX3_readsTurn_5 7 rfl rfl)
theorem dX3_readsTurn_125 : decode cX3_readsTurn 125 = .ok (.invokevirtual 141, 3) := dk_182 0 141 (dk_at dksX3_readsTurn_5 9 rfl rfl)
theorem dX3_readsTurn_128 : decode cX3_readsTurn 128 = .ok (.ifCond .eq 7, 3) := dk_153 0 7 (dk_at dksX3_readsTurn_5 12 rfl rfl)
theorem dX3_readsTurn_131 : decode cX3_readsTurn 131 = .ok (.iconst 1, 1) := dk_4 (dk_at dksX3_readsTurn_5 15 rfl rfl)
theorem dX3_readsTurn_132 : decode cX3_readsTurn 132 = .ok (.goto 4, 3) := dk_167 0 4 (dk_at dksX3_readsTurn_5 16 rfl rfl)
theorem dX3_readsTurn_135 : decode cX3_readsTurn 135 = .ok (.iconst 0, 1) := dk_3 (dk_at dksX3_readsTurn_5 19 rfl rfl)
theorem dX3_readsTurn_136 : decode cX3_readsTurn 136 = .ok (.invokevirtual 150, 3) := dk_182 0 150 (dk_at dksX3_readsTurn_5 20 rfl rfl)
theorem dX3_readsTurn_139 : decode cX3_readsTurn 139 = .ok (.bipush 8, 2) := dk_16 8 (dk_at dksX3_readsTurn_6 0 rfl rfl)
theorem dX3_readsTurn_141 : decode cX3_readsTurn 141 = .ok (.iconst 4, 1) := dk_7 (dk_at dksX3_readsTurn_6 2 rfl rfl)
theorem dX3_readsTurn_142 : decode cX3_readsTurn 142 = .ok (.aload_n 0, 1) := dk_42 (dk_at dksX3_readsTurn_6 3 rfl rfl)
theorem dX3_readsTurn_143 : decode cX3_readsTurn 143 = .ok (.getfield 115, 3) := dk_180 0 115 (dk_at dksX3_readsTurn_6 4 rfl rfl)
theorem dX3_readsTurn_146 : decode cX3_readsTurn 146 = .ok (.ifCond .eq 7, 3) := dk_153 0 7 (dk_at dksX3_readsTurn_6 7 rfl rfl)
theorem dX3_readsTurn_149 : decode cX3_readsTurn 149 = .ok (.iconst 0, 1) := dk_3 (dk_at dksX3_readsTurn_6 10 rfl rfl)
theorem dX3_readsTurn_150 : decode cX3_readsTurn 150 = .ok (.goto 9, 3) := dk_167 0 9 (dk_at dksX3_readsTurn_6 11 rfl rfl)
theorem dX3_readsTurn_153 : decode cX3_readsTurn 153 = .ok (.aload_n 0, 1) := dk_42 (dk_at dksX3_readsTurn_6 14 rfl rfl)
theorem dX3_readsTurn_154 : decode cX3_readsTurn 154 = .ok (.getfield 13, 3) := dk_180 0 13 (dk_at dksX3_readsTurn_6 15 rfl rfl)
theorem dX3_readsTurn_157 : decode cX3_readsTurn 157 = .ok (.iconst 0, 1) := dk_3 (dk_at dksX3_readsTurn_6 18 rfl rfl)
theorem dX3_readsTurn_158 : decode cX3_readsTurn 158 = .ok (.iaload, 1) := dk_46 (dk_at dksX3_readsTurn_6 19 rfl rfl)
theorem dX3_readsTurn_159 : decode cX3_readsTurn 159 = .ok (.imul, 1) := dk_104 (dk_at dksX3_readsTurn_6 20 rfl rfl)
theorem dX3_readsTurn_160 : decode cX3_readsTurn 160 = .ok (.iadd, 1) := dk_96 (dk_at dksX3_readsTurn_6 21 rfl rfl)
theorem dX3_readsTurn_161 : decode cX3_readsTurn 161 = .ok (.istore_n 2, 1) := dk_61 (dk_at dksX3_readsTurn_6 22 rfl rfl)
theorem dX3_readsTurn_162 : decode cX3_readsTurn 162 = .ok (.iconst 0, 1) := dk_3 (dk_at dksX3_readsTurn_6 23 rfl rfl)
theorem dX3_readsTurn_163 : decode cX3_readsTurn 163 = .ok (.istore_n 3, 1) := dk_62 (dk_at dksX3_readsTurn_7 0 rfl rfl)
theorem dX3_readsTurn_164 : decode cX3_readsTurn 164 = .ok (.iconst 0, 1) := dk_3 (dk_at dksX3_readsTurn_7 1 rfl rfl)
theorem dX3_readsTurn_165 : decode cX3_readsTurn 165 = .ok (.istore 4, 2) := dk_54 4 (dk_at dksX3_readsTurn_7 2 rfl rfl)
theorem dX3_readsTurn_167 : decode cX3_readsTurn 167 = .ok (.iload 4, 2) := dk_21 4 (dk_at dksX3_readsTurn_7 4 rfl rfl)
theorem dX3_readsTurn_169 : decode cX3_readsTurn 169 = .ok (.iconst 4, 1) := dk_7 (dk_at dksX3_readsTurn_7 6 rfl rfl)
theorem dX3_readsTurn_170 : decode cX3_readsTurn 170 = .ok (.if_icmp .ge 69, 3) := dk_162 0 69 (dk_at dksX3_readsTurn_7 7 rfl rfl)
theorem dX3_readsTurn_173 : decode cX3_readsTurn 173 = .ok (.aload_n 0, 1) := dk_42 (dk_at dksX3_readsTurn_7 10 rfl rfl)
theorem dX3_readsTurn_174 : decode cX3_readsTurn 174 = .ok (.getfield 115, 3) := dk_180 0 115 (dk_at dksX3_readsTurn_7 11 rfl rfl)
theorem dX3_readsTurn_177 : decode cX3_readsTurn 177 = .ok (.ifCond .ne 62, 3) := dk_154 0 62 (dk_at dksX3_readsTurn_7 14 rfl rfl)
theorem dX3_readsTurn_180 : decode cX3_readsTurn 180 = .ok (.aload_n 0, 1) := dk_42 (dk_at dksX3_readsTurn_7 17 rfl rfl)
theorem dX3_readsTurn_181 : decode cX3_readsTurn 181 = .ok (.getfield 13, 3) := dk_180 0 13 (dk_at dksX3_readsTurn_7 18 rfl rfl)
theorem dX3_readsTurn_184 : decode cX3_readsTurn 184 = .ok (.iload_n 2, 1) := dk_28 (dk_at dksX3_readsTurn_7 21 rfl rfl)
theorem dX3_readsTurn_185 : decode cX3_readsTurn 185 = .ok (.iload 4, 2) := dk_21 4 (dk_at dksX3_readsTurn_7 22 rfl rfl)
theorem dX3_readsTurn_187 : decode cX3_readsTurn 187 = .ok (.iadd, 1) := dk_96 (dk_at dksX3_readsTurn_8 0 rfl rfl)
theorem dX3_readsTurn_188 : decode cX3_readsTurn 188 = .ok (.aload_n 0, 1) := dk_42 (dk_at dksX3_readsTurn_8 1 rfl rfl)
theorem dX3_readsTurn_189 : decode cX3_readsTurn 189 = .ok (.iconst 3, 1) := dk_6 (dk_at dksX3_readsTurn_8 2 rfl rfl)
theorem dX3_readsTurn_190 : decode cX3_readsTurn 190 = .ok (.invokevirtual 168, 3) := dk_182 0 168 (dk_at dksX3_readsTurn_8 3 rfl rfl)
theorem dX3_readsTurn_193 : decode cX3_readsTurn 193 = .ok (.iastore, 1) := dk_79 (dk_at dksX3_readsTurn_8 6 rfl rfl)
theorem dX3_readsTurn_194 : decode cX3_readsTurn 194 = .ok (.iload_n 3, 1) := dk_29 (dk_at dksX3_readsTurn_8 7 rfl rfl)
theorem dX3_readsTurn_195 : decode cX3_readsTurn 195 = .ok (.aload_n 0, 1) := dk_42 (dk_at dksX3_readsTurn_8 8 rfl rfl)
theorem dX3_readsTurn_196 : decode cX3_readsTurn 196 = .ok (.getfield 13, 3) := dk_180 0 13 (dk_at dksX3_readsTurn_8 9 rfl rfl)
theorem dX3_readsTurn_199 : decode cX3_readsTurn 199 = .ok (.iload_n 2, 1) := dk_28 (dk_at dksX3_readsTurn_8 12 rfl rfl)
theorem dX3_readsTurn_200 : decode cX3_readsTurn 200 = .ok (.iload 4, 2) := dk_21 4 (dk_at dksX3_readsTurn_8 13 rfl rfl)
theorem dX3_readsTurn_202 : decode cX3_readsTurn 202 = .ok (.iadd, 1) := dk_96 (dk_at dksX3_readsTurn_8 15 rfl rfl)
theorem dX3_readsTurn_203 : decode cX3_readsTurn 203 = .ok (.iaload, 1) := dk_46 (dk_at dksX3_readsTurn_8 16 rfl rfl)
theorem dX3_readsTurn_204 : decode cX3_readsTurn 204 = .ok (.ior, 1) := dk_128 (dk_at dksX3_readsTurn_8 17 rfl rfl)
theorem dX3_readsTurn_205 : decode cX3_readsTurn 205 = .ok (.istore_n 3, 1) := dk_62 (dk_at dksX3_readsTurn_8 18 rfl rfl)
theorem dX3_readsTurn_206 : decode cX3_readsTurn 206 = .ok (.aload_n 0, 1) := dk_42 (dk_at dksX3_readsTurn_8 19 rfl rfl)
theorem dX3_readsTurn_207 : decode cX3_readsTurn 207 = .ok (.getfield 115, 3) := dk_180 0 115 (dk_at dksX3_readsTurn_8 20 rfl rfl)
theorem dX3_readsTurn_210 : decode cX3_readsTurn 210 = .ok (.ifCond .ne 18, 3) := dk_154 0 18 (dk_at dksX3_readsTurn_9 0 rfl rfl)
theorem dX3_readsTurn_213 : decode cX3_readsTurn 213 = .ok (.iload 4, 2) := dk_21 4 (dk_at dksX3_readsTurn_9 3 rfl rfl)
theorem dX3_readsTurn_215 : decode cX3_readsTurn 215 = .ok (.iconst 3, 1) := dk_6 (dk_at dksX3_readsTurn_9 5 rfl rfl)
theorem dX3_readsTurn_216 : decode cX3_readsTurn 216 = .ok (.if_icmp .ne 12, 3) := dk_160 0 12 (dk_at dksX3_readsTurn_9 6 rfl rfl)
theorem dX3_readsTurn_219 : decode cX3_readsTurn 219 = .ok (.iload_n 3, 1) := dk_29 (dk_at dksX3_readsTurn_9 9 rfl rfl)
theorem dX3_readsTurn_220 : decode cX3_readsTurn 220 = .ok (.ifCond .ne 8, 3) := dk_154 0 8 (dk_at dksX3_readsTurn_9 10 rfl rfl)
theorem dX3_readsTurn_223 : decode cX3_readsTurn 223 = .ok (.aload_n 0, 1) := dk_42 (dk_at dksX3_readsTurn_9 13 rfl rfl)
theorem dX3_readsTurn_224 : decode cX3_readsTurn 224 = .ok (.iconst 2, 1) := dk_5 (dk_at dksX3_readsTurn_9 14 rfl rfl)
theorem dX3_readsTurn_225 : decode cX3_readsTurn 225 = .ok (.invokevirtual 132, 3) := dk_182 0 132 (dk_at dksX3_readsTurn_9 15 rfl rfl)
theorem dX3_readsTurn_228 : decode cX3_readsTurn 228 = .ok (.aload_n 0, 1) := dk_42 (dk_at dksX3_readsTurn_9 18 rfl rfl)
theorem dX3_readsTurn_229 : decode cX3_readsTurn 229 = .ok (.iconst 1, 1) := dk_4 (dk_at dksX3_readsTurn_9 19 rfl rfl)
theorem dX3_readsTurn_230 : decode cX3_readsTurn 230 = .ok (.invokevirtual 150, 3) := dk_182 0 150 (dk_at dksX3_readsTurn_9 20 rfl rfl)
theorem dX3_readsTurn_233 : decode cX3_readsTurn 233 = .ok (.iinc 4 1, 3) := dk_132 4 1 (dk_at dksX3_readsTurn_10 0 rfl rfl)
theorem dX3_readsTurn_236 : decode cX3_readsTurn 236 = .ok (.goto (-69), 3) := dk_167 255 187 (dk_at dksX3_readsTurn_10 3 rfl rfl)
theorem dX3_readsTurn_239 : decode cX3_readsTurn 239 = .ok (.aload_n 0, 1) := dk_42 (dk_at dksX3_readsTurn_10 6 rfl rfl)
theorem dX3_readsTurn_240 : decode cX3_readsTurn 240 = .ok (.getfield 115, 3) := dk_180 0 115 (dk_at dksX3_readsTurn_10 7 rfl rfl)
theorem dX3_readsTurn_243 : decode cX3_readsTurn 243 = .ok (.ifCond .ne 27, 3) := dk_154 0 27 (dk_at dksX3_readsTurn_10 10 rfl rfl)
theorem dX3_readsTurn_246 : decode cX3_readsTurn 246 = .ok (.aload_n 0, 1) := dk_42 (dk_at dksX3_readsTurn_10 13 rfl rfl)
theorem dX3_readsTurn_247 : decode cX3_readsTurn 247 = .ok (.getfield 13, 3) := dk_180 0 13 (dk_at dksX3_readsTurn_10 14 rfl rfl)
theorem dX3_readsTurn_250 : decode cX3_readsTurn 250 = .ok (.iconst 3, 1) := dk_6 (dk_at dksX3_readsTurn_10 17 rfl rfl)
theorem dX3_readsTurn_251 : decode cX3_readsTurn 251 = .ok (.aload_n 0, 1) := dk_42 (dk_at dksX3_readsTurn_10 18 rfl rfl)
theorem dX3_readsTurn_252 : decode cX3_readsTurn 252 = .ok (.getfield 13, 3) := dk_180 0 13 (dk_at dksX3_readsTurn_10 19 rfl rfl)
theorem dX3_readsTurn_255 : decode cX3_readsTurn 255 = .ok (.iconst 0, 1) := dk_3 (dk_at dksX3_readsTurn_10 22 rfl rfl)
theorem dX3_readsTurn_256 : decode cX3_readsTurn 256 = .ok (.iaload, 1) := dk_46 (dk_at dksX3_readsTurn_10 23 rfl rfl)
theorem dX3_readsTurn_257 : decode cX3_readsTurn 257 = .ok (.iadd, 1) := dk_96 (dk_at dksX3_readsTurn_11 0 rfl rfl)
theorem dX3_readsTurn_258 : decode cX3_readsTurn 258 = .ok (.iload_n 1, 1) := dk_27 (dk_at dksX3_readsTurn_11 1 rfl rfl)
theorem dX3_readsTurn_259 : decode cX3_readsTurn 259 = .ok (.iastore, 1) := dk_79 (dk_at dksX3_readsTurn_11 2 rfl rfl)
theorem dX3_readsTurn_260 : decode cX3_readsTurn 260 = .ok (.aload_n 0, 1) := dk_42 (dk_at dksX3_readsTurn_11 3 rfl rfl)
theorem dX3_readsTurn_261 : decode cX3_readsTurn 261 = .ok (.getfield 13, 3) := dk_180 0 13 (dk_at dksX3_readsTurn_11 4 rfl rfl)
theorem dX3_readsTurn_264 : decode cX3_readsTurn 264 = .ok (.iconst 0, 1) := dk_3 (dk_at dksX3_readsTurn_11 7 rfl rfl)
theorem dX3_readsTurn_265 : decode cX3_readsTurn 265 = .ok (.dup2, 1) := dk_92 (dk_at dksX3_readsTurn_11 8 rfl rfl)
theorem dX3_readsTurn_266 : decode cX3_readsTurn 266 = .ok (.iaload, 1) := dk_46 (dk_at dksX3_readsTurn_11 9 rfl rfl)
theorem dX3_readsTurn_267 : decode cX3_readsTurn 267 = .ok (.iconst 1, 1) := dk_4 (dk_at dksX3_readsTurn_11 10 rfl rfl)
theorem dX3_readsTurn_268 : decode cX3_readsTurn 268 = .ok (.iadd, 1) := dk_96 (dk_at dksX3_readsTurn_11 11 rfl rfl)
theorem dX3_readsTurn_269 : decode cX3_readsTurn 269 = .ok (.iastore, 1) := dk_79 (dk_at dksX3_readsTurn_11 12 rfl rfl)
theorem dX3_readsTurn_270 : decode cX3_readsTurn 270 = .ok (.return_, 1) := dk_177 (dk_at dksX3_readsTurn_11 13 rfl rfl)
abbrev cX3_fault : ByteArray := prog_20_method_21_code
def yX3_fault : MethodName := ⟨RX3, "fault", "(I)I"⟩
def dkwX3_fault_1 : List UInt8 := [172]
abbrev dktX3_fault_1 : List UInt8 := dkwX3_fault_1 ++ []
def dkwX3_fault_0 : List UInt8 := [27, 154, 0, 10, 42, 180, 0, 119, 167, 0, 16, 27, 4, 160, 0, 10, 42, 180, 0, 26, 167, 0, 4, 2]
abbrev dktX3_fault_0 : List UInt8 := dkwX3_fault_0 ++ dktX3_fault_1
theorem dksX3_fault_0 : cX3_fault.data.toList.drop 0 = dktX3_fault_0 := by decide +kernel
theorem dksX3_fault_1 : cX3_fault.data.toList.drop 24 = dktX3_fault_1 := dk_seg dksX3_fault_0 24 rfl rfl
theorem dX3_fault_0 : decode cX3_fault 0 = .ok (.iload_n 1, 1) := dk_27 (dk_at dksX3_fault_0 0 rfl rfl)
theorem dX3_fault_1 : decode cX3_fault 1 = .ok (.ifCond .ne 10, 3) := dk_154 0 10 (dk_at dksX3_fault_0 1 rfl rfl)
theorem dX3_fault_4 : decode cX3_fault 4 = .ok (.aload_n 0, 1) := dk_42 (dk_at dksX3_fault_0 4 rfl rfl)
theorem dX3_fault_5 : decode cX3_fault 5 = .ok (.getfield 119, 3) := dk_180 0 119 (dk_at dksX3_fault_0 5 rfl rfl)
theorem dX3_fault_8 : decode cX3_fault 8 = .ok (.goto 16, 3) := dk_167 0 16 (dk_at dksX3_fault_0 8 rfl rfl)
theorem dX3_fault_11 : decode cX3_fault 11 = .ok (.iload_n 1, 1) := dk_27 (dk_at dksX3_fault_0 11 rfl rfl)
theorem dX3_fault_12 : decode cX3_fault 12 = .ok (.iconst 1, 1) := dk_4 (dk_at dksX3_fault_0 12 rfl rfl)
theorem dX3_fault_13 : decode cX3_fault 13 = .ok (.if_icmp .ne 10, 3) := dk_160 0 10 (dk_at dksX3_fault_0 13 rfl rfl)
theorem dX3_fault_16 : decode cX3_fault 16 = .ok (.aload_n 0, 1) := dk_42 (dk_at dksX3_fault_0 16 rfl rfl)
theorem dX3_fault_17 : decode cX3_fault 17 = .ok (.getfield 26, 3) := dk_180 0 26 (dk_at dksX3_fault_0 17 rfl rfl)
theorem dX3_fault_20 : decode cX3_fault 20 = .ok (.goto 4, 3) := dk_167 0 4 (dk_at dksX3_fault_0 20 rfl rfl)
theorem dX3_fault_23 : decode cX3_fault 23 = .ok (.iconst (-1), 1) := dk_2 (dk_at dksX3_fault_0 23 rfl rfl)
theorem dX3_fault_24 : decode cX3_fault 24 = .ok (.ireturn, 1) := dk_172 (dk_at dksX3_fault_1 0 rfl rfl)
abbrev cX3_count : ByteArray := prog_20_method_24_code
def yX3_count : MethodName := ⟨RX3, "count", "(I)I"⟩
def dkwX3_count_4 : List UInt8 := [180, 0, 85, 172, 2, 172]
abbrev dktX3_count_4 : List UInt8 := dkwX3_count_4 ++ []
def dkwX3_count_3 : List UInt8 := [42, 180, 0, 13, 3, 46, 172, 28, 172, 42, 180, 0, 13, 5, 46, 172, 42, 180, 0, 13, 4, 46, 172, 42]
abbrev dktX3_count_3 : List UInt8 := dkwX3_count_3 ++ dktX3_count_4
def dkwX3_count_2 : List UInt8 := [170, 0, 0, 0, 0, 0, 63, 0, 0, 0, 0, 0, 0, 0, 4, 0, 0, 0, 35, 0, 0, 0, 42, 0, 0, 0, 44, 0, 0, 0, 51, 0, 0, 0, 58]
abbrev dktX3_count_2 : List UInt8 := dkwX3_count_2 ++ dktX3_count_3
def dkwX3_count_1 : List UInt8 := [167, 0, 4, 3, 96, 61, 132, 3, 1, 167, 255, 227, 27]
abbrev dktX3_count_1 : List UInt8 := dkwX3_count_1 ++ dktX3_count_2
def dkwX3_count_0 : List UInt8 := [3, 61, 3, 62, 29, 42, 180, 0, 13, 3, 46, 162, 0, 25, 28, 42, 29, 182, 0, 187, 153, 0, 7, 4]
abbrev dktX3_count_0 : List UInt8 := dkwX3_count_0 ++ dktX3_count_1
theorem dksX3_count_0 : cX3_count.data.toList.drop 0 = dktX3_count_0 := by decide +kernel
theorem dksX3_count_1 : cX3_count.data.toList.drop 24 = dktX3_count_1 := dk_seg dksX3_count_0 24 rfl rfl
theorem dksX3_count_2 : cX3_count.data.toList.drop 37 = dktX3_count_2 := dk_seg dksX3_count_1 13 rfl rfl
theorem dksX3_count_3 : cX3_count.data.toList.drop 72 = dktX3_count_3 := dk_seg dksX3_count_2 35 rfl rfl
theorem dksX3_count_4 : cX3_count.data.toList.drop 96 = dktX3_count_4 := dk_seg dksX3_count_3 24 rfl rfl
theorem dX3_count_0 : decode cX3_count 0 = .ok (.iconst 0, 1) := dk_3 (dk_at dksX3_count_0 0 rfl rfl)
theorem dX3_count_1 : decode cX3_count 1 = .ok (.istore_n 2, 1) := dk_61 (dk_at dksX3_count_0 1 rfl rfl)
theorem dX3_count_2 : decode cX3_count 2 = .ok (.iconst 0, 1) := dk_3 (dk_at dksX3_count_0 2 rfl rfl)
theorem dX3_count_3 : decode cX3_count 3 = .ok (.istore_n 3, 1) := dk_62 (dk_at dksX3_count_0 3 rfl rfl)
theorem dX3_count_4 : decode cX3_count 4 = .ok (.iload_n 3, 1) := dk_29 (dk_at dksX3_count_0 4 rfl rfl)
theorem dX3_count_5 : decode cX3_count 5 = .ok (.aload_n 0, 1) := dk_42 (dk_at dksX3_count_0 5 rfl rfl)
theorem dX3_count_6 : decode cX3_count 6 = .ok (.getfield 13, 3) := dk_180 0 13 (dk_at dksX3_count_0 6 rfl rfl)
theorem dX3_count_9 : decode cX3_count 9 = .ok (.iconst 0, 1) := dk_3 (dk_at dksX3_count_0 9 rfl rfl)
theorem dX3_count_10 : decode cX3_count 10 = .ok (.iaload, 1) := dk_46 (dk_at dksX3_count_0 10 rfl rfl)
theorem dX3_count_11 : decode cX3_count 11 = .ok (.if_icmp .ge 25, 3) := dk_162 0 25 (dk_at dksX3_count_0 11 rfl rfl)
theorem dX3_count_14 : decode cX3_count 14 = .ok (.iload_n 2, 1) := dk_28 (dk_at dksX3_count_0 14 rfl rfl)
theorem dX3_count_15 : decode cX3_count 15 = .ok (.aload_n 0, 1) := dk_42 (dk_at dksX3_count_0 15 rfl rfl)
theorem dX3_count_16 : decode cX3_count 16 = .ok (.iload_n 3, 1) := dk_29 (dk_at dksX3_count_0 16 rfl rfl)
theorem dX3_count_17 : decode cX3_count 17 = .ok (.invokevirtual 187, 3) := dk_182 0 187 (dk_at dksX3_count_0 17 rfl rfl)
theorem dX3_count_20 : decode cX3_count 20 = .ok (.ifCond .eq 7, 3) := dk_153 0 7 (dk_at dksX3_count_0 20 rfl rfl)
theorem dX3_count_23 : decode cX3_count 23 = .ok (.iconst 1, 1) := dk_4 (dk_at dksX3_count_0 23 rfl rfl)
theorem dX3_count_24 : decode cX3_count 24 = .ok (.goto 4, 3) := dk_167 0 4 (dk_at dksX3_count_1 0 rfl rfl)
theorem dX3_count_27 : decode cX3_count 27 = .ok (.iconst 0, 1) := dk_3 (dk_at dksX3_count_1 3 rfl rfl)
theorem dX3_count_28 : decode cX3_count 28 = .ok (.iadd, 1) := dk_96 (dk_at dksX3_count_1 4 rfl rfl)
theorem dX3_count_29 : decode cX3_count 29 = .ok (.istore_n 2, 1) := dk_61 (dk_at dksX3_count_1 5 rfl rfl)
theorem dX3_count_30 : decode cX3_count 30 = .ok (.iinc 3 1, 3) := dk_132 3 1 (dk_at dksX3_count_1 6 rfl rfl)
theorem dX3_count_33 : decode cX3_count 33 = .ok (.goto (-29), 3) := dk_167 255 227 (dk_at dksX3_count_1 9 rfl rfl)
theorem dX3_count_36 : decode cX3_count 36 = .ok (.iload_n 1, 1) := dk_27 (dk_at dksX3_count_1 12 rfl rfl)
theorem dX3_count_37 : decode cX3_count 37 = .ok (.tableswitch 63 0 4 #[35, 42, 44, 51, 58], 35) := by decide +kernel
theorem dX3_count_72 : decode cX3_count 72 = .ok (.aload_n 0, 1) := dk_42 (dk_at dksX3_count_3 0 rfl rfl)
theorem dX3_count_73 : decode cX3_count 73 = .ok (.getfield 13, 3) := dk_180 0 13 (dk_at dksX3_count_3 1 rfl rfl)
theorem dX3_count_76 : decode cX3_count 76 = .ok (.iconst 0, 1) := dk_3 (dk_at dksX3_count_3 4 rfl rfl)
theorem dX3_count_77 : decode cX3_count 77 = .ok (.iaload, 1) := dk_46 (dk_at dksX3_count_3 5 rfl rfl)
theorem dX3_count_78 : decode cX3_count 78 = .ok (.ireturn, 1) := dk_172 (dk_at dksX3_count_3 6 rfl rfl)
theorem dX3_count_79 : decode cX3_count 79 = .ok (.iload_n 2, 1) := dk_28 (dk_at dksX3_count_3 7 rfl rfl)
theorem dX3_count_80 : decode cX3_count 80 = .ok (.ireturn, 1) := dk_172 (dk_at dksX3_count_3 8 rfl rfl)
theorem dX3_count_81 : decode cX3_count 81 = .ok (.aload_n 0, 1) := dk_42 (dk_at dksX3_count_3 9 rfl rfl)
theorem dX3_count_82 : decode cX3_count 82 = .ok (.getfield 13, 3) := dk_180 0 13 (dk_at dksX3_count_3 10 rfl rfl)
theorem dX3_count_85 : decode cX3_count 85 = .ok (.iconst 2, 1) := dk_5 (dk_at dksX3_count_3 13 rfl rfl)
theorem dX3_count_86 : decode cX3_count 86 = .ok (.iaload, 1) := dk_46 (dk_at dksX3_count_3 14 rfl rfl)
theorem dX3_count_87 : decode cX3_count 87 = .ok (.ireturn, 1) := dk_172 (dk_at dksX3_count_3 15 rfl rfl)
theorem dX3_count_88 : decode cX3_count 88 = .ok (.aload_n 0, 1) := dk_42 (dk_at dksX3_count_3 16 rfl rfl)
theorem dX3_count_89 : decode cX3_count 89 = .ok (.getfield 13, 3) := dk_180 0 13 (dk_at dksX3_count_3 17 rfl rfl)
theorem dX3_count_92 : decode cX3_count 92 = .ok (.iconst 1, 1) := dk_4 (dk_at dksX3_count_3 20 rfl rfl)
theorem dX3_count_93 : decode cX3_count 93 = .ok (.iaload, 1) := dk_46 (dk_at dksX3_count_3 21 rfl rfl)
theorem dX3_count_94 : decode cX3_count 94 = .ok (.ireturn, 1) := dk_172 (dk_at dksX3_count_3 22 rfl rfl)
theorem dX3_count_95 : decode cX3_count 95 = .ok (.aload_n 0, 1) := dk_42 (dk_at dksX3_count_3 23 rfl rfl)
theorem dX3_count_96 : decode cX3_count 96 = .ok (.getfield 85, 3) := dk_180 0 85 (dk_at dksX3_count_4 0 rfl rfl)
theorem dX3_count_99 : decode cX3_count 99 = .ok (.ireturn, 1) := dk_172 (dk_at dksX3_count_4 3 rfl rfl)
theorem dX3_count_100 : decode cX3_count 100 = .ok (.iconst (-1), 1) := dk_2 (dk_at dksX3_count_4 4 rfl rfl)
theorem dX3_count_101 : decode cX3_count 101 = .ok (.ireturn, 1) := dk_172 (dk_at dksX3_count_4 5 rfl rfl)
abbrev cX3_isTurned : ByteArray := prog_20_method_23_code
def yX3_isTurned : MethodName := ⟨RX3, "isTurned", "(I)Z"⟩
def dkwX3_isTurned_0 : List UInt8 := [42, 180, 0, 13, 6, 27, 96, 46, 2, 159, 0, 7, 4, 167, 0, 4, 3, 172]
abbrev dktX3_isTurned_0 : List UInt8 := dkwX3_isTurned_0 ++ []
theorem dksX3_isTurned_0 : cX3_isTurned.data.toList.drop 0 = dktX3_isTurned_0 := by decide +kernel
theorem dX3_isTurned_0 : decode cX3_isTurned 0 = .ok (.aload_n 0, 1) := dk_42 (dk_at dksX3_isTurned_0 0 rfl rfl)
theorem dX3_isTurned_1 : decode cX3_isTurned 1 = .ok (.getfield 13, 3) := dk_180 0 13 (dk_at dksX3_isTurned_0 1 rfl rfl)
theorem dX3_isTurned_4 : decode cX3_isTurned 4 = .ok (.iconst 3, 1) := dk_6 (dk_at dksX3_isTurned_0 4 rfl rfl)
theorem dX3_isTurned_5 : decode cX3_isTurned 5 = .ok (.iload_n 1, 1) := dk_27 (dk_at dksX3_isTurned_0 5 rfl rfl)
theorem dX3_isTurned_6 : decode cX3_isTurned 6 = .ok (.iadd, 1) := dk_96 (dk_at dksX3_isTurned_0 6 rfl rfl)
theorem dX3_isTurned_7 : decode cX3_isTurned 7 = .ok (.iaload, 1) := dk_46 (dk_at dksX3_isTurned_0 7 rfl rfl)
theorem dX3_isTurned_8 : decode cX3_isTurned 8 = .ok (.iconst (-1), 1) := dk_2 (dk_at dksX3_isTurned_0 8 rfl rfl)
theorem dX3_isTurned_9 : decode cX3_isTurned 9 = .ok (.if_icmp .eq 7, 3) := dk_159 0 7 (dk_at dksX3_isTurned_0 9 rfl rfl)
theorem dX3_isTurned_12 : decode cX3_isTurned 12 = .ok (.iconst 1, 1) := dk_4 (dk_at dksX3_isTurned_0 12 rfl rfl)
theorem dX3_isTurned_13 : decode cX3_isTurned 13 = .ok (.goto 4, 3) := dk_167 0 4 (dk_at dksX3_isTurned_0 13 rfl rfl)
theorem dX3_isTurned_16 : decode cX3_isTurned 16 = .ok (.iconst 0, 1) := dk_3 (dk_at dksX3_isTurned_0 16 rfl rfl)
theorem dX3_isTurned_17 : decode cX3_isTurned 17 = .ok (.ireturn, 1) := dk_172 (dk_at dksX3_isTurned_0 17 rfl rfl)
abbrev cX3_row : ByteArray := prog_20_method_29_code
def yX3_row : MethodName := ⟨RX3, "row", "(III)I"⟩
def dkwX3_row_1 : List UInt8 := [182, 0, 217, 42, 180, 0, 36, 6, 28, 104, 29, 96, 47, 136, 172]
abbrev dktX3_row_1 : List UInt8 := dkwX3_row_1 ++ []
def dkwX3_row_0 : List UInt8 := [42, 27, 182, 0, 211, 153, 0, 11, 28, 29, 184, 0, 214, 154, 0, 7, 17, 252, 24, 172, 42, 27]
abbrev dktX3_row_0 : List UInt8 := dkwX3_row_0 ++ dktX3_row_1
theorem dksX3_row_0 : cX3_row.data.toList.drop 0 = dktX3_row_0 := by decide +kernel
theorem dksX3_row_1 : cX3_row.data.toList.drop 22 = dktX3_row_1 := dk_seg dksX3_row_0 22 rfl rfl
theorem dX3_row_0 : decode cX3_row 0 = .ok (.aload_n 0, 1) := dk_42 (dk_at dksX3_row_0 0 rfl rfl)
theorem dX3_row_1 : decode cX3_row 1 = .ok (.iload_n 1, 1) := dk_27 (dk_at dksX3_row_0 1 rfl rfl)
theorem dX3_row_2 : decode cX3_row 2 = .ok (.invokevirtual 211, 3) := dk_182 0 211 (dk_at dksX3_row_0 2 rfl rfl)
theorem dX3_row_5 : decode cX3_row 5 = .ok (.ifCond .eq 11, 3) := dk_153 0 11 (dk_at dksX3_row_0 5 rfl rfl)
theorem dX3_row_8 : decode cX3_row 8 = .ok (.iload_n 2, 1) := dk_28 (dk_at dksX3_row_0 8 rfl rfl)
theorem dX3_row_9 : decode cX3_row 9 = .ok (.iload_n 3, 1) := dk_29 (dk_at dksX3_row_0 9 rfl rfl)
theorem dX3_row_10 : decode cX3_row 10 = .ok (.invokestatic 214, 3) := dk_184 0 214 (dk_at dksX3_row_0 10 rfl rfl)
theorem dX3_row_13 : decode cX3_row 13 = .ok (.ifCond .ne 7, 3) := dk_154 0 7 (dk_at dksX3_row_0 13 rfl rfl)
theorem dX3_row_16 : decode cX3_row 16 = .ok (.sipush (-1000), 3) := dk_17 252 24 (dk_at dksX3_row_0 16 rfl rfl)
theorem dX3_row_19 : decode cX3_row 19 = .ok (.ireturn, 1) := dk_172 (dk_at dksX3_row_0 19 rfl rfl)
theorem dX3_row_20 : decode cX3_row 20 = .ok (.aload_n 0, 1) := dk_42 (dk_at dksX3_row_0 20 rfl rfl)
theorem dX3_row_21 : decode cX3_row 21 = .ok (.iload_n 1, 1) := dk_27 (dk_at dksX3_row_0 21 rfl rfl)
theorem dX3_row_22 : decode cX3_row 22 = .ok (.invokevirtual 217, 3) := dk_182 0 217 (dk_at dksX3_row_1 0 rfl rfl)
theorem dX3_row_25 : decode cX3_row 25 = .ok (.aload_n 0, 1) := dk_42 (dk_at dksX3_row_1 3 rfl rfl)
theorem dX3_row_26 : decode cX3_row 26 = .ok (.getfield 36, 3) := dk_180 0 36 (dk_at dksX3_row_1 4 rfl rfl)
theorem dX3_row_29 : decode cX3_row 29 = .ok (.iconst 3, 1) := dk_6 (dk_at dksX3_row_1 7 rfl rfl)
theorem dX3_row_30 : decode cX3_row 30 = .ok (.iload_n 2, 1) := dk_28 (dk_at dksX3_row_1 8 rfl rfl)
theorem dX3_row_31 : decode cX3_row 31 = .ok (.imul, 1) := dk_104 (dk_at dksX3_row_1 9 rfl rfl)
theorem dX3_row_32 : decode cX3_row 32 = .ok (.iload_n 3, 1) := dk_29 (dk_at dksX3_row_1 10 rfl rfl)
theorem dX3_row_33 : decode cX3_row 33 = .ok (.iadd, 1) := dk_96 (dk_at dksX3_row_1 11 rfl rfl)
theorem dX3_row_34 : decode cX3_row 34 = .ok (.laload, 1) := dk_47 (dk_at dksX3_row_1 12 rfl rfl)
theorem dX3_row_35 : decode cX3_row 35 = .ok (.l2i, 1) := dk_136 (dk_at dksX3_row_1 13 rfl rfl)
theorem dX3_row_36 : decode cX3_row 36 = .ok (.ireturn, 1) := dk_172 (dk_at dksX3_row_1 14 rfl rfl)
abbrev cX3_isLattice : ByteArray := prog_20_method_22_code
def yX3_isLattice : MethodName := ⟨RX3, "isLattice", "(I)Z"⟩
def dkwX3_isLattice_0 : List UInt8 := [27, 133, 9, 42, 180, 0, 13, 3, 46, 4, 100, 133, 184, 0, 88, 172]
abbrev dktX3_isLattice_0 : List UInt8 := dkwX3_isLattice_0 ++ []
theorem dksX3_isLattice_0 : cX3_isLattice.data.toList.drop 0 = dktX3_isLattice_0 := by decide +kernel
theorem dX3_isLattice_0 : decode cX3_isLattice 0 = .ok (.iload_n 1, 1) := dk_27 (dk_at dksX3_isLattice_0 0 rfl rfl)
theorem dX3_isLattice_1 : decode cX3_isLattice 1 = .ok (.i2l, 1) := dk_133 (dk_at dksX3_isLattice_0 1 rfl rfl)
theorem dX3_isLattice_2 : decode cX3_isLattice 2 = .ok (.lconst 0, 1) := dk_9 (dk_at dksX3_isLattice_0 2 rfl rfl)
theorem dX3_isLattice_3 : decode cX3_isLattice 3 = .ok (.aload_n 0, 1) := dk_42 (dk_at dksX3_isLattice_0 3 rfl rfl)
theorem dX3_isLattice_4 : decode cX3_isLattice 4 = .ok (.getfield 13, 3) := dk_180 0 13 (dk_at dksX3_isLattice_0 4 rfl rfl)
theorem dX3_isLattice_7 : decode cX3_isLattice 7 = .ok (.iconst 0, 1) := dk_3 (dk_at dksX3_isLattice_0 7 rfl rfl)
theorem dX3_isLattice_8 : decode cX3_isLattice 8 = .ok (.iaload, 1) := dk_46 (dk_at dksX3_isLattice_0 8 rfl rfl)
theorem dX3_isLattice_9 : decode cX3_isLattice 9 = .ok (.iconst 1, 1) := dk_4 (dk_at dksX3_isLattice_0 9 rfl rfl)
theorem dX3_isLattice_10 : decode cX3_isLattice 10 = .ok (.isub, 1) := dk_100 (dk_at dksX3_isLattice_0 10 rfl rfl)
theorem dX3_isLattice_11 : decode cX3_isLattice 11 = .ok (.i2l, 1) := dk_133 (dk_at dksX3_isLattice_0 11 rfl rfl)
theorem dX3_isLattice_12 : decode cX3_isLattice 12 = .ok (.invokestatic 88, 3) := dk_184 0 88 (dk_at dksX3_isLattice_0 12 rfl rfl)
theorem dX3_isLattice_15 : decode cX3_isLattice 15 = .ok (.ireturn, 1) := dk_172 (dk_at dksX3_isLattice_0 15 rfl rfl)
abbrev cX3_isAt2 : ByteArray := prog_20_method_30_code
def yX3_isAt2 : MethodName := ⟨RX3, "isAt2", "(II)Z"⟩
def dkwX3_isAt2_1 : List UInt8 := [4, 167, 0, 4, 3, 172]
abbrev dktX3_isAt2_1 : List UInt8 := dkwX3_isAt2_1 ++ []
def dkwX3_isAt2_0 : List UInt8 := [26, 133, 9, 20, 0, 202, 184, 0, 88, 153, 0, 19, 27, 133, 9, 20, 0, 202, 184, 0, 88, 153, 0, 7]
abbrev dktX3_isAt2_0 : List UInt8 := dkwX3_isAt2_0 ++ dktX3_isAt2_1
theorem dksX3_isAt2_0 : cX3_isAt2.data.toList.drop 0 = dktX3_isAt2_0 := by decide +kernel
theorem dksX3_isAt2_1 : cX3_isAt2.data.toList.drop 24 = dktX3_isAt2_1 := dk_seg dksX3_isAt2_0 24 rfl rfl
theorem dX3_isAt2_0 : decode cX3_isAt2 0 = .ok (.iload_n 0, 1) := dk_26 (dk_at dksX3_isAt2_0 0 rfl rfl)
theorem dX3_isAt2_1 : decode cX3_isAt2 1 = .ok (.i2l, 1) := dk_133 (dk_at dksX3_isAt2_0 1 rfl rfl)
theorem dX3_isAt2_2 : decode cX3_isAt2 2 = .ok (.lconst 0, 1) := dk_9 (dk_at dksX3_isAt2_0 2 rfl rfl)
theorem dX3_isAt2_3 : decode cX3_isAt2 3 = .ok (.ldc2_w 202, 3) := dk_20 0 202 (dk_at dksX3_isAt2_0 3 rfl rfl)
theorem dX3_isAt2_6 : decode cX3_isAt2 6 = .ok (.invokestatic 88, 3) := dk_184 0 88 (dk_at dksX3_isAt2_0 6 rfl rfl)
theorem dX3_isAt2_9 : decode cX3_isAt2 9 = .ok (.ifCond .eq 19, 3) := dk_153 0 19 (dk_at dksX3_isAt2_0 9 rfl rfl)
theorem dX3_isAt2_12 : decode cX3_isAt2 12 = .ok (.iload_n 1, 1) := dk_27 (dk_at dksX3_isAt2_0 12 rfl rfl)
theorem dX3_isAt2_13 : decode cX3_isAt2 13 = .ok (.i2l, 1) := dk_133 (dk_at dksX3_isAt2_0 13 rfl rfl)
theorem dX3_isAt2_14 : decode cX3_isAt2 14 = .ok (.lconst 0, 1) := dk_9 (dk_at dksX3_isAt2_0 14 rfl rfl)
theorem dX3_isAt2_15 : decode cX3_isAt2 15 = .ok (.ldc2_w 202, 3) := dk_20 0 202 (dk_at dksX3_isAt2_0 15 rfl rfl)
theorem dX3_isAt2_18 : decode cX3_isAt2 18 = .ok (.invokestatic 88, 3) := dk_184 0 88 (dk_at dksX3_isAt2_0 18 rfl rfl)
theorem dX3_isAt2_21 : decode cX3_isAt2 21 = .ok (.ifCond .eq 7, 3) := dk_153 0 7 (dk_at dksX3_isAt2_0 21 rfl rfl)
theorem dX3_isAt2_24 : decode cX3_isAt2 24 = .ok (.iconst 1, 1) := dk_4 (dk_at dksX3_isAt2_1 0 rfl rfl)
theorem dX3_isAt2_25 : decode cX3_isAt2 25 = .ok (.goto 4, 3) := dk_167 0 4 (dk_at dksX3_isAt2_1 1 rfl rfl)
theorem dX3_isAt2_28 : decode cX3_isAt2 28 = .ok (.iconst 0, 1) := dk_3 (dk_at dksX3_isAt2_1 4 rfl rfl)
theorem dX3_isAt2_29 : decode cX3_isAt2 29 = .ok (.ireturn, 1) := dk_172 (dk_at dksX3_isAt2_1 5 rfl rfl)
abbrev cX3_lays : ByteArray := prog_20_method_25_code
def yX3_lays : MethodName := ⟨RX3, "lays", "(I)V"⟩
def dkwX3_lays_5 : List UInt8 := [96, 6, 96, 46, 133, 182, 0, 195, 42, 182, 0, 199, 177]
abbrev dktX3_lays_5 : List UInt8 := dkwX3_lays_5 ++ []
def dkwX3_lays_4 : List UInt8 := [133, 42, 180, 0, 13, 16, 8, 7, 27, 104, 96, 5, 96, 46, 133, 42, 180, 0, 13, 16, 8, 7, 27, 104]
abbrev dktX3_lays_4 : List UInt8 := dkwX3_lays_4 ++ dktX3_lays_5
def dkwX3_lays_3 : List UInt8 := [180, 0, 13, 16, 8, 7, 27, 104, 96, 46, 133, 42, 180, 0, 13, 16, 8, 7, 27, 104, 96, 4, 96, 46]
abbrev dktX3_lays_3 : List UInt8 := dkwX3_lays_3 ++ dktX3_lays_4
def dkwX3_lays_2 : List UInt8 := [133, 80, 132, 3, 1, 167, 255, 226, 42, 10, 181, 0, 191, 42, 27, 182, 0, 187, 153, 0, 65, 42, 42]
abbrev dktX3_lays_2 : List UInt8 := dkwX3_lays_2 ++ dktX3_lays_3
def dkwX3_lays_1 : List UInt8 := [16, 9, 162, 0, 30, 42, 180, 0, 36, 29, 42, 180, 0, 13, 16, 28, 16, 9, 28, 104, 96, 29, 96, 46]
abbrev dktX3_lays_1 : List UInt8 := dkwX3_lays_1 ++ dktX3_lays_2
def dkwX3_lays_0 : List UInt8 := [42, 27, 182, 0, 187, 153, 0, 14, 42, 180, 0, 13, 6, 27, 96, 46, 167, 0, 4, 27, 61, 3, 62, 29]
abbrev dktX3_lays_0 : List UInt8 := dkwX3_lays_0 ++ dktX3_lays_1
theorem dksX3_lays_0 : cX3_lays.data.toList.drop 0 = dktX3_lays_0 := by decide +kernel
theorem dksX3_lays_1 : cX3_lays.data.toList.drop 24 = dktX3_lays_1 := dk_seg dksX3_lays_0 24 rfl rfl
theorem dksX3_lays_2 : cX3_lays.data.toList.drop 48 = dktX3_lays_2 := dk_seg dksX3_lays_1 24 rfl rfl
theorem dksX3_lays_3 : cX3_lays.data.toList.drop 71 = dktX3_lays_3 := dk_seg dksX3_lays_2 23 rfl rfl
theorem dksX3_lays_4 : cX3_lays.data.toList.drop 95 = dktX3_lays_4 := dk_seg dksX3_lays_3 24 rfl rfl
theorem dksX3_lays_5 : cX3_lays.data.toList.drop 119 = dktX3_lays_5 := dk_seg dksX3_lays_4 24 rfl rfl
theorem dX3_lays_0 : decode cX3_lays 0 = .ok (.aload_n 0, 1) := dk_42 (dk_at dksX3_lays_0 0 rfl rfl)
theorem dX3_lays_1 : decode cX3_lays 1 = .ok (.iload_n 1, 1) := dk_27 (dk_at dksX3_lays_0 1 rfl rfl)
theorem dX3_lays_2 : decode cX3_lays 2 = .ok (.invokevirtual 187, 3) := dk_182 0 187 (dk_at dksX3_lays_0 2 rfl rfl)
theorem dX3_lays_5 : decode cX3_lays 5 = .ok (.ifCond .eq 14, 3) := dk_153 0 14 (dk_at dksX3_lays_0 5 rfl rfl)
theorem dX3_lays_8 : decode cX3_lays 8 = .ok (.aload_n 0, 1) := dk_42 (dk_at dksX3_lays_0 8 rfl rfl)
theorem dX3_lays_9 : decode cX3_lays 9 = .ok (.getfield 13, 3) := dk_180 0 13 (dk_at dksX3_lays_0 9 rfl rfl)
theorem dX3_lays_12 : decode cX3_lays 12 = .ok (.iconst 3, 1) := dk_6 (dk_at dksX3_lays_0 12 rfl rfl)
theorem dX3_lays_13 : decode cX3_lays 13 = .ok (.iload_n 1, 1) := dk_27 (dk_at dksX3_lays_0 13 rfl rfl)
theorem dX3_lays_14 : decode cX3_lays 14 = .ok (.iadd, 1) := dk_96 (dk_at dksX3_lays_0 14 rfl rfl)
theorem dX3_lays_15 : decode cX3_lays 15 = .ok (.iaload, 1) := dk_46 (dk_at dksX3_lays_0 15 rfl rfl)
theorem dX3_lays_16 : decode cX3_lays 16 = .ok (.goto 4, 3) := dk_167 0 4 (dk_at dksX3_lays_0 16 rfl rfl)
theorem dX3_lays_19 : decode cX3_lays 19 = .ok (.iload_n 1, 1) := dk_27 (dk_at dksX3_lays_0 19 rfl rfl)
theorem dX3_lays_20 : decode cX3_lays 20 = .ok (.istore_n 2, 1) := dk_61 (dk_at dksX3_lays_0 20 rfl rfl)
theorem dX3_lays_21 : decode cX3_lays 21 = .ok (.iconst 0, 1) := dk_3 (dk_at dksX3_lays_0 21 rfl rfl)
theorem dX3_lays_22 : decode cX3_lays 22 = .ok (.istore_n 3, 1) := dk_62 (dk_at dksX3_lays_0 22 rfl rfl)
theorem dX3_lays_23 : decode cX3_lays 23 = .ok (.iload_n 3, 1) := dk_29 (dk_at dksX3_lays_0 23 rfl rfl)
theorem dX3_lays_24 : decode cX3_lays 24 = .ok (.bipush 9, 2) := dk_16 9 (dk_at dksX3_lays_1 0 rfl rfl)
theorem dX3_lays_26 : decode cX3_lays 26 = .ok (.if_icmp .ge 30, 3) := dk_162 0 30 (dk_at dksX3_lays_1 2 rfl rfl)
theorem dX3_lays_29 : decode cX3_lays 29 = .ok (.aload_n 0, 1) := dk_42 (dk_at dksX3_lays_1 5 rfl rfl)
theorem dX3_lays_30 : decode cX3_lays 30 = .ok (.getfield 36, 3) := dk_180 0 36 (dk_at dksX3_lays_1 6 rfl rfl)
theorem dX3_lays_33 : decode cX3_lays 33 = .ok (.iload_n 3, 1) := dk_29 (dk_at dksX3_lays_1 9 rfl rfl)
theorem dX3_lays_34 : decode cX3_lays 34 = .ok (.aload_n 0, 1) := dk_42 (dk_at dksX3_lays_1 10 rfl rfl)
theorem dX3_lays_35 : decode cX3_lays 35 = .ok (.getfield 13, 3) := dk_180 0 13 (dk_at dksX3_lays_1 11 rfl rfl)
theorem dX3_lays_38 : decode cX3_lays 38 = .ok (.bipush 28, 2) := dk_16 28 (dk_at dksX3_lays_1 14 rfl rfl)
theorem dX3_lays_40 : decode cX3_lays 40 = .ok (.bipush 9, 2) := dk_16 9 (dk_at dksX3_lays_1 16 rfl rfl)
theorem dX3_lays_42 : decode cX3_lays 42 = .ok (.iload_n 2, 1) := dk_28 (dk_at dksX3_lays_1 18 rfl rfl)
theorem dX3_lays_43 : decode cX3_lays 43 = .ok (.imul, 1) := dk_104 (dk_at dksX3_lays_1 19 rfl rfl)
theorem dX3_lays_44 : decode cX3_lays 44 = .ok (.iadd, 1) := dk_96 (dk_at dksX3_lays_1 20 rfl rfl)
theorem dX3_lays_45 : decode cX3_lays 45 = .ok (.iload_n 3, 1) := dk_29 (dk_at dksX3_lays_1 21 rfl rfl)
theorem dX3_lays_46 : decode cX3_lays 46 = .ok (.iadd, 1) := dk_96 (dk_at dksX3_lays_1 22 rfl rfl)
theorem dX3_lays_47 : decode cX3_lays 47 = .ok (.iaload, 1) := dk_46 (dk_at dksX3_lays_1 23 rfl rfl)
theorem dX3_lays_48 : decode cX3_lays 48 = .ok (.i2l, 1) := dk_133 (dk_at dksX3_lays_2 0 rfl rfl)
theorem dX3_lays_49 : decode cX3_lays 49 = .ok (.lastore, 1) := dk_80 (dk_at dksX3_lays_2 1 rfl rfl)
theorem dX3_lays_50 : decode cX3_lays 50 = .ok (.iinc 3 1, 3) := dk_132 3 1 (dk_at dksX3_lays_2 2 rfl rfl)
theorem dX3_lays_53 : decode cX3_lays 53 = .ok (.goto (-30), 3) := dk_167 255 226 (dk_at dksX3_lays_2 5 rfl rfl)
theorem dX3_lays_56 : decode cX3_lays 56 = .ok (.aload_n 0, 1) := dk_42 (dk_at dksX3_lays_2 8 rfl rfl)
theorem dX3_lays_57 : decode cX3_lays 57 = .ok (.lconst 1, 1) := dk_10 (dk_at dksX3_lays_2 9 rfl rfl)
theorem dX3_lays_58 : decode cX3_lays 58 = .ok (.putfield 191, 3) := dk_181 0 191 (dk_at dksX3_lays_2 10 rfl rfl)
theorem dX3_lays_61 : decode cX3_lays 61 = .ok (.aload_n 0, 1) := dk_42 (dk_at dksX3_lays_2 13 rfl rfl)
theorem dX3_lays_62 : decode cX3_lays 62 = .ok (.iload_n 1, 1) := dk_27 (dk_at dksX3_lays_2 14 rfl rfl)
theorem dX3_lays_63 : decode cX3_lays 63 = .ok (.invokevirtual 187, 3) := dk_182 0 187 (dk_at dksX3_lays_2 15 rfl rfl)
theorem dX3_lays_66 : decode cX3_lays 66 = .ok (.ifCond .eq 65, 3) := dk_153 0 65 (dk_at dksX3_lays_2 18 rfl rfl)
theorem dX3_lays_69 : decode cX3_lays 69 = .ok (.aload_n 0, 1) := dk_42 (dk_at dksX3_lays_2 21 rfl rfl)
theorem dX3_lays_70 : decode cX3_lays 70 = .ok (.aload_n 0, 1) := dk_42 (dk_at dksX3_lays_2 22 rfl rfl)
theorem dX3_lays_71 : decode cX3_lays 71 = .ok (.getfield 13, 3) := dk_180 0 13 (dk_at dksX3_lays_3 0 rfl rfl)
theorem dX3_lays_74 : decode cX3_lays 74 = .ok (.bipush 8, 2) := dk_16 8 (dk_at dksX3_lays_3 3 rfl rfl)
theorem dX3_lays_76 : decode cX3_lays 76 = .ok (.iconst 4, 1) := dk_7 (dk_at dksX3_lays_3 5 rfl rfl)
theorem dX3_lays_77 : decode cX3_lays 77 = .ok (.iload_n 1, 1) := dk_27 (dk_at dksX3_lays_3 6 rfl rfl)
theorem dX3_lays_78 : decode cX3_lays 78 = .ok (.imul, 1) := dk_104 (dk_at dksX3_lays_3 7 rfl rfl)
theorem dX3_lays_79 : decode cX3_lays 79 = .ok (.iadd, 1) := dk_96 (dk_at dksX3_lays_3 8 rfl rfl)
theorem dX3_lays_80 : decode cX3_lays 80 = .ok (.iaload, 1) := dk_46 (dk_at dksX3_lays_3 9 rfl rfl)
theorem dX3_lays_81 : decode cX3_lays 81 = .ok (.i2l, 1) := dk_133 (dk_at dksX3_lays_3 10 rfl rfl)
theorem dX3_lays_82 : decode cX3_lays 82 = .ok (.aload_n 0, 1) := dk_42 (dk_at dksX3_lays_3 11 rfl rfl)
theorem dX3_lays_83 : decode cX3_lays 83 = .ok (.getfield 13, 3) := dk_180 0 13 (dk_at dksX3_lays_3 12 rfl rfl)
theorem dX3_lays_86 : decode cX3_lays 86 = .ok (.bipush 8, 2) := dk_16 8 (dk_at dksX3_lays_3 15 rfl rfl)
theorem dX3_lays_88 : decode cX3_lays 88 = .ok (.iconst 4, 1) := dk_7 (dk_at dksX3_lays_3 17 rfl rfl)
theorem dX3_lays_89 : decode cX3_lays 89 = .ok (.iload_n 1, 1) := dk_27 (dk_at dksX3_lays_3 18 rfl rfl)
theorem dX3_lays_90 : decode cX3_lays 90 = .ok (.imul, 1) := dk_104 (dk_at dksX3_lays_3 19 rfl rfl)
theorem dX3_lays_91 : decode cX3_lays 91 = .ok (.iadd, 1) := dk_96 (dk_at dksX3_lays_3 20 rfl rfl)
theorem dX3_lays_92 : decode cX3_lays 92 = .ok (.iconst 1, 1) := dk_4 (dk_at dksX3_lays_3 21 rfl rfl)
theorem dX3_lays_93 : decode cX3_lays 93 = .ok (.iadd, 1) := dk_96 (dk_at dksX3_lays_3 22 rfl rfl)
theorem dX3_lays_94 : decode cX3_lays 94 = .ok (.iaload, 1) := dk_46 (dk_at dksX3_lays_3 23 rfl rfl)
theorem dX3_lays_95 : decode cX3_lays 95 = .ok (.i2l, 1) := dk_133 (dk_at dksX3_lays_4 0 rfl rfl)
theorem dX3_lays_96 : decode cX3_lays 96 = .ok (.aload_n 0, 1) := dk_42 (dk_at dksX3_lays_4 1 rfl rfl)
theorem dX3_lays_97 : decode cX3_lays 97 = .ok (.getfield 13, 3) := dk_180 0 13 (dk_at dksX3_lays_4 2 rfl rfl)
theorem dX3_lays_100 : decode cX3_lays 100 = .ok (.bipush 8, 2) := dk_16 8 (dk_at dksX3_lays_4 5 rfl rfl)
theorem dX3_lays_102 : decode cX3_lays 102 = .ok (.iconst 4, 1) := dk_7 (dk_at dksX3_lays_4 7 rfl rfl)
theorem dX3_lays_103 : decode cX3_lays 103 = .ok (.iload_n 1, 1) := dk_27 (dk_at dksX3_lays_4 8 rfl rfl)
theorem dX3_lays_104 : decode cX3_lays 104 = .ok (.imul, 1) := dk_104 (dk_at dksX3_lays_4 9 rfl rfl)
theorem dX3_lays_105 : decode cX3_lays 105 = .ok (.iadd, 1) := dk_96 (dk_at dksX3_lays_4 10 rfl rfl)
theorem dX3_lays_106 : decode cX3_lays 106 = .ok (.iconst 2, 1) := dk_5 (dk_at dksX3_lays_4 11 rfl rfl)
theorem dX3_lays_107 : decode cX3_lays 107 = .ok (.iadd, 1) := dk_96 (dk_at dksX3_lays_4 12 rfl rfl)
theorem dX3_lays_108 : decode cX3_lays 108 = .ok (.iaload, 1) := dk_46 (dk_at dksX3_lays_4 13 rfl rfl)
theorem dX3_lays_109 : decode cX3_lays 109 = .ok (.i2l, 1) := dk_133 (dk_at dksX3_lays_4 14 rfl rfl)
theorem dX3_lays_110 : decode cX3_lays 110 = .ok (.aload_n 0, 1) := dk_42 (dk_at dksX3_lays_4 15 rfl rfl)
theorem dX3_lays_111 : decode cX3_lays 111 = .ok (.getfield 13, 3) := dk_180 0 13 (dk_at dksX3_lays_4 16 rfl rfl)
theorem dX3_lays_114 : decode cX3_lays 114 = .ok (.bipush 8, 2) := dk_16 8 (dk_at dksX3_lays_4 19 rfl rfl)
theorem dX3_lays_116 : decode cX3_lays 116 = .ok (.iconst 4, 1) := dk_7 (dk_at dksX3_lays_4 21 rfl rfl)
theorem dX3_lays_117 : decode cX3_lays 117 = .ok (.iload_n 1, 1) := dk_27 (dk_at dksX3_lays_4 22 rfl rfl)
theorem dX3_lays_118 : decode cX3_lays 118 = .ok (.imul, 1) := dk_104 (dk_at dksX3_lays_4 23 rfl rfl)
theorem dX3_lays_119 : decode cX3_lays 119 = .ok (.iadd, 1) := dk_96 (dk_at dksX3_lays_5 0 rfl rfl)
theorem dX3_lays_120 : decode cX3_lays 120 = .ok (.iconst 3, 1) := dk_6 (dk_at dksX3_lays_5 1 rfl rfl)
theorem dX3_lays_121 : decode cX3_lays 121 = .ok (.iadd, 1) := dk_96 (dk_at dksX3_lays_5 2 rfl rfl)
theorem dX3_lays_122 : decode cX3_lays 122 = .ok (.iaload, 1) := dk_46 (dk_at dksX3_lays_5 3 rfl rfl)
theorem dX3_lays_123 : decode cX3_lays 123 = .ok (.i2l, 1) := dk_133 (dk_at dksX3_lays_5 4 rfl rfl)
theorem dX3_lays_124 : decode cX3_lays 124 = .ok (.invokevirtual 195, 3) := dk_182 0 195 (dk_at dksX3_lays_5 5 rfl rfl)
theorem dX3_lays_127 : decode cX3_lays 127 = .ok (.aload_n 0, 1) := dk_42 (dk_at dksX3_lays_5 8 rfl rfl)
theorem dX3_lays_128 : decode cX3_lays 128 = .ok (.invokevirtual 199, 3) := dk_182 0 199 (dk_at dksX3_lays_5 9 rfl rfl)
theorem dX3_lays_131 : decode cX3_lays 131 = .ok (.return_, 1) := dk_177 (dk_at dksX3_lays_5 12 rfl rfl)
abbrev cX3_laysTurn : ByteArray := prog_20_method_26_code
def yX3_laysTurn : MethodName := ⟨RX3, "laysTurn", "(JJJJ)V"⟩
def dkwX3_laysTurn_9 : List UInt8 := [80, 177]
abbrev dktX3_laysTurn_9 : List UInt8 := dkwX3_laysTurn_9 ++ []
def dkwX3_laysTurn_8 : List UInt8 := [180, 0, 40, 16, 8, 31, 31, 105, 33, 33, 105, 101, 22, 5, 22, 5, 105, 101, 22, 7, 22, 7, 105, 97]
abbrev dktX3_laysTurn_8 : List UInt8 := dkwX3_laysTurn_8 ++ dktX3_laysTurn_9
def dkwX3_laysTurn_7 : List UInt8 := [105, 80, 42, 180, 0, 40, 16, 7, 20, 0, 202, 22, 5, 22, 7, 105, 31, 33, 105, 97, 105, 80, 42]
abbrev dktX3_laysTurn_7 : List UInt8 := dkwX3_laysTurn_7 ++ dktX3_laysTurn_8
def dkwX3_laysTurn_6 : List UInt8 := [31, 33, 105, 101, 105, 80, 42, 180, 0, 40, 16, 6, 20, 0, 202, 33, 22, 7, 105, 31, 22, 5, 105, 101]
abbrev dktX3_laysTurn_6 : List UInt8 := dkwX3_laysTurn_6 ++ dktX3_laysTurn_7
def dkwX3_laysTurn_5 : List UInt8 := [22, 5, 105, 97, 22, 7, 22, 7, 105, 101, 80, 42, 180, 0, 40, 8, 20, 0, 202, 22, 5, 22, 7, 105]
abbrev dktX3_laysTurn_5 : List UInt8 := dkwX3_laysTurn_5 ++ dktX3_laysTurn_6
def dkwX3_laysTurn_4 : List UInt8 := [22, 5, 105, 31, 22, 7, 105, 97, 105, 80, 42, 180, 0, 40, 7, 31, 31, 105, 33, 33, 105, 101, 22, 5]
abbrev dktX3_laysTurn_4 : List UInt8 := dkwX3_laysTurn_4 ++ dktX3_laysTurn_5
def dkwX3_laysTurn_3 : List UInt8 := [20, 0, 202, 33, 22, 7, 105, 31, 22, 5, 105, 97, 105, 80, 42, 180, 0, 40, 6, 20, 0, 202, 33]
abbrev dktX3_laysTurn_3 : List UInt8 := dkwX3_laysTurn_3 ++ dktX3_laysTurn_4
def dkwX3_laysTurn_2 : List UInt8 := [42, 180, 0, 40, 4, 20, 0, 202, 33, 22, 5, 105, 31, 22, 7, 105, 101, 105, 80, 42, 180, 0, 40, 5]
abbrev dktX3_laysTurn_2 : List UInt8 := dkwX3_laysTurn_2 ++ dktX3_laysTurn_3
def dkwX3_laysTurn_1 : List UInt8 := [180, 0, 40, 3, 31, 31, 105, 33, 33, 105, 97, 22, 5, 22, 5, 105, 101, 22, 7, 22, 7, 105, 101, 80]
abbrev dktX3_laysTurn_1 : List UInt8 := dkwX3_laysTurn_1 ++ dktX3_laysTurn_2
def dkwX3_laysTurn_0 : List UInt8 := [42, 31, 31, 105, 33, 33, 105, 97, 22, 5, 22, 5, 105, 97, 22, 7, 22, 7, 105, 97, 181, 0, 191, 42]
abbrev dktX3_laysTurn_0 : List UInt8 := dkwX3_laysTurn_0 ++ dktX3_laysTurn_1
theorem dksX3_laysTurn_0 : cX3_laysTurn.data.toList.drop 0 = dktX3_laysTurn_0 := by decide +kernel
theorem dksX3_laysTurn_1 : cX3_laysTurn.data.toList.drop 24 = dktX3_laysTurn_1 := dk_seg dksX3_laysTurn_0 24 rfl rfl
theorem dksX3_laysTurn_2 : cX3_laysTurn.data.toList.drop 48 = dktX3_laysTurn_2 := dk_seg dksX3_laysTurn_1 24 rfl rfl
theorem dksX3_laysTurn_3 : cX3_laysTurn.data.toList.drop 72 = dktX3_laysTurn_3 := dk_seg dksX3_laysTurn_2 24 rfl rfl
theorem dksX3_laysTurn_4 : cX3_laysTurn.data.toList.drop 95 = dktX3_laysTurn_4 := dk_seg dksX3_laysTurn_3 23 rfl rfl
theorem dksX3_laysTurn_5 : cX3_laysTurn.data.toList.drop 119 = dktX3_laysTurn_5 := dk_seg dksX3_laysTurn_4 24 rfl rfl
theorem dksX3_laysTurn_6 : cX3_laysTurn.data.toList.drop 143 = dktX3_laysTurn_6 := dk_seg dksX3_laysTurn_5 24 rfl rfl
theorem dksX3_laysTurn_7 : cX3_laysTurn.data.toList.drop 167 = dktX3_laysTurn_7 := dk_seg dksX3_laysTurn_6 24 rfl rfl
theorem dksX3_laysTurn_8 : cX3_laysTurn.data.toList.drop 190 = dktX3_laysTurn_8 := dk_seg dksX3_laysTurn_7 23 rfl rfl
theorem dksX3_laysTurn_9 : cX3_laysTurn.data.toList.drop 214 = dktX3_laysTurn_9 := dk_seg dksX3_laysTurn_8 24 rfl rfl
theorem dX3_laysTurn_0 : decode cX3_laysTurn 0 = .ok (.aload_n 0, 1) := dk_42 (dk_at dksX3_laysTurn_0 0 rfl rfl)
theorem dX3_laysTurn_1 : decode cX3_laysTurn 1 = .ok (.lload_n 1, 1) := dk_31 (dk_at dksX3_laysTurn_0 1 rfl rfl)
theorem dX3_laysTurn_2 : decode cX3_laysTurn 2 = .ok (.lload_n 1, 1) := dk_31 (dk_at dksX3_laysTurn_0 2 rfl rfl)
theorem dX3_laysTurn_3 : decode cX3_laysTurn 3 = .ok (.lmul, 1) := dk_105 (dk_at dksX3_laysTurn_0 3 rfl rfl)
theorem dX3_laysTurn_4 : decode cX3_laysTurn 4 = .ok (.lload_n 3, 1) := dk_33 (dk_at dksX3_laysTurn_0 4 rfl rfl)
theorem dX3_laysTurn_5 : decode cX3_laysTurn 5 = .ok (.lload_n 3, 1) := dk_33 (dk_at dksX3_laysTurn_0 5 rfl rfl)
theorem dX3_laysTurn_6 : decode cX3_laysTurn 6 = .ok (.lmul, 1) := dk_105 (dk_at dksX3_laysTurn_0 6 rfl rfl)
theorem dX3_laysTurn_7 : decode cX3_laysTurn 7 = .ok (.ladd, 1) := dk_97 (dk_at dksX3_laysTurn_0 7 rfl rfl)
theorem dX3_laysTurn_8 : decode cX3_laysTurn 8 = .ok (.lload 5, 2) := dk_22 5 (dk_at dksX3_laysTurn_0 8 rfl rfl)
theorem dX3_laysTurn_10 : decode cX3_laysTurn 10 = .ok (.lload 5, 2) := dk_22 5 (dk_at dksX3_laysTurn_0 10 rfl rfl)
theorem dX3_laysTurn_12 : decode cX3_laysTurn 12 = .ok (.lmul, 1) := dk_105 (dk_at dksX3_laysTurn_0 12 rfl rfl)
theorem dX3_laysTurn_13 : decode cX3_laysTurn 13 = .ok (.ladd, 1) := dk_97 (dk_at dksX3_laysTurn_0 13 rfl rfl)
theorem dX3_laysTurn_14 : decode cX3_laysTurn 14 = .ok (.lload 7, 2) := dk_22 7 (dk_at dksX3_laysTurn_0 14 rfl rfl)
theorem dX3_laysTurn_16 : decode cX3_laysTurn 16 = .ok (.lload 7, 2) := dk_22 7 (dk_at dksX3_laysTurn_0 16 rfl rfl)
theorem dX3_laysTurn_18 : decode cX3_laysTurn 18 = .ok (.lmul, 1) := dk_105 (dk_at dksX3_laysTurn_0 18 rfl rfl)
theorem dX3_laysTurn_19 : decode cX3_laysTurn 19 = .ok (.ladd, 1) := dk_97 (dk_at dksX3_laysTurn_0 19 rfl rfl)
theorem dX3_laysTurn_20 : decode cX3_laysTurn 20 = .ok (.putfield 191, 3) := dk_181 0 191 (dk_at dksX3_laysTurn_0 20 rfl rfl)
theorem dX3_laysTurn_23 : decode cX3_laysTurn 23 = .ok (.aload_n 0, 1) := dk_42 (dk_at dksX3_laysTurn_0 23 rfl rfl)
theorem dX3_laysTurn_24 : decode cX3_laysTurn 24 = .ok (.getfield 40, 3) := dk_180 0 40 (dk_at dksX3_laysTurn_1 0 rfl rfl)
theorem dX3_laysTurn_27 : decode cX3_laysTurn 27 = .ok (.iconst 0, 1) := dk_3 (dk_at dksX3_laysTurn_1 3 rfl rfl)
theorem dX3_laysTurn_28 : decode cX3_laysTurn 28 = .ok (.lload_n 1, 1) := dk_31 (dk_at dksX3_laysTurn_1 4 rfl rfl)
theorem dX3_laysTurn_29 : decode cX3_laysTurn 29 = .ok (.lload_n 1, 1) := dk_31 (dk_at dksX3_laysTurn_1 5 rfl rfl)
theorem dX3_laysTurn_30 : decode cX3_laysTurn 30 = .ok (.lmul, 1) := dk_105 (dk_at dksX3_laysTurn_1 6 rfl rfl)
theorem dX3_laysTurn_31 : decode cX3_laysTurn 31 = .ok (.lload_n 3, 1) := dk_33 (dk_at dksX3_laysTurn_1 7 rfl rfl)
theorem dX3_laysTurn_32 : decode cX3_laysTurn 32 = .ok (.lload_n 3, 1) := dk_33 (dk_at dksX3_laysTurn_1 8 rfl rfl)
theorem dX3_laysTurn_33 : decode cX3_laysTurn 33 = .ok (.lmul, 1) := dk_105 (dk_at dksX3_laysTurn_1 9 rfl rfl)
theorem dX3_laysTurn_34 : decode cX3_laysTurn 34 = .ok (.ladd, 1) := dk_97 (dk_at dksX3_laysTurn_1 10 rfl rfl)
theorem dX3_laysTurn_35 : decode cX3_laysTurn 35 = .ok (.lload 5, 2) := dk_22 5 (dk_at dksX3_laysTurn_1 11 rfl rfl)
theorem dX3_laysTurn_37 : decode cX3_laysTurn 37 = .ok (.lload 5, 2) := dk_22 5 (dk_at dksX3_laysTurn_1 13 rfl rfl)
theorem dX3_laysTurn_39 : decode cX3_laysTurn 39 = .ok (.lmul, 1) := dk_105 (dk_at dksX3_laysTurn_1 15 rfl rfl)
theorem dX3_laysTurn_40 : decode cX3_laysTurn 40 = .ok (.lsub, 1) := dk_101 (dk_at dksX3_laysTurn_1 16 rfl rfl)
theorem dX3_laysTurn_41 : decode cX3_laysTurn 41 = .ok (.lload 7, 2) := dk_22 7 (dk_at dksX3_laysTurn_1 17 rfl rfl)
theorem dX3_laysTurn_43 : decode cX3_laysTurn 43 = .ok (.lload 7, 2) := dk_22 7 (dk_at dksX3_laysTurn_1 19 rfl rfl)
theorem dX3_laysTurn_45 : decode cX3_laysTurn 45 = .ok (.lmul, 1) := dk_105 (dk_at dksX3_laysTurn_1 21 rfl rfl)
theorem dX3_laysTurn_46 : decode cX3_laysTurn 46 = .ok (.lsub, 1) := dk_101 (dk_at dksX3_laysTurn_1 22 rfl rfl)
theorem dX3_laysTurn_47 : decode cX3_laysTurn 47 = .ok (.lastore, 1) := dk_80 (dk_at dksX3_laysTurn_1 23 rfl rfl)
theorem dX3_laysTurn_48 : decode cX3_laysTurn 48 = .ok (.aload_n 0, 1) := dk_42 (dk_at dksX3_laysTurn_2 0 rfl rfl)
theorem dX3_laysTurn_49 : decode cX3_laysTurn 49 = .ok (.getfield 40, 3) := dk_180 0 40 (dk_at dksX3_laysTurn_2 1 rfl rfl)
theorem dX3_laysTurn_52 : decode cX3_laysTurn 52 = .ok (.iconst 1, 1) := dk_4 (dk_at dksX3_laysTurn_2 4 rfl rfl)
theorem dX3_laysTurn_53 : decode cX3_laysTurn 53 = .ok (.ldc2_w 202, 3) := dk_20 0 202 (dk_at dksX3_laysTurn_2 5 rfl rfl)
theorem dX3_laysTurn_56 : decode cX3_laysTurn 56 = .ok (.lload_n 3, 1) := dk_33 (dk_at dksX3_laysTurn_2 8 rfl rfl)
theorem dX3_laysTurn_57 : decode cX3_laysTurn 57 = .ok (.lload 5, 2) := dk_22 5 (dk_at dksX3_laysTurn_2 9 rfl rfl)
theorem dX3_laysTurn_59 : decode cX3_laysTurn 59 = .ok (.lmul, 1) := dk_105 (dk_at dksX3_laysTurn_2 11 rfl rfl)
theorem dX3_laysTurn_60 : decode cX3_laysTurn 60 = .ok (.lload_n 1, 1) := dk_31 (dk_at dksX3_laysTurn_2 12 rfl rfl)
theorem dX3_laysTurn_61 : decode cX3_laysTurn 61 = .ok (.lload 7, 2) := dk_22 7 (dk_at dksX3_laysTurn_2 13 rfl rfl)
theorem dX3_laysTurn_63 : decode cX3_laysTurn 63 = .ok (.lmul, 1) := dk_105 (dk_at dksX3_laysTurn_2 15 rfl rfl)
theorem dX3_laysTurn_64 : decode cX3_laysTurn 64 = .ok (.lsub, 1) := dk_101 (dk_at dksX3_laysTurn_2 16 rfl rfl)
theorem dX3_laysTurn_65 : decode cX3_laysTurn 65 = .ok (.lmul, 1) := dk_105 (dk_at dksX3_laysTurn_2 17 rfl rfl)
theorem dX3_laysTurn_66 : decode cX3_laysTurn 66 = .ok (.lastore, 1) := dk_80 (dk_at dksX3_laysTurn_2 18 rfl rfl)
theorem dX3_laysTurn_67 : decode cX3_laysTurn 67 = .ok (.aload_n 0, 1) := dk_42 (dk_at dksX3_laysTurn_2 19 rfl rfl)
theorem dX3_laysTurn_68 : decode cX3_laysTurn 68 = .ok (.getfield 40, 3) := dk_180 0 40 (dk_at dksX3_laysTurn_2 20 rfl rfl)
theorem dX3_laysTurn_71 : decode cX3_laysTurn 71 = .ok (.iconst 2, 1) := dk_5 (dk_at dksX3_laysTurn_2 23 rfl rfl)
theorem dX3_laysTurn_72 : decode cX3_laysTurn 72 = .ok (.ldc2_w 202, 3) := dk_20 0 202 (dk_at dksX3_laysTurn_3 0 rfl rfl)
theorem dX3_laysTurn_75 : decode cX3_laysTurn 75 = .ok (.lload_n 3, 1) := dk_33 (dk_at dksX3_laysTurn_3 3 rfl rfl)
theorem dX3_laysTurn_76 : decode cX3_laysTurn 76 = .ok (.lload 7, 2) := dk_22 7 (dk_at dksX3_laysTurn_3 4 rfl rfl)
theorem dX3_laysTurn_78 : decode cX3_laysTurn 78 = .ok (.lmul, 1) := dk_105 (dk_at dksX3_laysTurn_3 6 rfl rfl)
theorem dX3_laysTurn_79 : decode cX3_laysTurn 79 = .ok (.lload_n 1, 1) := dk_31 (dk_at dksX3_laysTurn_3 7 rfl rfl)
theorem dX3_laysTurn_80 : decode cX3_laysTurn 80 = .ok (.lload 5, 2) := dk_22 5 (dk_at dksX3_laysTurn_3 8 rfl rfl)
theorem dX3_laysTurn_82 : decode cX3_laysTurn 82 = .ok (.lmul, 1) := dk_105 (dk_at dksX3_laysTurn_3 10 rfl rfl)
theorem dX3_laysTurn_83 : decode cX3_laysTurn 83 = .ok (.ladd, 1) := dk_97 (dk_at dksX3_laysTurn_3 11 rfl rfl)
theorem dX3_laysTurn_84 : decode cX3_laysTurn 84 = .ok (.lmul, 1) := dk_105 (dk_at dksX3_laysTurn_3 12 rfl rfl)
theorem dX3_laysTurn_85 : decode cX3_laysTurn 85 = .ok (.lastore, 1) := dk_80 (dk_at dksX3_laysTurn_3 13 rfl rfl)
theorem dX3_laysTurn_86 : decode cX3_laysTurn 86 = .ok (.aload_n 0, 1) := dk_42 (dk_at dksX3_laysTurn_3 14 rfl rfl)
theorem dX3_laysTurn_87 : decode cX3_laysTurn 87 = .ok (.getfield 40, 3) := dk_180 0 40 (dk_at dksX3_laysTurn_3 15 rfl rfl)
theorem dX3_laysTurn_90 : decode cX3_laysTurn 90 = .ok (.iconst 3, 1) := dk_6 (dk_at dksX3_laysTurn_3 18 rfl rfl)
theorem dX3_laysTurn_91 : decode cX3_laysTurn 91 = .ok (.ldc2_w 202, 3) := dk_20 0 202 (dk_at dksX3_laysTurn_3 19 rfl rfl)
theorem dX3_laysTurn_94 : decode cX3_laysTurn 94 = .ok (.lload_n 3, 1) := dk_33 (dk_at dksX3_laysTurn_3 22 rfl rfl)
theorem dX3_laysTurn_95 : decode cX3_laysTurn 95 = .ok (.lload 5, 2) := dk_22 5 (dk_at dksX3_laysTurn_4 0 rfl rfl)
theorem dX3_laysTurn_97 : decode cX3_laysTurn 97 = .ok (.lmul, 1) := dk_105 (dk_at dksX3_laysTurn_4 2 rfl rfl)
theorem dX3_laysTurn_98 : decode cX3_laysTurn 98 = .ok (.lload_n 1, 1) := dk_31 (dk_at dksX3_laysTurn_4 3 rfl rfl)
theorem dX3_laysTurn_99 : decode cX3_laysTurn 99 = .ok (.lload 7, 2) := dk_22 7 (dk_at dksX3_laysTurn_4 4 rfl rfl)
theorem dX3_laysTurn_101 : decode cX3_laysTurn 101 = .ok (.lmul, 1) := dk_105 (dk_at dksX3_laysTurn_4 6 rfl rfl)
theorem dX3_laysTurn_102 : decode cX3_laysTurn 102 = .ok (.ladd, 1) := dk_97 (dk_at dksX3_laysTurn_4 7 rfl rfl)
theorem dX3_laysTurn_103 : decode cX3_laysTurn 103 = .ok (.lmul, 1) := dk_105 (dk_at dksX3_laysTurn_4 8 rfl rfl)
theorem dX3_laysTurn_104 : decode cX3_laysTurn 104 = .ok (.lastore, 1) := dk_80 (dk_at dksX3_laysTurn_4 9 rfl rfl)
theorem dX3_laysTurn_105 : decode cX3_laysTurn 105 = .ok (.aload_n 0, 1) := dk_42 (dk_at dksX3_laysTurn_4 10 rfl rfl)
theorem dX3_laysTurn_106 : decode cX3_laysTurn 106 = .ok (.getfield 40, 3) := dk_180 0 40 (dk_at dksX3_laysTurn_4 11 rfl rfl)
theorem dX3_laysTurn_109 : decode cX3_laysTurn 109 = .ok (.iconst 4, 1) := dk_7 (dk_at dksX3_laysTurn_4 14 rfl rfl)
theorem dX3_laysTurn_110 : decode cX3_laysTurn 110 = .ok (.lload_n 1, 1) := dk_31 (dk_at dksX3_laysTurn_4 15 rfl rfl)
theorem dX3_laysTurn_111 : decode cX3_laysTurn 111 = .ok (.lload_n 1, 1) := dk_31 (dk_at dksX3_laysTurn_4 16 rfl rfl)
theorem dX3_laysTurn_112 : decode cX3_laysTurn 112 = .ok (.lmul, 1) := dk_105 (dk_at dksX3_laysTurn_4 17 rfl rfl)
theorem dX3_laysTurn_113 : decode cX3_laysTurn 113 = .ok (.lload_n 3, 1) := dk_33 (dk_at dksX3_laysTurn_4 18 rfl rfl)
theorem dX3_laysTurn_114 : decode cX3_laysTurn 114 = .ok (.lload_n 3, 1) := dk_33 (dk_at dksX3_laysTurn_4 19 rfl rfl)
theorem dX3_laysTurn_115 : decode cX3_laysTurn 115 = .ok (.lmul, 1) := dk_105 (dk_at dksX3_laysTurn_4 20 rfl rfl)
theorem dX3_laysTurn_116 : decode cX3_laysTurn 116 = .ok (.lsub, 1) := dk_101 (dk_at dksX3_laysTurn_4 21 rfl rfl)
theorem dX3_laysTurn_117 : decode cX3_laysTurn 117 = .ok (.lload 5, 2) := dk_22 5 (dk_at dksX3_laysTurn_4 22 rfl rfl)
theorem dX3_laysTurn_119 : decode cX3_laysTurn 119 = .ok (.lload 5, 2) := dk_22 5 (dk_at dksX3_laysTurn_5 0 rfl rfl)
theorem dX3_laysTurn_121 : decode cX3_laysTurn 121 = .ok (.lmul, 1) := dk_105 (dk_at dksX3_laysTurn_5 2 rfl rfl)
theorem dX3_laysTurn_122 : decode cX3_laysTurn 122 = .ok (.ladd, 1) := dk_97 (dk_at dksX3_laysTurn_5 3 rfl rfl)
theorem dX3_laysTurn_123 : decode cX3_laysTurn 123 = .ok (.lload 7, 2) := dk_22 7 (dk_at dksX3_laysTurn_5 4 rfl rfl)
theorem dX3_laysTurn_125 : decode cX3_laysTurn 125 = .ok (.lload 7, 2) := dk_22 7 (dk_at dksX3_laysTurn_5 6 rfl rfl)
theorem dX3_laysTurn_127 : decode cX3_laysTurn 127 = .ok (.lmul, 1) := dk_105 (dk_at dksX3_laysTurn_5 8 rfl rfl)
theorem dX3_laysTurn_128 : decode cX3_laysTurn 128 = .ok (.lsub, 1) := dk_101 (dk_at dksX3_laysTurn_5 9 rfl rfl)
theorem dX3_laysTurn_129 : decode cX3_laysTurn 129 = .ok (.lastore, 1) := dk_80 (dk_at dksX3_laysTurn_5 10 rfl rfl)
theorem dX3_laysTurn_130 : decode cX3_laysTurn 130 = .ok (.aload_n 0, 1) := dk_42 (dk_at dksX3_laysTurn_5 11 rfl rfl)
theorem dX3_laysTurn_131 : decode cX3_laysTurn 131 = .ok (.getfield 40, 3) := dk_180 0 40 (dk_at dksX3_laysTurn_5 12 rfl rfl)
theorem dX3_laysTurn_134 : decode cX3_laysTurn 134 = .ok (.iconst 5, 1) := dk_8 (dk_at dksX3_laysTurn_5 15 rfl rfl)
theorem dX3_laysTurn_135 : decode cX3_laysTurn 135 = .ok (.ldc2_w 202, 3) := dk_20 0 202 (dk_at dksX3_laysTurn_5 16 rfl rfl)
theorem dX3_laysTurn_138 : decode cX3_laysTurn 138 = .ok (.lload 5, 2) := dk_22 5 (dk_at dksX3_laysTurn_5 19 rfl rfl)
theorem dX3_laysTurn_140 : decode cX3_laysTurn 140 = .ok (.lload 7, 2) := dk_22 7 (dk_at dksX3_laysTurn_5 21 rfl rfl)
theorem dX3_laysTurn_142 : decode cX3_laysTurn 142 = .ok (.lmul, 1) := dk_105 (dk_at dksX3_laysTurn_5 23 rfl rfl)
theorem dX3_laysTurn_143 : decode cX3_laysTurn 143 = .ok (.lload_n 1, 1) := dk_31 (dk_at dksX3_laysTurn_6 0 rfl rfl)
theorem dX3_laysTurn_144 : decode cX3_laysTurn 144 = .ok (.lload_n 3, 1) := dk_33 (dk_at dksX3_laysTurn_6 1 rfl rfl)
theorem dX3_laysTurn_145 : decode cX3_laysTurn 145 = .ok (.lmul, 1) := dk_105 (dk_at dksX3_laysTurn_6 2 rfl rfl)
theorem dX3_laysTurn_146 : decode cX3_laysTurn 146 = .ok (.lsub, 1) := dk_101 (dk_at dksX3_laysTurn_6 3 rfl rfl)
theorem dX3_laysTurn_147 : decode cX3_laysTurn 147 = .ok (.lmul, 1) := dk_105 (dk_at dksX3_laysTurn_6 4 rfl rfl)
theorem dX3_laysTurn_148 : decode cX3_laysTurn 148 = .ok (.lastore, 1) := dk_80 (dk_at dksX3_laysTurn_6 5 rfl rfl)
theorem dX3_laysTurn_149 : decode cX3_laysTurn 149 = .ok (.aload_n 0, 1) := dk_42 (dk_at dksX3_laysTurn_6 6 rfl rfl)
theorem dX3_laysTurn_150 : decode cX3_laysTurn 150 = .ok (.getfield 40, 3) := dk_180 0 40 (dk_at dksX3_laysTurn_6 7 rfl rfl)
theorem dX3_laysTurn_153 : decode cX3_laysTurn 153 = .ok (.bipush 6, 2) := dk_16 6 (dk_at dksX3_laysTurn_6 10 rfl rfl)
theorem dX3_laysTurn_155 : decode cX3_laysTurn 155 = .ok (.ldc2_w 202, 3) := dk_20 0 202 (dk_at dksX3_laysTurn_6 12 rfl rfl)
theorem dX3_laysTurn_158 : decode cX3_laysTurn 158 = .ok (.lload_n 3, 1) := dk_33 (dk_at dksX3_laysTurn_6 15 rfl rfl)
theorem dX3_laysTurn_159 : decode cX3_laysTurn 159 = .ok (.lload 7, 2) := dk_22 7 (dk_at dksX3_laysTurn_6 16 rfl rfl)
theorem dX3_laysTurn_161 : decode cX3_laysTurn 161 = .ok (.lmul, 1) := dk_105 (dk_at dksX3_laysTurn_6 18 rfl rfl)
theorem dX3_laysTurn_162 : decode cX3_laysTurn 162 = .ok (.lload_n 1, 1) := dk_31 (dk_at dksX3_laysTurn_6 19 rfl rfl)
theorem dX3_laysTurn_163 : decode cX3_laysTurn 163 = .ok (.lload 5, 2) := dk_22 5 (dk_at dksX3_laysTurn_6 20 rfl rfl)
theorem dX3_laysTurn_165 : decode cX3_laysTurn 165 = .ok (.lmul, 1) := dk_105 (dk_at dksX3_laysTurn_6 22 rfl rfl)
theorem dX3_laysTurn_166 : decode cX3_laysTurn 166 = .ok (.lsub, 1) := dk_101 (dk_at dksX3_laysTurn_6 23 rfl rfl)
theorem dX3_laysTurn_167 : decode cX3_laysTurn 167 = .ok (.lmul, 1) := dk_105 (dk_at dksX3_laysTurn_7 0 rfl rfl)
theorem dX3_laysTurn_168 : decode cX3_laysTurn 168 = .ok (.lastore, 1) := dk_80 (dk_at dksX3_laysTurn_7 1 rfl rfl)
theorem dX3_laysTurn_169 : decode cX3_laysTurn 169 = .ok (.aload_n 0, 1) := dk_42 (dk_at dksX3_laysTurn_7 2 rfl rfl)
theorem dX3_laysTurn_170 : decode cX3_laysTurn 170 = .ok (.getfield 40, 3) := dk_180 0 40 (dk_at dksX3_laysTurn_7 3 rfl rfl)
theorem dX3_laysTurn_173 : decode cX3_laysTurn 173 = .ok (.bipush 7, 2) := dk_16 7 (dk_at dksX3_laysTurn_7 6 rfl rfl)
theorem dX3_laysTurn_175 : decode cX3_laysTurn 175 = .ok (.ldc2_w 202, 3) := dk_20 0 202 (dk_at dksX3_laysTurn_7 8 rfl rfl)
theorem dX3_laysTurn_178 : decode cX3_laysTurn 178 = .ok (.lload 5, 2) := dk_22 5 (dk_at dksX3_laysTurn_7 11 rfl rfl)
theorem dX3_laysTurn_180 : decode cX3_laysTurn 180 = .ok (.lload 7, 2) := dk_22 7 (dk_at dksX3_laysTurn_7 13 rfl rfl)
theorem dX3_laysTurn_182 : decode cX3_laysTurn 182 = .ok (.lmul, 1) := dk_105 (dk_at dksX3_laysTurn_7 15 rfl rfl)
theorem dX3_laysTurn_183 : decode cX3_laysTurn 183 = .ok (.lload_n 1, 1) := dk_31 (dk_at dksX3_laysTurn_7 16 rfl rfl)
theorem dX3_laysTurn_184 : decode cX3_laysTurn 184 = .ok (.lload_n 3, 1) := dk_33 (dk_at dksX3_laysTurn_7 17 rfl rfl)
theorem dX3_laysTurn_185 : decode cX3_laysTurn 185 = .ok (.lmul, 1) := dk_105 (dk_at dksX3_laysTurn_7 18 rfl rfl)
theorem dX3_laysTurn_186 : decode cX3_laysTurn 186 = .ok (.ladd, 1) := dk_97 (dk_at dksX3_laysTurn_7 19 rfl rfl)
theorem dX3_laysTurn_187 : decode cX3_laysTurn 187 = .ok (.lmul, 1) := dk_105 (dk_at dksX3_laysTurn_7 20 rfl rfl)
theorem dX3_laysTurn_188 : decode cX3_laysTurn 188 = .ok (.lastore, 1) := dk_80 (dk_at dksX3_laysTurn_7 21 rfl rfl)
theorem dX3_laysTurn_189 : decode cX3_laysTurn 189 = .ok (.aload_n 0, 1) := dk_42 (dk_at dksX3_laysTurn_7 22 rfl rfl)
theorem dX3_laysTurn_190 : decode cX3_laysTurn 190 = .ok (.getfield 40, 3) := dk_180 0 40 (dk_at dksX3_laysTurn_8 0 rfl rfl)
theorem dX3_laysTurn_193 : decode cX3_laysTurn 193 = .ok (.bipush 8, 2) := dk_16 8 (dk_at dksX3_laysTurn_8 3 rfl rfl)
theorem dX3_laysTurn_195 : decode cX3_laysTurn 195 = .ok (.lload_n 1, 1) := dk_31 (dk_at dksX3_laysTurn_8 5 rfl rfl)
theorem dX3_laysTurn_196 : decode cX3_laysTurn 196 = .ok (.lload_n 1, 1) := dk_31 (dk_at dksX3_laysTurn_8 6 rfl rfl)
theorem dX3_laysTurn_197 : decode cX3_laysTurn 197 = .ok (.lmul, 1) := dk_105 (dk_at dksX3_laysTurn_8 7 rfl rfl)
theorem dX3_laysTurn_198 : decode cX3_laysTurn 198 = .ok (.lload_n 3, 1) := dk_33 (dk_at dksX3_laysTurn_8 8 rfl rfl)
theorem dX3_laysTurn_199 : decode cX3_laysTurn 199 = .ok (.lload_n 3, 1) := dk_33 (dk_at dksX3_laysTurn_8 9 rfl rfl)
theorem dX3_laysTurn_200 : decode cX3_laysTurn 200 = .ok (.lmul, 1) := dk_105 (dk_at dksX3_laysTurn_8 10 rfl rfl)
theorem dX3_laysTurn_201 : decode cX3_laysTurn 201 = .ok (.lsub, 1) := dk_101 (dk_at dksX3_laysTurn_8 11 rfl rfl)
theorem dX3_laysTurn_202 : decode cX3_laysTurn 202 = .ok (.lload 5, 2) := dk_22 5 (dk_at dksX3_laysTurn_8 12 rfl rfl)
theorem dX3_laysTurn_204 : decode cX3_laysTurn 204 = .ok (.lload 5, 2) := dk_22 5 (dk_at dksX3_laysTurn_8 14 rfl rfl)
theorem dX3_laysTurn_206 : decode cX3_laysTurn 206 = .ok (.lmul, 1) := dk_105 (dk_at dksX3_laysTurn_8 16 rfl rfl)
theorem dX3_laysTurn_207 : decode cX3_laysTurn 207 = .ok (.lsub, 1) := dk_101 (dk_at dksX3_laysTurn_8 17 rfl rfl)
theorem dX3_laysTurn_208 : decode cX3_laysTurn 208 = .ok (.lload 7, 2) := dk_22 7 (dk_at dksX3_laysTurn_8 18 rfl rfl)
theorem dX3_laysTurn_210 : decode cX3_laysTurn 210 = .ok (.lload 7, 2) := dk_22 7 (dk_at dksX3_laysTurn_8 20 rfl rfl)
theorem dX3_laysTurn_212 : decode cX3_laysTurn 212 = .ok (.lmul, 1) := dk_105 (dk_at dksX3_laysTurn_8 22 rfl rfl)
theorem dX3_laysTurn_213 : decode cX3_laysTurn 213 = .ok (.ladd, 1) := dk_97 (dk_at dksX3_laysTurn_8 23 rfl rfl)
theorem dX3_laysTurn_214 : decode cX3_laysTurn 214 = .ok (.lastore, 1) := dk_80 (dk_at dksX3_laysTurn_9 0 rfl rfl)
theorem dX3_laysTurn_215 : decode cX3_laysTurn 215 = .ok (.return_, 1) := dk_177 (dk_at dksX3_laysTurn_9 1 rfl rfl)
abbrev cX3_turns : ByteArray := prog_20_method_27_code
def yX3_turns : MethodName := ⟨RX3, "turns", "()V"⟩
def dkwX3_turns_4 : List UInt8 := [96, 47, 22, 6, 105, 97, 80, 132, 8, 1, 167, 255, 195, 132, 1, 1, 167, 255, 148, 42, 182, 0, 204, 177]
abbrev dktX3_turns_4 : List UInt8 := dkwX3_turns_4 ++ []
def dkwX3_turns_3 : List UInt8 := [42, 180, 0, 40, 6, 21, 8, 104, 4, 96, 47, 22, 4, 105, 97, 42, 180, 0, 40, 6, 21, 8, 104, 5]
abbrev dktX3_turns_3 : List UInt8 := dkwX3_turns_3 ++ dktX3_turns_4
def dkwX3_turns_2 : List UInt8 := [162, 0, 61, 42, 180, 0, 36, 6, 27, 104, 21, 8, 96, 42, 180, 0, 40, 6, 21, 8, 104, 47, 32, 105]
abbrev dktX3_turns_2 : List UInt8 := dkwX3_turns_2 ++ dktX3_turns_3
def dkwX3_turns_1 : List UInt8 := [96, 47, 55, 4, 42, 180, 0, 36, 6, 27, 104, 5, 96, 47, 55, 6, 3, 54, 8, 21, 8, 6]
abbrev dktX3_turns_1 : List UInt8 := dkwX3_turns_1 ++ dktX3_turns_2
def dkwX3_turns_0 : List UInt8 := [3, 60, 27, 6, 162, 0, 109, 42, 180, 0, 36, 6, 27, 104, 47, 65, 42, 180, 0, 36, 6, 27, 104, 4]
abbrev dktX3_turns_0 : List UInt8 := dkwX3_turns_0 ++ dktX3_turns_1
theorem dksX3_turns_0 : cX3_turns.data.toList.drop 0 = dktX3_turns_0 := by decide +kernel
theorem dksX3_turns_1 : cX3_turns.data.toList.drop 24 = dktX3_turns_1 := dk_seg dksX3_turns_0 24 rfl rfl
theorem dksX3_turns_2 : cX3_turns.data.toList.drop 46 = dktX3_turns_2 := dk_seg dksX3_turns_1 22 rfl rfl
theorem dksX3_turns_3 : cX3_turns.data.toList.drop 70 = dktX3_turns_3 := dk_seg dksX3_turns_2 24 rfl rfl
theorem dksX3_turns_4 : cX3_turns.data.toList.drop 94 = dktX3_turns_4 := dk_seg dksX3_turns_3 24 rfl rfl
theorem dX3_turns_0 : decode cX3_turns 0 = .ok (.iconst 0, 1) := dk_3 (dk_at dksX3_turns_0 0 rfl rfl)
theorem dX3_turns_1 : decode cX3_turns 1 = .ok (.istore_n 1, 1) := dk_60 (dk_at dksX3_turns_0 1 rfl rfl)
theorem dX3_turns_2 : decode cX3_turns 2 = .ok (.iload_n 1, 1) := dk_27 (dk_at dksX3_turns_0 2 rfl rfl)
theorem dX3_turns_3 : decode cX3_turns 3 = .ok (.iconst 3, 1) := dk_6 (dk_at dksX3_turns_0 3 rfl rfl)
theorem dX3_turns_4 : decode cX3_turns 4 = .ok (.if_icmp .ge 109, 3) := dk_162 0 109 (dk_at dksX3_turns_0 4 rfl rfl)
theorem dX3_turns_7 : decode cX3_turns 7 = .ok (.aload_n 0, 1) := dk_42 (dk_at dksX3_turns_0 7 rfl rfl)
theorem dX3_turns_8 : decode cX3_turns 8 = .ok (.getfield 36, 3) := dk_180 0 36 (dk_at dksX3_turns_0 8 rfl rfl)
theorem dX3_turns_11 : decode cX3_turns 11 = .ok (.iconst 3, 1) := dk_6 (dk_at dksX3_turns_0 11 rfl rfl)
theorem dX3_turns_12 : decode cX3_turns 12 = .ok (.iload_n 1, 1) := dk_27 (dk_at dksX3_turns_0 12 rfl rfl)
theorem dX3_turns_13 : decode cX3_turns 13 = .ok (.imul, 1) := dk_104 (dk_at dksX3_turns_0 13 rfl rfl)
theorem dX3_turns_14 : decode cX3_turns 14 = .ok (.laload, 1) := dk_47 (dk_at dksX3_turns_0 14 rfl rfl)
theorem dX3_turns_15 : decode cX3_turns 15 = .ok (.lstore_n 2, 1) := dk_65 (dk_at dksX3_turns_0 15 rfl rfl)
theorem dX3_turns_16 : decode cX3_turns 16 = .ok (.aload_n 0, 1) := dk_42 (dk_at dksX3_turns_0 16 rfl rfl)
theorem dX3_turns_17 : decode cX3_turns 17 = .ok (.getfield 36, 3) := dk_180 0 36 (dk_at dksX3_turns_0 17 rfl rfl)
theorem dX3_turns_20 : decode cX3_turns 20 = .ok (.iconst 3, 1) := dk_6 (dk_at dksX3_turns_0 20 rfl rfl)
theorem dX3_turns_21 : decode cX3_turns 21 = .ok (.iload_n 1, 1) := dk_27 (dk_at dksX3_turns_0 21 rfl rfl)
theorem dX3_turns_22 : decode cX3_turns 22 = .ok (.imul, 1) := dk_104 (dk_at dksX3_turns_0 22 rfl rfl)
theorem dX3_turns_23 : decode cX3_turns 23 = .ok (.iconst 1, 1) := dk_4 (dk_at dksX3_turns_0 23 rfl rfl)
theorem dX3_turns_24 : decode cX3_turns 24 = .ok (.iadd, 1) := dk_96 (dk_at dksX3_turns_1 0 rfl rfl)
theorem dX3_turns_25 : decode cX3_turns 25 = .ok (.laload, 1) := dk_47 (dk_at dksX3_turns_1 1 rfl rfl)
theorem dX3_turns_26 : decode cX3_turns 26 = .ok (.lstore 4, 2) := dk_55 4 (dk_at dksX3_turns_1 2 rfl rfl)
theorem dX3_turns_28 : decode cX3_turns 28 = .ok (.aload_n 0, 1) := dk_42 (dk_at dksX3_turns_1 4 rfl rfl)
theorem dX3_turns_29 : decode cX3_turns 29 = .ok (.getfield 36, 3) := dk_180 0 36 (dk_at dksX3_turns_1 5 rfl rfl)
theorem dX3_turns_32 : decode cX3_turns 32 = .ok (.iconst 3, 1) := dk_6 (dk_at dksX3_turns_1 8 rfl rfl)
theorem dX3_turns_33 : decode cX3_turns 33 = .ok (.iload_n 1, 1) := dk_27 (dk_at dksX3_turns_1 9 rfl rfl)
theorem dX3_turns_34 : decode cX3_turns 34 = .ok (.imul, 1) := dk_104 (dk_at dksX3_turns_1 10 rfl rfl)
theorem dX3_turns_35 : decode cX3_turns 35 = .ok (.iconst 2, 1) := dk_5 (dk_at dksX3_turns_1 11 rfl rfl)
theorem dX3_turns_36 : decode cX3_turns 36 = .ok (.iadd, 1) := dk_96 (dk_at dksX3_turns_1 12 rfl rfl)
theorem dX3_turns_37 : decode cX3_turns 37 = .ok (.laload, 1) := dk_47 (dk_at dksX3_turns_1 13 rfl rfl)
theorem dX3_turns_38 : decode cX3_turns 38 = .ok (.lstore 6, 2) := dk_55 6 (dk_at dksX3_turns_1 14 rfl rfl)
theorem dX3_turns_40 : decode cX3_turns 40 = .ok (.iconst 0, 1) := dk_3 (dk_at dksX3_turns_1 16 rfl rfl)
theorem dX3_turns_41 : decode cX3_turns 41 = .ok (.istore 8, 2) := dk_54 8 (dk_at dksX3_turns_1 17 rfl rfl)
theorem dX3_turns_43 : decode cX3_turns 43 = .ok (.iload 8, 2) := dk_21 8 (dk_at dksX3_turns_1 19 rfl rfl)
theorem dX3_turns_45 : decode cX3_turns 45 = .ok (.iconst 3, 1) := dk_6 (dk_at dksX3_turns_1 21 rfl rfl)
theorem dX3_turns_46 : decode cX3_turns 46 = .ok (.if_icmp .ge 61, 3) := dk_162 0 61 (dk_at dksX3_turns_2 0 rfl rfl)
theorem dX3_turns_49 : decode cX3_turns 49 = .ok (.aload_n 0, 1) := dk_42 (dk_at dksX3_turns_2 3 rfl rfl)
theorem dX3_turns_50 : decode cX3_turns 50 = .ok (.getfield 36, 3) := dk_180 0 36 (dk_at dksX3_turns_2 4 rfl rfl)
theorem dX3_turns_53 : decode cX3_turns 53 = .ok (.iconst 3, 1) := dk_6 (dk_at dksX3_turns_2 7 rfl rfl)
theorem dX3_turns_54 : decode cX3_turns 54 = .ok (.iload_n 1, 1) := dk_27 (dk_at dksX3_turns_2 8 rfl rfl)
theorem dX3_turns_55 : decode cX3_turns 55 = .ok (.imul, 1) := dk_104 (dk_at dksX3_turns_2 9 rfl rfl)
theorem dX3_turns_56 : decode cX3_turns 56 = .ok (.iload 8, 2) := dk_21 8 (dk_at dksX3_turns_2 10 rfl rfl)
theorem dX3_turns_58 : decode cX3_turns 58 = .ok (.iadd, 1) := dk_96 (dk_at dksX3_turns_2 12 rfl rfl)
theorem dX3_turns_59 : decode cX3_turns 59 = .ok (.aload_n 0, 1) := dk_42 (dk_at dksX3_turns_2 13 rfl rfl)
theorem dX3_turns_60 : decode cX3_turns 60 = .ok (.getfield 40, 3) := dk_180 0 40 (dk_at dksX3_turns_2 14 rfl rfl)
theorem dX3_turns_63 : decode cX3_turns 63 = .ok (.iconst 3, 1) := dk_6 (dk_at dksX3_turns_2 17 rfl rfl)
theorem dX3_turns_64 : decode cX3_turns 64 = .ok (.iload 8, 2) := dk_21 8 (dk_at dksX3_turns_2 18 rfl rfl)
theorem dX3_turns_66 : decode cX3_turns 66 = .ok (.imul, 1) := dk_104 (dk_at dksX3_turns_2 20 rfl rfl)
theorem dX3_turns_67 : decode cX3_turns 67 = .ok (.laload, 1) := dk_47 (dk_at dksX3_turns_2 21 rfl rfl)
theorem dX3_turns_68 : decode cX3_turns 68 = .ok (.lload_n 2, 1) := dk_32 (dk_at dksX3_turns_2 22 rfl rfl)
theorem dX3_turns_69 : decode cX3_turns 69 = .ok (.lmul, 1) := dk_105 (dk_at dksX3_turns_2 23 rfl rfl)
theorem dX3_turns_70 : decode cX3_turns 70 = .ok (.aload_n 0, 1) := dk_42 (dk_at dksX3_turns_3 0 rfl rfl)
theorem dX3_turns_71 : decode cX3_turns 71 = .ok (.getfield 40, 3) := dk_180 0 40 (dk_at dksX3_turns_3 1 rfl rfl)
theorem dX3_turns_74 : decode cX3_turns 74 = .ok (.iconst 3, 1) := dk_6 (dk_at dksX3_turns_3 4 rfl rfl)
theorem dX3_turns_75 : decode cX3_turns 75 = .ok (.iload 8, 2) := dk_21 8 (dk_at dksX3_turns_3 5 rfl rfl)
theorem dX3_turns_77 : decode cX3_turns 77 = .ok (.imul, 1) := dk_104 (dk_at dksX3_turns_3 7 rfl rfl)
theorem dX3_turns_78 : decode cX3_turns 78 = .ok (.iconst 1, 1) := dk_4 (dk_at dksX3_turns_3 8 rfl rfl)
theorem dX3_turns_79 : decode cX3_turns 79 = .ok (.iadd, 1) := dk_96 (dk_at dksX3_turns_3 9 rfl rfl)
theorem dX3_turns_80 : decode cX3_turns 80 = .ok (.laload, 1) := dk_47 (dk_at dksX3_turns_3 10 rfl rfl)
theorem dX3_turns_81 : decode cX3_turns 81 = .ok (.lload 4, 2) := dk_22 4 (dk_at dksX3_turns_3 11 rfl rfl)
theorem dX3_turns_83 : decode cX3_turns 83 = .ok (.lmul, 1) := dk_105 (dk_at dksX3_turns_3 13 rfl rfl)
theorem dX3_turns_84 : decode cX3_turns 84 = .ok (.ladd, 1) := dk_97 (dk_at dksX3_turns_3 14 rfl rfl)
theorem dX3_turns_85 : decode cX3_turns 85 = .ok (.aload_n 0, 1) := dk_42 (dk_at dksX3_turns_3 15 rfl rfl)
theorem dX3_turns_86 : decode cX3_turns 86 = .ok (.getfield 40, 3) := dk_180 0 40 (dk_at dksX3_turns_3 16 rfl rfl)
theorem dX3_turns_89 : decode cX3_turns 89 = .ok (.iconst 3, 1) := dk_6 (dk_at dksX3_turns_3 19 rfl rfl)
theorem dX3_turns_90 : decode cX3_turns 90 = .ok (.iload 8, 2) := dk_21 8 (dk_at dksX3_turns_3 20 rfl rfl)
theorem dX3_turns_92 : decode cX3_turns 92 = .ok (.imul, 1) := dk_104 (dk_at dksX3_turns_3 22 rfl rfl)
theorem dX3_turns_93 : decode cX3_turns 93 = .ok (.iconst 2, 1) := dk_5 (dk_at dksX3_turns_3 23 rfl rfl)
theorem dX3_turns_94 : decode cX3_turns 94 = .ok (.iadd, 1) := dk_96 (dk_at dksX3_turns_4 0 rfl rfl)
theorem dX3_turns_95 : decode cX3_turns 95 = .ok (.laload, 1) := dk_47 (dk_at dksX3_turns_4 1 rfl rfl)
theorem dX3_turns_96 : decode cX3_turns 96 = .ok (.lload 6, 2) := dk_22 6 (dk_at dksX3_turns_4 2 rfl rfl)
theorem dX3_turns_98 : decode cX3_turns 98 = .ok (.lmul, 1) := dk_105 (dk_at dksX3_turns_4 4 rfl rfl)
theorem dX3_turns_99 : decode cX3_turns 99 = .ok (.ladd, 1) := dk_97 (dk_at dksX3_turns_4 5 rfl rfl)
theorem dX3_turns_100 : decode cX3_turns 100 = .ok (.lastore, 1) := dk_80 (dk_at dksX3_turns_4 6 rfl rfl)
theorem dX3_turns_101 : decode cX3_turns 101 = .ok (.iinc 8 1, 3) := dk_132 8 1 (dk_at dksX3_turns_4 7 rfl rfl)
theorem dX3_turns_104 : decode cX3_turns 104 = .ok (.goto (-61), 3) := dk_167 255 195 (dk_at dksX3_turns_4 10 rfl rfl)
theorem dX3_turns_107 : decode cX3_turns 107 = .ok (.iinc 1 1, 3) := dk_132 1 1 (dk_at dksX3_turns_4 13 rfl rfl)
theorem dX3_turns_110 : decode cX3_turns 110 = .ok (.goto (-108), 3) := dk_167 255 148 (dk_at dksX3_turns_4 16 rfl rfl)
theorem dX3_turns_113 : decode cX3_turns 113 = .ok (.aload_n 0, 1) := dk_42 (dk_at dksX3_turns_4 19 rfl rfl)
theorem dX3_turns_114 : decode cX3_turns 114 = .ok (.invokevirtual 204, 3) := dk_182 0 204 (dk_at dksX3_turns_4 20 rfl rfl)
theorem dX3_turns_117 : decode cX3_turns 117 = .ok (.return_, 1) := dk_177 (dk_at dksX3_turns_4 23 rfl rfl)
abbrev cX3_lessens : ByteArray := prog_20_method_28_code
def yX3_lessens : MethodName := ⟨RX3, "lessens", "()V"⟩
def dkwX3_lessens_2 : List UInt8 := [132, 3, 1, 167, 255, 237, 42, 89, 180, 0, 191, 31, 109, 181, 0, 191, 177]
abbrev dktX3_lessens_2 : List UInt8 := dkwX3_lessens_2 ++ []
def dkwX3_lessens_1 : List UInt8 := [132, 3, 1, 167, 255, 236, 3, 62, 29, 16, 9, 162, 0, 19, 42, 180, 0, 36, 29, 92, 47, 31, 109, 80]
abbrev dktX3_lessens_1 : List UInt8 := dkwX3_lessens_1 ++ dktX3_lessens_2
def dkwX3_lessens_0 : List UInt8 := [42, 180, 0, 191, 64, 3, 62, 29, 16, 9, 162, 0, 20, 31, 42, 180, 0, 36, 29, 47, 184, 0, 207, 64]
abbrev dktX3_lessens_0 : List UInt8 := dkwX3_lessens_0 ++ dktX3_lessens_1
theorem dksX3_lessens_0 : cX3_lessens.data.toList.drop 0 = dktX3_lessens_0 := by decide +kernel
theorem dksX3_lessens_1 : cX3_lessens.data.toList.drop 24 = dktX3_lessens_1 := dk_seg dksX3_lessens_0 24 rfl rfl
theorem dksX3_lessens_2 : cX3_lessens.data.toList.drop 48 = dktX3_lessens_2 := dk_seg dksX3_lessens_1 24 rfl rfl
theorem dX3_lessens_0 : decode cX3_lessens 0 = .ok (.aload_n 0, 1) := dk_42 (dk_at dksX3_lessens_0 0 rfl rfl)
theorem dX3_lessens_1 : decode cX3_lessens 1 = .ok (.getfield 191, 3) := dk_180 0 191 (dk_at dksX3_lessens_0 1 rfl rfl)
theorem dX3_lessens_4 : decode cX3_lessens 4 = .ok (.lstore_n 1, 1) := dk_64 (dk_at dksX3_lessens_0 4 rfl rfl)
theorem dX3_lessens_5 : decode cX3_lessens 5 = .ok (.iconst 0, 1) := dk_3 (dk_at dksX3_lessens_0 5 rfl rfl)
theorem dX3_lessens_6 : decode cX3_lessens 6 = .ok (.istore_n 3, 1) := dk_62 (dk_at dksX3_lessens_0 6 rfl rfl)
theorem dX3_lessens_7 : decode cX3_lessens 7 = .ok (.iload_n 3, 1) := dk_29 (dk_at dksX3_lessens_0 7 rfl rfl)
theorem dX3_lessens_8 : decode cX3_lessens 8 = .ok (.bipush 9, 2) := dk_16 9 (dk_at dksX3_lessens_0 8 rfl rfl)
theorem dX3_lessens_10 : decode cX3_lessens 10 = .ok (.if_icmp .ge 20, 3) := dk_162 0 20 (dk_at dksX3_lessens_0 10 rfl rfl)
theorem dX3_lessens_13 : decode cX3_lessens 13 = .ok (.lload_n 1, 1) := dk_31 (dk_at dksX3_lessens_0 13 rfl rfl)
theorem dX3_lessens_14 : decode cX3_lessens 14 = .ok (.aload_n 0, 1) := dk_42 (dk_at dksX3_lessens_0 14 rfl rfl)
theorem dX3_lessens_15 : decode cX3_lessens 15 = .ok (.getfield 36, 3) := dk_180 0 36 (dk_at dksX3_lessens_0 15 rfl rfl)
theorem dX3_lessens_18 : decode cX3_lessens 18 = .ok (.iload_n 3, 1) := dk_29 (dk_at dksX3_lessens_0 18 rfl rfl)
theorem dX3_lessens_19 : decode cX3_lessens 19 = .ok (.laload, 1) := dk_47 (dk_at dksX3_lessens_0 19 rfl rfl)
theorem dX3_lessens_20 : decode cX3_lessens 20 = .ok (.invokestatic 207, 3) := dk_184 0 207 (dk_at dksX3_lessens_0 20 rfl rfl)
theorem dX3_lessens_23 : decode cX3_lessens 23 = .ok (.lstore_n 1, 1) := dk_64 (dk_at dksX3_lessens_0 23 rfl rfl)
theorem dX3_lessens_24 : decode cX3_lessens 24 = .ok (.iinc 3 1, 3) := dk_132 3 1 (dk_at dksX3_lessens_1 0 rfl rfl)
theorem dX3_lessens_27 : decode cX3_lessens 27 = .ok (.goto (-20), 3) := dk_167 255 236 (dk_at dksX3_lessens_1 3 rfl rfl)
theorem dX3_lessens_30 : decode cX3_lessens 30 = .ok (.iconst 0, 1) := dk_3 (dk_at dksX3_lessens_1 6 rfl rfl)
theorem dX3_lessens_31 : decode cX3_lessens 31 = .ok (.istore_n 3, 1) := dk_62 (dk_at dksX3_lessens_1 7 rfl rfl)
theorem dX3_lessens_32 : decode cX3_lessens 32 = .ok (.iload_n 3, 1) := dk_29 (dk_at dksX3_lessens_1 8 rfl rfl)
theorem dX3_lessens_33 : decode cX3_lessens 33 = .ok (.bipush 9, 2) := dk_16 9 (dk_at dksX3_lessens_1 9 rfl rfl)
theorem dX3_lessens_35 : decode cX3_lessens 35 = .ok (.if_icmp .ge 19, 3) := dk_162 0 19 (dk_at dksX3_lessens_1 11 rfl rfl)
theorem dX3_lessens_38 : decode cX3_lessens 38 = .ok (.aload_n 0, 1) := dk_42 (dk_at dksX3_lessens_1 14 rfl rfl)
theorem dX3_lessens_39 : decode cX3_lessens 39 = .ok (.getfield 36, 3) := dk_180 0 36 (dk_at dksX3_lessens_1 15 rfl rfl)
theorem dX3_lessens_42 : decode cX3_lessens 42 = .ok (.iload_n 3, 1) := dk_29 (dk_at dksX3_lessens_1 18 rfl rfl)
theorem dX3_lessens_43 : decode cX3_lessens 43 = .ok (.dup2, 1) := dk_92 (dk_at dksX3_lessens_1 19 rfl rfl)
theorem dX3_lessens_44 : decode cX3_lessens 44 = .ok (.laload, 1) := dk_47 (dk_at dksX3_lessens_1 20 rfl rfl)
theorem dX3_lessens_45 : decode cX3_lessens 45 = .ok (.lload_n 1, 1) := dk_31 (dk_at dksX3_lessens_1 21 rfl rfl)
theorem dX3_lessens_46 : decode cX3_lessens 46 = .ok (.ldiv, 1) := dk_109 (dk_at dksX3_lessens_1 22 rfl rfl)
theorem dX3_lessens_47 : decode cX3_lessens 47 = .ok (.lastore, 1) := dk_80 (dk_at dksX3_lessens_1 23 rfl rfl)
theorem dX3_lessens_48 : decode cX3_lessens 48 = .ok (.iinc 3 1, 3) := dk_132 3 1 (dk_at dksX3_lessens_2 0 rfl rfl)
theorem dX3_lessens_51 : decode cX3_lessens 51 = .ok (.goto (-19), 3) := dk_167 255 237 (dk_at dksX3_lessens_2 3 rfl rfl)
theorem dX3_lessens_54 : decode cX3_lessens 54 = .ok (.aload_n 0, 1) := dk_42 (dk_at dksX3_lessens_2 6 rfl rfl)
theorem dX3_lessens_55 : decode cX3_lessens 55 = .ok (.dup, 1) := dk_89 (dk_at dksX3_lessens_2 7 rfl rfl)
theorem dX3_lessens_56 : decode cX3_lessens 56 = .ok (.getfield 191, 3) := dk_180 0 191 (dk_at dksX3_lessens_2 8 rfl rfl)
theorem dX3_lessens_59 : decode cX3_lessens 59 = .ok (.lload_n 1, 1) := dk_31 (dk_at dksX3_lessens_2 11 rfl rfl)
theorem dX3_lessens_60 : decode cX3_lessens 60 = .ok (.ldiv, 1) := dk_109 (dk_at dksX3_lessens_2 12 rfl rfl)
theorem dX3_lessens_61 : decode cX3_lessens 61 = .ok (.putfield 191, 3) := dk_181 0 191 (dk_at dksX3_lessens_2 13 rfl rfl)
theorem dX3_lessens_64 : decode cX3_lessens 64 = .ok (.return_, 1) := dk_177 (dk_at dksX3_lessens_2 16 rfl rfl)
abbrev cX3_common : ByteArray := prog_20_method_3_code
def yX3_common : MethodName := ⟨RX3, "common", "(JJ)J"⟩
def dkwX3_common_1 : List UInt8 := [55, 8, 22, 6, 55, 4, 22, 8, 55, 6, 167, 255, 234, 22, 4, 173]
abbrev dktX3_common_1 : List UInt8 := dkwX3_common_1 ++ []
def dkwX3_common_0 : List UInt8 := [30, 184, 0, 1, 55, 4, 32, 184, 0, 1, 55, 6, 22, 6, 9, 148, 153, 0, 21, 22, 4, 22, 6, 113]
abbrev dktX3_common_0 : List UInt8 := dkwX3_common_0 ++ dktX3_common_1
theorem dksX3_common_0 : cX3_common.data.toList.drop 0 = dktX3_common_0 := by decide +kernel
theorem dksX3_common_1 : cX3_common.data.toList.drop 24 = dktX3_common_1 := dk_seg dksX3_common_0 24 rfl rfl
theorem dX3_common_0 : decode cX3_common 0 = .ok (.lload_n 0, 1) := dk_30 (dk_at dksX3_common_0 0 rfl rfl)
theorem dX3_common_1 : decode cX3_common 1 = .ok (.invokestatic 1, 3) := dk_184 0 1 (dk_at dksX3_common_0 1 rfl rfl)
theorem dX3_common_4 : decode cX3_common 4 = .ok (.lstore 4, 2) := dk_55 4 (dk_at dksX3_common_0 4 rfl rfl)
theorem dX3_common_6 : decode cX3_common 6 = .ok (.lload_n 2, 1) := dk_32 (dk_at dksX3_common_0 6 rfl rfl)
theorem dX3_common_7 : decode cX3_common 7 = .ok (.invokestatic 1, 3) := dk_184 0 1 (dk_at dksX3_common_0 7 rfl rfl)
theorem dX3_common_10 : decode cX3_common 10 = .ok (.lstore 6, 2) := dk_55 6 (dk_at dksX3_common_0 10 rfl rfl)
theorem dX3_common_12 : decode cX3_common 12 = .ok (.lload 6, 2) := dk_22 6 (dk_at dksX3_common_0 12 rfl rfl)
theorem dX3_common_14 : decode cX3_common 14 = .ok (.lconst 0, 1) := dk_9 (dk_at dksX3_common_0 14 rfl rfl)
theorem dX3_common_15 : decode cX3_common 15 = .ok (.lcmp, 1) := dk_148 (dk_at dksX3_common_0 15 rfl rfl)
theorem dX3_common_16 : decode cX3_common 16 = .ok (.ifCond .eq 21, 3) := dk_153 0 21 (dk_at dksX3_common_0 16 rfl rfl)
theorem dX3_common_19 : decode cX3_common 19 = .ok (.lload 4, 2) := dk_22 4 (dk_at dksX3_common_0 19 rfl rfl)
theorem dX3_common_21 : decode cX3_common 21 = .ok (.lload 6, 2) := dk_22 6 (dk_at dksX3_common_0 21 rfl rfl)
theorem dX3_common_23 : decode cX3_common 23 = .ok (.lrem, 1) := dk_113 (dk_at dksX3_common_0 23 rfl rfl)
theorem dX3_common_24 : decode cX3_common 24 = .ok (.lstore 8, 2) := dk_55 8 (dk_at dksX3_common_1 0 rfl rfl)
theorem dX3_common_26 : decode cX3_common 26 = .ok (.lload 6, 2) := dk_22 6 (dk_at dksX3_common_1 2 rfl rfl)
theorem dX3_common_28 : decode cX3_common 28 = .ok (.lstore 4, 2) := dk_55 4 (dk_at dksX3_common_1 4 rfl rfl)
theorem dX3_common_30 : decode cX3_common 30 = .ok (.lload 8, 2) := dk_22 8 (dk_at dksX3_common_1 6 rfl rfl)
theorem dX3_common_32 : decode cX3_common 32 = .ok (.lstore 6, 2) := dk_55 6 (dk_at dksX3_common_1 8 rfl rfl)
theorem dX3_common_34 : decode cX3_common 34 = .ok (.goto (-22), 3) := dk_167 255 234 (dk_at dksX3_common_1 10 rfl rfl)
theorem dX3_common_37 : decode cX3_common 37 = .ok (.lload 4, 2) := dk_22 4 (dk_at dksX3_common_1 13 rfl rfl)
theorem dX3_common_39 : decode cX3_common 39 = .ok (.lreturn, 1) := dk_173 (dk_at dksX3_common_1 15 rfl rfl)
abbrev cX3_over : ByteArray := prog_20_method_31_code
def yX3_over : MethodName := ⟨RX3, "over", "(I)I"⟩
def dkwX3_over_0 : List UInt8 := [42, 27, 182, 0, 211, 154, 0, 6, 16, 254, 172, 42, 27, 182, 0, 217, 42, 180, 0, 191, 136, 172]
abbrev dktX3_over_0 : List UInt8 := dkwX3_over_0 ++ []
theorem dksX3_over_0 : cX3_over.data.toList.drop 0 = dktX3_over_0 := by decide +kernel
theorem dX3_over_0 : decode cX3_over 0 = .ok (.aload_n 0, 1) := dk_42 (dk_at dksX3_over_0 0 rfl rfl)
theorem dX3_over_1 : decode cX3_over 1 = .ok (.iload_n 1, 1) := dk_27 (dk_at dksX3_over_0 1 rfl rfl)
theorem dX3_over_2 : decode cX3_over 2 = .ok (.invokevirtual 211, 3) := dk_182 0 211 (dk_at dksX3_over_0 2 rfl rfl)
theorem dX3_over_5 : decode cX3_over 5 = .ok (.ifCond .ne 6, 3) := dk_154 0 6 (dk_at dksX3_over_0 5 rfl rfl)
theorem dX3_over_8 : decode cX3_over 8 = .ok (.bipush (-2), 2) := dk_16 254 (dk_at dksX3_over_0 8 rfl rfl)
theorem dX3_over_10 : decode cX3_over 10 = .ok (.ireturn, 1) := dk_172 (dk_at dksX3_over_0 10 rfl rfl)
theorem dX3_over_11 : decode cX3_over 11 = .ok (.aload_n 0, 1) := dk_42 (dk_at dksX3_over_0 11 rfl rfl)
theorem dX3_over_12 : decode cX3_over 12 = .ok (.iload_n 1, 1) := dk_27 (dk_at dksX3_over_0 12 rfl rfl)
theorem dX3_over_13 : decode cX3_over 13 = .ok (.invokevirtual 217, 3) := dk_182 0 217 (dk_at dksX3_over_0 13 rfl rfl)
theorem dX3_over_16 : decode cX3_over 16 = .ok (.aload_n 0, 1) := dk_42 (dk_at dksX3_over_0 16 rfl rfl)
theorem dX3_over_17 : decode cX3_over 17 = .ok (.getfield 191, 3) := dk_180 0 191 (dk_at dksX3_over_0 17 rfl rfl)
theorem dX3_over_20 : decode cX3_over 20 = .ok (.l2i, 1) := dk_136 (dk_at dksX3_over_0 20 rfl rfl)
theorem dX3_over_21 : decode cX3_over 21 = .ok (.ireturn, 1) := dk_172 (dk_at dksX3_over_0 21 rfl rfl)
abbrev cX3_hermite : ByteArray := prog_20_method_38_code
def yX3_hermite : MethodName := ⟨RX3, "hermite", "(III)J"⟩
def dkwX3_hermite_1 : List UInt8 := [182, 0, 217, 42, 182, 0, 246, 42, 180, 0, 36, 6, 28, 104, 29, 96, 47, 173]
abbrev dktX3_hermite_1 : List UInt8 := dkwX3_hermite_1 ++ []
def dkwX3_hermite_0 : List UInt8 := [42, 27, 182, 0, 211, 153, 0, 11, 28, 29, 184, 0, 214, 154, 0, 7, 20, 0, 244, 173, 42, 27]
abbrev dktX3_hermite_0 : List UInt8 := dkwX3_hermite_0 ++ dktX3_hermite_1
theorem dksX3_hermite_0 : cX3_hermite.data.toList.drop 0 = dktX3_hermite_0 := by decide +kernel
theorem dksX3_hermite_1 : cX3_hermite.data.toList.drop 22 = dktX3_hermite_1 := dk_seg dksX3_hermite_0 22 rfl rfl
theorem dX3_hermite_0 : decode cX3_hermite 0 = .ok (.aload_n 0, 1) := dk_42 (dk_at dksX3_hermite_0 0 rfl rfl)
theorem dX3_hermite_1 : decode cX3_hermite 1 = .ok (.iload_n 1, 1) := dk_27 (dk_at dksX3_hermite_0 1 rfl rfl)
theorem dX3_hermite_2 : decode cX3_hermite 2 = .ok (.invokevirtual 211, 3) := dk_182 0 211 (dk_at dksX3_hermite_0 2 rfl rfl)
theorem dX3_hermite_5 : decode cX3_hermite 5 = .ok (.ifCond .eq 11, 3) := dk_153 0 11 (dk_at dksX3_hermite_0 5 rfl rfl)
theorem dX3_hermite_8 : decode cX3_hermite 8 = .ok (.iload_n 2, 1) := dk_28 (dk_at dksX3_hermite_0 8 rfl rfl)
theorem dX3_hermite_9 : decode cX3_hermite 9 = .ok (.iload_n 3, 1) := dk_29 (dk_at dksX3_hermite_0 9 rfl rfl)
theorem dX3_hermite_10 : decode cX3_hermite 10 = .ok (.invokestatic 214, 3) := dk_184 0 214 (dk_at dksX3_hermite_0 10 rfl rfl)
theorem dX3_hermite_13 : decode cX3_hermite 13 = .ok (.ifCond .ne 7, 3) := dk_154 0 7 (dk_at dksX3_hermite_0 13 rfl rfl)
theorem dX3_hermite_16 : decode cX3_hermite 16 = .ok (.ldc2_w 244, 3) := dk_20 0 244 (dk_at dksX3_hermite_0 16 rfl rfl)
theorem dX3_hermite_19 : decode cX3_hermite 19 = .ok (.lreturn, 1) := dk_173 (dk_at dksX3_hermite_0 19 rfl rfl)
theorem dX3_hermite_20 : decode cX3_hermite 20 = .ok (.aload_n 0, 1) := dk_42 (dk_at dksX3_hermite_0 20 rfl rfl)
theorem dX3_hermite_21 : decode cX3_hermite 21 = .ok (.iload_n 1, 1) := dk_27 (dk_at dksX3_hermite_0 21 rfl rfl)
theorem dX3_hermite_22 : decode cX3_hermite 22 = .ok (.invokevirtual 217, 3) := dk_182 0 217 (dk_at dksX3_hermite_1 0 rfl rfl)
theorem dX3_hermite_25 : decode cX3_hermite 25 = .ok (.aload_n 0, 1) := dk_42 (dk_at dksX3_hermite_1 3 rfl rfl)
theorem dX3_hermite_26 : decode cX3_hermite 26 = .ok (.invokevirtual 246, 3) := dk_182 0 246 (dk_at dksX3_hermite_1 4 rfl rfl)
theorem dX3_hermite_29 : decode cX3_hermite 29 = .ok (.aload_n 0, 1) := dk_42 (dk_at dksX3_hermite_1 7 rfl rfl)
theorem dX3_hermite_30 : decode cX3_hermite 30 = .ok (.getfield 36, 3) := dk_180 0 36 (dk_at dksX3_hermite_1 8 rfl rfl)
theorem dX3_hermite_33 : decode cX3_hermite 33 = .ok (.iconst 3, 1) := dk_6 (dk_at dksX3_hermite_1 11 rfl rfl)
theorem dX3_hermite_34 : decode cX3_hermite 34 = .ok (.iload_n 2, 1) := dk_28 (dk_at dksX3_hermite_1 12 rfl rfl)
theorem dX3_hermite_35 : decode cX3_hermite 35 = .ok (.imul, 1) := dk_104 (dk_at dksX3_hermite_1 13 rfl rfl)
theorem dX3_hermite_36 : decode cX3_hermite 36 = .ok (.iload_n 3, 1) := dk_29 (dk_at dksX3_hermite_1 14 rfl rfl)
theorem dX3_hermite_37 : decode cX3_hermite 37 = .ok (.iadd, 1) := dk_96 (dk_at dksX3_hermite_1 15 rfl rfl)
theorem dX3_hermite_38 : decode cX3_hermite 38 = .ok (.laload, 1) := dk_47 (dk_at dksX3_hermite_1 16 rfl rfl)
theorem dX3_hermite_39 : decode cX3_hermite 39 = .ok (.lreturn, 1) := dk_173 (dk_at dksX3_hermite_1 17 rfl rfl)
abbrev cX3_forms : ByteArray := prog_20_method_37_code
def yX3_forms : MethodName := ⟨RX3, "forms", "()V"⟩
def dkwX3_forms_9 : List UInt8 := [167, 255, 54, 177]
abbrev dktX3_forms_9 : List UInt8 := dkwX3_forms_9 ++ []
def dkwX3_forms_8 : List UInt8 := [33, 9, 148, 153, 0, 10, 42, 28, 27, 33, 182, 0, 237, 132, 2, 1, 167, 255, 210, 132, 1, 1]
abbrev dktX3_forms_8 : List UInt8 := dkwX3_forms_8 ++ dktX3_forms_9
def dkwX3_forms_7 : List UInt8 := [180, 0, 36, 6, 28, 104, 27, 96, 47, 42, 180, 0, 36, 6, 27, 104, 27, 96, 47, 184, 0, 241, 117, 66]
abbrev dktX3_forms_7 : List UInt8 := dkwX3_forms_7 ++ dktX3_forms_8
def dkwX3_forms_6 : List UInt8 := [80, 132, 2, 1, 167, 255, 227, 42, 5, 27, 2, 9, 182, 0, 223, 3, 61, 28, 27, 162, 0, 47, 42]
abbrev dktX3_forms_6 : List UInt8 := dkwX3_forms_6 ++ dktX3_forms_7
def dkwX3_forms_5 : List UInt8 := [6, 162, 0, 30, 42, 180, 0, 36, 6, 27, 104, 28, 96, 42, 180, 0, 36, 6, 27, 104, 28, 96, 47, 117]
abbrev dktX3_forms_5 : List UInt8 := dkwX3_forms_5 ++ dktX3_forms_6
def dkwX3_forms_4 : List UInt8 := [167, 255, 205, 167, 255, 173, 42, 180, 0, 36, 6, 27, 104, 27, 96, 47, 9, 148, 156, 0, 45, 3, 61, 28]
abbrev dktX3_forms_4 : List UInt8 := dkwX3_forms_4 ++ dktX3_forms_5
def dkwX3_forms_3 : List UInt8 := [104, 27, 96, 47, 42, 180, 0, 36, 6, 27, 104, 27, 96, 47, 109, 117, 182, 0, 237, 132, 3, 1]
abbrev dktX3_forms_3 : List UInt8 := dkwX3_forms_3 ++ dktX3_forms_4
def dkwX3_forms_2 : List UInt8 := [42, 180, 0, 36, 6, 29, 104, 27, 96, 47, 9, 148, 153, 0, 31, 42, 29, 27, 42, 180, 0, 36, 6, 29]
abbrev dktX3_forms_2 : List UInt8 := dkwX3_forms_2 ++ dktX3_forms_3
def dkwX3_forms_1 : List UInt8 := [182, 0, 230, 61, 28, 27, 159, 0, 9, 42, 27, 28, 182, 0, 233, 27, 4, 96, 62, 29, 6, 162, 0, 52]
abbrev dktX3_forms_1 : List UInt8 := dkwX3_forms_1 ++ dktX3_forms_2
def dkwX3_forms_0 : List UInt8 := [42, 3, 181, 0, 220, 3, 60, 27, 6, 162, 0, 203, 42, 27, 182, 0, 227, 153, 0, 81, 42, 27]
abbrev dktX3_forms_0 : List UInt8 := dkwX3_forms_0 ++ dktX3_forms_1
theorem dksX3_forms_0 : cX3_forms.data.toList.drop 0 = dktX3_forms_0 := by decide +kernel
theorem dksX3_forms_1 : cX3_forms.data.toList.drop 22 = dktX3_forms_1 := dk_seg dksX3_forms_0 22 rfl rfl
theorem dksX3_forms_2 : cX3_forms.data.toList.drop 46 = dktX3_forms_2 := dk_seg dksX3_forms_1 24 rfl rfl
theorem dksX3_forms_3 : cX3_forms.data.toList.drop 70 = dktX3_forms_3 := dk_seg dksX3_forms_2 24 rfl rfl
theorem dksX3_forms_4 : cX3_forms.data.toList.drop 92 = dktX3_forms_4 := dk_seg dksX3_forms_3 22 rfl rfl
theorem dksX3_forms_5 : cX3_forms.data.toList.drop 116 = dktX3_forms_5 := dk_seg dksX3_forms_4 24 rfl rfl
theorem dksX3_forms_6 : cX3_forms.data.toList.drop 140 = dktX3_forms_6 := dk_seg dksX3_forms_5 24 rfl rfl
theorem dksX3_forms_7 : cX3_forms.data.toList.drop 163 = dktX3_forms_7 := dk_seg dksX3_forms_6 23 rfl rfl
theorem dksX3_forms_8 : cX3_forms.data.toList.drop 187 = dktX3_forms_8 := dk_seg dksX3_forms_7 24 rfl rfl
theorem dksX3_forms_9 : cX3_forms.data.toList.drop 209 = dktX3_forms_9 := dk_seg dksX3_forms_8 22 rfl rfl
theorem dX3_forms_0 : decode cX3_forms 0 = .ok (.aload_n 0, 1) := dk_42 (dk_at dksX3_forms_0 0 rfl rfl)
theorem dX3_forms_1 : decode cX3_forms 1 = .ok (.iconst 0, 1) := dk_3 (dk_at dksX3_forms_0 1 rfl rfl)
theorem dX3_forms_2 : decode cX3_forms 2 = .ok (.putfield 220, 3) := dk_181 0 220 (dk_at dksX3_forms_0 2 rfl rfl)
theorem dX3_forms_5 : decode cX3_forms 5 = .ok (.iconst 0, 1) := dk_3 (dk_at dksX3_forms_0 5 rfl rfl)
theorem dX3_forms_6 : decode cX3_forms 6 = .ok (.istore_n 1, 1) := dk_60 (dk_at dksX3_forms_0 6 rfl rfl)
theorem dX3_forms_7 : decode cX3_forms 7 = .ok (.iload_n 1, 1) := dk_27 (dk_at dksX3_forms_0 7 rfl rfl)
theorem dX3_forms_8 : decode cX3_forms 8 = .ok (.iconst 3, 1) := dk_6 (dk_at dksX3_forms_0 8 rfl rfl)
theorem dX3_forms_9 : decode cX3_forms 9 = .ok (.if_icmp .ge 203, 3) := dk_162 0 203 (dk_at dksX3_forms_0 9 rfl rfl)
theorem dX3_forms_12 : decode cX3_forms 12 = .ok (.aload_n 0, 1) := dk_42 (dk_at dksX3_forms_0 12 rfl rfl)
theorem dX3_forms_13 : decode cX3_forms 13 = .ok (.iload_n 1, 1) := dk_27 (dk_at dksX3_forms_0 13 rfl rfl)
theorem dX3_forms_14 : decode cX3_forms 14 = .ok (.invokevirtual 227, 3) := dk_182 0 227 (dk_at dksX3_forms_0 14 rfl rfl)
theorem dX3_forms_17 : decode cX3_forms 17 = .ok (.ifCond .eq 81, 3) := dk_153 0 81 (dk_at dksX3_forms_0 17 rfl rfl)
theorem dX3_forms_20 : decode cX3_forms 20 = .ok (.aload_n 0, 1) := dk_42 (dk_at dksX3_forms_0 20 rfl rfl)
theorem dX3_forms_21 : decode cX3_forms 21 = .ok (.iload_n 1, 1) := dk_27 (dk_at dksX3_forms_0 21 rfl rfl)
theorem dX3_forms_22 : decode cX3_forms 22 = .ok (.invokevirtual 230, 3) := dk_182 0 230 (dk_at dksX3_forms_1 0 rfl rfl)
theorem dX3_forms_25 : decode cX3_forms 25 = .ok (.istore_n 2, 1) := dk_61 (dk_at dksX3_forms_1 3 rfl rfl)
theorem dX3_forms_26 : decode cX3_forms 26 = .ok (.iload_n 2, 1) := dk_28 (dk_at dksX3_forms_1 4 rfl rfl)
theorem dX3_forms_27 : decode cX3_forms 27 = .ok (.iload_n 1, 1) := dk_27 (dk_at dksX3_forms_1 5 rfl rfl)
theorem dX3_forms_28 : decode cX3_forms 28 = .ok (.if_icmp .eq 9, 3) := dk_159 0 9 (dk_at dksX3_forms_1 6 rfl rfl)
theorem dX3_forms_31 : decode cX3_forms 31 = .ok (.aload_n 0, 1) := dk_42 (dk_at dksX3_forms_1 9 rfl rfl)
theorem dX3_forms_32 : decode cX3_forms 32 = .ok (.iload_n 1, 1) := dk_27 (dk_at dksX3_forms_1 10 rfl rfl)
theorem dX3_forms_33 : decode cX3_forms 33 = .ok (.iload_n 2, 1) := dk_28 (dk_at dksX3_forms_1 11 rfl rfl)
theorem dX3_forms_34 : decode cX3_forms 34 = .ok (.invokevirtual 233, 3) := dk_182 0 233 (dk_at dksX3_forms_1 12 rfl rfl)
theorem dX3_forms_37 : decode cX3_forms 37 = .ok (.iload_n 1, 1) := dk_27 (dk_at dksX3_forms_1 15 rfl rfl)
theorem dX3_forms_38 : decode cX3_forms 38 = .ok (.iconst 1, 1) := dk_4 (dk_at dksX3_forms_1 16 rfl rfl)
theorem dX3_forms_39 : decode cX3_forms 39 = .ok (.iadd, 1) := dk_96 (dk_at dksX3_forms_1 17 rfl rfl)
theorem dX3_forms_40 : decode cX3_forms 40 = .ok (.istore_n 3, 1) := dk_62 (dk_at dksX3_forms_1 18 rfl rfl)
theorem dX3_forms_41 : decode cX3_forms 41 = .ok (.iload_n 3, 1) := dk_29 (dk_at dksX3_forms_1 19 rfl rfl)
theorem dX3_forms_42 : decode cX3_forms 42 = .ok (.iconst 3, 1) := dk_6 (dk_at dksX3_forms_1 20 rfl rfl)
theorem dX3_forms_43 : decode cX3_forms 43 = .ok (.if_icmp .ge 52, 3) := dk_162 0 52 (dk_at dksX3_forms_1 21 rfl rfl)
theorem dX3_forms_46 : decode cX3_forms 46 = .ok (.aload_n 0, 1) := dk_42 (dk_at dksX3_forms_2 0 rfl rfl)
theorem dX3_forms_47 : decode cX3_forms 47 = .ok (.getfield 36, 3) := dk_180 0 36 (dk_at dksX3_forms_2 1 rfl rfl)
theorem dX3_forms_50 : decode cX3_forms 50 = .ok (.iconst 3, 1) := dk_6 (dk_at dksX3_forms_2 4 rfl rfl)
theorem dX3_forms_51 : decode cX3_forms 51 = .ok (.iload_n 3, 1) := dk_29 (dk_at dksX3_forms_2 5 rfl rfl)
theorem dX3_forms_52 : decode cX3_forms 52 = .ok (.imul, 1) := dk_104 (dk_at dksX3_forms_2 6 rfl rfl)
theorem dX3_forms_53 : decode cX3_forms 53 = .ok (.iload_n 1, 1) := dk_27 (dk_at dksX3_forms_2 7 rfl rfl)
theorem dX3_forms_54 : decode cX3_forms 54 = .ok (.iadd, 1) := dk_96 (dk_at dksX3_forms_2 8 rfl rfl)
theorem dX3_forms_55 : decode cX3_forms 55 = .ok (.laload, 1) := dk_47 (dk_at dksX3_forms_2 9 rfl rfl)
theorem dX3_forms_56 : decode cX3_forms 56 = .ok (.lconst 0, 1) := dk_9 (dk_at dksX3_forms_2 10 rfl rfl)
theorem dX3_forms_57 : decode cX3_forms 57 = .ok (.lcmp, 1) := dk_148 (dk_at dksX3_forms_2 11 rfl rfl)
theorem dX3_forms_58 : decode cX3_forms 58 = .ok (.ifCond .eq 31, 3) := dk_153 0 31 (dk_at dksX3_forms_2 12 rfl rfl)
theorem dX3_forms_61 : decode cX3_forms 61 = .ok (.aload_n 0, 1) := dk_42 (dk_at dksX3_forms_2 15 rfl rfl)
theorem dX3_forms_62 : decode cX3_forms 62 = .ok (.iload_n 3, 1) := dk_29 (dk_at dksX3_forms_2 16 rfl rfl)
theorem dX3_forms_63 : decode cX3_forms 63 = .ok (.iload_n 1, 1) := dk_27 (dk_at dksX3_forms_2 17 rfl rfl)
theorem dX3_forms_64 : decode cX3_forms 64 = .ok (.aload_n 0, 1) := dk_42 (dk_at dksX3_forms_2 18 rfl rfl)
theorem dX3_forms_65 : decode cX3_forms 65 = .ok (.getfield 36, 3) := dk_180 0 36 (dk_at dksX3_forms_2 19 rfl rfl)
theorem dX3_forms_68 : decode cX3_forms 68 = .ok (.iconst 3, 1) := dk_6 (dk_at dksX3_forms_2 22 rfl rfl)
theorem dX3_forms_69 : decode cX3_forms 69 = .ok (.iload_n 3, 1) := dk_29 (dk_at dksX3_forms_2 23 rfl rfl)
theorem dX3_forms_70 : decode cX3_forms 70 = .ok (.imul, 1) := dk_104 (dk_at dksX3_forms_3 0 rfl rfl)
theorem dX3_forms_71 : decode cX3_forms 71 = .ok (.iload_n 1, 1) := dk_27 (dk_at dksX3_forms_3 1 rfl rfl)
theorem dX3_forms_72 : decode cX3_forms 72 = .ok (.iadd, 1) := dk_96 (dk_at dksX3_forms_3 2 rfl rfl)
theorem dX3_forms_73 : decode cX3_forms 73 = .ok (.laload, 1) := dk_47 (dk_at dksX3_forms_3 3 rfl rfl)
theorem dX3_forms_74 : decode cX3_forms 74 = .ok (.aload_n 0, 1) := dk_42 (dk_at dksX3_forms_3 4 rfl rfl)
theorem dX3_forms_75 : decode cX3_forms 75 = .ok (.getfield 36, 3) := dk_180 0 36 (dk_at dksX3_forms_3 5 rfl rfl)
theorem dX3_forms_78 : decode cX3_forms 78 = .ok (.iconst 3, 1) := dk_6 (dk_at dksX3_forms_3 8 rfl rfl)
theorem dX3_forms_79 : decode cX3_forms 79 = .ok (.iload_n 1, 1) := dk_27 (dk_at dksX3_forms_3 9 rfl rfl)
theorem dX3_forms_80 : decode cX3_forms 80 = .ok (.imul, 1) := dk_104 (dk_at dksX3_forms_3 10 rfl rfl)
theorem dX3_forms_81 : decode cX3_forms 81 = .ok (.iload_n 1, 1) := dk_27 (dk_at dksX3_forms_3 11 rfl rfl)
theorem dX3_forms_82 : decode cX3_forms 82 = .ok (.iadd, 1) := dk_96 (dk_at dksX3_forms_3 12 rfl rfl)
theorem dX3_forms_83 : decode cX3_forms 83 = .ok (.laload, 1) := dk_47 (dk_at dksX3_forms_3 13 rfl rfl)
theorem dX3_forms_84 : decode cX3_forms 84 = .ok (.ldiv, 1) := dk_109 (dk_at dksX3_forms_3 14 rfl rfl)
theorem dX3_forms_85 : decode cX3_forms 85 = .ok (.lneg, 1) := dk_117 (dk_at dksX3_forms_3 15 rfl rfl)
theorem dX3_forms_86 : decode cX3_forms 86 = .ok (.invokevirtual 237, 3) := dk_182 0 237 (dk_at dksX3_forms_3 16 rfl rfl)
theorem dX3_forms_89 : decode cX3_forms 89 = .ok (.iinc 3 1, 3) := dk_132 3 1 (dk_at dksX3_forms_3 19 rfl rfl)
theorem dX3_forms_92 : decode cX3_forms 92 = .ok (.goto (-51), 3) := dk_167 255 205 (dk_at dksX3_forms_4 0 rfl rfl)
theorem dX3_forms_95 : decode cX3_forms 95 = .ok (.goto (-83), 3) := dk_167 255 173 (dk_at dksX3_forms_4 3 rfl rfl)
theorem dX3_forms_98 : decode cX3_forms 98 = .ok (.aload_n 0, 1) := dk_42 (dk_at dksX3_forms_4 6 rfl rfl)
theorem dX3_forms_99 : decode cX3_forms 99 = .ok (.getfield 36, 3) := dk_180 0 36 (dk_at dksX3_forms_4 7 rfl rfl)
theorem dX3_forms_102 : decode cX3_forms 102 = .ok (.iconst 3, 1) := dk_6 (dk_at dksX3_forms_4 10 rfl rfl)
theorem dX3_forms_103 : decode cX3_forms 103 = .ok (.iload_n 1, 1) := dk_27 (dk_at dksX3_forms_4 11 rfl rfl)
theorem dX3_forms_104 : decode cX3_forms 104 = .ok (.imul, 1) := dk_104 (dk_at dksX3_forms_4 12 rfl rfl)
theorem dX3_forms_105 : decode cX3_forms 105 = .ok (.iload_n 1, 1) := dk_27 (dk_at dksX3_forms_4 13 rfl rfl)
theorem dX3_forms_106 : decode cX3_forms 106 = .ok (.iadd, 1) := dk_96 (dk_at dksX3_forms_4 14 rfl rfl)
theorem dX3_forms_107 : decode cX3_forms 107 = .ok (.laload, 1) := dk_47 (dk_at dksX3_forms_4 15 rfl rfl)
theorem dX3_forms_108 : decode cX3_forms 108 = .ok (.lconst 0, 1) := dk_9 (dk_at dksX3_forms_4 16 rfl rfl)
theorem dX3_forms_109 : decode cX3_forms 109 = .ok (.lcmp, 1) := dk_148 (dk_at dksX3_forms_4 17 rfl rfl)
theorem dX3_forms_110 : decode cX3_forms 110 = .ok (.ifCond .ge 45, 3) := dk_156 0 45 (dk_at dksX3_forms_4 18 rfl rfl)
theorem dX3_forms_113 : decode cX3_forms 113 = .ok (.iconst 0, 1) := dk_3 (dk_at dksX3_forms_4 21 rfl rfl)
theorem dX3_forms_114 : decode cX3_forms 114 = .ok (.istore_n 2, 1) := dk_61 (dk_at dksX3_forms_4 22 rfl rfl)
theorem dX3_forms_115 : decode cX3_forms 115 = .ok (.iload_n 2, 1) := dk_28 (dk_at dksX3_forms_4 23 rfl rfl)
theorem dX3_forms_116 : decode cX3_forms 116 = .ok (.iconst 3, 1) := dk_6 (dk_at dksX3_forms_5 0 rfl rfl)
theorem dX3_forms_117 : decode cX3_forms 117 = .ok (.if_icmp .ge 30, 3) := dk_162 0 30 (dk_at dksX3_forms_5 1 rfl rfl)
theorem dX3_forms_120 : decode cX3_forms 120 = .ok (.aload_n 0, 1) := dk_42 (dk_at dksX3_forms_5 4 rfl rfl)
theorem dX3_forms_121 : decode cX3_forms 121 = .ok (.getfield 36, 3) := dk_180 0 36 (dk_at dksX3_forms_5 5 rfl rfl)
theorem dX3_forms_124 : decode cX3_forms 124 = .ok (.iconst 3, 1) := dk_6 (dk_at dksX3_forms_5 8 rfl rfl)
theorem dX3_forms_125 : decode cX3_forms 125 = .ok (.iload_n 1, 1) := dk_27 (dk_at dksX3_forms_5 9 rfl rfl)
theorem dX3_forms_126 : decode cX3_forms 126 = .ok (.imul, 1) := dk_104 (dk_at dksX3_forms_5 10 rfl rfl)
theorem dX3_forms_127 : decode cX3_forms 127 = .ok (.iload_n 2, 1) := dk_28 (dk_at dksX3_forms_5 11 rfl rfl)
theorem dX3_forms_128 : decode cX3_forms 128 = .ok (.iadd, 1) := dk_96 (dk_at dksX3_forms_5 12 rfl rfl)
theorem dX3_forms_129 : decode cX3_forms 129 = .ok (.aload_n 0, 1) := dk_42 (dk_at dksX3_forms_5 13 rfl rfl)
theorem dX3_forms_130 : decode cX3_forms 130 = .ok (.getfield 36, 3) := dk_180 0 36 (dk_at dksX3_forms_5 14 rfl rfl)
theorem dX3_forms_133 : decode cX3_forms 133 = .ok (.iconst 3, 1) := dk_6 (dk_at dksX3_forms_5 17 rfl rfl)
theorem dX3_forms_134 : decode cX3_forms 134 = .ok (.iload_n 1, 1) := dk_27 (dk_at dksX3_forms_5 18 rfl rfl)
theorem dX3_forms_135 : decode cX3_forms 135 = .ok (.imul, 1) := dk_104 (dk_at dksX3_forms_5 19 rfl rfl)
theorem dX3_forms_136 : decode cX3_forms 136 = .ok (.iload_n 2, 1) := dk_28 (dk_at dksX3_forms_5 20 rfl rfl)
theorem dX3_forms_137 : decode cX3_forms 137 = .ok (.iadd, 1) := dk_96 (dk_at dksX3_forms_5 21 rfl rfl)
theorem dX3_forms_138 : decode cX3_forms 138 = .ok (.laload, 1) := dk_47 (dk_at dksX3_forms_5 22 rfl rfl)
theorem dX3_forms_139 : decode cX3_forms 139 = .ok (.lneg, 1) := dk_117 (dk_at dksX3_forms_5 23 rfl rfl)
theorem dX3_forms_140 : decode cX3_forms 140 = .ok (.lastore, 1) := dk_80 (dk_at dksX3_forms_6 0 rfl rfl)
theorem dX3_forms_141 : decode cX3_forms 141 = .ok (.iinc 2 1, 3) := dk_132 2 1 (dk_at dksX3_forms_6 1 rfl rfl)
theorem dX3_forms_144 : decode cX3_forms 144 = .ok (.goto (-29), 3) := dk_167 255 227 (dk_at dksX3_forms_6 4 rfl rfl)
theorem dX3_forms_147 : decode cX3_forms 147 = .ok (.aload_n 0, 1) := dk_42 (dk_at dksX3_forms_6 7 rfl rfl)
theorem dX3_forms_148 : decode cX3_forms 148 = .ok (.iconst 2, 1) := dk_5 (dk_at dksX3_forms_6 8 rfl rfl)
theorem dX3_forms_149 : decode cX3_forms 149 = .ok (.iload_n 1, 1) := dk_27 (dk_at dksX3_forms_6 9 rfl rfl)
theorem dX3_forms_150 : decode cX3_forms 150 = .ok (.iconst (-1), 1) := dk_2 (dk_at dksX3_forms_6 10 rfl rfl)
theorem dX3_forms_151 : decode cX3_forms 151 = .ok (.lconst 0, 1) := dk_9 (dk_at dksX3_forms_6 11 rfl rfl)
theorem dX3_forms_152 : decode cX3_forms 152 = .ok (.invokevirtual 223, 3) := dk_182 0 223 (dk_at dksX3_forms_6 12 rfl rfl)
theorem dX3_forms_155 : decode cX3_forms 155 = .ok (.iconst 0, 1) := dk_3 (dk_at dksX3_forms_6 15 rfl rfl)
theorem dX3_forms_156 : decode cX3_forms 156 = .ok (.istore_n 2, 1) := dk_61 (dk_at dksX3_forms_6 16 rfl rfl)
theorem dX3_forms_157 : decode cX3_forms 157 = .ok (.iload_n 2, 1) := dk_28 (dk_at dksX3_forms_6 17 rfl rfl)
theorem dX3_forms_158 : decode cX3_forms 158 = .ok (.iload_n 1, 1) := dk_27 (dk_at dksX3_forms_6 18 rfl rfl)
theorem dX3_forms_159 : decode cX3_forms 159 = .ok (.if_icmp .ge 47, 3) := dk_162 0 47 (dk_at dksX3_forms_6 19 rfl rfl)
theorem dX3_forms_162 : decode cX3_forms 162 = .ok (.aload_n 0, 1) := dk_42 (dk_at dksX3_forms_6 22 rfl rfl)
theorem dX3_forms_163 : decode cX3_forms 163 = .ok (.getfield 36, 3) := dk_180 0 36 (dk_at dksX3_forms_7 0 rfl rfl)
theorem dX3_forms_166 : decode cX3_forms 166 = .ok (.iconst 3, 1) := dk_6 (dk_at dksX3_forms_7 3 rfl rfl)
theorem dX3_forms_167 : decode cX3_forms 167 = .ok (.iload_n 2, 1) := dk_28 (dk_at dksX3_forms_7 4 rfl rfl)
theorem dX3_forms_168 : decode cX3_forms 168 = .ok (.imul, 1) := dk_104 (dk_at dksX3_forms_7 5 rfl rfl)
theorem dX3_forms_169 : decode cX3_forms 169 = .ok (.iload_n 1, 1) := dk_27 (dk_at dksX3_forms_7 6 rfl rfl)
theorem dX3_forms_170 : decode cX3_forms 170 = .ok (.iadd, 1) := dk_96 (dk_at dksX3_forms_7 7 rfl rfl)
theorem dX3_forms_171 : decode cX3_forms 171 = .ok (.laload, 1) := dk_47 (dk_at dksX3_forms_7 8 rfl rfl)
theorem dX3_forms_172 : decode cX3_forms 172 = .ok (.aload_n 0, 1) := dk_42 (dk_at dksX3_forms_7 9 rfl rfl)
theorem dX3_forms_173 : decode cX3_forms 173 = .ok (.getfield 36, 3) := dk_180 0 36 (dk_at dksX3_forms_7 10 rfl rfl)
theorem dX3_forms_176 : decode cX3_forms 176 = .ok (.iconst 3, 1) := dk_6 (dk_at dksX3_forms_7 13 rfl rfl)
theorem dX3_forms_177 : decode cX3_forms 177 = .ok (.iload_n 1, 1) := dk_27 (dk_at dksX3_forms_7 14 rfl rfl)
theorem dX3_forms_178 : decode cX3_forms 178 = .ok (.imul, 1) := dk_104 (dk_at dksX3_forms_7 15 rfl rfl)
theorem dX3_forms_179 : decode cX3_forms 179 = .ok (.iload_n 1, 1) := dk_27 (dk_at dksX3_forms_7 16 rfl rfl)
theorem dX3_forms_180 : decode cX3_forms 180 = .ok (.iadd, 1) := dk_96 (dk_at dksX3_forms_7 17 rfl rfl)
theorem dX3_forms_181 : decode cX3_forms 181 = .ok (.laload, 1) := dk_47 (dk_at dksX3_forms_7 18 rfl rfl)
theorem dX3_forms_182 : decode cX3_forms 182 = .ok (.invokestatic 241, 3) := dk_184 0 241 (dk_at dksX3_forms_7 19 rfl rfl)
theorem dX3_forms_185 : decode cX3_forms 185 = .ok (.lneg, 1) := dk_117 (dk_at dksX3_forms_7 22 rfl rfl)
theorem dX3_forms_186 : decode cX3_forms 186 = .ok (.lstore_n 3, 1) := dk_66 (dk_at dksX3_forms_7 23 rfl rfl)
theorem dX3_forms_187 : decode cX3_forms 187 = .ok (.lload_n 3, 1) := dk_33 (dk_at dksX3_forms_8 0 rfl rfl)
theorem dX3_forms_188 : decode cX3_forms 188 = .ok (.lconst 0, 1) := dk_9 (dk_at dksX3_forms_8 1 rfl rfl)
theorem dX3_forms_189 : decode cX3_forms 189 = .ok (.lcmp, 1) := dk_148 (dk_at dksX3_forms_8 2 rfl rfl)
theorem dX3_forms_190 : decode cX3_forms 190 = .ok (.ifCond .eq 10, 3) := dk_153 0 10 (dk_at dksX3_forms_8 3 rfl rfl)
theorem dX3_forms_193 : decode cX3_forms 193 = .ok (.aload_n 0, 1) := dk_42 (dk_at dksX3_forms_8 6 rfl rfl)
theorem dX3_forms_194 : decode cX3_forms 194 = .ok (.iload_n 2, 1) := dk_28 (dk_at dksX3_forms_8 7 rfl rfl)
theorem dX3_forms_195 : decode cX3_forms 195 = .ok (.iload_n 1, 1) := dk_27 (dk_at dksX3_forms_8 8 rfl rfl)
theorem dX3_forms_196 : decode cX3_forms 196 = .ok (.lload_n 3, 1) := dk_33 (dk_at dksX3_forms_8 9 rfl rfl)
theorem dX3_forms_197 : decode cX3_forms 197 = .ok (.invokevirtual 237, 3) := dk_182 0 237 (dk_at dksX3_forms_8 10 rfl rfl)
theorem dX3_forms_200 : decode cX3_forms 200 = .ok (.iinc 2 1, 3) := dk_132 2 1 (dk_at dksX3_forms_8 13 rfl rfl)
theorem dX3_forms_203 : decode cX3_forms 203 = .ok (.goto (-46), 3) := dk_167 255 210 (dk_at dksX3_forms_8 16 rfl rfl)
theorem dX3_forms_206 : decode cX3_forms 206 = .ok (.iinc 1 1, 3) := dk_132 1 1 (dk_at dksX3_forms_8 19 rfl rfl)
theorem dX3_forms_209 : decode cX3_forms 209 = .ok (.goto (-202), 3) := dk_167 255 54 (dk_at dksX3_forms_9 0 rfl rfl)
theorem dX3_forms_212 : decode cX3_forms 212 = .ok (.return_, 1) := dk_177 (dk_at dksX3_forms_9 3 rfl rfl)
abbrev cX3_hasBelow : ByteArray := prog_20_method_35_code
def yX3_hasBelow : MethodName := ⟨RX3, "hasBelow", "(I)Z"⟩
def dkwX3_hasBelow_1 : List UInt8 := [4, 172, 132, 2, 1, 167, 255, 231, 3, 172]
abbrev dktX3_hasBelow_1 : List UInt8 := dkwX3_hasBelow_1 ++ []
def dkwX3_hasBelow_0 : List UInt8 := [27, 4, 96, 61, 28, 6, 162, 0, 26, 42, 180, 0, 36, 6, 28, 104, 27, 96, 47, 9, 148, 153, 0, 5]
abbrev dktX3_hasBelow_0 : List UInt8 := dkwX3_hasBelow_0 ++ dktX3_hasBelow_1
theorem dksX3_hasBelow_0 : cX3_hasBelow.data.toList.drop 0 = dktX3_hasBelow_0 := by decide +kernel
theorem dksX3_hasBelow_1 : cX3_hasBelow.data.toList.drop 24 = dktX3_hasBelow_1 := dk_seg dksX3_hasBelow_0 24 rfl rfl
theorem dX3_hasBelow_0 : decode cX3_hasBelow 0 = .ok (.iload_n 1, 1) := dk_27 (dk_at dksX3_hasBelow_0 0 rfl rfl)
theorem dX3_hasBelow_1 : decode cX3_hasBelow 1 = .ok (.iconst 1, 1) := dk_4 (dk_at dksX3_hasBelow_0 1 rfl rfl)
theorem dX3_hasBelow_2 : decode cX3_hasBelow 2 = .ok (.iadd, 1) := dk_96 (dk_at dksX3_hasBelow_0 2 rfl rfl)
theorem dX3_hasBelow_3 : decode cX3_hasBelow 3 = .ok (.istore_n 2, 1) := dk_61 (dk_at dksX3_hasBelow_0 3 rfl rfl)
theorem dX3_hasBelow_4 : decode cX3_hasBelow 4 = .ok (.iload_n 2, 1) := dk_28 (dk_at dksX3_hasBelow_0 4 rfl rfl)
theorem dX3_hasBelow_5 : decode cX3_hasBelow 5 = .ok (.iconst 3, 1) := dk_6 (dk_at dksX3_hasBelow_0 5 rfl rfl)
theorem dX3_hasBelow_6 : decode cX3_hasBelow 6 = .ok (.if_icmp .ge 26, 3) := dk_162 0 26 (dk_at dksX3_hasBelow_0 6 rfl rfl)
theorem dX3_hasBelow_9 : decode cX3_hasBelow 9 = .ok (.aload_n 0, 1) := dk_42 (dk_at dksX3_hasBelow_0 9 rfl rfl)
theorem dX3_hasBelow_10 : decode cX3_hasBelow 10 = .ok (.getfield 36, 3) := dk_180 0 36 (dk_at dksX3_hasBelow_0 10 rfl rfl)
theorem dX3_hasBelow_13 : decode cX3_hasBelow 13 = .ok (.iconst 3, 1) := dk_6 (dk_at dksX3_hasBelow_0 13 rfl rfl)
theorem dX3_hasBelow_14 : decode cX3_hasBelow 14 = .ok (.iload_n 2, 1) := dk_28 (dk_at dksX3_hasBelow_0 14 rfl rfl)
theorem dX3_hasBelow_15 : decode cX3_hasBelow 15 = .ok (.imul, 1) := dk_104 (dk_at dksX3_hasBelow_0 15 rfl rfl)
theorem dX3_hasBelow_16 : decode cX3_hasBelow 16 = .ok (.iload_n 1, 1) := dk_27 (dk_at dksX3_hasBelow_0 16 rfl rfl)
theorem dX3_hasBelow_17 : decode cX3_hasBelow 17 = .ok (.iadd, 1) := dk_96 (dk_at dksX3_hasBelow_0 17 rfl rfl)
theorem dX3_hasBelow_18 : decode cX3_hasBelow 18 = .ok (.laload, 1) := dk_47 (dk_at dksX3_hasBelow_0 18 rfl rfl)
theorem dX3_hasBelow_19 : decode cX3_hasBelow 19 = .ok (.lconst 0, 1) := dk_9 (dk_at dksX3_hasBelow_0 19 rfl rfl)
theorem dX3_hasBelow_20 : decode cX3_hasBelow 20 = .ok (.lcmp, 1) := dk_148 (dk_at dksX3_hasBelow_0 20 rfl rfl)
theorem dX3_hasBelow_21 : decode cX3_hasBelow 21 = .ok (.ifCond .eq 5, 3) := dk_153 0 5 (dk_at dksX3_hasBelow_0 21 rfl rfl)
theorem dX3_hasBelow_24 : decode cX3_hasBelow 24 = .ok (.iconst 1, 1) := dk_4 (dk_at dksX3_hasBelow_1 0 rfl rfl)
theorem dX3_hasBelow_25 : decode cX3_hasBelow 25 = .ok (.ireturn, 1) := dk_172 (dk_at dksX3_hasBelow_1 1 rfl rfl)
theorem dX3_hasBelow_26 : decode cX3_hasBelow 26 = .ok (.iinc 2 1, 3) := dk_132 2 1 (dk_at dksX3_hasBelow_1 2 rfl rfl)
theorem dX3_hasBelow_29 : decode cX3_hasBelow 29 = .ok (.goto (-25), 3) := dk_167 255 231 (dk_at dksX3_hasBelow_1 5 rfl rfl)
theorem dX3_hasBelow_32 : decode cX3_hasBelow 32 = .ok (.iconst 0, 1) := dk_3 (dk_at dksX3_hasBelow_1 8 rfl rfl)
theorem dX3_hasBelow_33 : decode cX3_hasBelow 33 = .ok (.ireturn, 1) := dk_172 (dk_at dksX3_hasBelow_1 9 rfl rfl)
abbrev cX3_leastRow : ByteArray := prog_20_method_36_code
def yX3_leastRow : MethodName := ⟨RX3, "leastRow", "(I)I"⟩
def dkwX3_leastRow_2 : List UInt8 := [184, 0, 1, 148, 156, 0, 5, 29, 61, 132, 3, 1, 167, 255, 200, 28, 172]
abbrev dktX3_leastRow_2 : List UInt8 := dkwX3_leastRow_2 ++ []
def dkwX3_leastRow_1 : List UInt8 := [22, 4, 9, 148, 153, 0, 29, 28, 2, 159, 0, 22, 22, 4, 42, 180, 0, 36, 6, 28, 104, 27, 96, 47]
abbrev dktX3_leastRow_1 : List UInt8 := dkwX3_leastRow_1 ++ dktX3_leastRow_2
def dkwX3_leastRow_0 : List UInt8 := [2, 61, 27, 62, 29, 6, 162, 0, 57, 42, 180, 0, 36, 6, 29, 104, 27, 96, 47, 184, 0, 1, 55, 4]
abbrev dktX3_leastRow_0 : List UInt8 := dkwX3_leastRow_0 ++ dktX3_leastRow_1
theorem dksX3_leastRow_0 : cX3_leastRow.data.toList.drop 0 = dktX3_leastRow_0 := by decide +kernel
theorem dksX3_leastRow_1 : cX3_leastRow.data.toList.drop 24 = dktX3_leastRow_1 := dk_seg dksX3_leastRow_0 24 rfl rfl
theorem dksX3_leastRow_2 : cX3_leastRow.data.toList.drop 48 = dktX3_leastRow_2 := dk_seg dksX3_leastRow_1 24 rfl rfl
theorem dX3_leastRow_0 : decode cX3_leastRow 0 = .ok (.iconst (-1), 1) := dk_2 (dk_at dksX3_leastRow_0 0 rfl rfl)
theorem dX3_leastRow_1 : decode cX3_leastRow 1 = .ok (.istore_n 2, 1) := dk_61 (dk_at dksX3_leastRow_0 1 rfl rfl)
theorem dX3_leastRow_2 : decode cX3_leastRow 2 = .ok (.iload_n 1, 1) := dk_27 (dk_at dksX3_leastRow_0 2 rfl rfl)
theorem dX3_leastRow_3 : decode cX3_leastRow 3 = .ok (.istore_n 3, 1) := dk_62 (dk_at dksX3_leastRow_0 3 rfl rfl)
theorem dX3_leastRow_4 : decode cX3_leastRow 4 = .ok (.iload_n 3, 1) := dk_29 (dk_at dksX3_leastRow_0 4 rfl rfl)
theorem dX3_leastRow_5 : decode cX3_leastRow 5 = .ok (.iconst 3, 1) := dk_6 (dk_at dksX3_leastRow_0 5 rfl rfl)
theorem dX3_leastRow_6 : decode cX3_leastRow 6 = .ok (.if_icmp .ge 57, 3) := dk_162 0 57 (dk_at dksX3_leastRow_0 6 rfl rfl)
theorem dX3_leastRow_9 : decode cX3_leastRow 9 = .ok (.aload_n 0, 1) := dk_42 (dk_at dksX3_leastRow_0 9 rfl rfl)
theorem dX3_leastRow_10 : decode cX3_leastRow 10 = .ok (.getfield 36, 3) := dk_180 0 36 (dk_at dksX3_leastRow_0 10 rfl rfl)
theorem dX3_leastRow_13 : decode cX3_leastRow 13 = .ok (.iconst 3, 1) := dk_6 (dk_at dksX3_leastRow_0 13 rfl rfl)
theorem dX3_leastRow_14 : decode cX3_leastRow 14 = .ok (.iload_n 3, 1) := dk_29 (dk_at dksX3_leastRow_0 14 rfl rfl)
theorem dX3_leastRow_15 : decode cX3_leastRow 15 = .ok (.imul, 1) := dk_104 (dk_at dksX3_leastRow_0 15 rfl rfl)
theorem dX3_leastRow_16 : decode cX3_leastRow 16 = .ok (.iload_n 1, 1) := dk_27 (dk_at dksX3_leastRow_0 16 rfl rfl)
theorem dX3_leastRow_17 : decode cX3_leastRow 17 = .ok (.iadd, 1) := dk_96 (dk_at dksX3_leastRow_0 17 rfl rfl)
theorem dX3_leastRow_18 : decode cX3_leastRow 18 = .ok (.laload, 1) := dk_47 (dk_at dksX3_leastRow_0 18 rfl rfl)
theorem dX3_leastRow_19 : decode cX3_leastRow 19 = .ok (.invokestatic 1, 3) := dk_184 0 1 (dk_at dksX3_leastRow_0 19 rfl rfl)
theorem dX3_leastRow_22 : decode cX3_leastRow 22 = .ok (.lstore 4, 2) := dk_55 4 (dk_at dksX3_leastRow_0 22 rfl rfl)
theorem dX3_leastRow_24 : decode cX3_leastRow 24 = .ok (.lload 4, 2) := dk_22 4 (dk_at dksX3_leastRow_1 0 rfl rfl)
theorem dX3_leastRow_26 : decode cX3_leastRow 26 = .ok (.lconst 0, 1) := dk_9 (dk_at dksX3_leastRow_1 2 rfl rfl)
theorem dX3_leastRow_27 : decode cX3_leastRow 27 = .ok (.lcmp, 1) := dk_148 (dk_at dksX3_leastRow_1 3 rfl rfl)
theorem dX3_leastRow_28 : decode cX3_leastRow 28 = .ok (.ifCond .eq 29, 3) := dk_153 0 29 (dk_at dksX3_leastRow_1 4 rfl rfl)
theorem dX3_leastRow_31 : decode cX3_leastRow 31 = .ok (.iload_n 2, 1) := dk_28 (dk_at dksX3_leastRow_1 7 rfl rfl)
theorem dX3_leastRow_32 : decode cX3_leastRow 32 = .ok (.iconst (-1), 1) := dk_2 (dk_at dksX3_leastRow_1 8 rfl rfl)
theorem dX3_leastRow_33 : decode cX3_leastRow 33 = .ok (.if_icmp .eq 22, 3) := dk_159 0 22 (dk_at dksX3_leastRow_1 9 rfl rfl)
theorem dX3_leastRow_36 : decode cX3_leastRow 36 = .ok (.lload 4, 2) := dk_22 4 (dk_at dksX3_leastRow_1 12 rfl rfl)
theorem dX3_leastRow_38 : decode cX3_leastRow 38 = .ok (.aload_n 0, 1) := dk_42 (dk_at dksX3_leastRow_1 14 rfl rfl)
theorem dX3_leastRow_39 : decode cX3_leastRow 39 = .ok (.getfield 36, 3) := dk_180 0 36 (dk_at dksX3_leastRow_1 15 rfl rfl)
theorem dX3_leastRow_42 : decode cX3_leastRow 42 = .ok (.iconst 3, 1) := dk_6 (dk_at dksX3_leastRow_1 18 rfl rfl)
theorem dX3_leastRow_43 : decode cX3_leastRow 43 = .ok (.iload_n 2, 1) := dk_28 (dk_at dksX3_leastRow_1 19 rfl rfl)
theorem dX3_leastRow_44 : decode cX3_leastRow 44 = .ok (.imul, 1) := dk_104 (dk_at dksX3_leastRow_1 20 rfl rfl)
theorem dX3_leastRow_45 : decode cX3_leastRow 45 = .ok (.iload_n 1, 1) := dk_27 (dk_at dksX3_leastRow_1 21 rfl rfl)
theorem dX3_leastRow_46 : decode cX3_leastRow 46 = .ok (.iadd, 1) := dk_96 (dk_at dksX3_leastRow_1 22 rfl rfl)
theorem dX3_leastRow_47 : decode cX3_leastRow 47 = .ok (.laload, 1) := dk_47 (dk_at dksX3_leastRow_1 23 rfl rfl)
theorem dX3_leastRow_48 : decode cX3_leastRow 48 = .ok (.invokestatic 1, 3) := dk_184 0 1 (dk_at dksX3_leastRow_2 0 rfl rfl)
theorem dX3_leastRow_51 : decode cX3_leastRow 51 = .ok (.lcmp, 1) := dk_148 (dk_at dksX3_leastRow_2 3 rfl rfl)
theorem dX3_leastRow_52 : decode cX3_leastRow 52 = .ok (.ifCond .ge 5, 3) := dk_156 0 5 (dk_at dksX3_leastRow_2 4 rfl rfl)
theorem dX3_leastRow_55 : decode cX3_leastRow 55 = .ok (.iload_n 3, 1) := dk_29 (dk_at dksX3_leastRow_2 7 rfl rfl)
theorem dX3_leastRow_56 : decode cX3_leastRow 56 = .ok (.istore_n 2, 1) := dk_61 (dk_at dksX3_leastRow_2 8 rfl rfl)
theorem dX3_leastRow_57 : decode cX3_leastRow 57 = .ok (.iinc 3 1, 3) := dk_132 3 1 (dk_at dksX3_leastRow_2 9 rfl rfl)
theorem dX3_leastRow_60 : decode cX3_leastRow 60 = .ok (.goto (-56), 3) := dk_167 255 200 (dk_at dksX3_leastRow_2 12 rfl rfl)
theorem dX3_leastRow_63 : decode cX3_leastRow 63 = .ok (.iload_n 2, 1) := dk_28 (dk_at dksX3_leastRow_2 15 rfl rfl)
theorem dX3_leastRow_64 : decode cX3_leastRow 64 = .ok (.ireturn, 1) := dk_172 (dk_at dksX3_leastRow_2 16 rfl rfl)
abbrev cX3_exchangesRows : ByteArray := prog_20_method_34_code
def yX3_exchangesRows : MethodName := ⟨RX3, "exchangesRows", "(II)V"⟩
def dkwX3_exchangesRows_2 : List UInt8 := [22, 4, 80, 132, 3, 1, 167, 255, 204, 42, 3, 27, 28, 9, 182, 0, 223, 177]
abbrev dktX3_exchangesRows_2 : List UInt8 := dkwX3_exchangesRows_2 ++ []
def dkwX3_exchangesRows_1 : List UInt8 := [27, 104, 29, 96, 42, 180, 0, 36, 6, 28, 104, 29, 96, 47, 80, 42, 180, 0, 36, 6, 28, 104, 29, 96]
abbrev dktX3_exchangesRows_1 : List UInt8 := dkwX3_exchangesRows_1 ++ dktX3_exchangesRows_2
def dkwX3_exchangesRows_0 : List UInt8 := [3, 62, 29, 6, 162, 0, 53, 42, 180, 0, 36, 6, 27, 104, 29, 96, 47, 55, 4, 42, 180, 0, 36, 6]
abbrev dktX3_exchangesRows_0 : List UInt8 := dkwX3_exchangesRows_0 ++ dktX3_exchangesRows_1
theorem dksX3_exchangesRows_0 : cX3_exchangesRows.data.toList.drop 0 = dktX3_exchangesRows_0 := by decide +kernel
theorem dksX3_exchangesRows_1 : cX3_exchangesRows.data.toList.drop 24 = dktX3_exchangesRows_1 := dk_seg dksX3_exchangesRows_0 24 rfl rfl
theorem dksX3_exchangesRows_2 : cX3_exchangesRows.data.toList.drop 48 = dktX3_exchangesRows_2 := dk_seg dksX3_exchangesRows_1 24 rfl rfl
theorem dX3_exchangesRows_0 : decode cX3_exchangesRows 0 = .ok (.iconst 0, 1) := dk_3 (dk_at dksX3_exchangesRows_0 0 rfl rfl)
theorem dX3_exchangesRows_1 : decode cX3_exchangesRows 1 = .ok (.istore_n 3, 1) := dk_62 (dk_at dksX3_exchangesRows_0 1 rfl rfl)
theorem dX3_exchangesRows_2 : decode cX3_exchangesRows 2 = .ok (.iload_n 3, 1) := dk_29 (dk_at dksX3_exchangesRows_0 2 rfl rfl)
theorem dX3_exchangesRows_3 : decode cX3_exchangesRows 3 = .ok (.iconst 3, 1) := dk_6 (dk_at dksX3_exchangesRows_0 3 rfl rfl)
theorem dX3_exchangesRows_4 : decode cX3_exchangesRows 4 = .ok (.if_icmp .ge 53, 3) := dk_162 0 53 (dk_at dksX3_exchangesRows_0 4 rfl rfl)
theorem dX3_exchangesRows_7 : decode cX3_exchangesRows 7 = .ok (.aload_n 0, 1) := dk_42 (dk_at dksX3_exchangesRows_0 7 rfl rfl)
theorem dX3_exchangesRows_8 : decode cX3_exchangesRows 8 = .ok (.getfield 36, 3) := dk_180 0 36 (dk_at dksX3_exchangesRows_0 8 rfl rfl)
theorem dX3_exchangesRows_11 : decode cX3_exchangesRows 11 = .ok (.iconst 3, 1) := dk_6 (dk_at dksX3_exchangesRows_0 11 rfl rfl)
theorem dX3_exchangesRows_12 : decode cX3_exchangesRows 12 = .ok (.iload_n 1, 1) := dk_27 (dk_at dksX3_exchangesRows_0 12 rfl rfl)
theorem dX3_exchangesRows_13 : decode cX3_exchangesRows 13 = .ok (.imul, 1) := dk_104 (dk_at dksX3_exchangesRows_0 13 rfl rfl)
theorem dX3_exchangesRows_14 : decode cX3_exchangesRows 14 = .ok (.iload_n 3, 1) := dk_29 (dk_at dksX3_exchangesRows_0 14 rfl rfl)
theorem dX3_exchangesRows_15 : decode cX3_exchangesRows 15 = .ok (.iadd, 1) := dk_96 (dk_at dksX3_exchangesRows_0 15 rfl rfl)
theorem dX3_exchangesRows_16 : decode cX3_exchangesRows 16 = .ok (.laload, 1) := dk_47 (dk_at dksX3_exchangesRows_0 16 rfl rfl)
theorem dX3_exchangesRows_17 : decode cX3_exchangesRows 17 = .ok (.lstore 4, 2) := dk_55 4 (dk_at dksX3_exchangesRows_0 17 rfl rfl)
theorem dX3_exchangesRows_19 : decode cX3_exchangesRows 19 = .ok (.aload_n 0, 1) := dk_42 (dk_at dksX3_exchangesRows_0 19 rfl rfl)
theorem dX3_exchangesRows_20 : decode cX3_exchangesRows 20 = .ok (.getfield 36, 3) := dk_180 0 36 (dk_at dksX3_exchangesRows_0 20 rfl rfl)
theorem dX3_exchangesRows_23 : decode cX3_exchangesRows 23 = .ok (.iconst 3, 1) := dk_6 (dk_at dksX3_exchangesRows_0 23 rfl rfl)
theorem dX3_exchangesRows_24 : decode cX3_exchangesRows 24 = .ok (.iload_n 1, 1) := dk_27 (dk_at dksX3_exchangesRows_1 0 rfl rfl)
theorem dX3_exchangesRows_25 : decode cX3_exchangesRows 25 = .ok (.imul, 1) := dk_104 (dk_at dksX3_exchangesRows_1 1 rfl rfl)
theorem dX3_exchangesRows_26 : decode cX3_exchangesRows 26 = .ok (.iload_n 3, 1) := dk_29 (dk_at dksX3_exchangesRows_1 2 rfl rfl)
theorem dX3_exchangesRows_27 : decode cX3_exchangesRows 27 = .ok (.iadd, 1) := dk_96 (dk_at dksX3_exchangesRows_1 3 rfl rfl)
theorem dX3_exchangesRows_28 : decode cX3_exchangesRows 28 = .ok (.aload_n 0, 1) := dk_42 (dk_at dksX3_exchangesRows_1 4 rfl rfl)
theorem dX3_exchangesRows_29 : decode cX3_exchangesRows 29 = .ok (.getfield 36, 3) := dk_180 0 36 (dk_at dksX3_exchangesRows_1 5 rfl rfl)
theorem dX3_exchangesRows_32 : decode cX3_exchangesRows 32 = .ok (.iconst 3, 1) := dk_6 (dk_at dksX3_exchangesRows_1 8 rfl rfl)
theorem dX3_exchangesRows_33 : decode cX3_exchangesRows 33 = .ok (.iload_n 2, 1) := dk_28 (dk_at dksX3_exchangesRows_1 9 rfl rfl)
theorem dX3_exchangesRows_34 : decode cX3_exchangesRows 34 = .ok (.imul, 1) := dk_104 (dk_at dksX3_exchangesRows_1 10 rfl rfl)
theorem dX3_exchangesRows_35 : decode cX3_exchangesRows 35 = .ok (.iload_n 3, 1) := dk_29 (dk_at dksX3_exchangesRows_1 11 rfl rfl)
theorem dX3_exchangesRows_36 : decode cX3_exchangesRows 36 = .ok (.iadd, 1) := dk_96 (dk_at dksX3_exchangesRows_1 12 rfl rfl)
theorem dX3_exchangesRows_37 : decode cX3_exchangesRows 37 = .ok (.laload, 1) := dk_47 (dk_at dksX3_exchangesRows_1 13 rfl rfl)
theorem dX3_exchangesRows_38 : decode cX3_exchangesRows 38 = .ok (.lastore, 1) := dk_80 (dk_at dksX3_exchangesRows_1 14 rfl rfl)
theorem dX3_exchangesRows_39 : decode cX3_exchangesRows 39 = .ok (.aload_n 0, 1) := dk_42 (dk_at dksX3_exchangesRows_1 15 rfl rfl)
theorem dX3_exchangesRows_40 : decode cX3_exchangesRows 40 = .ok (.getfield 36, 3) := dk_180 0 36 (dk_at dksX3_exchangesRows_1 16 rfl rfl)
theorem dX3_exchangesRows_43 : decode cX3_exchangesRows 43 = .ok (.iconst 3, 1) := dk_6 (dk_at dksX3_exchangesRows_1 19 rfl rfl)
theorem dX3_exchangesRows_44 : decode cX3_exchangesRows 44 = .ok (.iload_n 2, 1) := dk_28 (dk_at dksX3_exchangesRows_1 20 rfl rfl)
theorem dX3_exchangesRows_45 : decode cX3_exchangesRows 45 = .ok (.imul, 1) := dk_104 (dk_at dksX3_exchangesRows_1 21 rfl rfl)
theorem dX3_exchangesRows_46 : decode cX3_exchangesRows 46 = .ok (.iload_n 3, 1) := dk_29 (dk_at dksX3_exchangesRows_1 22 rfl rfl)
theorem dX3_exchangesRows_47 : decode cX3_exchangesRows 47 = .ok (.iadd, 1) := dk_96 (dk_at dksX3_exchangesRows_1 23 rfl rfl)
theorem dX3_exchangesRows_48 : decode cX3_exchangesRows 48 = .ok (.lload 4, 2) := dk_22 4 (dk_at dksX3_exchangesRows_2 0 rfl rfl)
theorem dX3_exchangesRows_50 : decode cX3_exchangesRows 50 = .ok (.lastore, 1) := dk_80 (dk_at dksX3_exchangesRows_2 2 rfl rfl)
theorem dX3_exchangesRows_51 : decode cX3_exchangesRows 51 = .ok (.iinc 3 1, 3) := dk_132 3 1 (dk_at dksX3_exchangesRows_2 3 rfl rfl)
theorem dX3_exchangesRows_54 : decode cX3_exchangesRows 54 = .ok (.goto (-52), 3) := dk_167 255 204 (dk_at dksX3_exchangesRows_2 6 rfl rfl)
theorem dX3_exchangesRows_57 : decode cX3_exchangesRows 57 = .ok (.aload_n 0, 1) := dk_42 (dk_at dksX3_exchangesRows_2 9 rfl rfl)
theorem dX3_exchangesRows_58 : decode cX3_exchangesRows 58 = .ok (.iconst 0, 1) := dk_3 (dk_at dksX3_exchangesRows_2 10 rfl rfl)
theorem dX3_exchangesRows_59 : decode cX3_exchangesRows 59 = .ok (.iload_n 1, 1) := dk_27 (dk_at dksX3_exchangesRows_2 11 rfl rfl)
theorem dX3_exchangesRows_60 : decode cX3_exchangesRows 60 = .ok (.iload_n 2, 1) := dk_28 (dk_at dksX3_exchangesRows_2 12 rfl rfl)
theorem dX3_exchangesRows_61 : decode cX3_exchangesRows 61 = .ok (.lconst 0, 1) := dk_9 (dk_at dksX3_exchangesRows_2 13 rfl rfl)
theorem dX3_exchangesRows_62 : decode cX3_exchangesRows 62 = .ok (.invokevirtual 223, 3) := dk_182 0 223 (dk_at dksX3_exchangesRows_2 14 rfl rfl)
theorem dX3_exchangesRows_65 : decode cX3_exchangesRows 65 = .ok (.return_, 1) := dk_177 (dk_at dksX3_exchangesRows_2 17 rfl rfl)
abbrev cX3_step : ByteArray := prog_20_method_32_code
def yX3_step : MethodName := ⟨RX3, "step", "(IIIJ)V"⟩
def dkwX3_step_2 : List UInt8 := [181, 0, 220, 177]
abbrev dktX3_step_2 : List UInt8 := dkwX3_step_2 ++ []
def dkwX3_step_1 : List UInt8 := [42, 180, 0, 220, 29, 79, 42, 180, 0, 52, 42, 180, 0, 220, 22, 4, 80, 42, 89, 180, 0, 220, 4, 96]
abbrev dktX3_step_1 : List UInt8 := dkwX3_step_1 ++ dktX3_step_2
def dkwX3_step_0 : List UInt8 := [42, 180, 0, 43, 42, 180, 0, 220, 27, 79, 42, 180, 0, 46, 42, 180, 0, 220, 28, 79, 42, 180, 0, 49]
abbrev dktX3_step_0 : List UInt8 := dkwX3_step_0 ++ dktX3_step_1
theorem dksX3_step_0 : cX3_step.data.toList.drop 0 = dktX3_step_0 := by decide +kernel
theorem dksX3_step_1 : cX3_step.data.toList.drop 24 = dktX3_step_1 := dk_seg dksX3_step_0 24 rfl rfl
theorem dksX3_step_2 : cX3_step.data.toList.drop 48 = dktX3_step_2 := dk_seg dksX3_step_1 24 rfl rfl
theorem dX3_step_0 : decode cX3_step 0 = .ok (.aload_n 0, 1) := dk_42 (dk_at dksX3_step_0 0 rfl rfl)
theorem dX3_step_1 : decode cX3_step 1 = .ok (.getfield 43, 3) := dk_180 0 43 (dk_at dksX3_step_0 1 rfl rfl)
theorem dX3_step_4 : decode cX3_step 4 = .ok (.aload_n 0, 1) := dk_42 (dk_at dksX3_step_0 4 rfl rfl)
theorem dX3_step_5 : decode cX3_step 5 = .ok (.getfield 220, 3) := dk_180 0 220 (dk_at dksX3_step_0 5 rfl rfl)
theorem dX3_step_8 : decode cX3_step 8 = .ok (.iload_n 1, 1) := dk_27 (dk_at dksX3_step_0 8 rfl rfl)
theorem dX3_step_9 : decode cX3_step 9 = .ok (.iastore, 1) := dk_79 (dk_at dksX3_step_0 9 rfl rfl)
theorem dX3_step_10 : decode cX3_step 10 = .ok (.aload_n 0, 1) := dk_42 (dk_at dksX3_step_0 10 rfl rfl)
theorem dX3_step_11 : decode cX3_step 11 = .ok (.getfield 46, 3) := dk_180 0 46 (dk_at dksX3_step_0 11 rfl rfl)
theorem dX3_step_14 : decode cX3_step 14 = .ok (.aload_n 0, 1) := dk_42 (dk_at dksX3_step_0 14 rfl rfl)
theorem dX3_step_15 : decode cX3_step 15 = .ok (.getfield 220, 3) := dk_180 0 220 (dk_at dksX3_step_0 15 rfl rfl)
theorem dX3_step_18 : decode cX3_step 18 = .ok (.iload_n 2, 1) := dk_28 (dk_at dksX3_step_0 18 rfl rfl)
theorem dX3_step_19 : decode cX3_step 19 = .ok (.iastore, 1) := dk_79 (dk_at dksX3_step_0 19 rfl rfl)
theorem dX3_step_20 : decode cX3_step 20 = .ok (.aload_n 0, 1) := dk_42 (dk_at dksX3_step_0 20 rfl rfl)
theorem dX3_step_21 : decode cX3_step 21 = .ok (.getfield 49, 3) := dk_180 0 49 (dk_at dksX3_step_0 21 rfl rfl)
theorem dX3_step_24 : decode cX3_step 24 = .ok (.aload_n 0, 1) := dk_42 (dk_at dksX3_step_1 0 rfl rfl)
theorem dX3_step_25 : decode cX3_step 25 = .ok (.getfield 220, 3) := dk_180 0 220 (dk_at dksX3_step_1 1 rfl rfl)
theorem dX3_step_28 : decode cX3_step 28 = .ok (.iload_n 3, 1) := dk_29 (dk_at dksX3_step_1 4 rfl rfl)
theorem dX3_step_29 : decode cX3_step 29 = .ok (.iastore, 1) := dk_79 (dk_at dksX3_step_1 5 rfl rfl)
theorem dX3_step_30 : decode cX3_step 30 = .ok (.aload_n 0, 1) := dk_42 (dk_at dksX3_step_1 6 rfl rfl)
theorem dX3_step_31 : decode cX3_step 31 = .ok (.getfield 52, 3) := dk_180 0 52 (dk_at dksX3_step_1 7 rfl rfl)
theorem dX3_step_34 : decode cX3_step 34 = .ok (.aload_n 0, 1) := dk_42 (dk_at dksX3_step_1 10 rfl rfl)
theorem dX3_step_35 : decode cX3_step 35 = .ok (.getfield 220, 3) := dk_180 0 220 (dk_at dksX3_step_1 11 rfl rfl)
theorem dX3_step_38 : decode cX3_step 38 = .ok (.lload 4, 2) := dk_22 4 (dk_at dksX3_step_1 14 rfl rfl)
theorem dX3_step_40 : decode cX3_step 40 = .ok (.lastore, 1) := dk_80 (dk_at dksX3_step_1 16 rfl rfl)
theorem dX3_step_41 : decode cX3_step 41 = .ok (.aload_n 0, 1) := dk_42 (dk_at dksX3_step_1 17 rfl rfl)
theorem dX3_step_42 : decode cX3_step 42 = .ok (.dup, 1) := dk_89 (dk_at dksX3_step_1 18 rfl rfl)
theorem dX3_step_43 : decode cX3_step 43 = .ok (.getfield 220, 3) := dk_180 0 220 (dk_at dksX3_step_1 19 rfl rfl)
theorem dX3_step_46 : decode cX3_step 46 = .ok (.iconst 1, 1) := dk_4 (dk_at dksX3_step_1 22 rfl rfl)
theorem dX3_step_47 : decode cX3_step 47 = .ok (.iadd, 1) := dk_96 (dk_at dksX3_step_1 23 rfl rfl)
theorem dX3_step_48 : decode cX3_step 48 = .ok (.putfield 220, 3) := dk_181 0 220 (dk_at dksX3_step_2 0 rfl rfl)
theorem dX3_step_51 : decode cX3_step 51 = .ok (.return_, 1) := dk_177 (dk_at dksX3_step_2 3 rfl rfl)
abbrev cX3_addsRow : ByteArray := prog_20_method_33_code
def yX3_addsRow : MethodName := ⟨RX3, "addsRow", "(IIJ)V"⟩
def dkwX3_addsRow_2 : List UInt8 := [182, 0, 223, 177]
abbrev dktX3_addsRow_2 : List UInt8 := dkwX3_addsRow_2 ++ []
def dkwX3_addsRow_1 : List UInt8 := [180, 0, 36, 6, 28, 104, 21, 5, 96, 47, 105, 97, 80, 132, 5, 1, 167, 255, 220, 42, 4, 27, 28, 33]
abbrev dktX3_addsRow_1 : List UInt8 := dkwX3_addsRow_1 ++ dktX3_addsRow_2
def dkwX3_addsRow_0 : List UInt8 := [3, 54, 5, 21, 5, 6, 162, 0, 36, 42, 180, 0, 36, 6, 27, 104, 21, 5, 96, 92, 47, 33, 42]
abbrev dktX3_addsRow_0 : List UInt8 := dkwX3_addsRow_0 ++ dktX3_addsRow_1
theorem dksX3_addsRow_0 : cX3_addsRow.data.toList.drop 0 = dktX3_addsRow_0 := by decide +kernel
theorem dksX3_addsRow_1 : cX3_addsRow.data.toList.drop 23 = dktX3_addsRow_1 := dk_seg dksX3_addsRow_0 23 rfl rfl
theorem dksX3_addsRow_2 : cX3_addsRow.data.toList.drop 47 = dktX3_addsRow_2 := dk_seg dksX3_addsRow_1 24 rfl rfl
theorem dX3_addsRow_0 : decode cX3_addsRow 0 = .ok (.iconst 0, 1) := dk_3 (dk_at dksX3_addsRow_0 0 rfl rfl)
theorem dX3_addsRow_1 : decode cX3_addsRow 1 = .ok (.istore 5, 2) := dk_54 5 (dk_at dksX3_addsRow_0 1 rfl rfl)
theorem dX3_addsRow_3 : decode cX3_addsRow 3 = .ok (.iload 5, 2) := dk_21 5 (dk_at dksX3_addsRow_0 3 rfl rfl)
theorem dX3_addsRow_5 : decode cX3_addsRow 5 = .ok (.iconst 3, 1) := dk_6 (dk_at dksX3_addsRow_0 5 rfl rfl)
theorem dX3_addsRow_6 : decode cX3_addsRow 6 = .ok (.if_icmp .ge 36, 3) := dk_162 0 36 (dk_at dksX3_addsRow_0 6 rfl rfl)
theorem dX3_addsRow_9 : decode cX3_addsRow 9 = .ok (.aload_n 0, 1) := dk_42 (dk_at dksX3_addsRow_0 9 rfl rfl)
theorem dX3_addsRow_10 : decode cX3_addsRow 10 = .ok (.getfield 36, 3) := dk_180 0 36 (dk_at dksX3_addsRow_0 10 rfl rfl)
theorem dX3_addsRow_13 : decode cX3_addsRow 13 = .ok (.iconst 3, 1) := dk_6 (dk_at dksX3_addsRow_0 13 rfl rfl)
theorem dX3_addsRow_14 : decode cX3_addsRow 14 = .ok (.iload_n 1, 1) := dk_27 (dk_at dksX3_addsRow_0 14 rfl rfl)
theorem dX3_addsRow_15 : decode cX3_addsRow 15 = .ok (.imul, 1) := dk_104 (dk_at dksX3_addsRow_0 15 rfl rfl)
theorem dX3_addsRow_16 : decode cX3_addsRow 16 = .ok (.iload 5, 2) := dk_21 5 (dk_at dksX3_addsRow_0 16 rfl rfl)
theorem dX3_addsRow_18 : decode cX3_addsRow 18 = .ok (.iadd, 1) := dk_96 (dk_at dksX3_addsRow_0 18 rfl rfl)
theorem dX3_addsRow_19 : decode cX3_addsRow 19 = .ok (.dup2, 1) := dk_92 (dk_at dksX3_addsRow_0 19 rfl rfl)
theorem dX3_addsRow_20 : decode cX3_addsRow 20 = .ok (.laload, 1) := dk_47 (dk_at dksX3_addsRow_0 20 rfl rfl)
theorem dX3_addsRow_21 : decode cX3_addsRow 21 = .ok (.lload_n 3, 1) := dk_33 (dk_at dksX3_addsRow_0 21 rfl rfl)
theorem dX3_addsRow_22 : decode cX3_addsRow 22 = .ok (.aload_n 0, 1) := dk_42 (dk_at dksX3_addsRow_0 22 rfl rfl)
theorem dX3_addsRow_23 : decode cX3_addsRow 23 = .ok (.getfield 36, 3) := dk_180 0 36 (dk_at dksX3_addsRow_1 0 rfl rfl)
theorem dX3_addsRow_26 : decode cX3_addsRow 26 = .ok (.iconst 3, 1) := dk_6 (dk_at dksX3_addsRow_1 3 rfl rfl)
theorem dX3_addsRow_27 : decode cX3_addsRow 27 = .ok (.iload_n 2, 1) := dk_28 (dk_at dksX3_addsRow_1 4 rfl rfl)
theorem dX3_addsRow_28 : decode cX3_addsRow 28 = .ok (.imul, 1) := dk_104 (dk_at dksX3_addsRow_1 5 rfl rfl)
theorem dX3_addsRow_29 : decode cX3_addsRow 29 = .ok (.iload 5, 2) := dk_21 5 (dk_at dksX3_addsRow_1 6 rfl rfl)
theorem dX3_addsRow_31 : decode cX3_addsRow 31 = .ok (.iadd, 1) := dk_96 (dk_at dksX3_addsRow_1 8 rfl rfl)
theorem dX3_addsRow_32 : decode cX3_addsRow 32 = .ok (.laload, 1) := dk_47 (dk_at dksX3_addsRow_1 9 rfl rfl)
theorem dX3_addsRow_33 : decode cX3_addsRow 33 = .ok (.lmul, 1) := dk_105 (dk_at dksX3_addsRow_1 10 rfl rfl)
theorem dX3_addsRow_34 : decode cX3_addsRow 34 = .ok (.ladd, 1) := dk_97 (dk_at dksX3_addsRow_1 11 rfl rfl)
theorem dX3_addsRow_35 : decode cX3_addsRow 35 = .ok (.lastore, 1) := dk_80 (dk_at dksX3_addsRow_1 12 rfl rfl)
theorem dX3_addsRow_36 : decode cX3_addsRow 36 = .ok (.iinc 5 1, 3) := dk_132 5 1 (dk_at dksX3_addsRow_1 13 rfl rfl)
theorem dX3_addsRow_39 : decode cX3_addsRow 39 = .ok (.goto (-36), 3) := dk_167 255 220 (dk_at dksX3_addsRow_1 16 rfl rfl)
theorem dX3_addsRow_42 : decode cX3_addsRow 42 = .ok (.aload_n 0, 1) := dk_42 (dk_at dksX3_addsRow_1 19 rfl rfl)
theorem dX3_addsRow_43 : decode cX3_addsRow 43 = .ok (.iconst 1, 1) := dk_4 (dk_at dksX3_addsRow_1 20 rfl rfl)
theorem dX3_addsRow_44 : decode cX3_addsRow 44 = .ok (.iload_n 1, 1) := dk_27 (dk_at dksX3_addsRow_1 21 rfl rfl)
theorem dX3_addsRow_45 : decode cX3_addsRow 45 = .ok (.iload_n 2, 1) := dk_28 (dk_at dksX3_addsRow_1 22 rfl rfl)
theorem dX3_addsRow_46 : decode cX3_addsRow 46 = .ok (.lload_n 3, 1) := dk_33 (dk_at dksX3_addsRow_1 23 rfl rfl)
theorem dX3_addsRow_47 : decode cX3_addsRow 47 = .ok (.invokevirtual 223, 3) := dk_182 0 223 (dk_at dksX3_addsRow_2 0 rfl rfl)
theorem dX3_addsRow_50 : decode cX3_addsRow 50 = .ok (.return_, 1) := dk_177 (dk_at dksX3_addsRow_2 3 rfl rfl)
abbrev cX3_steps : ByteArray := prog_20_method_39_code
def yX3_steps : MethodName := ⟨RX3, "steps", "(I)I"⟩
def dkwX3_steps_1 : List UInt8 := [172]
abbrev dktX3_steps_1 : List UInt8 := dkwX3_steps_1 ++ []
def dkwX3_steps_0 : List UInt8 := [42, 27, 182, 0, 211, 154, 0, 6, 16, 254, 172, 42, 27, 182, 0, 217, 42, 182, 0, 246, 42, 180, 0, 220]
abbrev dktX3_steps_0 : List UInt8 := dkwX3_steps_0 ++ dktX3_steps_1
theorem dksX3_steps_0 : cX3_steps.data.toList.drop 0 = dktX3_steps_0 := by decide +kernel
theorem dksX3_steps_1 : cX3_steps.data.toList.drop 24 = dktX3_steps_1 := dk_seg dksX3_steps_0 24 rfl rfl
theorem dX3_steps_0 : decode cX3_steps 0 = .ok (.aload_n 0, 1) := dk_42 (dk_at dksX3_steps_0 0 rfl rfl)
theorem dX3_steps_1 : decode cX3_steps 1 = .ok (.iload_n 1, 1) := dk_27 (dk_at dksX3_steps_0 1 rfl rfl)
theorem dX3_steps_2 : decode cX3_steps 2 = .ok (.invokevirtual 211, 3) := dk_182 0 211 (dk_at dksX3_steps_0 2 rfl rfl)
theorem dX3_steps_5 : decode cX3_steps 5 = .ok (.ifCond .ne 6, 3) := dk_154 0 6 (dk_at dksX3_steps_0 5 rfl rfl)
theorem dX3_steps_8 : decode cX3_steps 8 = .ok (.bipush (-2), 2) := dk_16 254 (dk_at dksX3_steps_0 8 rfl rfl)
theorem dX3_steps_10 : decode cX3_steps 10 = .ok (.ireturn, 1) := dk_172 (dk_at dksX3_steps_0 10 rfl rfl)
theorem dX3_steps_11 : decode cX3_steps 11 = .ok (.aload_n 0, 1) := dk_42 (dk_at dksX3_steps_0 11 rfl rfl)
theorem dX3_steps_12 : decode cX3_steps 12 = .ok (.iload_n 1, 1) := dk_27 (dk_at dksX3_steps_0 12 rfl rfl)
theorem dX3_steps_13 : decode cX3_steps 13 = .ok (.invokevirtual 217, 3) := dk_182 0 217 (dk_at dksX3_steps_0 13 rfl rfl)
theorem dX3_steps_16 : decode cX3_steps 16 = .ok (.aload_n 0, 1) := dk_42 (dk_at dksX3_steps_0 16 rfl rfl)
theorem dX3_steps_17 : decode cX3_steps 17 = .ok (.invokevirtual 246, 3) := dk_182 0 246 (dk_at dksX3_steps_0 17 rfl rfl)
theorem dX3_steps_20 : decode cX3_steps 20 = .ok (.aload_n 0, 1) := dk_42 (dk_at dksX3_steps_0 20 rfl rfl)
theorem dX3_steps_21 : decode cX3_steps 21 = .ok (.getfield 220, 3) := dk_180 0 220 (dk_at dksX3_steps_0 21 rfl rfl)
theorem dX3_steps_24 : decode cX3_steps 24 = .ok (.ireturn, 1) := dk_172 (dk_at dksX3_steps_1 0 rfl rfl)
abbrev cX3_step_2 : ByteArray := prog_20_method_40_code
def yX3_step_2 : MethodName := ⟨RX3, "step", "(III)I"⟩
def dkwX3_step_2_4 : List UInt8 := [180, 0, 52, 28, 47, 136, 172]
abbrev dktX3_step_2_4 : List UInt8 := dkwX3_step_2_4 ++ []
def dkwX3_step_2_3 : List UInt8 := [180, 0, 46, 28, 46, 167, 0, 24, 29, 5, 160, 0, 12, 42, 180, 0, 49, 28, 46, 167, 0, 10, 42]
abbrev dktX3_step_2_3 : List UInt8 := dkwX3_step_2_3 ++ dktX3_step_2_4
def dkwX3_step_2_2 : List UInt8 := [18, 251, 172, 29, 154, 0, 12, 42, 180, 0, 43, 28, 46, 167, 0, 38, 29, 4, 160, 0, 12, 42]
abbrev dktX3_step_2_2 : List UInt8 := dkwX3_step_2_2 ++ dktX3_step_2_3
def dkwX3_step_2_1 : List UInt8 := [27, 182, 0, 217, 42, 182, 0, 246, 28, 133, 9, 42, 180, 0, 220, 4, 100, 133, 184, 0, 88, 154, 0, 6]
abbrev dktX3_step_2_1 : List UInt8 := dkwX3_step_2_1 ++ dktX3_step_2_2
def dkwX3_step_2_0 : List UInt8 := [42, 27, 182, 0, 211, 153, 0, 15, 29, 133, 9, 20, 0, 249, 184, 0, 88, 154, 0, 6, 18, 251, 172, 42]
abbrev dktX3_step_2_0 : List UInt8 := dkwX3_step_2_0 ++ dktX3_step_2_1
theorem dksX3_step_2_0 : cX3_step_2.data.toList.drop 0 = dktX3_step_2_0 := by decide +kernel
theorem dksX3_step_2_1 : cX3_step_2.data.toList.drop 24 = dktX3_step_2_1 := dk_seg dksX3_step_2_0 24 rfl rfl
theorem dksX3_step_2_2 : cX3_step_2.data.toList.drop 48 = dktX3_step_2_2 := dk_seg dksX3_step_2_1 24 rfl rfl
theorem dksX3_step_2_3 : cX3_step_2.data.toList.drop 70 = dktX3_step_2_3 := dk_seg dksX3_step_2_2 22 rfl rfl
theorem dksX3_step_2_4 : cX3_step_2.data.toList.drop 93 = dktX3_step_2_4 := dk_seg dksX3_step_2_3 23 rfl rfl
theorem dX3_step_2_0 : decode cX3_step_2 0 = .ok (.aload_n 0, 1) := dk_42 (dk_at dksX3_step_2_0 0 rfl rfl)
theorem dX3_step_2_1 : decode cX3_step_2 1 = .ok (.iload_n 1, 1) := dk_27 (dk_at dksX3_step_2_0 1 rfl rfl)
theorem dX3_step_2_2 : decode cX3_step_2 2 = .ok (.invokevirtual 211, 3) := dk_182 0 211 (dk_at dksX3_step_2_0 2 rfl rfl)
theorem dX3_step_2_5 : decode cX3_step_2 5 = .ok (.ifCond .eq 15, 3) := dk_153 0 15 (dk_at dksX3_step_2_0 5 rfl rfl)
theorem dX3_step_2_8 : decode cX3_step_2 8 = .ok (.iload_n 3, 1) := dk_29 (dk_at dksX3_step_2_0 8 rfl rfl)
theorem dX3_step_2_9 : decode cX3_step_2 9 = .ok (.i2l, 1) := dk_133 (dk_at dksX3_step_2_0 9 rfl rfl)
theorem dX3_step_2_10 : decode cX3_step_2 10 = .ok (.lconst 0, 1) := dk_9 (dk_at dksX3_step_2_0 10 rfl rfl)
theorem dX3_step_2_11 : decode cX3_step_2 11 = .ok (.ldc2_w 249, 3) := dk_20 0 249 (dk_at dksX3_step_2_0 11 rfl rfl)
theorem dX3_step_2_14 : decode cX3_step_2 14 = .ok (.invokestatic 88, 3) := dk_184 0 88 (dk_at dksX3_step_2_0 14 rfl rfl)
theorem dX3_step_2_17 : decode cX3_step_2 17 = .ok (.ifCond .ne 6, 3) := dk_154 0 6 (dk_at dksX3_step_2_0 17 rfl rfl)
theorem dX3_step_2_20 : decode cX3_step_2 20 = .ok (.ldc 251, 2) := dk_18 251 (dk_at dksX3_step_2_0 20 rfl rfl)
theorem dX3_step_2_22 : decode cX3_step_2 22 = .ok (.ireturn, 1) := dk_172 (dk_at dksX3_step_2_0 22 rfl rfl)
theorem dX3_step_2_23 : decode cX3_step_2 23 = .ok (.aload_n 0, 1) := dk_42 (dk_at dksX3_step_2_0 23 rfl rfl)
theorem dX3_step_2_24 : decode cX3_step_2 24 = .ok (.iload_n 1, 1) := dk_27 (dk_at dksX3_step_2_1 0 rfl rfl)
theorem dX3_step_2_25 : decode cX3_step_2 25 = .ok (.invokevirtual 217, 3) := dk_182 0 217 (dk_at dksX3_step_2_1 1 rfl rfl)
theorem dX3_step_2_28 : decode cX3_step_2 28 = .ok (.aload_n 0, 1) := dk_42 (dk_at dksX3_step_2_1 4 rfl rfl)
theorem dX3_step_2_29 : decode cX3_step_2 29 = .ok (.invokevirtual 246, 3) := dk_182 0 246 (dk_at dksX3_step_2_1 5 rfl rfl)
theorem dX3_step_2_32 : decode cX3_step_2 32 = .ok (.iload_n 2, 1) := dk_28 (dk_at dksX3_step_2_1 8 rfl rfl)
theorem dX3_step_2_33 : decode cX3_step_2 33 = .ok (.i2l, 1) := dk_133 (dk_at dksX3_step_2_1 9 rfl rfl)
theorem dX3_step_2_34 : decode cX3_step_2 34 = .ok (.lconst 0, 1) := dk_9 (dk_at dksX3_step_2_1 10 rfl rfl)
theorem dX3_step_2_35 : decode cX3_step_2 35 = .ok (.aload_n 0, 1) := dk_42 (dk_at dksX3_step_2_1 11 rfl rfl)
theorem dX3_step_2_36 : decode cX3_step_2 36 = .ok (.getfield 220, 3) := dk_180 0 220 (dk_at dksX3_step_2_1 12 rfl rfl)
theorem dX3_step_2_39 : decode cX3_step_2 39 = .ok (.iconst 1, 1) := dk_4 (dk_at dksX3_step_2_1 15 rfl rfl)
theorem dX3_step_2_40 : decode cX3_step_2 40 = .ok (.isub, 1) := dk_100 (dk_at dksX3_step_2_1 16 rfl rfl)
theorem dX3_step_2_41 : decode cX3_step_2 41 = .ok (.i2l, 1) := dk_133 (dk_at dksX3_step_2_1 17 rfl rfl)
theorem dX3_step_2_42 : decode cX3_step_2 42 = .ok (.invokestatic 88, 3) := dk_184 0 88 (dk_at dksX3_step_2_1 18 rfl rfl)
theorem dX3_step_2_45 : decode cX3_step_2 45 = .ok (.ifCond .ne 6, 3) := dk_154 0 6 (dk_at dksX3_step_2_1 21 rfl rfl)
theorem dX3_step_2_48 : decode cX3_step_2 48 = .ok (.ldc 251, 2) := dk_18 251 (dk_at dksX3_step_2_2 0 rfl rfl)
theorem dX3_step_2_50 : decode cX3_step_2 50 = .ok (.ireturn, 1) := dk_172 (dk_at dksX3_step_2_2 2 rfl rfl)
theorem dX3_step_2_51 : decode cX3_step_2 51 = .ok (.iload_n 3, 1) := dk_29 (dk_at dksX3_step_2_2 3 rfl rfl)
theorem dX3_step_2_52 : decode cX3_step_2 52 = .ok (.ifCond .ne 12, 3) := dk_154 0 12 (dk_at dksX3_step_2_2 4 rfl rfl)
theorem dX3_step_2_55 : decode cX3_step_2 55 = .ok (.aload_n 0, 1) := dk_42 (dk_at dksX3_step_2_2 7 rfl rfl)
theorem dX3_step_2_56 : decode cX3_step_2 56 = .ok (.getfield 43, 3) := dk_180 0 43 (dk_at dksX3_step_2_2 8 rfl rfl)
theorem dX3_step_2_59 : decode cX3_step_2 59 = .ok (.iload_n 2, 1) := dk_28 (dk_at dksX3_step_2_2 11 rfl rfl)
theorem dX3_step_2_60 : decode cX3_step_2 60 = .ok (.iaload, 1) := dk_46 (dk_at dksX3_step_2_2 12 rfl rfl)
theorem dX3_step_2_61 : decode cX3_step_2 61 = .ok (.goto 38, 3) := dk_167 0 38 (dk_at dksX3_step_2_2 13 rfl rfl)
theorem dX3_step_2_64 : decode cX3_step_2 64 = .ok (.iload_n 3, 1) := dk_29 (dk_at dksX3_step_2_2 16 rfl rfl)
theorem dX3_step_2_65 : decode cX3_step_2 65 = .ok (.iconst 1, 1) := dk_4 (dk_at dksX3_step_2_2 17 rfl rfl)
theorem dX3_step_2_66 : decode cX3_step_2 66 = .ok (.if_icmp .ne 12, 3) := dk_160 0 12 (dk_at dksX3_step_2_2 18 rfl rfl)
theorem dX3_step_2_69 : decode cX3_step_2 69 = .ok (.aload_n 0, 1) := dk_42 (dk_at dksX3_step_2_2 21 rfl rfl)
theorem dX3_step_2_70 : decode cX3_step_2 70 = .ok (.getfield 46, 3) := dk_180 0 46 (dk_at dksX3_step_2_3 0 rfl rfl)
theorem dX3_step_2_73 : decode cX3_step_2 73 = .ok (.iload_n 2, 1) := dk_28 (dk_at dksX3_step_2_3 3 rfl rfl)
theorem dX3_step_2_74 : decode cX3_step_2 74 = .ok (.iaload, 1) := dk_46 (dk_at dksX3_step_2_3 4 rfl rfl)
theorem dX3_step_2_75 : decode cX3_step_2 75 = .ok (.goto 24, 3) := dk_167 0 24 (dk_at dksX3_step_2_3 5 rfl rfl)
theorem dX3_step_2_78 : decode cX3_step_2 78 = .ok (.iload_n 3, 1) := dk_29 (dk_at dksX3_step_2_3 8 rfl rfl)
theorem dX3_step_2_79 : decode cX3_step_2 79 = .ok (.iconst 2, 1) := dk_5 (dk_at dksX3_step_2_3 9 rfl rfl)
theorem dX3_step_2_80 : decode cX3_step_2 80 = .ok (.if_icmp .ne 12, 3) := dk_160 0 12 (dk_at dksX3_step_2_3 10 rfl rfl)
theorem dX3_step_2_83 : decode cX3_step_2 83 = .ok (.aload_n 0, 1) := dk_42 (dk_at dksX3_step_2_3 13 rfl rfl)
theorem dX3_step_2_84 : decode cX3_step_2 84 = .ok (.getfield 49, 3) := dk_180 0 49 (dk_at dksX3_step_2_3 14 rfl rfl)
theorem dX3_step_2_87 : decode cX3_step_2 87 = .ok (.iload_n 2, 1) := dk_28 (dk_at dksX3_step_2_3 17 rfl rfl)
theorem dX3_step_2_88 : decode cX3_step_2 88 = .ok (.iaload, 1) := dk_46 (dk_at dksX3_step_2_3 18 rfl rfl)
theorem dX3_step_2_89 : decode cX3_step_2 89 = .ok (.goto 10, 3) := dk_167 0 10 (dk_at dksX3_step_2_3 19 rfl rfl)
theorem dX3_step_2_92 : decode cX3_step_2 92 = .ok (.aload_n 0, 1) := dk_42 (dk_at dksX3_step_2_3 22 rfl rfl)
theorem dX3_step_2_93 : decode cX3_step_2 93 = .ok (.getfield 52, 3) := dk_180 0 52 (dk_at dksX3_step_2_4 0 rfl rfl)
theorem dX3_step_2_96 : decode cX3_step_2 96 = .ok (.iload_n 2, 1) := dk_28 (dk_at dksX3_step_2_4 3 rfl rfl)
theorem dX3_step_2_97 : decode cX3_step_2 97 = .ok (.laload, 1) := dk_47 (dk_at dksX3_step_2_4 4 rfl rfl)
theorem dX3_step_2_98 : decode cX3_step_2 98 = .ok (.l2i, 1) := dk_136 (dk_at dksX3_step_2_4 5 rfl rfl)
theorem dX3_step_2_99 : decode cX3_step_2 99 = .ok (.ireturn, 1) := dk_172 (dk_at dksX3_step_2_4 6 rfl rfl)
abbrev cX3_volume : ByteArray := prog_20_method_43_code
def yX3_volume : MethodName := ⟨RX3, "volume", "(II)J"⟩
def dkwX3_volume_2 : List UInt8 := [28, 184, 1, 2, 173]
abbrev dktX3_volume_2 : List UInt8 := dkwX3_volume_2 ++ []
def dkwX3_volume_1 : List UInt8 := [182, 0, 217, 42, 182, 0, 254, 184, 0, 1, 42, 180, 0, 191, 42, 180, 0, 191, 105, 42, 180, 0, 191, 105]
abbrev dktX3_volume_1 : List UInt8 := dkwX3_volume_1 ++ dktX3_volume_2
def dkwX3_volume_0 : List UInt8 := [42, 27, 182, 0, 211, 153, 0, 13, 28, 133, 9, 10, 184, 0, 88, 154, 0, 7, 20, 0, 252, 173, 42, 27]
abbrev dktX3_volume_0 : List UInt8 := dkwX3_volume_0 ++ dktX3_volume_1
theorem dksX3_volume_0 : cX3_volume.data.toList.drop 0 = dktX3_volume_0 := by decide +kernel
theorem dksX3_volume_1 : cX3_volume.data.toList.drop 24 = dktX3_volume_1 := dk_seg dksX3_volume_0 24 rfl rfl
theorem dksX3_volume_2 : cX3_volume.data.toList.drop 48 = dktX3_volume_2 := dk_seg dksX3_volume_1 24 rfl rfl
theorem dX3_volume_0 : decode cX3_volume 0 = .ok (.aload_n 0, 1) := dk_42 (dk_at dksX3_volume_0 0 rfl rfl)
theorem dX3_volume_1 : decode cX3_volume 1 = .ok (.iload_n 1, 1) := dk_27 (dk_at dksX3_volume_0 1 rfl rfl)
theorem dX3_volume_2 : decode cX3_volume 2 = .ok (.invokevirtual 211, 3) := dk_182 0 211 (dk_at dksX3_volume_0 2 rfl rfl)
theorem dX3_volume_5 : decode cX3_volume 5 = .ok (.ifCond .eq 13, 3) := dk_153 0 13 (dk_at dksX3_volume_0 5 rfl rfl)
theorem dX3_volume_8 : decode cX3_volume 8 = .ok (.iload_n 2, 1) := dk_28 (dk_at dksX3_volume_0 8 rfl rfl)
theorem dX3_volume_9 : decode cX3_volume 9 = .ok (.i2l, 1) := dk_133 (dk_at dksX3_volume_0 9 rfl rfl)
theorem dX3_volume_10 : decode cX3_volume 10 = .ok (.lconst 0, 1) := dk_9 (dk_at dksX3_volume_0 10 rfl rfl)
theorem dX3_volume_11 : decode cX3_volume 11 = .ok (.lconst 1, 1) := dk_10 (dk_at dksX3_volume_0 11 rfl rfl)
theorem dX3_volume_12 : decode cX3_volume 12 = .ok (.invokestatic 88, 3) := dk_184 0 88 (dk_at dksX3_volume_0 12 rfl rfl)
theorem dX3_volume_15 : decode cX3_volume 15 = .ok (.ifCond .ne 7, 3) := dk_154 0 7 (dk_at dksX3_volume_0 15 rfl rfl)
theorem dX3_volume_18 : decode cX3_volume 18 = .ok (.ldc2_w 252, 3) := dk_20 0 252 (dk_at dksX3_volume_0 18 rfl rfl)
theorem dX3_volume_21 : decode cX3_volume 21 = .ok (.lreturn, 1) := dk_173 (dk_at dksX3_volume_0 21 rfl rfl)
theorem dX3_volume_22 : decode cX3_volume 22 = .ok (.aload_n 0, 1) := dk_42 (dk_at dksX3_volume_0 22 rfl rfl)
theorem dX3_volume_23 : decode cX3_volume 23 = .ok (.iload_n 1, 1) := dk_27 (dk_at dksX3_volume_0 23 rfl rfl)
theorem dX3_volume_24 : decode cX3_volume 24 = .ok (.invokevirtual 217, 3) := dk_182 0 217 (dk_at dksX3_volume_1 0 rfl rfl)
theorem dX3_volume_27 : decode cX3_volume 27 = .ok (.aload_n 0, 1) := dk_42 (dk_at dksX3_volume_1 3 rfl rfl)
theorem dX3_volume_28 : decode cX3_volume 28 = .ok (.invokevirtual 254, 3) := dk_182 0 254 (dk_at dksX3_volume_1 4 rfl rfl)
theorem dX3_volume_31 : decode cX3_volume 31 = .ok (.invokestatic 1, 3) := dk_184 0 1 (dk_at dksX3_volume_1 7 rfl rfl)
theorem dX3_volume_34 : decode cX3_volume 34 = .ok (.aload_n 0, 1) := dk_42 (dk_at dksX3_volume_1 10 rfl rfl)
theorem dX3_volume_35 : decode cX3_volume 35 = .ok (.getfield 191, 3) := dk_180 0 191 (dk_at dksX3_volume_1 11 rfl rfl)
theorem dX3_volume_38 : decode cX3_volume 38 = .ok (.aload_n 0, 1) := dk_42 (dk_at dksX3_volume_1 14 rfl rfl)
theorem dX3_volume_39 : decode cX3_volume 39 = .ok (.getfield 191, 3) := dk_180 0 191 (dk_at dksX3_volume_1 15 rfl rfl)
theorem dX3_volume_42 : decode cX3_volume 42 = .ok (.lmul, 1) := dk_105 (dk_at dksX3_volume_1 18 rfl rfl)
theorem dX3_volume_43 : decode cX3_volume 43 = .ok (.aload_n 0, 1) := dk_42 (dk_at dksX3_volume_1 19 rfl rfl)
theorem dX3_volume_44 : decode cX3_volume 44 = .ok (.getfield 191, 3) := dk_180 0 191 (dk_at dksX3_volume_1 20 rfl rfl)
theorem dX3_volume_47 : decode cX3_volume 47 = .ok (.lmul, 1) := dk_105 (dk_at dksX3_volume_1 23 rfl rfl)
theorem dX3_volume_48 : decode cX3_volume 48 = .ok (.iload_n 2, 1) := dk_28 (dk_at dksX3_volume_2 0 rfl rfl)
theorem dX3_volume_49 : decode cX3_volume 49 = .ok (.invokestatic 258, 3) := dk_184 1 2 (dk_at dksX3_volume_2 1 rfl rfl)
theorem dX3_volume_52 : decode cX3_volume 52 = .ok (.lreturn, 1) := dk_173 (dk_at dksX3_volume_2 4 rfl rfl)
abbrev cX3_det : ByteArray := prog_20_method_41_code
def yX3_det : MethodName := ⟨RX3, "det", "()J"⟩
def dkwX3_det_3 : List UInt8 := [132, 3, 1, 167, 255, 185, 31, 173]
abbrev dktX3_det_3 : List UInt8 := dkwX3_det_3 ++ []
def dkwX3_det_2 : List UInt8 := [5, 96, 6, 112, 96, 47, 42, 180, 0, 36, 16, 6, 29, 4, 96, 6, 112, 96, 47, 105, 101, 105, 97, 64]
abbrev dktX3_det_2 : List UInt8 := dkwX3_det_2 ++ dktX3_det_3
def dkwX3_det_1 : List UInt8 := [6, 112, 96, 47, 42, 180, 0, 36, 16, 6, 29, 5, 96, 6, 112, 96, 47, 105, 42, 180, 0, 36, 6, 29]
abbrev dktX3_det_1 : List UInt8 := dkwX3_det_1 ++ dktX3_det_2
def dkwX3_det_0 : List UInt8 := [9, 64, 3, 62, 29, 6, 162, 0, 72, 31, 42, 180, 0, 36, 29, 47, 42, 180, 0, 36, 6, 29, 4, 96]
abbrev dktX3_det_0 : List UInt8 := dkwX3_det_0 ++ dktX3_det_1
theorem dksX3_det_0 : cX3_det.data.toList.drop 0 = dktX3_det_0 := by decide +kernel
theorem dksX3_det_1 : cX3_det.data.toList.drop 24 = dktX3_det_1 := dk_seg dksX3_det_0 24 rfl rfl
theorem dksX3_det_2 : cX3_det.data.toList.drop 48 = dktX3_det_2 := dk_seg dksX3_det_1 24 rfl rfl
theorem dksX3_det_3 : cX3_det.data.toList.drop 72 = dktX3_det_3 := dk_seg dksX3_det_2 24 rfl rfl
theorem dX3_det_0 : decode cX3_det 0 = .ok (.lconst 0, 1) := dk_9 (dk_at dksX3_det_0 0 rfl rfl)
theorem dX3_det_1 : decode cX3_det 1 = .ok (.lstore_n 1, 1) := dk_64 (dk_at dksX3_det_0 1 rfl rfl)
theorem dX3_det_2 : decode cX3_det 2 = .ok (.iconst 0, 1) := dk_3 (dk_at dksX3_det_0 2 rfl rfl)
theorem dX3_det_3 : decode cX3_det 3 = .ok (.istore_n 3, 1) := dk_62 (dk_at dksX3_det_0 3 rfl rfl)
theorem dX3_det_4 : decode cX3_det 4 = .ok (.iload_n 3, 1) := dk_29 (dk_at dksX3_det_0 4 rfl rfl)
theorem dX3_det_5 : decode cX3_det 5 = .ok (.iconst 3, 1) := dk_6 (dk_at dksX3_det_0 5 rfl rfl)
theorem dX3_det_6 : decode cX3_det 6 = .ok (.if_icmp .ge 72, 3) := dk_162 0 72 (dk_at dksX3_det_0 6 rfl rfl)
theorem dX3_det_9 : decode cX3_det 9 = .ok (.lload_n 1, 1) := dk_31 (dk_at dksX3_det_0 9 rfl rfl)
theorem dX3_det_10 : decode cX3_det 10 = .ok (.aload_n 0, 1) := dk_42 (dk_at dksX3_det_0 10 rfl rfl)
theorem dX3_det_11 : decode cX3_det 11 = .ok (.getfield 36, 3) := dk_180 0 36 (dk_at dksX3_det_0 11 rfl rfl)
theorem dX3_det_14 : decode cX3_det 14 = .ok (.iload_n 3, 1) := dk_29 (dk_at dksX3_det_0 14 rfl rfl)
theorem dX3_det_15 : decode cX3_det 15 = .ok (.laload, 1) := dk_47 (dk_at dksX3_det_0 15 rfl rfl)
theorem dX3_det_16 : decode cX3_det 16 = .ok (.aload_n 0, 1) := dk_42 (dk_at dksX3_det_0 16 rfl rfl)
theorem dX3_det_17 : decode cX3_det 17 = .ok (.getfield 36, 3) := dk_180 0 36 (dk_at dksX3_det_0 17 rfl rfl)
theorem dX3_det_20 : decode cX3_det 20 = .ok (.iconst 3, 1) := dk_6 (dk_at dksX3_det_0 20 rfl rfl)
theorem dX3_det_21 : decode cX3_det 21 = .ok (.iload_n 3, 1) := dk_29 (dk_at dksX3_det_0 21 rfl rfl)
theorem dX3_det_22 : decode cX3_det 22 = .ok (.iconst 1, 1) := dk_4 (dk_at dksX3_det_0 22 rfl rfl)
theorem dX3_det_23 : decode cX3_det 23 = .ok (.iadd, 1) := dk_96 (dk_at dksX3_det_0 23 rfl rfl)
theorem dX3_det_24 : decode cX3_det 24 = .ok (.iconst 3, 1) := dk_6 (dk_at dksX3_det_1 0 rfl rfl)
theorem dX3_det_25 : decode cX3_det 25 = .ok (.irem, 1) := dk_112 (dk_at dksX3_det_1 1 rfl rfl)
theorem dX3_det_26 : decode cX3_det 26 = .ok (.iadd, 1) := dk_96 (dk_at dksX3_det_1 2 rfl rfl)
theorem dX3_det_27 : decode cX3_det 27 = .ok (.laload, 1) := dk_47 (dk_at dksX3_det_1 3 rfl rfl)
theorem dX3_det_28 : decode cX3_det 28 = .ok (.aload_n 0, 1) := dk_42 (dk_at dksX3_det_1 4 rfl rfl)
theorem dX3_det_29 : decode cX3_det 29 = .ok (.getfield 36, 3) := dk_180 0 36 (dk_at dksX3_det_1 5 rfl rfl)
theorem dX3_det_32 : decode cX3_det 32 = .ok (.bipush 6, 2) := dk_16 6 (dk_at dksX3_det_1 8 rfl rfl)
theorem dX3_det_34 : decode cX3_det 34 = .ok (.iload_n 3, 1) := dk_29 (dk_at dksX3_det_1 10 rfl rfl)
theorem dX3_det_35 : decode cX3_det 35 = .ok (.iconst 2, 1) := dk_5 (dk_at dksX3_det_1 11 rfl rfl)
theorem dX3_det_36 : decode cX3_det 36 = .ok (.iadd, 1) := dk_96 (dk_at dksX3_det_1 12 rfl rfl)
theorem dX3_det_37 : decode cX3_det 37 = .ok (.iconst 3, 1) := dk_6 (dk_at dksX3_det_1 13 rfl rfl)
theorem dX3_det_38 : decode cX3_det 38 = .ok (.irem, 1) := dk_112 (dk_at dksX3_det_1 14 rfl rfl)
theorem dX3_det_39 : decode cX3_det 39 = .ok (.iadd, 1) := dk_96 (dk_at dksX3_det_1 15 rfl rfl)
theorem dX3_det_40 : decode cX3_det 40 = .ok (.laload, 1) := dk_47 (dk_at dksX3_det_1 16 rfl rfl)
theorem dX3_det_41 : decode cX3_det 41 = .ok (.lmul, 1) := dk_105 (dk_at dksX3_det_1 17 rfl rfl)
theorem dX3_det_42 : decode cX3_det 42 = .ok (.aload_n 0, 1) := dk_42 (dk_at dksX3_det_1 18 rfl rfl)
theorem dX3_det_43 : decode cX3_det 43 = .ok (.getfield 36, 3) := dk_180 0 36 (dk_at dksX3_det_1 19 rfl rfl)
theorem dX3_det_46 : decode cX3_det 46 = .ok (.iconst 3, 1) := dk_6 (dk_at dksX3_det_1 22 rfl rfl)
theorem dX3_det_47 : decode cX3_det 47 = .ok (.iload_n 3, 1) := dk_29 (dk_at dksX3_det_1 23 rfl rfl)
theorem dX3_det_48 : decode cX3_det 48 = .ok (.iconst 2, 1) := dk_5 (dk_at dksX3_det_2 0 rfl rfl)
theorem dX3_det_49 : decode cX3_det 49 = .ok (.iadd, 1) := dk_96 (dk_at dksX3_det_2 1 rfl rfl)
theorem dX3_det_50 : decode cX3_det 50 = .ok (.iconst 3, 1) := dk_6 (dk_at dksX3_det_2 2 rfl rfl)
theorem dX3_det_51 : decode cX3_det 51 = .ok (.irem, 1) := dk_112 (dk_at dksX3_det_2 3 rfl rfl)
theorem dX3_det_52 : decode cX3_det 52 = .ok (.iadd, 1) := dk_96 (dk_at dksX3_det_2 4 rfl rfl)
theorem dX3_det_53 : decode cX3_det 53 = .ok (.laload, 1) := dk_47 (dk_at dksX3_det_2 5 rfl rfl)
theorem dX3_det_54 : decode cX3_det 54 = .ok (.aload_n 0, 1) := dk_42 (dk_at dksX3_det_2 6 rfl rfl)
theorem dX3_det_55 : decode cX3_det 55 = .ok (.getfield 36, 3) := dk_180 0 36 (dk_at dksX3_det_2 7 rfl rfl)
theorem dX3_det_58 : decode cX3_det 58 = .ok (.bipush 6, 2) := dk_16 6 (dk_at dksX3_det_2 10 rfl rfl)
theorem dX3_det_60 : decode cX3_det 60 = .ok (.iload_n 3, 1) := dk_29 (dk_at dksX3_det_2 12 rfl rfl)
theorem dX3_det_61 : decode cX3_det 61 = .ok (.iconst 1, 1) := dk_4 (dk_at dksX3_det_2 13 rfl rfl)
theorem dX3_det_62 : decode cX3_det 62 = .ok (.iadd, 1) := dk_96 (dk_at dksX3_det_2 14 rfl rfl)
theorem dX3_det_63 : decode cX3_det 63 = .ok (.iconst 3, 1) := dk_6 (dk_at dksX3_det_2 15 rfl rfl)
theorem dX3_det_64 : decode cX3_det 64 = .ok (.irem, 1) := dk_112 (dk_at dksX3_det_2 16 rfl rfl)
theorem dX3_det_65 : decode cX3_det 65 = .ok (.iadd, 1) := dk_96 (dk_at dksX3_det_2 17 rfl rfl)
theorem dX3_det_66 : decode cX3_det 66 = .ok (.laload, 1) := dk_47 (dk_at dksX3_det_2 18 rfl rfl)
theorem dX3_det_67 : decode cX3_det 67 = .ok (.lmul, 1) := dk_105 (dk_at dksX3_det_2 19 rfl rfl)
theorem dX3_det_68 : decode cX3_det 68 = .ok (.lsub, 1) := dk_101 (dk_at dksX3_det_2 20 rfl rfl)
theorem dX3_det_69 : decode cX3_det 69 = .ok (.lmul, 1) := dk_105 (dk_at dksX3_det_2 21 rfl rfl)
theorem dX3_det_70 : decode cX3_det 70 = .ok (.ladd, 1) := dk_97 (dk_at dksX3_det_2 22 rfl rfl)
theorem dX3_det_71 : decode cX3_det 71 = .ok (.lstore_n 1, 1) := dk_64 (dk_at dksX3_det_2 23 rfl rfl)
theorem dX3_det_72 : decode cX3_det 72 = .ok (.iinc 3 1, 3) := dk_132 3 1 (dk_at dksX3_det_3 0 rfl rfl)
theorem dX3_det_75 : decode cX3_det 75 = .ok (.goto (-71), 3) := dk_167 255 185 (dk_at dksX3_det_3 3 rfl rfl)
theorem dX3_det_78 : decode cX3_det 78 = .ok (.lload_n 1, 1) := dk_31 (dk_at dksX3_det_3 6 rfl rfl)
theorem dX3_det_79 : decode cX3_det 79 = .ok (.lreturn, 1) := dk_173 (dk_at dksX3_det_3 7 rfl rfl)
abbrev cX3_part : ByteArray := prog_20_method_42_code
def yX3_part : MethodName := ⟨RX3, "part", "(JJI)J"⟩
def dkwX3_part_0 : List UInt8 := [21, 4, 154, 0, 7, 30, 167, 0, 4, 32, 30, 32, 184, 0, 207, 109, 173]
abbrev dktX3_part_0 : List UInt8 := dkwX3_part_0 ++ []
theorem dksX3_part_0 : cX3_part.data.toList.drop 0 = dktX3_part_0 := by decide +kernel
theorem dX3_part_0 : decode cX3_part 0 = .ok (.iload 4, 2) := dk_21 4 (dk_at dksX3_part_0 0 rfl rfl)
theorem dX3_part_2 : decode cX3_part 2 = .ok (.ifCond .ne 7, 3) := dk_154 0 7 (dk_at dksX3_part_0 2 rfl rfl)
theorem dX3_part_5 : decode cX3_part 5 = .ok (.lload_n 0, 1) := dk_30 (dk_at dksX3_part_0 5 rfl rfl)
theorem dX3_part_6 : decode cX3_part 6 = .ok (.goto 4, 3) := dk_167 0 4 (dk_at dksX3_part_0 6 rfl rfl)
theorem dX3_part_9 : decode cX3_part 9 = .ok (.lload_n 2, 1) := dk_32 (dk_at dksX3_part_0 9 rfl rfl)
theorem dX3_part_10 : decode cX3_part 10 = .ok (.lload_n 0, 1) := dk_30 (dk_at dksX3_part_0 10 rfl rfl)
theorem dX3_part_11 : decode cX3_part 11 = .ok (.lload_n 2, 1) := dk_32 (dk_at dksX3_part_0 11 rfl rfl)
theorem dX3_part_12 : decode cX3_part 12 = .ok (.invokestatic 207, 3) := dk_184 0 207 (dk_at dksX3_part_0 12 rfl rfl)
theorem dX3_part_15 : decode cX3_part 15 = .ok (.ldiv, 1) := dk_109 (dk_at dksX3_part_0 15 rfl rfl)
theorem dX3_part_16 : decode cX3_part 16 = .ok (.lreturn, 1) := dk_173 (dk_at dksX3_part_0 16 rfl rfl)
abbrev cX3_smith : ByteArray := prog_20_method_45_code
def yX3_smith : MethodName := ⟨RX3, "smith", "(II)J"⟩
def dkwX3_smith_1 : List UInt8 := [42, 27, 182, 0, 217, 42, 28, 182, 1, 6, 173]
abbrev dktX3_smith_1 : List UInt8 := dkwX3_smith_1 ++ []
def dkwX3_smith_0 : List UInt8 := [42, 27, 182, 0, 211, 153, 0, 15, 28, 133, 9, 20, 0, 202, 184, 0, 88, 154, 0, 7, 20, 0, 252, 173]
abbrev dktX3_smith_0 : List UInt8 := dkwX3_smith_0 ++ dktX3_smith_1
theorem dksX3_smith_0 : cX3_smith.data.toList.drop 0 = dktX3_smith_0 := by decide +kernel
theorem dksX3_smith_1 : cX3_smith.data.toList.drop 24 = dktX3_smith_1 := dk_seg dksX3_smith_0 24 rfl rfl
theorem dX3_smith_0 : decode cX3_smith 0 = .ok (.aload_n 0, 1) := dk_42 (dk_at dksX3_smith_0 0 rfl rfl)
theorem dX3_smith_1 : decode cX3_smith 1 = .ok (.iload_n 1, 1) := dk_27 (dk_at dksX3_smith_0 1 rfl rfl)
theorem dX3_smith_2 : decode cX3_smith 2 = .ok (.invokevirtual 211, 3) := dk_182 0 211 (dk_at dksX3_smith_0 2 rfl rfl)
theorem dX3_smith_5 : decode cX3_smith 5 = .ok (.ifCond .eq 15, 3) := dk_153 0 15 (dk_at dksX3_smith_0 5 rfl rfl)
theorem dX3_smith_8 : decode cX3_smith 8 = .ok (.iload_n 2, 1) := dk_28 (dk_at dksX3_smith_0 8 rfl rfl)
theorem dX3_smith_9 : decode cX3_smith 9 = .ok (.i2l, 1) := dk_133 (dk_at dksX3_smith_0 9 rfl rfl)
theorem dX3_smith_10 : decode cX3_smith 10 = .ok (.lconst 0, 1) := dk_9 (dk_at dksX3_smith_0 10 rfl rfl)
theorem dX3_smith_11 : decode cX3_smith 11 = .ok (.ldc2_w 202, 3) := dk_20 0 202 (dk_at dksX3_smith_0 11 rfl rfl)
theorem dX3_smith_14 : decode cX3_smith 14 = .ok (.invokestatic 88, 3) := dk_184 0 88 (dk_at dksX3_smith_0 14 rfl rfl)
theorem dX3_smith_17 : decode cX3_smith 17 = .ok (.ifCond .ne 7, 3) := dk_154 0 7 (dk_at dksX3_smith_0 17 rfl rfl)
theorem dX3_smith_20 : decode cX3_smith 20 = .ok (.ldc2_w 252, 3) := dk_20 0 252 (dk_at dksX3_smith_0 20 rfl rfl)
theorem dX3_smith_23 : decode cX3_smith 23 = .ok (.lreturn, 1) := dk_173 (dk_at dksX3_smith_0 23 rfl rfl)
theorem dX3_smith_24 : decode cX3_smith 24 = .ok (.aload_n 0, 1) := dk_42 (dk_at dksX3_smith_1 0 rfl rfl)
theorem dX3_smith_25 : decode cX3_smith 25 = .ok (.iload_n 1, 1) := dk_27 (dk_at dksX3_smith_1 1 rfl rfl)
theorem dX3_smith_26 : decode cX3_smith 26 = .ok (.invokevirtual 217, 3) := dk_182 0 217 (dk_at dksX3_smith_1 2 rfl rfl)
theorem dX3_smith_29 : decode cX3_smith 29 = .ok (.aload_n 0, 1) := dk_42 (dk_at dksX3_smith_1 5 rfl rfl)
theorem dX3_smith_30 : decode cX3_smith 30 = .ok (.iload_n 2, 1) := dk_28 (dk_at dksX3_smith_1 6 rfl rfl)
theorem dX3_smith_31 : decode cX3_smith 31 = .ok (.invokevirtual 262, 3) := dk_182 1 6 (dk_at dksX3_smith_1 7 rfl rfl)
theorem dX3_smith_34 : decode cX3_smith 34 = .ok (.lreturn, 1) := dk_173 (dk_at dksX3_smith_1 10 rfl rfl)
abbrev cX3_smithOf : ByteArray := prog_20_method_44_code
def yX3_smithOf : MethodName := ⟨RX3, "smithOf", "(I)J"⟩
def dkwX3_smithOf_6 : List UInt8 := [160, 0, 10, 22, 4, 32, 109, 167, 0, 13, 42, 182, 0, 254, 184, 0, 1, 22, 4, 109, 173]
abbrev dktX3_smithOf_6 : List UInt8 := dkwX3_smithOf_6 ++ []
def dkwX3_smithOf_5 : List UInt8 := [105, 101, 184, 0, 207, 55, 4, 132, 6, 1, 167, 255, 136, 27, 154, 0, 7, 32, 167, 0, 25, 27, 4]
abbrev dktX3_smithOf_5 : List UInt8 := dkwX3_smithOf_5 ++ dktX3_smithOf_6
def dkwX3_smithOf_4 : List UInt8 := [42, 180, 0, 36, 6, 21, 7, 104, 21, 10, 96, 47, 42, 180, 0, 36, 6, 21, 8, 104, 21, 9, 96, 47]
abbrev dktX3_smithOf_4 : List UInt8 := dkwX3_smithOf_4 ++ dktX3_smithOf_5
def dkwX3_smithOf_3 : List UInt8 := [180, 0, 36, 6, 21, 7, 104, 21, 9, 96, 47, 42, 180, 0, 36, 6, 21, 8, 104, 21, 10, 96, 47, 105]
abbrev dktX3_smithOf_3 : List UInt8 := dkwX3_smithOf_3 ++ dktX3_smithOf_4
def dkwX3_smithOf_2 : List UInt8 := [21, 6, 6, 112, 4, 96, 6, 112, 54, 9, 21, 6, 6, 112, 5, 96, 6, 112, 54, 10, 22, 4, 42]
abbrev dktX3_smithOf_2 : List UInt8 := dkwX3_smithOf_2 ++ dktX3_smithOf_3
def dkwX3_smithOf_1 : List UInt8 := [184, 0, 207, 65, 21, 6, 6, 108, 4, 96, 6, 112, 54, 7, 21, 6, 6, 108, 5, 96, 6, 112, 54, 8]
abbrev dktX3_smithOf_1 : List UInt8 := dkwX3_smithOf_1 ++ dktX3_smithOf_2
def dkwX3_smithOf_0 : List UInt8 := [9, 65, 9, 55, 4, 3, 54, 6, 21, 6, 16, 9, 162, 0, 119, 32, 42, 180, 0, 36, 21, 6, 47]
abbrev dktX3_smithOf_0 : List UInt8 := dkwX3_smithOf_0 ++ dktX3_smithOf_1
theorem dksX3_smithOf_0 : cX3_smithOf.data.toList.drop 0 = dktX3_smithOf_0 := by decide +kernel
theorem dksX3_smithOf_1 : cX3_smithOf.data.toList.drop 23 = dktX3_smithOf_1 := dk_seg dksX3_smithOf_0 23 rfl rfl
theorem dksX3_smithOf_2 : cX3_smithOf.data.toList.drop 47 = dktX3_smithOf_2 := dk_seg dksX3_smithOf_1 24 rfl rfl
theorem dksX3_smithOf_3 : cX3_smithOf.data.toList.drop 70 = dktX3_smithOf_3 := dk_seg dksX3_smithOf_2 23 rfl rfl
theorem dksX3_smithOf_4 : cX3_smithOf.data.toList.drop 94 = dktX3_smithOf_4 := dk_seg dksX3_smithOf_3 24 rfl rfl
theorem dksX3_smithOf_5 : cX3_smithOf.data.toList.drop 118 = dktX3_smithOf_5 := dk_seg dksX3_smithOf_4 24 rfl rfl
theorem dksX3_smithOf_6 : cX3_smithOf.data.toList.drop 141 = dktX3_smithOf_6 := dk_seg dksX3_smithOf_5 23 rfl rfl
theorem dX3_smithOf_0 : decode cX3_smithOf 0 = .ok (.lconst 0, 1) := dk_9 (dk_at dksX3_smithOf_0 0 rfl rfl)
theorem dX3_smithOf_1 : decode cX3_smithOf 1 = .ok (.lstore_n 2, 1) := dk_65 (dk_at dksX3_smithOf_0 1 rfl rfl)
theorem dX3_smithOf_2 : decode cX3_smithOf 2 = .ok (.lconst 0, 1) := dk_9 (dk_at dksX3_smithOf_0 2 rfl rfl)
theorem dX3_smithOf_3 : decode cX3_smithOf 3 = .ok (.lstore 4, 2) := dk_55 4 (dk_at dksX3_smithOf_0 3 rfl rfl)
theorem dX3_smithOf_5 : decode cX3_smithOf 5 = .ok (.iconst 0, 1) := dk_3 (dk_at dksX3_smithOf_0 5 rfl rfl)
theorem dX3_smithOf_6 : decode cX3_smithOf 6 = .ok (.istore 6, 2) := dk_54 6 (dk_at dksX3_smithOf_0 6 rfl rfl)
theorem dX3_smithOf_8 : decode cX3_smithOf 8 = .ok (.iload 6, 2) := dk_21 6 (dk_at dksX3_smithOf_0 8 rfl rfl)
theorem dX3_smithOf_10 : decode cX3_smithOf 10 = .ok (.bipush 9, 2) := dk_16 9 (dk_at dksX3_smithOf_0 10 rfl rfl)
theorem dX3_smithOf_12 : decode cX3_smithOf 12 = .ok (.if_icmp .ge 119, 3) := dk_162 0 119 (dk_at dksX3_smithOf_0 12 rfl rfl)
theorem dX3_smithOf_15 : decode cX3_smithOf 15 = .ok (.lload_n 2, 1) := dk_32 (dk_at dksX3_smithOf_0 15 rfl rfl)
theorem dX3_smithOf_16 : decode cX3_smithOf 16 = .ok (.aload_n 0, 1) := dk_42 (dk_at dksX3_smithOf_0 16 rfl rfl)
theorem dX3_smithOf_17 : decode cX3_smithOf 17 = .ok (.getfield 36, 3) := dk_180 0 36 (dk_at dksX3_smithOf_0 17 rfl rfl)
theorem dX3_smithOf_20 : decode cX3_smithOf 20 = .ok (.iload 6, 2) := dk_21 6 (dk_at dksX3_smithOf_0 20 rfl rfl)
theorem dX3_smithOf_22 : decode cX3_smithOf 22 = .ok (.laload, 1) := dk_47 (dk_at dksX3_smithOf_0 22 rfl rfl)
theorem dX3_smithOf_23 : decode cX3_smithOf 23 = .ok (.invokestatic 207, 3) := dk_184 0 207 (dk_at dksX3_smithOf_1 0 rfl rfl)
theorem dX3_smithOf_26 : decode cX3_smithOf 26 = .ok (.lstore_n 2, 1) := dk_65 (dk_at dksX3_smithOf_1 3 rfl rfl)
theorem dX3_smithOf_27 : decode cX3_smithOf 27 = .ok (.iload 6, 2) := dk_21 6 (dk_at dksX3_smithOf_1 4 rfl rfl)
theorem dX3_smithOf_29 : decode cX3_smithOf 29 = .ok (.iconst 3, 1) := dk_6 (dk_at dksX3_smithOf_1 6 rfl rfl)
theorem dX3_smithOf_30 : decode cX3_smithOf 30 = .ok (.idiv, 1) := dk_108 (dk_at dksX3_smithOf_1 7 rfl rfl)
theorem dX3_smithOf_31 : decode cX3_smithOf 31 = .ok (.iconst 1, 1) := dk_4 (dk_at dksX3_smithOf_1 8 rfl rfl)
theorem dX3_smithOf_32 : decode cX3_smithOf 32 = .ok (.iadd, 1) := dk_96 (dk_at dksX3_smithOf_1 9 rfl rfl)
theorem dX3_smithOf_33 : decode cX3_smithOf 33 = .ok (.iconst 3, 1) := dk_6 (dk_at dksX3_smithOf_1 10 rfl rfl)
theorem dX3_smithOf_34 : decode cX3_smithOf 34 = .ok (.irem, 1) := dk_112 (dk_at dksX3_smithOf_1 11 rfl rfl)
theorem dX3_smithOf_35 : decode cX3_smithOf 35 = .ok (.istore 7, 2) := dk_54 7 (dk_at dksX3_smithOf_1 12 rfl rfl)
theorem dX3_smithOf_37 : decode cX3_smithOf 37 = .ok (.iload 6, 2) := dk_21 6 (dk_at dksX3_smithOf_1 14 rfl rfl)
theorem dX3_smithOf_39 : decode cX3_smithOf 39 = .ok (.iconst 3, 1) := dk_6 (dk_at dksX3_smithOf_1 16 rfl rfl)
theorem dX3_smithOf_40 : decode cX3_smithOf 40 = .ok (.idiv, 1) := dk_108 (dk_at dksX3_smithOf_1 17 rfl rfl)
theorem dX3_smithOf_41 : decode cX3_smithOf 41 = .ok (.iconst 2, 1) := dk_5 (dk_at dksX3_smithOf_1 18 rfl rfl)
theorem dX3_smithOf_42 : decode cX3_smithOf 42 = .ok (.iadd, 1) := dk_96 (dk_at dksX3_smithOf_1 19 rfl rfl)
theorem dX3_smithOf_43 : decode cX3_smithOf 43 = .ok (.iconst 3, 1) := dk_6 (dk_at dksX3_smithOf_1 20 rfl rfl)
theorem dX3_smithOf_44 : decode cX3_smithOf 44 = .ok (.irem, 1) := dk_112 (dk_at dksX3_smithOf_1 21 rfl rfl)
theorem dX3_smithOf_45 : decode cX3_smithOf 45 = .ok (.istore 8, 2) := dk_54 8 (dk_at dksX3_smithOf_1 22 rfl rfl)
theorem dX3_smithOf_47 : decode cX3_smithOf 47 = .ok (.iload 6, 2) := dk_21 6 (dk_at dksX3_smithOf_2 0 rfl rfl)
theorem dX3_smithOf_49 : decode cX3_smithOf 49 = .ok (.iconst 3, 1) := dk_6 (dk_at dksX3_smithOf_2 2 rfl rfl)
theorem dX3_smithOf_50 : decode cX3_smithOf 50 = .ok (.irem, 1) := dk_112 (dk_at dksX3_smithOf_2 3 rfl rfl)
theorem dX3_smithOf_51 : decode cX3_smithOf 51 = .ok (.iconst 1, 1) := dk_4 (dk_at dksX3_smithOf_2 4 rfl rfl)
theorem dX3_smithOf_52 : decode cX3_smithOf 52 = .ok (.iadd, 1) := dk_96 (dk_at dksX3_smithOf_2 5 rfl rfl)
theorem dX3_smithOf_53 : decode cX3_smithOf 53 = .ok (.iconst 3, 1) := dk_6 (dk_at dksX3_smithOf_2 6 rfl rfl)
theorem dX3_smithOf_54 : decode cX3_smithOf 54 = .ok (.irem, 1) := dk_112 (dk_at dksX3_smithOf_2 7 rfl rfl)
theorem dX3_smithOf_55 : decode cX3_smithOf 55 = .ok (.istore 9, 2) := dk_54 9 (dk_at dksX3_smithOf_2 8 rfl rfl)
theorem dX3_smithOf_57 : decode cX3_smithOf 57 = .ok (.iload 6, 2) := dk_21 6 (dk_at dksX3_smithOf_2 10 rfl rfl)
theorem dX3_smithOf_59 : decode cX3_smithOf 59 = .ok (.iconst 3, 1) := dk_6 (dk_at dksX3_smithOf_2 12 rfl rfl)
theorem dX3_smithOf_60 : decode cX3_smithOf 60 = .ok (.irem, 1) := dk_112 (dk_at dksX3_smithOf_2 13 rfl rfl)
theorem dX3_smithOf_61 : decode cX3_smithOf 61 = .ok (.iconst 2, 1) := dk_5 (dk_at dksX3_smithOf_2 14 rfl rfl)
theorem dX3_smithOf_62 : decode cX3_smithOf 62 = .ok (.iadd, 1) := dk_96 (dk_at dksX3_smithOf_2 15 rfl rfl)
theorem dX3_smithOf_63 : decode cX3_smithOf 63 = .ok (.iconst 3, 1) := dk_6 (dk_at dksX3_smithOf_2 16 rfl rfl)
theorem dX3_smithOf_64 : decode cX3_smithOf 64 = .ok (.irem, 1) := dk_112 (dk_at dksX3_smithOf_2 17 rfl rfl)
theorem dX3_smithOf_65 : decode cX3_smithOf 65 = .ok (.istore 10, 2) := dk_54 10 (dk_at dksX3_smithOf_2 18 rfl rfl)
theorem dX3_smithOf_67 : decode cX3_smithOf 67 = .ok (.lload 4, 2) := dk_22 4 (dk_at dksX3_smithOf_2 20 rfl rfl)
theorem dX3_smithOf_69 : decode cX3_smithOf 69 = .ok (.aload_n 0, 1) := dk_42 (dk_at dksX3_smithOf_2 22 rfl rfl)
theorem dX3_smithOf_70 : decode cX3_smithOf 70 = .ok (.getfield 36, 3) := dk_180 0 36 (dk_at dksX3_smithOf_3 0 rfl rfl)
theorem dX3_smithOf_73 : decode cX3_smithOf 73 = .ok (.iconst 3, 1) := dk_6 (dk_at dksX3_smithOf_3 3 rfl rfl)
theorem dX3_smithOf_74 : decode cX3_smithOf 74 = .ok (.iload 7, 2) := dk_21 7 (dk_at dksX3_smithOf_3 4 rfl rfl)
theorem dX3_smithOf_76 : decode cX3_smithOf 76 = .ok (.imul, 1) := dk_104 (dk_at dksX3_smithOf_3 6 rfl rfl)
theorem dX3_smithOf_77 : decode cX3_smithOf 77 = .ok (.iload 9, 2) := dk_21 9 (dk_at dksX3_smithOf_3 7 rfl rfl)
theorem dX3_smithOf_79 : decode cX3_smithOf 79 = .ok (.iadd, 1) := dk_96 (dk_at dksX3_smithOf_3 9 rfl rfl)
theorem dX3_smithOf_80 : decode cX3_smithOf 80 = .ok (.laload, 1) := dk_47 (dk_at dksX3_smithOf_3 10 rfl rfl)
theorem dX3_smithOf_81 : decode cX3_smithOf 81 = .ok (.aload_n 0, 1) := dk_42 (dk_at dksX3_smithOf_3 11 rfl rfl)
theorem dX3_smithOf_82 : decode cX3_smithOf 82 = .ok (.getfield 36, 3) := dk_180 0 36 (dk_at dksX3_smithOf_3 12 rfl rfl)
theorem dX3_smithOf_85 : decode cX3_smithOf 85 = .ok (.iconst 3, 1) := dk_6 (dk_at dksX3_smithOf_3 15 rfl rfl)
theorem dX3_smithOf_86 : decode cX3_smithOf 86 = .ok (.iload 8, 2) := dk_21 8 (dk_at dksX3_smithOf_3 16 rfl rfl)
theorem dX3_smithOf_88 : decode cX3_smithOf 88 = .ok (.imul, 1) := dk_104 (dk_at dksX3_smithOf_3 18 rfl rfl)
theorem dX3_smithOf_89 : decode cX3_smithOf 89 = .ok (.iload 10, 2) := dk_21 10 (dk_at dksX3_smithOf_3 19 rfl rfl)
theorem dX3_smithOf_91 : decode cX3_smithOf 91 = .ok (.iadd, 1) := dk_96 (dk_at dksX3_smithOf_3 21 rfl rfl)
theorem dX3_smithOf_92 : decode cX3_smithOf 92 = .ok (.laload, 1) := dk_47 (dk_at dksX3_smithOf_3 22 rfl rfl)
theorem dX3_smithOf_93 : decode cX3_smithOf 93 = .ok (.lmul, 1) := dk_105 (dk_at dksX3_smithOf_3 23 rfl rfl)
theorem dX3_smithOf_94 : decode cX3_smithOf 94 = .ok (.aload_n 0, 1) := dk_42 (dk_at dksX3_smithOf_4 0 rfl rfl)
theorem dX3_smithOf_95 : decode cX3_smithOf 95 = .ok (.getfield 36, 3) := dk_180 0 36 (dk_at dksX3_smithOf_4 1 rfl rfl)
theorem dX3_smithOf_98 : decode cX3_smithOf 98 = .ok (.iconst 3, 1) := dk_6 (dk_at dksX3_smithOf_4 4 rfl rfl)
theorem dX3_smithOf_99 : decode cX3_smithOf 99 = .ok (.iload 7, 2) := dk_21 7 (dk_at dksX3_smithOf_4 5 rfl rfl)
theorem dX3_smithOf_101 : decode cX3_smithOf 101 = .ok (.imul, 1) := dk_104 (dk_at dksX3_smithOf_4 7 rfl rfl)
theorem dX3_smithOf_102 : decode cX3_smithOf 102 = .ok (.iload 10, 2) := dk_21 10 (dk_at dksX3_smithOf_4 8 rfl rfl)
theorem dX3_smithOf_104 : decode cX3_smithOf 104 = .ok (.iadd, 1) := dk_96 (dk_at dksX3_smithOf_4 10 rfl rfl)
theorem dX3_smithOf_105 : decode cX3_smithOf 105 = .ok (.laload, 1) := dk_47 (dk_at dksX3_smithOf_4 11 rfl rfl)
theorem dX3_smithOf_106 : decode cX3_smithOf 106 = .ok (.aload_n 0, 1) := dk_42 (dk_at dksX3_smithOf_4 12 rfl rfl)
theorem dX3_smithOf_107 : decode cX3_smithOf 107 = .ok (.getfield 36, 3) := dk_180 0 36 (dk_at dksX3_smithOf_4 13 rfl rfl)
theorem dX3_smithOf_110 : decode cX3_smithOf 110 = .ok (.iconst 3, 1) := dk_6 (dk_at dksX3_smithOf_4 16 rfl rfl)
theorem dX3_smithOf_111 : decode cX3_smithOf 111 = .ok (.iload 8, 2) := dk_21 8 (dk_at dksX3_smithOf_4 17 rfl rfl)
theorem dX3_smithOf_113 : decode cX3_smithOf 113 = .ok (.imul, 1) := dk_104 (dk_at dksX3_smithOf_4 19 rfl rfl)
theorem dX3_smithOf_114 : decode cX3_smithOf 114 = .ok (.iload 9, 2) := dk_21 9 (dk_at dksX3_smithOf_4 20 rfl rfl)
theorem dX3_smithOf_116 : decode cX3_smithOf 116 = .ok (.iadd, 1) := dk_96 (dk_at dksX3_smithOf_4 22 rfl rfl)
theorem dX3_smithOf_117 : decode cX3_smithOf 117 = .ok (.laload, 1) := dk_47 (dk_at dksX3_smithOf_4 23 rfl rfl)
theorem dX3_smithOf_118 : decode cX3_smithOf 118 = .ok (.lmul, 1) := dk_105 (dk_at dksX3_smithOf_5 0 rfl rfl)
theorem dX3_smithOf_119 : decode cX3_smithOf 119 = .ok (.lsub, 1) := dk_101 (dk_at dksX3_smithOf_5 1 rfl rfl)
theorem dX3_smithOf_120 : decode cX3_smithOf 120 = .ok (.invokestatic 207, 3) := dk_184 0 207 (dk_at dksX3_smithOf_5 2 rfl rfl)
theorem dX3_smithOf_123 : decode cX3_smithOf 123 = .ok (.lstore 4, 2) := dk_55 4 (dk_at dksX3_smithOf_5 5 rfl rfl)
theorem dX3_smithOf_125 : decode cX3_smithOf 125 = .ok (.iinc 6 1, 3) := dk_132 6 1 (dk_at dksX3_smithOf_5 7 rfl rfl)
theorem dX3_smithOf_128 : decode cX3_smithOf 128 = .ok (.goto (-120), 3) := dk_167 255 136 (dk_at dksX3_smithOf_5 10 rfl rfl)
theorem dX3_smithOf_131 : decode cX3_smithOf 131 = .ok (.iload_n 1, 1) := dk_27 (dk_at dksX3_smithOf_5 13 rfl rfl)
theorem dX3_smithOf_132 : decode cX3_smithOf 132 = .ok (.ifCond .ne 7, 3) := dk_154 0 7 (dk_at dksX3_smithOf_5 14 rfl rfl)
theorem dX3_smithOf_135 : decode cX3_smithOf 135 = .ok (.lload_n 2, 1) := dk_32 (dk_at dksX3_smithOf_5 17 rfl rfl)
theorem dX3_smithOf_136 : decode cX3_smithOf 136 = .ok (.goto 25, 3) := dk_167 0 25 (dk_at dksX3_smithOf_5 18 rfl rfl)
theorem dX3_smithOf_139 : decode cX3_smithOf 139 = .ok (.iload_n 1, 1) := dk_27 (dk_at dksX3_smithOf_5 21 rfl rfl)
theorem dX3_smithOf_140 : decode cX3_smithOf 140 = .ok (.iconst 1, 1) := dk_4 (dk_at dksX3_smithOf_5 22 rfl rfl)
theorem dX3_smithOf_141 : decode cX3_smithOf 141 = .ok (.if_icmp .ne 10, 3) := dk_160 0 10 (dk_at dksX3_smithOf_6 0 rfl rfl)
theorem dX3_smithOf_144 : decode cX3_smithOf 144 = .ok (.lload 4, 2) := dk_22 4 (dk_at dksX3_smithOf_6 3 rfl rfl)
theorem dX3_smithOf_146 : decode cX3_smithOf 146 = .ok (.lload_n 2, 1) := dk_32 (dk_at dksX3_smithOf_6 5 rfl rfl)
theorem dX3_smithOf_147 : decode cX3_smithOf 147 = .ok (.ldiv, 1) := dk_109 (dk_at dksX3_smithOf_6 6 rfl rfl)
theorem dX3_smithOf_148 : decode cX3_smithOf 148 = .ok (.goto 13, 3) := dk_167 0 13 (dk_at dksX3_smithOf_6 7 rfl rfl)
theorem dX3_smithOf_151 : decode cX3_smithOf 151 = .ok (.aload_n 0, 1) := dk_42 (dk_at dksX3_smithOf_6 10 rfl rfl)
theorem dX3_smithOf_152 : decode cX3_smithOf 152 = .ok (.invokevirtual 254, 3) := dk_182 0 254 (dk_at dksX3_smithOf_6 11 rfl rfl)
theorem dX3_smithOf_155 : decode cX3_smithOf 155 = .ok (.invokestatic 1, 3) := dk_184 0 1 (dk_at dksX3_smithOf_6 14 rfl rfl)
theorem dX3_smithOf_158 : decode cX3_smithOf 158 = .ok (.lload 4, 2) := dk_22 4 (dk_at dksX3_smithOf_6 17 rfl rfl)
theorem dX3_smithOf_160 : decode cX3_smithOf 160 = .ok (.ldiv, 1) := dk_109 (dk_at dksX3_smithOf_6 19 rfl rfl)
theorem dX3_smithOf_161 : decode cX3_smithOf 161 = .ok (.lreturn, 1) := dk_173 (dk_at dksX3_smithOf_6 20 rfl rfl)
abbrev cX3_has : ByteArray := prog_20_method_49_code
def yX3_has : MethodName := ⟨RX3, "has", "(IIIII)I"⟩
def dkwX3_has_1 : List UInt8 := [27, 28, 133, 29, 133, 21, 4, 133, 21, 5, 133, 182, 1, 23, 153, 0, 7, 4, 167, 0, 4, 3, 172]
abbrev dktX3_has_1 : List UInt8 := dkwX3_has_1 ++ []
def dkwX3_has_0 : List UInt8 := [42, 27, 182, 0, 211, 153, 0, 15, 28, 29, 21, 4, 21, 5, 184, 1, 19, 154, 0, 6, 16, 254, 172, 42]
abbrev dktX3_has_0 : List UInt8 := dkwX3_has_0 ++ dktX3_has_1
theorem dksX3_has_0 : cX3_has.data.toList.drop 0 = dktX3_has_0 := by decide +kernel
theorem dksX3_has_1 : cX3_has.data.toList.drop 24 = dktX3_has_1 := dk_seg dksX3_has_0 24 rfl rfl
theorem dX3_has_0 : decode cX3_has 0 = .ok (.aload_n 0, 1) := dk_42 (dk_at dksX3_has_0 0 rfl rfl)
theorem dX3_has_1 : decode cX3_has 1 = .ok (.iload_n 1, 1) := dk_27 (dk_at dksX3_has_0 1 rfl rfl)
theorem dX3_has_2 : decode cX3_has 2 = .ok (.invokevirtual 211, 3) := dk_182 0 211 (dk_at dksX3_has_0 2 rfl rfl)
theorem dX3_has_5 : decode cX3_has 5 = .ok (.ifCond .eq 15, 3) := dk_153 0 15 (dk_at dksX3_has_0 5 rfl rfl)
theorem dX3_has_8 : decode cX3_has 8 = .ok (.iload_n 2, 1) := dk_28 (dk_at dksX3_has_0 8 rfl rfl)
theorem dX3_has_9 : decode cX3_has 9 = .ok (.iload_n 3, 1) := dk_29 (dk_at dksX3_has_0 9 rfl rfl)
theorem dX3_has_10 : decode cX3_has 10 = .ok (.iload 4, 2) := dk_21 4 (dk_at dksX3_has_0 10 rfl rfl)
theorem dX3_has_12 : decode cX3_has 12 = .ok (.iload 5, 2) := dk_21 5 (dk_at dksX3_has_0 12 rfl rfl)
theorem dX3_has_14 : decode cX3_has 14 = .ok (.invokestatic 275, 3) := dk_184 1 19 (dk_at dksX3_has_0 14 rfl rfl)
theorem dX3_has_17 : decode cX3_has 17 = .ok (.ifCond .ne 6, 3) := dk_154 0 6 (dk_at dksX3_has_0 17 rfl rfl)
theorem dX3_has_20 : decode cX3_has 20 = .ok (.bipush (-2), 2) := dk_16 254 (dk_at dksX3_has_0 20 rfl rfl)
theorem dX3_has_22 : decode cX3_has 22 = .ok (.ireturn, 1) := dk_172 (dk_at dksX3_has_0 22 rfl rfl)
theorem dX3_has_23 : decode cX3_has 23 = .ok (.aload_n 0, 1) := dk_42 (dk_at dksX3_has_0 23 rfl rfl)
theorem dX3_has_24 : decode cX3_has 24 = .ok (.iload_n 1, 1) := dk_27 (dk_at dksX3_has_1 0 rfl rfl)
theorem dX3_has_25 : decode cX3_has 25 = .ok (.iload_n 2, 1) := dk_28 (dk_at dksX3_has_1 1 rfl rfl)
theorem dX3_has_26 : decode cX3_has 26 = .ok (.i2l, 1) := dk_133 (dk_at dksX3_has_1 2 rfl rfl)
theorem dX3_has_27 : decode cX3_has 27 = .ok (.iload_n 3, 1) := dk_29 (dk_at dksX3_has_1 3 rfl rfl)
theorem dX3_has_28 : decode cX3_has 28 = .ok (.i2l, 1) := dk_133 (dk_at dksX3_has_1 4 rfl rfl)
theorem dX3_has_29 : decode cX3_has 29 = .ok (.iload 4, 2) := dk_21 4 (dk_at dksX3_has_1 5 rfl rfl)
theorem dX3_has_31 : decode cX3_has 31 = .ok (.i2l, 1) := dk_133 (dk_at dksX3_has_1 7 rfl rfl)
theorem dX3_has_32 : decode cX3_has 32 = .ok (.iload 5, 2) := dk_21 5 (dk_at dksX3_has_1 8 rfl rfl)
theorem dX3_has_34 : decode cX3_has 34 = .ok (.i2l, 1) := dk_133 (dk_at dksX3_has_1 10 rfl rfl)
theorem dX3_has_35 : decode cX3_has 35 = .ok (.invokevirtual 279, 3) := dk_182 1 23 (dk_at dksX3_has_1 11 rfl rfl)
theorem dX3_has_38 : decode cX3_has 38 = .ok (.ifCond .eq 7, 3) := dk_153 0 7 (dk_at dksX3_has_1 14 rfl rfl)
theorem dX3_has_41 : decode cX3_has 41 = .ok (.iconst 1, 1) := dk_4 (dk_at dksX3_has_1 17 rfl rfl)
theorem dX3_has_42 : decode cX3_has 42 = .ok (.goto 4, 3) := dk_167 0 4 (dk_at dksX3_has_1 18 rfl rfl)
theorem dX3_has_45 : decode cX3_has 45 = .ok (.iconst 0, 1) := dk_3 (dk_at dksX3_has_1 21 rfl rfl)
theorem dX3_has_46 : decode cX3_has 46 = .ok (.ireturn, 1) := dk_172 (dk_at dksX3_has_1 22 rfl rfl)
abbrev cX3_isPoint : ByteArray := prog_20_method_48_code
def yX3_isPoint : MethodName := ⟨RX3, "isPoint", "(IIII)Z"⟩
def dkwX3_isPoint_2 : List UInt8 := [20, 1, 17, 184, 0, 88, 153, 0, 7, 4, 167, 0, 4, 3, 172]
abbrev dktX3_isPoint_2 : List UInt8 := dkwX3_isPoint_2 ++ []
def dkwX3_isPoint_1 : List UInt8 := [184, 0, 88, 153, 0, 33, 28, 133, 20, 1, 13, 20, 1, 15, 184, 0, 88, 153, 0, 19, 29, 133, 10]
abbrev dktX3_isPoint_1 : List UInt8 := dkwX3_isPoint_1 ++ dktX3_isPoint_2
def dkwX3_isPoint_0 : List UInt8 := [26, 133, 20, 1, 13, 20, 1, 15, 184, 0, 88, 153, 0, 47, 27, 133, 20, 1, 13, 20, 1, 15]
abbrev dktX3_isPoint_0 : List UInt8 := dkwX3_isPoint_0 ++ dktX3_isPoint_1
theorem dksX3_isPoint_0 : cX3_isPoint.data.toList.drop 0 = dktX3_isPoint_0 := by decide +kernel
theorem dksX3_isPoint_1 : cX3_isPoint.data.toList.drop 22 = dktX3_isPoint_1 := dk_seg dksX3_isPoint_0 22 rfl rfl
theorem dksX3_isPoint_2 : cX3_isPoint.data.toList.drop 45 = dktX3_isPoint_2 := dk_seg dksX3_isPoint_1 23 rfl rfl
theorem dX3_isPoint_0 : decode cX3_isPoint 0 = .ok (.iload_n 0, 1) := dk_26 (dk_at dksX3_isPoint_0 0 rfl rfl)
theorem dX3_isPoint_1 : decode cX3_isPoint 1 = .ok (.i2l, 1) := dk_133 (dk_at dksX3_isPoint_0 1 rfl rfl)
theorem dX3_isPoint_2 : decode cX3_isPoint 2 = .ok (.ldc2_w 269, 3) := dk_20 1 13 (dk_at dksX3_isPoint_0 2 rfl rfl)
theorem dX3_isPoint_5 : decode cX3_isPoint 5 = .ok (.ldc2_w 271, 3) := dk_20 1 15 (dk_at dksX3_isPoint_0 5 rfl rfl)
theorem dX3_isPoint_8 : decode cX3_isPoint 8 = .ok (.invokestatic 88, 3) := dk_184 0 88 (dk_at dksX3_isPoint_0 8 rfl rfl)
theorem dX3_isPoint_11 : decode cX3_isPoint 11 = .ok (.ifCond .eq 47, 3) := dk_153 0 47 (dk_at dksX3_isPoint_0 11 rfl rfl)
theorem dX3_isPoint_14 : decode cX3_isPoint 14 = .ok (.iload_n 1, 1) := dk_27 (dk_at dksX3_isPoint_0 14 rfl rfl)
theorem dX3_isPoint_15 : decode cX3_isPoint 15 = .ok (.i2l, 1) := dk_133 (dk_at dksX3_isPoint_0 15 rfl rfl)
theorem dX3_isPoint_16 : decode cX3_isPoint 16 = .ok (.ldc2_w 269, 3) := dk_20 1 13 (dk_at dksX3_isPoint_0 16 rfl rfl)
theorem dX3_isPoint_19 : decode cX3_isPoint 19 = .ok (.ldc2_w 271, 3) := dk_20 1 15 (dk_at dksX3_isPoint_0 19 rfl rfl)
theorem dX3_isPoint_22 : decode cX3_isPoint 22 = .ok (.invokestatic 88, 3) := dk_184 0 88 (dk_at dksX3_isPoint_1 0 rfl rfl)
theorem dX3_isPoint_25 : decode cX3_isPoint 25 = .ok (.ifCond .eq 33, 3) := dk_153 0 33 (dk_at dksX3_isPoint_1 3 rfl rfl)
theorem dX3_isPoint_28 : decode cX3_isPoint 28 = .ok (.iload_n 2, 1) := dk_28 (dk_at dksX3_isPoint_1 6 rfl rfl)
theorem dX3_isPoint_29 : decode cX3_isPoint 29 = .ok (.i2l, 1) := dk_133 (dk_at dksX3_isPoint_1 7 rfl rfl)
theorem dX3_isPoint_30 : decode cX3_isPoint 30 = .ok (.ldc2_w 269, 3) := dk_20 1 13 (dk_at dksX3_isPoint_1 8 rfl rfl)
theorem dX3_isPoint_33 : decode cX3_isPoint 33 = .ok (.ldc2_w 271, 3) := dk_20 1 15 (dk_at dksX3_isPoint_1 11 rfl rfl)
theorem dX3_isPoint_36 : decode cX3_isPoint 36 = .ok (.invokestatic 88, 3) := dk_184 0 88 (dk_at dksX3_isPoint_1 14 rfl rfl)
theorem dX3_isPoint_39 : decode cX3_isPoint 39 = .ok (.ifCond .eq 19, 3) := dk_153 0 19 (dk_at dksX3_isPoint_1 17 rfl rfl)
theorem dX3_isPoint_42 : decode cX3_isPoint 42 = .ok (.iload_n 3, 1) := dk_29 (dk_at dksX3_isPoint_1 20 rfl rfl)
theorem dX3_isPoint_43 : decode cX3_isPoint 43 = .ok (.i2l, 1) := dk_133 (dk_at dksX3_isPoint_1 21 rfl rfl)
theorem dX3_isPoint_44 : decode cX3_isPoint 44 = .ok (.lconst 1, 1) := dk_10 (dk_at dksX3_isPoint_1 22 rfl rfl)
theorem dX3_isPoint_45 : decode cX3_isPoint 45 = .ok (.ldc2_w 273, 3) := dk_20 1 17 (dk_at dksX3_isPoint_2 0 rfl rfl)
theorem dX3_isPoint_48 : decode cX3_isPoint 48 = .ok (.invokestatic 88, 3) := dk_184 0 88 (dk_at dksX3_isPoint_2 3 rfl rfl)
theorem dX3_isPoint_51 : decode cX3_isPoint 51 = .ok (.ifCond .eq 7, 3) := dk_153 0 7 (dk_at dksX3_isPoint_2 6 rfl rfl)
theorem dX3_isPoint_54 : decode cX3_isPoint 54 = .ok (.iconst 1, 1) := dk_4 (dk_at dksX3_isPoint_2 9 rfl rfl)
theorem dX3_isPoint_55 : decode cX3_isPoint 55 = .ok (.goto 4, 3) := dk_167 0 4 (dk_at dksX3_isPoint_2 10 rfl rfl)
theorem dX3_isPoint_58 : decode cX3_isPoint 58 = .ok (.iconst 0, 1) := dk_3 (dk_at dksX3_isPoint_2 13 rfl rfl)
theorem dX3_isPoint_59 : decode cX3_isPoint 59 = .ok (.ireturn, 1) := dk_172 (dk_at dksX3_isPoint_2 14 rfl rfl)
abbrev cX3_latticeHas : ByteArray := prog_20_method_47_code
def yX3_latticeHas : MethodName := ⟨RX3, "latticeHas", "(IJJJJ)Z"⟩
def dkwX3_latticeHas_0 : List UInt8 := [42, 27, 182, 0, 217, 42, 182, 0, 246, 42, 32, 22, 4, 22, 6, 22, 8, 182, 1, 9, 172]
abbrev dktX3_latticeHas_0 : List UInt8 := dkwX3_latticeHas_0 ++ []
theorem dksX3_latticeHas_0 : cX3_latticeHas.data.toList.drop 0 = dktX3_latticeHas_0 := by decide +kernel
theorem dX3_latticeHas_0 : decode cX3_latticeHas 0 = .ok (.aload_n 0, 1) := dk_42 (dk_at dksX3_latticeHas_0 0 rfl rfl)
theorem dX3_latticeHas_1 : decode cX3_latticeHas 1 = .ok (.iload_n 1, 1) := dk_27 (dk_at dksX3_latticeHas_0 1 rfl rfl)
theorem dX3_latticeHas_2 : decode cX3_latticeHas 2 = .ok (.invokevirtual 217, 3) := dk_182 0 217 (dk_at dksX3_latticeHas_0 2 rfl rfl)
theorem dX3_latticeHas_5 : decode cX3_latticeHas 5 = .ok (.aload_n 0, 1) := dk_42 (dk_at dksX3_latticeHas_0 5 rfl rfl)
theorem dX3_latticeHas_6 : decode cX3_latticeHas 6 = .ok (.invokevirtual 246, 3) := dk_182 0 246 (dk_at dksX3_latticeHas_0 6 rfl rfl)
theorem dX3_latticeHas_9 : decode cX3_latticeHas 9 = .ok (.aload_n 0, 1) := dk_42 (dk_at dksX3_latticeHas_0 9 rfl rfl)
theorem dX3_latticeHas_10 : decode cX3_latticeHas 10 = .ok (.lload_n 2, 1) := dk_32 (dk_at dksX3_latticeHas_0 10 rfl rfl)
theorem dX3_latticeHas_11 : decode cX3_latticeHas 11 = .ok (.lload 4, 2) := dk_22 4 (dk_at dksX3_latticeHas_0 11 rfl rfl)
theorem dX3_latticeHas_13 : decode cX3_latticeHas 13 = .ok (.lload 6, 2) := dk_22 6 (dk_at dksX3_latticeHas_0 13 rfl rfl)
theorem dX3_latticeHas_15 : decode cX3_latticeHas 15 = .ok (.lload 8, 2) := dk_22 8 (dk_at dksX3_latticeHas_0 15 rfl rfl)
theorem dX3_latticeHas_17 : decode cX3_latticeHas 17 = .ok (.invokevirtual 265, 3) := dk_182 1 9 (dk_at dksX3_latticeHas_0 17 rfl rfl)
theorem dX3_latticeHas_20 : decode cX3_latticeHas 20 = .ok (.ireturn, 1) := dk_172 (dk_at dksX3_latticeHas_0 20 rfl rfl)
abbrev cX3_hasPoint : ByteArray := prog_20_method_46_code
def yX3_hasPoint : MethodName := ⟨RX3, "hasPoint", "(JJJJ)Z"⟩
def dkwX3_hasPoint_7 : List UInt8 := [21, 9, 104, 21, 12, 96, 47, 105, 101, 80, 132, 12, 1, 167, 255, 222, 132, 9, 1, 167, 255, 157, 4, 172]
abbrev dktX3_hasPoint_7 : List UInt8 := dkwX3_hasPoint_7 ++ []
def dkwX3_hasPoint_6 : List UInt8 := [54, 12, 21, 12, 6, 162, 0, 34, 42, 180, 0, 55, 21, 12, 92, 47, 22, 10, 42, 180, 0, 36, 6]
abbrev dktX3_hasPoint_6 : List UInt8 := dkwX3_hasPoint_6 ++ dktX3_hasPoint_7
def dkwX3_hasPoint_5 : List UInt8 := [180, 0, 55, 21, 9, 47, 42, 180, 0, 36, 6, 21, 9, 104, 21, 9, 96, 47, 109, 55, 10, 21, 9]
abbrev dktX3_hasPoint_5 : List UInt8 := dkwX3_hasPoint_5 ++ dktX3_hasPoint_6
def dkwX3_hasPoint_4 : List UInt8 := [21, 9, 47, 42, 180, 0, 36, 6, 21, 9, 104, 21, 9, 96, 47, 113, 9, 148, 153, 0, 5, 3, 172, 42]
abbrev dktX3_hasPoint_4 : List UInt8 := dkwX3_hasPoint_4 ++ dktX3_hasPoint_5
def dkwX3_hasPoint_3 : List UInt8 := [22, 7, 109, 80, 132, 9, 1, 167, 255, 218, 3, 54, 9, 21, 9, 6, 162, 0, 99, 42, 180, 0, 55]
abbrev dktX3_hasPoint_3 : List UInt8 := dkwX3_hasPoint_3 ++ dktX3_hasPoint_4
def dkwX3_hasPoint_2 : List UInt8 := [180, 0, 55, 21, 9, 47, 22, 7, 113, 9, 148, 153, 0, 5, 3, 172, 42, 180, 0, 55, 21, 9, 92, 47]
abbrev dktX3_hasPoint_2 : List UInt8 := dkwX3_hasPoint_2 ++ dktX3_hasPoint_3
def dkwX3_hasPoint_1 : List UInt8 := [42, 180, 0, 55, 5, 22, 5, 42, 180, 0, 191, 105, 80, 3, 54, 9, 21, 9, 6, 162, 0, 38, 42]
abbrev dktX3_hasPoint_1 : List UInt8 := dkwX3_hasPoint_1 ++ dktX3_hasPoint_2
def dkwX3_hasPoint_0 : List UInt8 := [42, 180, 0, 55, 3, 31, 42, 180, 0, 191, 105, 80, 42, 180, 0, 55, 4, 33, 42, 180, 0, 191, 105, 80]
abbrev dktX3_hasPoint_0 : List UInt8 := dkwX3_hasPoint_0 ++ dktX3_hasPoint_1
theorem dksX3_hasPoint_0 : cX3_hasPoint.data.toList.drop 0 = dktX3_hasPoint_0 := by decide +kernel
theorem dksX3_hasPoint_1 : cX3_hasPoint.data.toList.drop 24 = dktX3_hasPoint_1 := dk_seg dksX3_hasPoint_0 24 rfl rfl
theorem dksX3_hasPoint_2 : cX3_hasPoint.data.toList.drop 47 = dktX3_hasPoint_2 := dk_seg dksX3_hasPoint_1 23 rfl rfl
theorem dksX3_hasPoint_3 : cX3_hasPoint.data.toList.drop 71 = dktX3_hasPoint_3 := dk_seg dksX3_hasPoint_2 24 rfl rfl
theorem dksX3_hasPoint_4 : cX3_hasPoint.data.toList.drop 94 = dktX3_hasPoint_4 := dk_seg dksX3_hasPoint_3 23 rfl rfl
theorem dksX3_hasPoint_5 : cX3_hasPoint.data.toList.drop 118 = dktX3_hasPoint_5 := dk_seg dksX3_hasPoint_4 24 rfl rfl
theorem dksX3_hasPoint_6 : cX3_hasPoint.data.toList.drop 141 = dktX3_hasPoint_6 := dk_seg dksX3_hasPoint_5 23 rfl rfl
theorem dksX3_hasPoint_7 : cX3_hasPoint.data.toList.drop 164 = dktX3_hasPoint_7 := dk_seg dksX3_hasPoint_6 23 rfl rfl
theorem dX3_hasPoint_0 : decode cX3_hasPoint 0 = .ok (.aload_n 0, 1) := dk_42 (dk_at dksX3_hasPoint_0 0 rfl rfl)
theorem dX3_hasPoint_1 : decode cX3_hasPoint 1 = .ok (.getfield 55, 3) := dk_180 0 55 (dk_at dksX3_hasPoint_0 1 rfl rfl)
theorem dX3_hasPoint_4 : decode cX3_hasPoint 4 = .ok (.iconst 0, 1) := dk_3 (dk_at dksX3_hasPoint_0 4 rfl rfl)
theorem dX3_hasPoint_5 : decode cX3_hasPoint 5 = .ok (.lload_n 1, 1) := dk_31 (dk_at dksX3_hasPoint_0 5 rfl rfl)
theorem dX3_hasPoint_6 : decode cX3_hasPoint 6 = .ok (.aload_n 0, 1) := dk_42 (dk_at dksX3_hasPoint_0 6 rfl rfl)
theorem dX3_hasPoint_7 : decode cX3_hasPoint 7 = .ok (.getfield 191, 3) := dk_180 0 191 (dk_at dksX3_hasPoint_0 7 rfl rfl)
theorem dX3_hasPoint_10 : decode cX3_hasPoint 10 = .ok (.lmul, 1) := dk_105 (dk_at dksX3_hasPoint_0 10 rfl rfl)
theorem dX3_hasPoint_11 : decode cX3_hasPoint 11 = .ok (.lastore, 1) := dk_80 (dk_at dksX3_hasPoint_0 11 rfl rfl)
theorem dX3_hasPoint_12 : decode cX3_hasPoint 12 = .ok (.aload_n 0, 1) := dk_42 (dk_at dksX3_hasPoint_0 12 rfl rfl)
theorem dX3_hasPoint_13 : decode cX3_hasPoint 13 = .ok (.getfield 55, 3) := dk_180 0 55 (dk_at dksX3_hasPoint_0 13 rfl rfl)
theorem dX3_hasPoint_16 : decode cX3_hasPoint 16 = .ok (.iconst 1, 1) := dk_4 (dk_at dksX3_hasPoint_0 16 rfl rfl)
theorem dX3_hasPoint_17 : decode cX3_hasPoint 17 = .ok (.lload_n 3, 1) := dk_33 (dk_at dksX3_hasPoint_0 17 rfl rfl)
theorem dX3_hasPoint_18 : decode cX3_hasPoint 18 = .ok (.aload_n 0, 1) := dk_42 (dk_at dksX3_hasPoint_0 18 rfl rfl)
theorem dX3_hasPoint_19 : decode cX3_hasPoint 19 = .ok (.getfield 191, 3) := dk_180 0 191 (dk_at dksX3_hasPoint_0 19 rfl rfl)
theorem dX3_hasPoint_22 : decode cX3_hasPoint 22 = .ok (.lmul, 1) := dk_105 (dk_at dksX3_hasPoint_0 22 rfl rfl)
theorem dX3_hasPoint_23 : decode cX3_hasPoint 23 = .ok (.lastore, 1) := dk_80 (dk_at dksX3_hasPoint_0 23 rfl rfl)
theorem dX3_hasPoint_24 : decode cX3_hasPoint 24 = .ok (.aload_n 0, 1) := dk_42 (dk_at dksX3_hasPoint_1 0 rfl rfl)
theorem dX3_hasPoint_25 : decode cX3_hasPoint 25 = .ok (.getfield 55, 3) := dk_180 0 55 (dk_at dksX3_hasPoint_1 1 rfl rfl)
theorem dX3_hasPoint_28 : decode cX3_hasPoint 28 = .ok (.iconst 2, 1) := dk_5 (dk_at dksX3_hasPoint_1 4 rfl rfl)
theorem dX3_hasPoint_29 : decode cX3_hasPoint 29 = .ok (.lload 5, 2) := dk_22 5 (dk_at dksX3_hasPoint_1 5 rfl rfl)
theorem dX3_hasPoint_31 : decode cX3_hasPoint 31 = .ok (.aload_n 0, 1) := dk_42 (dk_at dksX3_hasPoint_1 7 rfl rfl)
theorem dX3_hasPoint_32 : decode cX3_hasPoint 32 = .ok (.getfield 191, 3) := dk_180 0 191 (dk_at dksX3_hasPoint_1 8 rfl rfl)
theorem dX3_hasPoint_35 : decode cX3_hasPoint 35 = .ok (.lmul, 1) := dk_105 (dk_at dksX3_hasPoint_1 11 rfl rfl)
theorem dX3_hasPoint_36 : decode cX3_hasPoint 36 = .ok (.lastore, 1) := dk_80 (dk_at dksX3_hasPoint_1 12 rfl rfl)
theorem dX3_hasPoint_37 : decode cX3_hasPoint 37 = .ok (.iconst 0, 1) := dk_3 (dk_at dksX3_hasPoint_1 13 rfl rfl)
theorem dX3_hasPoint_38 : decode cX3_hasPoint 38 = .ok (.istore 9, 2) := dk_54 9 (dk_at dksX3_hasPoint_1 14 rfl rfl)
theorem dX3_hasPoint_40 : decode cX3_hasPoint 40 = .ok (.iload 9, 2) := dk_21 9 (dk_at dksX3_hasPoint_1 16 rfl rfl)
theorem dX3_hasPoint_42 : decode cX3_hasPoint 42 = .ok (.iconst 3, 1) := dk_6 (dk_at dksX3_hasPoint_1 18 rfl rfl)
theorem dX3_hasPoint_43 : decode cX3_hasPoint 43 = .ok (.if_icmp .ge 38, 3) := dk_162 0 38 (dk_at dksX3_hasPoint_1 19 rfl rfl)
theorem dX3_hasPoint_46 : decode cX3_hasPoint 46 = .ok (.aload_n 0, 1) := dk_42 (dk_at dksX3_hasPoint_1 22 rfl rfl)
theorem dX3_hasPoint_47 : decode cX3_hasPoint 47 = .ok (.getfield 55, 3) := dk_180 0 55 (dk_at dksX3_hasPoint_2 0 rfl rfl)
theorem dX3_hasPoint_50 : decode cX3_hasPoint 50 = .ok (.iload 9, 2) := dk_21 9 (dk_at dksX3_hasPoint_2 3 rfl rfl)
theorem dX3_hasPoint_52 : decode cX3_hasPoint 52 = .ok (.laload, 1) := dk_47 (dk_at dksX3_hasPoint_2 5 rfl rfl)
theorem dX3_hasPoint_53 : decode cX3_hasPoint 53 = .ok (.lload 7, 2) := dk_22 7 (dk_at dksX3_hasPoint_2 6 rfl rfl)
theorem dX3_hasPoint_55 : decode cX3_hasPoint 55 = .ok (.lrem, 1) := dk_113 (dk_at dksX3_hasPoint_2 8 rfl rfl)
theorem dX3_hasPoint_56 : decode cX3_hasPoint 56 = .ok (.lconst 0, 1) := dk_9 (dk_at dksX3_hasPoint_2 9 rfl rfl)
theorem dX3_hasPoint_57 : decode cX3_hasPoint 57 = .ok (.lcmp, 1) := dk_148 (dk_at dksX3_hasPoint_2 10 rfl rfl)
theorem dX3_hasPoint_58 : decode cX3_hasPoint 58 = .ok (.ifCond .eq 5, 3) := dk_153 0 5 (dk_at dksX3_hasPoint_2 11 rfl rfl)
theorem dX3_hasPoint_61 : decode cX3_hasPoint 61 = .ok (.iconst 0, 1) := dk_3 (dk_at dksX3_hasPoint_2 14 rfl rfl)
theorem dX3_hasPoint_62 : decode cX3_hasPoint 62 = .ok (.ireturn, 1) := dk_172 (dk_at dksX3_hasPoint_2 15 rfl rfl)
theorem dX3_hasPoint_63 : decode cX3_hasPoint 63 = .ok (.aload_n 0, 1) := dk_42 (dk_at dksX3_hasPoint_2 16 rfl rfl)
theorem dX3_hasPoint_64 : decode cX3_hasPoint 64 = .ok (.getfield 55, 3) := dk_180 0 55 (dk_at dksX3_hasPoint_2 17 rfl rfl)
theorem dX3_hasPoint_67 : decode cX3_hasPoint 67 = .ok (.iload 9, 2) := dk_21 9 (dk_at dksX3_hasPoint_2 20 rfl rfl)
theorem dX3_hasPoint_69 : decode cX3_hasPoint 69 = .ok (.dup2, 1) := dk_92 (dk_at dksX3_hasPoint_2 22 rfl rfl)
theorem dX3_hasPoint_70 : decode cX3_hasPoint 70 = .ok (.laload, 1) := dk_47 (dk_at dksX3_hasPoint_2 23 rfl rfl)
theorem dX3_hasPoint_71 : decode cX3_hasPoint 71 = .ok (.lload 7, 2) := dk_22 7 (dk_at dksX3_hasPoint_3 0 rfl rfl)
theorem dX3_hasPoint_73 : decode cX3_hasPoint 73 = .ok (.ldiv, 1) := dk_109 (dk_at dksX3_hasPoint_3 2 rfl rfl)
theorem dX3_hasPoint_74 : decode cX3_hasPoint 74 = .ok (.lastore, 1) := dk_80 (dk_at dksX3_hasPoint_3 3 rfl rfl)
theorem dX3_hasPoint_75 : decode cX3_hasPoint 75 = .ok (.iinc 9 1, 3) := dk_132 9 1 (dk_at dksX3_hasPoint_3 4 rfl rfl)
theorem dX3_hasPoint_78 : decode cX3_hasPoint 78 = .ok (.goto (-38), 3) := dk_167 255 218 (dk_at dksX3_hasPoint_3 7 rfl rfl)
theorem dX3_hasPoint_81 : decode cX3_hasPoint 81 = .ok (.iconst 0, 1) := dk_3 (dk_at dksX3_hasPoint_3 10 rfl rfl)
theorem dX3_hasPoint_82 : decode cX3_hasPoint 82 = .ok (.istore 9, 2) := dk_54 9 (dk_at dksX3_hasPoint_3 11 rfl rfl)
theorem dX3_hasPoint_84 : decode cX3_hasPoint 84 = .ok (.iload 9, 2) := dk_21 9 (dk_at dksX3_hasPoint_3 13 rfl rfl)
theorem dX3_hasPoint_86 : decode cX3_hasPoint 86 = .ok (.iconst 3, 1) := dk_6 (dk_at dksX3_hasPoint_3 15 rfl rfl)
theorem dX3_hasPoint_87 : decode cX3_hasPoint 87 = .ok (.if_icmp .ge 99, 3) := dk_162 0 99 (dk_at dksX3_hasPoint_3 16 rfl rfl)
theorem dX3_hasPoint_90 : decode cX3_hasPoint 90 = .ok (.aload_n 0, 1) := dk_42 (dk_at dksX3_hasPoint_3 19 rfl rfl)
theorem dX3_hasPoint_91 : decode cX3_hasPoint 91 = .ok (.getfield 55, 3) := dk_180 0 55 (dk_at dksX3_hasPoint_3 20 rfl rfl)
theorem dX3_hasPoint_94 : decode cX3_hasPoint 94 = .ok (.iload 9, 2) := dk_21 9 (dk_at dksX3_hasPoint_4 0 rfl rfl)
theorem dX3_hasPoint_96 : decode cX3_hasPoint 96 = .ok (.laload, 1) := dk_47 (dk_at dksX3_hasPoint_4 2 rfl rfl)
theorem dX3_hasPoint_97 : decode cX3_hasPoint 97 = .ok (.aload_n 0, 1) := dk_42 (dk_at dksX3_hasPoint_4 3 rfl rfl)
theorem dX3_hasPoint_98 : decode cX3_hasPoint 98 = .ok (.getfield 36, 3) := dk_180 0 36 (dk_at dksX3_hasPoint_4 4 rfl rfl)
theorem dX3_hasPoint_101 : decode cX3_hasPoint 101 = .ok (.iconst 3, 1) := dk_6 (dk_at dksX3_hasPoint_4 7 rfl rfl)
theorem dX3_hasPoint_102 : decode cX3_hasPoint 102 = .ok (.iload 9, 2) := dk_21 9 (dk_at dksX3_hasPoint_4 8 rfl rfl)
theorem dX3_hasPoint_104 : decode cX3_hasPoint 104 = .ok (.imul, 1) := dk_104 (dk_at dksX3_hasPoint_4 10 rfl rfl)
theorem dX3_hasPoint_105 : decode cX3_hasPoint 105 = .ok (.iload 9, 2) := dk_21 9 (dk_at dksX3_hasPoint_4 11 rfl rfl)
theorem dX3_hasPoint_107 : decode cX3_hasPoint 107 = .ok (.iadd, 1) := dk_96 (dk_at dksX3_hasPoint_4 13 rfl rfl)
theorem dX3_hasPoint_108 : decode cX3_hasPoint 108 = .ok (.laload, 1) := dk_47 (dk_at dksX3_hasPoint_4 14 rfl rfl)
theorem dX3_hasPoint_109 : decode cX3_hasPoint 109 = .ok (.lrem, 1) := dk_113 (dk_at dksX3_hasPoint_4 15 rfl rfl)
theorem dX3_hasPoint_110 : decode cX3_hasPoint 110 = .ok (.lconst 0, 1) := dk_9 (dk_at dksX3_hasPoint_4 16 rfl rfl)
theorem dX3_hasPoint_111 : decode cX3_hasPoint 111 = .ok (.lcmp, 1) := dk_148 (dk_at dksX3_hasPoint_4 17 rfl rfl)
theorem dX3_hasPoint_112 : decode cX3_hasPoint 112 = .ok (.ifCond .eq 5, 3) := dk_153 0 5 (dk_at dksX3_hasPoint_4 18 rfl rfl)
theorem dX3_hasPoint_115 : decode cX3_hasPoint 115 = .ok (.iconst 0, 1) := dk_3 (dk_at dksX3_hasPoint_4 21 rfl rfl)
theorem dX3_hasPoint_116 : decode cX3_hasPoint 116 = .ok (.ireturn, 1) := dk_172 (dk_at dksX3_hasPoint_4 22 rfl rfl)
theorem dX3_hasPoint_117 : decode cX3_hasPoint 117 = .ok (.aload_n 0, 1) := dk_42 (dk_at dksX3_hasPoint_4 23 rfl rfl)
theorem dX3_hasPoint_118 : decode cX3_hasPoint 118 = .ok (.getfield 55, 3) := dk_180 0 55 (dk_at dksX3_hasPoint_5 0 rfl rfl)
theorem dX3_hasPoint_121 : decode cX3_hasPoint 121 = .ok (.iload 9, 2) := dk_21 9 (dk_at dksX3_hasPoint_5 3 rfl rfl)
theorem dX3_hasPoint_123 : decode cX3_hasPoint 123 = .ok (.laload, 1) := dk_47 (dk_at dksX3_hasPoint_5 5 rfl rfl)
theorem dX3_hasPoint_124 : decode cX3_hasPoint 124 = .ok (.aload_n 0, 1) := dk_42 (dk_at dksX3_hasPoint_5 6 rfl rfl)
theorem dX3_hasPoint_125 : decode cX3_hasPoint 125 = .ok (.getfield 36, 3) := dk_180 0 36 (dk_at dksX3_hasPoint_5 7 rfl rfl)
theorem dX3_hasPoint_128 : decode cX3_hasPoint 128 = .ok (.iconst 3, 1) := dk_6 (dk_at dksX3_hasPoint_5 10 rfl rfl)
theorem dX3_hasPoint_129 : decode cX3_hasPoint 129 = .ok (.iload 9, 2) := dk_21 9 (dk_at dksX3_hasPoint_5 11 rfl rfl)
theorem dX3_hasPoint_131 : decode cX3_hasPoint 131 = .ok (.imul, 1) := dk_104 (dk_at dksX3_hasPoint_5 13 rfl rfl)
theorem dX3_hasPoint_132 : decode cX3_hasPoint 132 = .ok (.iload 9, 2) := dk_21 9 (dk_at dksX3_hasPoint_5 14 rfl rfl)
theorem dX3_hasPoint_134 : decode cX3_hasPoint 134 = .ok (.iadd, 1) := dk_96 (dk_at dksX3_hasPoint_5 16 rfl rfl)
theorem dX3_hasPoint_135 : decode cX3_hasPoint 135 = .ok (.laload, 1) := dk_47 (dk_at dksX3_hasPoint_5 17 rfl rfl)
theorem dX3_hasPoint_136 : decode cX3_hasPoint 136 = .ok (.ldiv, 1) := dk_109 (dk_at dksX3_hasPoint_5 18 rfl rfl)
theorem dX3_hasPoint_137 : decode cX3_hasPoint 137 = .ok (.lstore 10, 2) := dk_55 10 (dk_at dksX3_hasPoint_5 19 rfl rfl)
theorem dX3_hasPoint_139 : decode cX3_hasPoint 139 = .ok (.iload 9, 2) := dk_21 9 (dk_at dksX3_hasPoint_5 21 rfl rfl)
theorem dX3_hasPoint_141 : decode cX3_hasPoint 141 = .ok (.istore 12, 2) := dk_54 12 (dk_at dksX3_hasPoint_6 0 rfl rfl)
theorem dX3_hasPoint_143 : decode cX3_hasPoint 143 = .ok (.iload 12, 2) := dk_21 12 (dk_at dksX3_hasPoint_6 2 rfl rfl)
theorem dX3_hasPoint_145 : decode cX3_hasPoint 145 = .ok (.iconst 3, 1) := dk_6 (dk_at dksX3_hasPoint_6 4 rfl rfl)
theorem dX3_hasPoint_146 : decode cX3_hasPoint 146 = .ok (.if_icmp .ge 34, 3) := dk_162 0 34 (dk_at dksX3_hasPoint_6 5 rfl rfl)
theorem dX3_hasPoint_149 : decode cX3_hasPoint 149 = .ok (.aload_n 0, 1) := dk_42 (dk_at dksX3_hasPoint_6 8 rfl rfl)
theorem dX3_hasPoint_150 : decode cX3_hasPoint 150 = .ok (.getfield 55, 3) := dk_180 0 55 (dk_at dksX3_hasPoint_6 9 rfl rfl)
theorem dX3_hasPoint_153 : decode cX3_hasPoint 153 = .ok (.iload 12, 2) := dk_21 12 (dk_at dksX3_hasPoint_6 12 rfl rfl)
theorem dX3_hasPoint_155 : decode cX3_hasPoint 155 = .ok (.dup2, 1) := dk_92 (dk_at dksX3_hasPoint_6 14 rfl rfl)
theorem dX3_hasPoint_156 : decode cX3_hasPoint 156 = .ok (.laload, 1) := dk_47 (dk_at dksX3_hasPoint_6 15 rfl rfl)
theorem dX3_hasPoint_157 : decode cX3_hasPoint 157 = .ok (.lload 10, 2) := dk_22 10 (dk_at dksX3_hasPoint_6 16 rfl rfl)
theorem dX3_hasPoint_159 : decode cX3_hasPoint 159 = .ok (.aload_n 0, 1) := dk_42 (dk_at dksX3_hasPoint_6 18 rfl rfl)
theorem dX3_hasPoint_160 : decode cX3_hasPoint 160 = .ok (.getfield 36, 3) := dk_180 0 36 (dk_at dksX3_hasPoint_6 19 rfl rfl)
theorem dX3_hasPoint_163 : decode cX3_hasPoint 163 = .ok (.iconst 3, 1) := dk_6 (dk_at dksX3_hasPoint_6 22 rfl rfl)
theorem dX3_hasPoint_164 : decode cX3_hasPoint 164 = .ok (.iload 9, 2) := dk_21 9 (dk_at dksX3_hasPoint_7 0 rfl rfl)
theorem dX3_hasPoint_166 : decode cX3_hasPoint 166 = .ok (.imul, 1) := dk_104 (dk_at dksX3_hasPoint_7 2 rfl rfl)
theorem dX3_hasPoint_167 : decode cX3_hasPoint 167 = .ok (.iload 12, 2) := dk_21 12 (dk_at dksX3_hasPoint_7 3 rfl rfl)
theorem dX3_hasPoint_169 : decode cX3_hasPoint 169 = .ok (.iadd, 1) := dk_96 (dk_at dksX3_hasPoint_7 5 rfl rfl)
theorem dX3_hasPoint_170 : decode cX3_hasPoint 170 = .ok (.laload, 1) := dk_47 (dk_at dksX3_hasPoint_7 6 rfl rfl)
theorem dX3_hasPoint_171 : decode cX3_hasPoint 171 = .ok (.lmul, 1) := dk_105 (dk_at dksX3_hasPoint_7 7 rfl rfl)
theorem dX3_hasPoint_172 : decode cX3_hasPoint 172 = .ok (.lsub, 1) := dk_101 (dk_at dksX3_hasPoint_7 8 rfl rfl)
theorem dX3_hasPoint_173 : decode cX3_hasPoint 173 = .ok (.lastore, 1) := dk_80 (dk_at dksX3_hasPoint_7 9 rfl rfl)
theorem dX3_hasPoint_174 : decode cX3_hasPoint 174 = .ok (.iinc 12 1, 3) := dk_132 12 1 (dk_at dksX3_hasPoint_7 10 rfl rfl)
theorem dX3_hasPoint_177 : decode cX3_hasPoint 177 = .ok (.goto (-34), 3) := dk_167 255 222 (dk_at dksX3_hasPoint_7 13 rfl rfl)
theorem dX3_hasPoint_180 : decode cX3_hasPoint 180 = .ok (.iinc 9 1, 3) := dk_132 9 1 (dk_at dksX3_hasPoint_7 16 rfl rfl)
theorem dX3_hasPoint_183 : decode cX3_hasPoint 183 = .ok (.goto (-99), 3) := dk_167 255 157 (dk_at dksX3_hasPoint_7 19 rfl rfl)
theorem dX3_hasPoint_186 : decode cX3_hasPoint 186 = .ok (.iconst 1, 1) := dk_4 (dk_at dksX3_hasPoint_7 22 rfl rfl)
theorem dX3_hasPoint_187 : decode cX3_hasPoint 187 = .ok (.ireturn, 1) := dk_172 (dk_at dksX3_hasPoint_7 23 rfl rfl)
abbrev cX3_inside : ByteArray := prog_20_method_62_code
def yX3_inside : MethodName := ⟨RX3, "inside", "(II)I"⟩
def dkwX3_inside_3 : List UInt8 := [180, 1, 39, 182, 1, 9, 154, 0, 5, 3, 172, 132, 4, 1, 167, 255, 203, 4, 172]
abbrev dktX3_inside_3 : List UInt8 := dkwX3_inside_3 ++ []
def dkwX3_inside_2 : List UInt8 := [180, 0, 58, 6, 21, 4, 104, 4, 96, 47, 42, 180, 0, 58, 6, 21, 4, 104, 5, 96, 47, 42]
abbrev dktX3_inside_2 : List UInt8 := dkwX3_inside_2 ++ dktX3_inside_3
def dkwX3_inside_1 : List UInt8 := [42, 182, 0, 246, 3, 54, 4, 21, 4, 6, 162, 0, 53, 42, 42, 180, 0, 58, 6, 21, 4, 104, 47, 42]
abbrev dktX3_inside_1 : List UInt8 := dkwX3_inside_1 ++ dktX3_inside_2
def dkwX3_inside_0 : List UInt8 := [42, 27, 28, 182, 1, 67, 62, 29, 156, 0, 5, 29, 172, 42, 27, 28, 182, 1, 58, 42, 28, 182, 0, 217]
abbrev dktX3_inside_0 : List UInt8 := dkwX3_inside_0 ++ dktX3_inside_1
theorem dksX3_inside_0 : cX3_inside.data.toList.drop 0 = dktX3_inside_0 := by decide +kernel
theorem dksX3_inside_1 : cX3_inside.data.toList.drop 24 = dktX3_inside_1 := dk_seg dksX3_inside_0 24 rfl rfl
theorem dksX3_inside_2 : cX3_inside.data.toList.drop 48 = dktX3_inside_2 := dk_seg dksX3_inside_1 24 rfl rfl
theorem dksX3_inside_3 : cX3_inside.data.toList.drop 70 = dktX3_inside_3 := dk_seg dksX3_inside_2 22 rfl rfl
theorem dX3_inside_0 : decode cX3_inside 0 = .ok (.aload_n 0, 1) := dk_42 (dk_at dksX3_inside_0 0 rfl rfl)
theorem dX3_inside_1 : decode cX3_inside 1 = .ok (.iload_n 1, 1) := dk_27 (dk_at dksX3_inside_0 1 rfl rfl)
theorem dX3_inside_2 : decode cX3_inside 2 = .ok (.iload_n 2, 1) := dk_28 (dk_at dksX3_inside_0 2 rfl rfl)
theorem dX3_inside_3 : decode cX3_inside 3 = .ok (.invokevirtual 323, 3) := dk_182 1 67 (dk_at dksX3_inside_0 3 rfl rfl)
theorem dX3_inside_6 : decode cX3_inside 6 = .ok (.istore_n 3, 1) := dk_62 (dk_at dksX3_inside_0 6 rfl rfl)
theorem dX3_inside_7 : decode cX3_inside 7 = .ok (.iload_n 3, 1) := dk_29 (dk_at dksX3_inside_0 7 rfl rfl)
theorem dX3_inside_8 : decode cX3_inside 8 = .ok (.ifCond .ge 5, 3) := dk_156 0 5 (dk_at dksX3_inside_0 8 rfl rfl)
theorem dX3_inside_11 : decode cX3_inside 11 = .ok (.iload_n 3, 1) := dk_29 (dk_at dksX3_inside_0 11 rfl rfl)
theorem dX3_inside_12 : decode cX3_inside 12 = .ok (.ireturn, 1) := dk_172 (dk_at dksX3_inside_0 12 rfl rfl)
theorem dX3_inside_13 : decode cX3_inside 13 = .ok (.aload_n 0, 1) := dk_42 (dk_at dksX3_inside_0 13 rfl rfl)
theorem dX3_inside_14 : decode cX3_inside 14 = .ok (.iload_n 1, 1) := dk_27 (dk_at dksX3_inside_0 14 rfl rfl)
theorem dX3_inside_15 : decode cX3_inside 15 = .ok (.iload_n 2, 1) := dk_28 (dk_at dksX3_inside_0 15 rfl rfl)
theorem dX3_inside_16 : decode cX3_inside 16 = .ok (.invokevirtual 314, 3) := dk_182 1 58 (dk_at dksX3_inside_0 16 rfl rfl)
theorem dX3_inside_19 : decode cX3_inside 19 = .ok (.aload_n 0, 1) := dk_42 (dk_at dksX3_inside_0 19 rfl rfl)
theorem dX3_inside_20 : decode cX3_inside 20 = .ok (.iload_n 2, 1) := dk_28 (dk_at dksX3_inside_0 20 rfl rfl)
theorem dX3_inside_21 : decode cX3_inside 21 = .ok (.invokevirtual 217, 3) := dk_182 0 217 (dk_at dksX3_inside_0 21 rfl rfl)
theorem dX3_inside_24 : decode cX3_inside 24 = .ok (.aload_n 0, 1) := dk_42 (dk_at dksX3_inside_1 0 rfl rfl)
theorem dX3_inside_25 : decode cX3_inside 25 = .ok (.invokevirtual 246, 3) := dk_182 0 246 (dk_at dksX3_inside_1 1 rfl rfl)
theorem dX3_inside_28 : decode cX3_inside 28 = .ok (.iconst 0, 1) := dk_3 (dk_at dksX3_inside_1 4 rfl rfl)
theorem dX3_inside_29 : decode cX3_inside 29 = .ok (.istore 4, 2) := dk_54 4 (dk_at dksX3_inside_1 5 rfl rfl)
theorem dX3_inside_31 : decode cX3_inside 31 = .ok (.iload 4, 2) := dk_21 4 (dk_at dksX3_inside_1 7 rfl rfl)
theorem dX3_inside_33 : decode cX3_inside 33 = .ok (.iconst 3, 1) := dk_6 (dk_at dksX3_inside_1 9 rfl rfl)
theorem dX3_inside_34 : decode cX3_inside 34 = .ok (.if_icmp .ge 53, 3) := dk_162 0 53 (dk_at dksX3_inside_1 10 rfl rfl)
theorem dX3_inside_37 : decode cX3_inside 37 = .ok (.aload_n 0, 1) := dk_42 (dk_at dksX3_inside_1 13 rfl rfl)
theorem dX3_inside_38 : decode cX3_inside 38 = .ok (.aload_n 0, 1) := dk_42 (dk_at dksX3_inside_1 14 rfl rfl)
theorem dX3_inside_39 : decode cX3_inside 39 = .ok (.getfield 58, 3) := dk_180 0 58 (dk_at dksX3_inside_1 15 rfl rfl)
theorem dX3_inside_42 : decode cX3_inside 42 = .ok (.iconst 3, 1) := dk_6 (dk_at dksX3_inside_1 18 rfl rfl)
theorem dX3_inside_43 : decode cX3_inside 43 = .ok (.iload 4, 2) := dk_21 4 (dk_at dksX3_inside_1 19 rfl rfl)
theorem dX3_inside_45 : decode cX3_inside 45 = .ok (.imul, 1) := dk_104 (dk_at dksX3_inside_1 21 rfl rfl)
theorem dX3_inside_46 : decode cX3_inside 46 = .ok (.laload, 1) := dk_47 (dk_at dksX3_inside_1 22 rfl rfl)
theorem dX3_inside_47 : decode cX3_inside 47 = .ok (.aload_n 0, 1) := dk_42 (dk_at dksX3_inside_1 23 rfl rfl)
theorem dX3_inside_48 : decode cX3_inside 48 = .ok (.getfield 58, 3) := dk_180 0 58 (dk_at dksX3_inside_2 0 rfl rfl)
theorem dX3_inside_51 : decode cX3_inside 51 = .ok (.iconst 3, 1) := dk_6 (dk_at dksX3_inside_2 3 rfl rfl)
theorem dX3_inside_52 : decode cX3_inside 52 = .ok (.iload 4, 2) := dk_21 4 (dk_at dksX3_inside_2 4 rfl rfl)
theorem dX3_inside_54 : decode cX3_inside 54 = .ok (.imul, 1) := dk_104 (dk_at dksX3_inside_2 6 rfl rfl)
theorem dX3_inside_55 : decode cX3_inside 55 = .ok (.iconst 1, 1) := dk_4 (dk_at dksX3_inside_2 7 rfl rfl)
theorem dX3_inside_56 : decode cX3_inside 56 = .ok (.iadd, 1) := dk_96 (dk_at dksX3_inside_2 8 rfl rfl)
theorem dX3_inside_57 : decode cX3_inside 57 = .ok (.laload, 1) := dk_47 (dk_at dksX3_inside_2 9 rfl rfl)
theorem dX3_inside_58 : decode cX3_inside 58 = .ok (.aload_n 0, 1) := dk_42 (dk_at dksX3_inside_2 10 rfl rfl)
theorem dX3_inside_59 : decode cX3_inside 59 = .ok (.getfield 58, 3) := dk_180 0 58 (dk_at dksX3_inside_2 11 rfl rfl)
theorem dX3_inside_62 : decode cX3_inside 62 = .ok (.iconst 3, 1) := dk_6 (dk_at dksX3_inside_2 14 rfl rfl)
theorem dX3_inside_63 : decode cX3_inside 63 = .ok (.iload 4, 2) := dk_21 4 (dk_at dksX3_inside_2 15 rfl rfl)
theorem dX3_inside_65 : decode cX3_inside 65 = .ok (.imul, 1) := dk_104 (dk_at dksX3_inside_2 17 rfl rfl)
theorem dX3_inside_66 : decode cX3_inside 66 = .ok (.iconst 2, 1) := dk_5 (dk_at dksX3_inside_2 18 rfl rfl)
theorem dX3_inside_67 : decode cX3_inside 67 = .ok (.iadd, 1) := dk_96 (dk_at dksX3_inside_2 19 rfl rfl)
theorem dX3_inside_68 : decode cX3_inside 68 = .ok (.laload, 1) := dk_47 (dk_at dksX3_inside_2 20 rfl rfl)
theorem dX3_inside_69 : decode cX3_inside 69 = .ok (.aload_n 0, 1) := dk_42 (dk_at dksX3_inside_2 21 rfl rfl)
theorem dX3_inside_70 : decode cX3_inside 70 = .ok (.getfield 295, 3) := dk_180 1 39 (dk_at dksX3_inside_3 0 rfl rfl)
theorem dX3_inside_73 : decode cX3_inside 73 = .ok (.invokevirtual 265, 3) := dk_182 1 9 (dk_at dksX3_inside_3 3 rfl rfl)
theorem dX3_inside_76 : decode cX3_inside 76 = .ok (.ifCond .ne 5, 3) := dk_154 0 5 (dk_at dksX3_inside_3 6 rfl rfl)
theorem dX3_inside_79 : decode cX3_inside 79 = .ok (.iconst 0, 1) := dk_3 (dk_at dksX3_inside_3 9 rfl rfl)
theorem dX3_inside_80 : decode cX3_inside 80 = .ok (.ireturn, 1) := dk_172 (dk_at dksX3_inside_3 10 rfl rfl)
theorem dX3_inside_81 : decode cX3_inside 81 = .ok (.iinc 4 1, 3) := dk_132 4 1 (dk_at dksX3_inside_3 11 rfl rfl)
theorem dX3_inside_84 : decode cX3_inside 84 = .ok (.goto (-53), 3) := dk_167 255 203 (dk_at dksX3_inside_3 14 rfl rfl)
theorem dX3_inside_87 : decode cX3_inside 87 = .ok (.iconst 1, 1) := dk_4 (dk_at dksX3_inside_3 17 rfl rfl)
theorem dX3_inside_88 : decode cX3_inside 88 = .ok (.ireturn, 1) := dk_172 (dk_at dksX3_inside_3 18 rfl rfl)
abbrev cX3_whyNot : ByteArray := prog_20_method_50_code
def yX3_whyNot : MethodName := ⟨RX3, "whyNot", "(II)I"⟩
def dkwX3_whyNot_1 : List UInt8 := [153, 0, 16, 42, 28, 182, 0, 187, 153, 0, 8, 16, 253, 167, 0, 4, 3, 172]
abbrev dktX3_whyNot_1 : List UInt8 := dkwX3_whyNot_1 ++ []
def dkwX3_whyNot_0 : List UInt8 := [42, 27, 182, 0, 211, 153, 0, 11, 42, 28, 182, 0, 211, 154, 0, 6, 16, 254, 172, 42, 27, 182, 0, 187]
abbrev dktX3_whyNot_0 : List UInt8 := dkwX3_whyNot_0 ++ dktX3_whyNot_1
theorem dksX3_whyNot_0 : cX3_whyNot.data.toList.drop 0 = dktX3_whyNot_0 := by decide +kernel
theorem dksX3_whyNot_1 : cX3_whyNot.data.toList.drop 24 = dktX3_whyNot_1 := dk_seg dksX3_whyNot_0 24 rfl rfl
theorem dX3_whyNot_0 : decode cX3_whyNot 0 = .ok (.aload_n 0, 1) := dk_42 (dk_at dksX3_whyNot_0 0 rfl rfl)
theorem dX3_whyNot_1 : decode cX3_whyNot 1 = .ok (.iload_n 1, 1) := dk_27 (dk_at dksX3_whyNot_0 1 rfl rfl)
theorem dX3_whyNot_2 : decode cX3_whyNot 2 = .ok (.invokevirtual 211, 3) := dk_182 0 211 (dk_at dksX3_whyNot_0 2 rfl rfl)
theorem dX3_whyNot_5 : decode cX3_whyNot 5 = .ok (.ifCond .eq 11, 3) := dk_153 0 11 (dk_at dksX3_whyNot_0 5 rfl rfl)
theorem dX3_whyNot_8 : decode cX3_whyNot 8 = .ok (.aload_n 0, 1) := dk_42 (dk_at dksX3_whyNot_0 8 rfl rfl)
theorem dX3_whyNot_9 : decode cX3_whyNot 9 = .ok (.iload_n 2, 1) := dk_28 (dk_at dksX3_whyNot_0 9 rfl rfl)
theorem dX3_whyNot_10 : decode cX3_whyNot 10 = .ok (.invokevirtual 211, 3) := dk_182 0 211 (dk_at dksX3_whyNot_0 10 rfl rfl)
theorem dX3_whyNot_13 : decode cX3_whyNot 13 = .ok (.ifCond .ne 6, 3) := dk_154 0 6 (dk_at dksX3_whyNot_0 13 rfl rfl)
theorem dX3_whyNot_16 : decode cX3_whyNot 16 = .ok (.bipush (-2), 2) := dk_16 254 (dk_at dksX3_whyNot_0 16 rfl rfl)
theorem dX3_whyNot_18 : decode cX3_whyNot 18 = .ok (.ireturn, 1) := dk_172 (dk_at dksX3_whyNot_0 18 rfl rfl)
theorem dX3_whyNot_19 : decode cX3_whyNot 19 = .ok (.aload_n 0, 1) := dk_42 (dk_at dksX3_whyNot_0 19 rfl rfl)
theorem dX3_whyNot_20 : decode cX3_whyNot 20 = .ok (.iload_n 1, 1) := dk_27 (dk_at dksX3_whyNot_0 20 rfl rfl)
theorem dX3_whyNot_21 : decode cX3_whyNot 21 = .ok (.invokevirtual 187, 3) := dk_182 0 187 (dk_at dksX3_whyNot_0 21 rfl rfl)
theorem dX3_whyNot_24 : decode cX3_whyNot 24 = .ok (.ifCond .eq 16, 3) := dk_153 0 16 (dk_at dksX3_whyNot_1 0 rfl rfl)
theorem dX3_whyNot_27 : decode cX3_whyNot 27 = .ok (.aload_n 0, 1) := dk_42 (dk_at dksX3_whyNot_1 3 rfl rfl)
theorem dX3_whyNot_28 : decode cX3_whyNot 28 = .ok (.iload_n 2, 1) := dk_28 (dk_at dksX3_whyNot_1 4 rfl rfl)
theorem dX3_whyNot_29 : decode cX3_whyNot 29 = .ok (.invokevirtual 187, 3) := dk_182 0 187 (dk_at dksX3_whyNot_1 5 rfl rfl)
theorem dX3_whyNot_32 : decode cX3_whyNot 32 = .ok (.ifCond .eq 8, 3) := dk_153 0 8 (dk_at dksX3_whyNot_1 8 rfl rfl)
theorem dX3_whyNot_35 : decode cX3_whyNot 35 = .ok (.bipush (-3), 2) := dk_16 253 (dk_at dksX3_whyNot_1 11 rfl rfl)
theorem dX3_whyNot_37 : decode cX3_whyNot 37 = .ok (.goto 4, 3) := dk_167 0 4 (dk_at dksX3_whyNot_1 13 rfl rfl)
theorem dX3_whyNot_40 : decode cX3_whyNot 40 = .ok (.iconst 0, 1) := dk_3 (dk_at dksX3_whyNot_1 16 rfl rfl)
theorem dX3_whyNot_41 : decode cX3_whyNot 41 = .ok (.ireturn, 1) := dk_172 (dk_at dksX3_whyNot_1 17 rfl rfl)
abbrev cX3_laysBoth : ByteArray := prog_20_method_51_code
def yX3_laysBoth : MethodName := ⟨RX3, "laysBoth", "(II)V"⟩
def dkwX3_laysBoth_0 : List UInt8 := [42, 27, 182, 1, 27, 42, 28, 182, 0, 217, 42, 182, 1, 30, 177]
abbrev dktX3_laysBoth_0 : List UInt8 := dkwX3_laysBoth_0 ++ []
theorem dksX3_laysBoth_0 : cX3_laysBoth.data.toList.drop 0 = dktX3_laysBoth_0 := by decide +kernel
theorem dX3_laysBoth_0 : decode cX3_laysBoth 0 = .ok (.aload_n 0, 1) := dk_42 (dk_at dksX3_laysBoth_0 0 rfl rfl)
theorem dX3_laysBoth_1 : decode cX3_laysBoth 1 = .ok (.iload_n 1, 1) := dk_27 (dk_at dksX3_laysBoth_0 1 rfl rfl)
theorem dX3_laysBoth_2 : decode cX3_laysBoth 2 = .ok (.invokevirtual 283, 3) := dk_182 1 27 (dk_at dksX3_laysBoth_0 2 rfl rfl)
theorem dX3_laysBoth_5 : decode cX3_laysBoth 5 = .ok (.aload_n 0, 1) := dk_42 (dk_at dksX3_laysBoth_0 5 rfl rfl)
theorem dX3_laysBoth_6 : decode cX3_laysBoth 6 = .ok (.iload_n 2, 1) := dk_28 (dk_at dksX3_laysBoth_0 6 rfl rfl)
theorem dX3_laysBoth_7 : decode cX3_laysBoth 7 = .ok (.invokevirtual 217, 3) := dk_182 0 217 (dk_at dksX3_laysBoth_0 7 rfl rfl)
theorem dX3_laysBoth_10 : decode cX3_laysBoth 10 = .ok (.aload_n 0, 1) := dk_42 (dk_at dksX3_laysBoth_0 10 rfl rfl)
theorem dX3_laysBoth_11 : decode cX3_laysBoth 11 = .ok (.invokevirtual 286, 3) := dk_182 1 30 (dk_at dksX3_laysBoth_0 11 rfl rfl)
theorem dX3_laysBoth_14 : decode cX3_laysBoth 14 = .ok (.return_, 1) := dk_177 (dk_at dksX3_laysBoth_0 14 rfl rfl)
abbrev cX3_laysFirst : ByteArray := prog_20_method_52_code
def yX3_laysFirst : MethodName := ⟨RX3, "laysFirst", "(I)V"⟩
def dkwX3_laysFirst_1 : List UInt8 := [180, 0, 58, 28, 42, 180, 0, 36, 28, 47, 80, 132, 2, 1, 167, 255, 235, 177]
abbrev dktX3_laysFirst_1 : List UInt8 := dkwX3_laysFirst_1 ++ []
def dkwX3_laysFirst_0 : List UInt8 := [42, 27, 182, 0, 217, 42, 42, 180, 0, 191, 181, 1, 33, 3, 61, 28, 16, 9, 162, 0, 21, 42]
abbrev dktX3_laysFirst_0 : List UInt8 := dkwX3_laysFirst_0 ++ dktX3_laysFirst_1
theorem dksX3_laysFirst_0 : cX3_laysFirst.data.toList.drop 0 = dktX3_laysFirst_0 := by decide +kernel
theorem dksX3_laysFirst_1 : cX3_laysFirst.data.toList.drop 22 = dktX3_laysFirst_1 := dk_seg dksX3_laysFirst_0 22 rfl rfl
theorem dX3_laysFirst_0 : decode cX3_laysFirst 0 = .ok (.aload_n 0, 1) := dk_42 (dk_at dksX3_laysFirst_0 0 rfl rfl)
theorem dX3_laysFirst_1 : decode cX3_laysFirst 1 = .ok (.iload_n 1, 1) := dk_27 (dk_at dksX3_laysFirst_0 1 rfl rfl)
theorem dX3_laysFirst_2 : decode cX3_laysFirst 2 = .ok (.invokevirtual 217, 3) := dk_182 0 217 (dk_at dksX3_laysFirst_0 2 rfl rfl)
theorem dX3_laysFirst_5 : decode cX3_laysFirst 5 = .ok (.aload_n 0, 1) := dk_42 (dk_at dksX3_laysFirst_0 5 rfl rfl)
theorem dX3_laysFirst_6 : decode cX3_laysFirst 6 = .ok (.aload_n 0, 1) := dk_42 (dk_at dksX3_laysFirst_0 6 rfl rfl)
theorem dX3_laysFirst_7 : decode cX3_laysFirst 7 = .ok (.getfield 191, 3) := dk_180 0 191 (dk_at dksX3_laysFirst_0 7 rfl rfl)
theorem dX3_laysFirst_10 : decode cX3_laysFirst 10 = .ok (.putfield 289, 3) := dk_181 1 33 (dk_at dksX3_laysFirst_0 10 rfl rfl)
theorem dX3_laysFirst_13 : decode cX3_laysFirst 13 = .ok (.iconst 0, 1) := dk_3 (dk_at dksX3_laysFirst_0 13 rfl rfl)
theorem dX3_laysFirst_14 : decode cX3_laysFirst 14 = .ok (.istore_n 2, 1) := dk_61 (dk_at dksX3_laysFirst_0 14 rfl rfl)
theorem dX3_laysFirst_15 : decode cX3_laysFirst 15 = .ok (.iload_n 2, 1) := dk_28 (dk_at dksX3_laysFirst_0 15 rfl rfl)
theorem dX3_laysFirst_16 : decode cX3_laysFirst 16 = .ok (.bipush 9, 2) := dk_16 9 (dk_at dksX3_laysFirst_0 16 rfl rfl)
theorem dX3_laysFirst_18 : decode cX3_laysFirst 18 = .ok (.if_icmp .ge 21, 3) := dk_162 0 21 (dk_at dksX3_laysFirst_0 18 rfl rfl)
theorem dX3_laysFirst_21 : decode cX3_laysFirst 21 = .ok (.aload_n 0, 1) := dk_42 (dk_at dksX3_laysFirst_0 21 rfl rfl)
theorem dX3_laysFirst_22 : decode cX3_laysFirst 22 = .ok (.getfield 58, 3) := dk_180 0 58 (dk_at dksX3_laysFirst_1 0 rfl rfl)
theorem dX3_laysFirst_25 : decode cX3_laysFirst 25 = .ok (.iload_n 2, 1) := dk_28 (dk_at dksX3_laysFirst_1 3 rfl rfl)
theorem dX3_laysFirst_26 : decode cX3_laysFirst 26 = .ok (.aload_n 0, 1) := dk_42 (dk_at dksX3_laysFirst_1 4 rfl rfl)
theorem dX3_laysFirst_27 : decode cX3_laysFirst 27 = .ok (.getfield 36, 3) := dk_180 0 36 (dk_at dksX3_laysFirst_1 5 rfl rfl)
theorem dX3_laysFirst_30 : decode cX3_laysFirst 30 = .ok (.iload_n 2, 1) := dk_28 (dk_at dksX3_laysFirst_1 8 rfl rfl)
theorem dX3_laysFirst_31 : decode cX3_laysFirst 31 = .ok (.laload, 1) := dk_47 (dk_at dksX3_laysFirst_1 9 rfl rfl)
theorem dX3_laysFirst_32 : decode cX3_laysFirst 32 = .ok (.lastore, 1) := dk_80 (dk_at dksX3_laysFirst_1 10 rfl rfl)
theorem dX3_laysFirst_33 : decode cX3_laysFirst 33 = .ok (.iinc 2 1, 3) := dk_132 2 1 (dk_at dksX3_laysFirst_1 11 rfl rfl)
theorem dX3_laysFirst_36 : decode cX3_laysFirst 36 = .ok (.goto (-21), 3) := dk_167 255 235 (dk_at dksX3_laysFirst_1 14 rfl rfl)
theorem dX3_laysFirst_39 : decode cX3_laysFirst 39 = .ok (.return_, 1) := dk_177 (dk_at dksX3_laysFirst_1 17 rfl rfl)
abbrev cX3_laysOther : ByteArray := prog_20_method_53_code
def yX3_laysOther : MethodName := ⟨RX3, "laysOther", "()V"⟩
def dkwX3_laysOther_3 : List UInt8 := [180, 1, 39, 42, 180, 1, 33, 109, 105, 80, 132, 1, 1, 167, 255, 207, 177]
abbrev dktX3_laysOther_3 : List UInt8 := dkwX3_laysOther_3 ++ []
def dkwX3_laysOther_2 : List UInt8 := [180, 0, 36, 27, 47, 42, 180, 1, 39, 42, 180, 1, 36, 109, 105, 80, 42, 180, 0, 58, 27, 92, 47, 42]
abbrev dktX3_laysOther_2 : List UInt8 := dkwX3_laysOther_2 ++ dktX3_laysOther_3
def dkwX3_laysOther_1 : List UInt8 := [109, 42, 180, 1, 36, 105, 181, 1, 39, 3, 60, 27, 16, 9, 162, 0, 49, 42, 180, 0, 61, 27, 42]
abbrev dktX3_laysOther_1 : List UInt8 := dkwX3_laysOther_1 ++ dktX3_laysOther_2
def dkwX3_laysOther_0 : List UInt8 := [42, 42, 180, 0, 191, 181, 1, 36, 42, 42, 180, 1, 33, 42, 180, 1, 33, 42, 180, 1, 36, 184, 0, 207]
abbrev dktX3_laysOther_0 : List UInt8 := dkwX3_laysOther_0 ++ dktX3_laysOther_1
theorem dksX3_laysOther_0 : cX3_laysOther.data.toList.drop 0 = dktX3_laysOther_0 := by decide +kernel
theorem dksX3_laysOther_1 : cX3_laysOther.data.toList.drop 24 = dktX3_laysOther_1 := dk_seg dksX3_laysOther_0 24 rfl rfl
theorem dksX3_laysOther_2 : cX3_laysOther.data.toList.drop 47 = dktX3_laysOther_2 := dk_seg dksX3_laysOther_1 23 rfl rfl
theorem dksX3_laysOther_3 : cX3_laysOther.data.toList.drop 71 = dktX3_laysOther_3 := dk_seg dksX3_laysOther_2 24 rfl rfl
theorem dX3_laysOther_0 : decode cX3_laysOther 0 = .ok (.aload_n 0, 1) := dk_42 (dk_at dksX3_laysOther_0 0 rfl rfl)
theorem dX3_laysOther_1 : decode cX3_laysOther 1 = .ok (.aload_n 0, 1) := dk_42 (dk_at dksX3_laysOther_0 1 rfl rfl)
theorem dX3_laysOther_2 : decode cX3_laysOther 2 = .ok (.getfield 191, 3) := dk_180 0 191 (dk_at dksX3_laysOther_0 2 rfl rfl)
theorem dX3_laysOther_5 : decode cX3_laysOther 5 = .ok (.putfield 292, 3) := dk_181 1 36 (dk_at dksX3_laysOther_0 5 rfl rfl)
theorem dX3_laysOther_8 : decode cX3_laysOther 8 = .ok (.aload_n 0, 1) := dk_42 (dk_at dksX3_laysOther_0 8 rfl rfl)
theorem dX3_laysOther_9 : decode cX3_laysOther 9 = .ok (.aload_n 0, 1) := dk_42 (dk_at dksX3_laysOther_0 9 rfl rfl)
theorem dX3_laysOther_10 : decode cX3_laysOther 10 = .ok (.getfield 289, 3) := dk_180 1 33 (dk_at dksX3_laysOther_0 10 rfl rfl)
theorem dX3_laysOther_13 : decode cX3_laysOther 13 = .ok (.aload_n 0, 1) := dk_42 (dk_at dksX3_laysOther_0 13 rfl rfl)
theorem dX3_laysOther_14 : decode cX3_laysOther 14 = .ok (.getfield 289, 3) := dk_180 1 33 (dk_at dksX3_laysOther_0 14 rfl rfl)
theorem dX3_laysOther_17 : decode cX3_laysOther 17 = .ok (.aload_n 0, 1) := dk_42 (dk_at dksX3_laysOther_0 17 rfl rfl)
theorem dX3_laysOther_18 : decode cX3_laysOther 18 = .ok (.getfield 292, 3) := dk_180 1 36 (dk_at dksX3_laysOther_0 18 rfl rfl)
theorem dX3_laysOther_21 : decode cX3_laysOther 21 = .ok (.invokestatic 207, 3) := dk_184 0 207 (dk_at dksX3_laysOther_0 21 rfl rfl)
theorem dX3_laysOther_24 : decode cX3_laysOther 24 = .ok (.ldiv, 1) := dk_109 (dk_at dksX3_laysOther_1 0 rfl rfl)
theorem dX3_laysOther_25 : decode cX3_laysOther 25 = .ok (.aload_n 0, 1) := dk_42 (dk_at dksX3_laysOther_1 1 rfl rfl)
theorem dX3_laysOther_26 : decode cX3_laysOther 26 = .ok (.getfield 292, 3) := dk_180 1 36 (dk_at dksX3_laysOther_1 2 rfl rfl)
theorem dX3_laysOther_29 : decode cX3_laysOther 29 = .ok (.lmul, 1) := dk_105 (dk_at dksX3_laysOther_1 5 rfl rfl)
theorem dX3_laysOther_30 : decode cX3_laysOther 30 = .ok (.putfield 295, 3) := dk_181 1 39 (dk_at dksX3_laysOther_1 6 rfl rfl)
theorem dX3_laysOther_33 : decode cX3_laysOther 33 = .ok (.iconst 0, 1) := dk_3 (dk_at dksX3_laysOther_1 9 rfl rfl)
theorem dX3_laysOther_34 : decode cX3_laysOther 34 = .ok (.istore_n 1, 1) := dk_60 (dk_at dksX3_laysOther_1 10 rfl rfl)
theorem dX3_laysOther_35 : decode cX3_laysOther 35 = .ok (.iload_n 1, 1) := dk_27 (dk_at dksX3_laysOther_1 11 rfl rfl)
theorem dX3_laysOther_36 : decode cX3_laysOther 36 = .ok (.bipush 9, 2) := dk_16 9 (dk_at dksX3_laysOther_1 12 rfl rfl)
theorem dX3_laysOther_38 : decode cX3_laysOther 38 = .ok (.if_icmp .ge 49, 3) := dk_162 0 49 (dk_at dksX3_laysOther_1 14 rfl rfl)
theorem dX3_laysOther_41 : decode cX3_laysOther 41 = .ok (.aload_n 0, 1) := dk_42 (dk_at dksX3_laysOther_1 17 rfl rfl)
theorem dX3_laysOther_42 : decode cX3_laysOther 42 = .ok (.getfield 61, 3) := dk_180 0 61 (dk_at dksX3_laysOther_1 18 rfl rfl)
theorem dX3_laysOther_45 : decode cX3_laysOther 45 = .ok (.iload_n 1, 1) := dk_27 (dk_at dksX3_laysOther_1 21 rfl rfl)
theorem dX3_laysOther_46 : decode cX3_laysOther 46 = .ok (.aload_n 0, 1) := dk_42 (dk_at dksX3_laysOther_1 22 rfl rfl)
theorem dX3_laysOther_47 : decode cX3_laysOther 47 = .ok (.getfield 36, 3) := dk_180 0 36 (dk_at dksX3_laysOther_2 0 rfl rfl)
theorem dX3_laysOther_50 : decode cX3_laysOther 50 = .ok (.iload_n 1, 1) := dk_27 (dk_at dksX3_laysOther_2 3 rfl rfl)
theorem dX3_laysOther_51 : decode cX3_laysOther 51 = .ok (.laload, 1) := dk_47 (dk_at dksX3_laysOther_2 4 rfl rfl)
theorem dX3_laysOther_52 : decode cX3_laysOther 52 = .ok (.aload_n 0, 1) := dk_42 (dk_at dksX3_laysOther_2 5 rfl rfl)
theorem dX3_laysOther_53 : decode cX3_laysOther 53 = .ok (.getfield 295, 3) := dk_180 1 39 (dk_at dksX3_laysOther_2 6 rfl rfl)
theorem dX3_laysOther_56 : decode cX3_laysOther 56 = .ok (.aload_n 0, 1) := dk_42 (dk_at dksX3_laysOther_2 9 rfl rfl)
theorem dX3_laysOther_57 : decode cX3_laysOther 57 = .ok (.getfield 292, 3) := dk_180 1 36 (dk_at dksX3_laysOther_2 10 rfl rfl)
theorem dX3_laysOther_60 : decode cX3_laysOther 60 = .ok (.ldiv, 1) := dk_109 (dk_at dksX3_laysOther_2 13 rfl rfl)
theorem dX3_laysOther_61 : decode cX3_laysOther 61 = .ok (.lmul, 1) := dk_105 (dk_at dksX3_laysOther_2 14 rfl rfl)
theorem dX3_laysOther_62 : decode cX3_laysOther 62 = .ok (.lastore, 1) := dk_80 (dk_at dksX3_laysOther_2 15 rfl rfl)
theorem dX3_laysOther_63 : decode cX3_laysOther 63 = .ok (.aload_n 0, 1) := dk_42 (dk_at dksX3_laysOther_2 16 rfl rfl)
theorem dX3_laysOther_64 : decode cX3_laysOther 64 = .ok (.getfield 58, 3) := dk_180 0 58 (dk_at dksX3_laysOther_2 17 rfl rfl)
theorem dX3_laysOther_67 : decode cX3_laysOther 67 = .ok (.iload_n 1, 1) := dk_27 (dk_at dksX3_laysOther_2 20 rfl rfl)
theorem dX3_laysOther_68 : decode cX3_laysOther 68 = .ok (.dup2, 1) := dk_92 (dk_at dksX3_laysOther_2 21 rfl rfl)
theorem dX3_laysOther_69 : decode cX3_laysOther 69 = .ok (.laload, 1) := dk_47 (dk_at dksX3_laysOther_2 22 rfl rfl)
theorem dX3_laysOther_70 : decode cX3_laysOther 70 = .ok (.aload_n 0, 1) := dk_42 (dk_at dksX3_laysOther_2 23 rfl rfl)
theorem dX3_laysOther_71 : decode cX3_laysOther 71 = .ok (.getfield 295, 3) := dk_180 1 39 (dk_at dksX3_laysOther_3 0 rfl rfl)
theorem dX3_laysOther_74 : decode cX3_laysOther 74 = .ok (.aload_n 0, 1) := dk_42 (dk_at dksX3_laysOther_3 3 rfl rfl)
theorem dX3_laysOther_75 : decode cX3_laysOther 75 = .ok (.getfield 289, 3) := dk_180 1 33 (dk_at dksX3_laysOther_3 4 rfl rfl)
theorem dX3_laysOther_78 : decode cX3_laysOther 78 = .ok (.ldiv, 1) := dk_109 (dk_at dksX3_laysOther_3 7 rfl rfl)
theorem dX3_laysOther_79 : decode cX3_laysOther 79 = .ok (.lmul, 1) := dk_105 (dk_at dksX3_laysOther_3 8 rfl rfl)
theorem dX3_laysOther_80 : decode cX3_laysOther 80 = .ok (.lastore, 1) := dk_80 (dk_at dksX3_laysOther_3 9 rfl rfl)
theorem dX3_laysOther_81 : decode cX3_laysOther 81 = .ok (.iinc 1 1, 3) := dk_132 1 1 (dk_at dksX3_laysOther_3 10 rfl rfl)
theorem dX3_laysOther_84 : decode cX3_laysOther 84 = .ok (.goto (-49), 3) := dk_167 255 207 (dk_at dksX3_laysOther_3 13 rfl rfl)
theorem dX3_laysOther_87 : decode cX3_laysOther 87 = .ok (.return_, 1) := dk_177 (dk_at dksX3_laysOther_3 16 rfl rfl)
abbrev cX3_meetOver : ByteArray := prog_20_method_63_code
def yX3_meetOver : MethodName := ⟨RX3, "meetOver", "(II)I"⟩
def dkwX3_meetOver_1 : List UInt8 := [172]
abbrev dktX3_meetOver_1 : List UInt8 := dkwX3_meetOver_1 ++ []
def dkwX3_meetOver_0 : List UInt8 := [42, 27, 28, 182, 1, 67, 62, 29, 156, 0, 5, 29, 172, 42, 27, 28, 182, 1, 70, 42, 180, 0, 191, 136]
abbrev dktX3_meetOver_0 : List UInt8 := dkwX3_meetOver_0 ++ dktX3_meetOver_1
theorem dksX3_meetOver_0 : cX3_meetOver.data.toList.drop 0 = dktX3_meetOver_0 := by decide +kernel
theorem dksX3_meetOver_1 : cX3_meetOver.data.toList.drop 24 = dktX3_meetOver_1 := dk_seg dksX3_meetOver_0 24 rfl rfl
theorem dX3_meetOver_0 : decode cX3_meetOver 0 = .ok (.aload_n 0, 1) := dk_42 (dk_at dksX3_meetOver_0 0 rfl rfl)
theorem dX3_meetOver_1 : decode cX3_meetOver 1 = .ok (.iload_n 1, 1) := dk_27 (dk_at dksX3_meetOver_0 1 rfl rfl)
theorem dX3_meetOver_2 : decode cX3_meetOver 2 = .ok (.iload_n 2, 1) := dk_28 (dk_at dksX3_meetOver_0 2 rfl rfl)
theorem dX3_meetOver_3 : decode cX3_meetOver 3 = .ok (.invokevirtual 323, 3) := dk_182 1 67 (dk_at dksX3_meetOver_0 3 rfl rfl)
theorem dX3_meetOver_6 : decode cX3_meetOver 6 = .ok (.istore_n 3, 1) := dk_62 (dk_at dksX3_meetOver_0 6 rfl rfl)
theorem dX3_meetOver_7 : decode cX3_meetOver 7 = .ok (.iload_n 3, 1) := dk_29 (dk_at dksX3_meetOver_0 7 rfl rfl)
theorem dX3_meetOver_8 : decode cX3_meetOver 8 = .ok (.ifCond .ge 5, 3) := dk_156 0 5 (dk_at dksX3_meetOver_0 8 rfl rfl)
theorem dX3_meetOver_11 : decode cX3_meetOver 11 = .ok (.iload_n 3, 1) := dk_29 (dk_at dksX3_meetOver_0 11 rfl rfl)
theorem dX3_meetOver_12 : decode cX3_meetOver 12 = .ok (.ireturn, 1) := dk_172 (dk_at dksX3_meetOver_0 12 rfl rfl)
theorem dX3_meetOver_13 : decode cX3_meetOver 13 = .ok (.aload_n 0, 1) := dk_42 (dk_at dksX3_meetOver_0 13 rfl rfl)
theorem dX3_meetOver_14 : decode cX3_meetOver 14 = .ok (.iload_n 1, 1) := dk_27 (dk_at dksX3_meetOver_0 14 rfl rfl)
theorem dX3_meetOver_15 : decode cX3_meetOver 15 = .ok (.iload_n 2, 1) := dk_28 (dk_at dksX3_meetOver_0 15 rfl rfl)
theorem dX3_meetOver_16 : decode cX3_meetOver 16 = .ok (.invokevirtual 326, 3) := dk_182 1 70 (dk_at dksX3_meetOver_0 16 rfl rfl)
theorem dX3_meetOver_19 : decode cX3_meetOver 19 = .ok (.aload_n 0, 1) := dk_42 (dk_at dksX3_meetOver_0 19 rfl rfl)
theorem dX3_meetOver_20 : decode cX3_meetOver 20 = .ok (.getfield 191, 3) := dk_180 0 191 (dk_at dksX3_meetOver_0 20 rfl rfl)
theorem dX3_meetOver_23 : decode cX3_meetOver 23 = .ok (.l2i, 1) := dk_136 (dk_at dksX3_meetOver_0 23 rfl rfl)
theorem dX3_meetOver_24 : decode cX3_meetOver 24 = .ok (.ireturn, 1) := dk_172 (dk_at dksX3_meetOver_1 0 rfl rfl)
abbrev cX3_meets : ByteArray := prog_20_method_59_code
def yX3_meets : MethodName := ⟨RX3, "meets", "(II)V"⟩
def dkwX3_meets_4 : List UInt8 := [132, 3, 1, 167, 255, 173, 42, 42, 180, 1, 39, 181, 0, 191, 42, 182, 0, 246, 42, 182, 0, 204, 177]
abbrev dktX3_meets_4 : List UInt8 := dkwX3_meets_4 ++ []
def dkwX3_meets_3 : List UInt8 := [167, 255, 218, 42, 180, 0, 36, 6, 29, 104, 21, 4, 96, 22, 5, 80, 132, 4, 1, 167, 255, 187]
abbrev dktX3_meets_3 : List UInt8 := dkwX3_meets_3 ++ dktX3_meets_4
def dkwX3_meets_2 : List UInt8 := [21, 7, 96, 47, 42, 180, 0, 58, 6, 21, 7, 104, 21, 4, 96, 47, 105, 97, 55, 5, 132, 7, 1]
abbrev dktX3_meets_2 : List UInt8 := dkwX3_meets_2 ++ dktX3_meets_3
def dkwX3_meets_1 : List UInt8 := [162, 0, 69, 9, 55, 5, 3, 54, 7, 21, 7, 6, 162, 0, 38, 22, 5, 42, 180, 0, 64, 6, 29, 104]
abbrev dktX3_meets_1 : List UInt8 := dkwX3_meets_1 ++ dktX3_meets_2
def dkwX3_meets_0 : List UInt8 := [42, 27, 28, 182, 1, 58, 42, 182, 1, 61, 3, 62, 29, 6, 162, 0, 84, 3, 54, 4, 21, 4, 6]
abbrev dktX3_meets_0 : List UInt8 := dkwX3_meets_0 ++ dktX3_meets_1
theorem dksX3_meets_0 : cX3_meets.data.toList.drop 0 = dktX3_meets_0 := by decide +kernel
theorem dksX3_meets_1 : cX3_meets.data.toList.drop 23 = dktX3_meets_1 := dk_seg dksX3_meets_0 23 rfl rfl
theorem dksX3_meets_2 : cX3_meets.data.toList.drop 47 = dktX3_meets_2 := dk_seg dksX3_meets_1 24 rfl rfl
theorem dksX3_meets_3 : cX3_meets.data.toList.drop 70 = dktX3_meets_3 := dk_seg dksX3_meets_2 23 rfl rfl
theorem dksX3_meets_4 : cX3_meets.data.toList.drop 92 = dktX3_meets_4 := dk_seg dksX3_meets_3 22 rfl rfl
theorem dX3_meets_0 : decode cX3_meets 0 = .ok (.aload_n 0, 1) := dk_42 (dk_at dksX3_meets_0 0 rfl rfl)
theorem dX3_meets_1 : decode cX3_meets 1 = .ok (.iload_n 1, 1) := dk_27 (dk_at dksX3_meets_0 1 rfl rfl)
theorem dX3_meets_2 : decode cX3_meets 2 = .ok (.iload_n 2, 1) := dk_28 (dk_at dksX3_meets_0 2 rfl rfl)
theorem dX3_meets_3 : decode cX3_meets 3 = .ok (.invokevirtual 314, 3) := dk_182 1 58 (dk_at dksX3_meets_0 3 rfl rfl)
theorem dX3_meets_6 : decode cX3_meets 6 = .ok (.aload_n 0, 1) := dk_42 (dk_at dksX3_meets_0 6 rfl rfl)
theorem dX3_meets_7 : decode cX3_meets 7 = .ok (.invokevirtual 317, 3) := dk_182 1 61 (dk_at dksX3_meets_0 7 rfl rfl)
theorem dX3_meets_10 : decode cX3_meets 10 = .ok (.iconst 0, 1) := dk_3 (dk_at dksX3_meets_0 10 rfl rfl)
theorem dX3_meets_11 : decode cX3_meets 11 = .ok (.istore_n 3, 1) := dk_62 (dk_at dksX3_meets_0 11 rfl rfl)
theorem dX3_meets_12 : decode cX3_meets 12 = .ok (.iload_n 3, 1) := dk_29 (dk_at dksX3_meets_0 12 rfl rfl)
theorem dX3_meets_13 : decode cX3_meets 13 = .ok (.iconst 3, 1) := dk_6 (dk_at dksX3_meets_0 13 rfl rfl)
theorem dX3_meets_14 : decode cX3_meets 14 = .ok (.if_icmp .ge 84, 3) := dk_162 0 84 (dk_at dksX3_meets_0 14 rfl rfl)
theorem dX3_meets_17 : decode cX3_meets 17 = .ok (.iconst 0, 1) := dk_3 (dk_at dksX3_meets_0 17 rfl rfl)
theorem dX3_meets_18 : decode cX3_meets 18 = .ok (.istore 4, 2) := dk_54 4 (dk_at dksX3_meets_0 18 rfl rfl)
theorem dX3_meets_20 : decode cX3_meets 20 = .ok (.iload 4, 2) := dk_21 4 (dk_at dksX3_meets_0 20 rfl rfl)
theorem dX3_meets_22 : decode cX3_meets 22 = .ok (.iconst 3, 1) := dk_6 (dk_at dksX3_meets_0 22 rfl rfl)
theorem dX3_meets_23 : decode cX3_meets 23 = .ok (.if_icmp .ge 69, 3) := dk_162 0 69 (dk_at dksX3_meets_1 0 rfl rfl)
theorem dX3_meets_26 : decode cX3_meets 26 = .ok (.lconst 0, 1) := dk_9 (dk_at dksX3_meets_1 3 rfl rfl)
theorem dX3_meets_27 : decode cX3_meets 27 = .ok (.lstore 5, 2) := dk_55 5 (dk_at dksX3_meets_1 4 rfl rfl)
theorem dX3_meets_29 : decode cX3_meets 29 = .ok (.iconst 0, 1) := dk_3 (dk_at dksX3_meets_1 6 rfl rfl)
theorem dX3_meets_30 : decode cX3_meets 30 = .ok (.istore 7, 2) := dk_54 7 (dk_at dksX3_meets_1 7 rfl rfl)
theorem dX3_meets_32 : decode cX3_meets 32 = .ok (.iload 7, 2) := dk_21 7 (dk_at dksX3_meets_1 9 rfl rfl)
theorem dX3_meets_34 : decode cX3_meets 34 = .ok (.iconst 3, 1) := dk_6 (dk_at dksX3_meets_1 11 rfl rfl)
theorem dX3_meets_35 : decode cX3_meets 35 = .ok (.if_icmp .ge 38, 3) := dk_162 0 38 (dk_at dksX3_meets_1 12 rfl rfl)
theorem dX3_meets_38 : decode cX3_meets 38 = .ok (.lload 5, 2) := dk_22 5 (dk_at dksX3_meets_1 15 rfl rfl)
theorem dX3_meets_40 : decode cX3_meets 40 = .ok (.aload_n 0, 1) := dk_42 (dk_at dksX3_meets_1 17 rfl rfl)
theorem dX3_meets_41 : decode cX3_meets 41 = .ok (.getfield 64, 3) := dk_180 0 64 (dk_at dksX3_meets_1 18 rfl rfl)
theorem dX3_meets_44 : decode cX3_meets 44 = .ok (.iconst 3, 1) := dk_6 (dk_at dksX3_meets_1 21 rfl rfl)
theorem dX3_meets_45 : decode cX3_meets 45 = .ok (.iload_n 3, 1) := dk_29 (dk_at dksX3_meets_1 22 rfl rfl)
theorem dX3_meets_46 : decode cX3_meets 46 = .ok (.imul, 1) := dk_104 (dk_at dksX3_meets_1 23 rfl rfl)
theorem dX3_meets_47 : decode cX3_meets 47 = .ok (.iload 7, 2) := dk_21 7 (dk_at dksX3_meets_2 0 rfl rfl)
theorem dX3_meets_49 : decode cX3_meets 49 = .ok (.iadd, 1) := dk_96 (dk_at dksX3_meets_2 2 rfl rfl)
theorem dX3_meets_50 : decode cX3_meets 50 = .ok (.laload, 1) := dk_47 (dk_at dksX3_meets_2 3 rfl rfl)
theorem dX3_meets_51 : decode cX3_meets 51 = .ok (.aload_n 0, 1) := dk_42 (dk_at dksX3_meets_2 4 rfl rfl)
theorem dX3_meets_52 : decode cX3_meets 52 = .ok (.getfield 58, 3) := dk_180 0 58 (dk_at dksX3_meets_2 5 rfl rfl)
theorem dX3_meets_55 : decode cX3_meets 55 = .ok (.iconst 3, 1) := dk_6 (dk_at dksX3_meets_2 8 rfl rfl)
theorem dX3_meets_56 : decode cX3_meets 56 = .ok (.iload 7, 2) := dk_21 7 (dk_at dksX3_meets_2 9 rfl rfl)
theorem dX3_meets_58 : decode cX3_meets 58 = .ok (.imul, 1) := dk_104 (dk_at dksX3_meets_2 11 rfl rfl)
theorem dX3_meets_59 : decode cX3_meets 59 = .ok (.iload 4, 2) := dk_21 4 (dk_at dksX3_meets_2 12 rfl rfl)
theorem dX3_meets_61 : decode cX3_meets 61 = .ok (.iadd, 1) := dk_96 (dk_at dksX3_meets_2 14 rfl rfl)
theorem dX3_meets_62 : decode cX3_meets 62 = .ok (.laload, 1) := dk_47 (dk_at dksX3_meets_2 15 rfl rfl)
theorem dX3_meets_63 : decode cX3_meets 63 = .ok (.lmul, 1) := dk_105 (dk_at dksX3_meets_2 16 rfl rfl)
theorem dX3_meets_64 : decode cX3_meets 64 = .ok (.ladd, 1) := dk_97 (dk_at dksX3_meets_2 17 rfl rfl)
theorem dX3_meets_65 : decode cX3_meets 65 = .ok (.lstore 5, 2) := dk_55 5 (dk_at dksX3_meets_2 18 rfl rfl)
theorem dX3_meets_67 : decode cX3_meets 67 = .ok (.iinc 7 1, 3) := dk_132 7 1 (dk_at dksX3_meets_2 20 rfl rfl)
theorem dX3_meets_70 : decode cX3_meets 70 = .ok (.goto (-38), 3) := dk_167 255 218 (dk_at dksX3_meets_3 0 rfl rfl)
theorem dX3_meets_73 : decode cX3_meets 73 = .ok (.aload_n 0, 1) := dk_42 (dk_at dksX3_meets_3 3 rfl rfl)
theorem dX3_meets_74 : decode cX3_meets 74 = .ok (.getfield 36, 3) := dk_180 0 36 (dk_at dksX3_meets_3 4 rfl rfl)
theorem dX3_meets_77 : decode cX3_meets 77 = .ok (.iconst 3, 1) := dk_6 (dk_at dksX3_meets_3 7 rfl rfl)
theorem dX3_meets_78 : decode cX3_meets 78 = .ok (.iload_n 3, 1) := dk_29 (dk_at dksX3_meets_3 8 rfl rfl)
theorem dX3_meets_79 : decode cX3_meets 79 = .ok (.imul, 1) := dk_104 (dk_at dksX3_meets_3 9 rfl rfl)
theorem dX3_meets_80 : decode cX3_meets 80 = .ok (.iload 4, 2) := dk_21 4 (dk_at dksX3_meets_3 10 rfl rfl)
theorem dX3_meets_82 : decode cX3_meets 82 = .ok (.iadd, 1) := dk_96 (dk_at dksX3_meets_3 12 rfl rfl)
theorem dX3_meets_83 : decode cX3_meets 83 = .ok (.lload 5, 2) := dk_22 5 (dk_at dksX3_meets_3 13 rfl rfl)
theorem dX3_meets_85 : decode cX3_meets 85 = .ok (.lastore, 1) := dk_80 (dk_at dksX3_meets_3 15 rfl rfl)
theorem dX3_meets_86 : decode cX3_meets 86 = .ok (.iinc 4 1, 3) := dk_132 4 1 (dk_at dksX3_meets_3 16 rfl rfl)
theorem dX3_meets_89 : decode cX3_meets 89 = .ok (.goto (-69), 3) := dk_167 255 187 (dk_at dksX3_meets_3 19 rfl rfl)
theorem dX3_meets_92 : decode cX3_meets 92 = .ok (.iinc 3 1, 3) := dk_132 3 1 (dk_at dksX3_meets_4 0 rfl rfl)
theorem dX3_meets_95 : decode cX3_meets 95 = .ok (.goto (-83), 3) := dk_167 255 173 (dk_at dksX3_meets_4 3 rfl rfl)
theorem dX3_meets_98 : decode cX3_meets 98 = .ok (.aload_n 0, 1) := dk_42 (dk_at dksX3_meets_4 6 rfl rfl)
theorem dX3_meets_99 : decode cX3_meets 99 = .ok (.aload_n 0, 1) := dk_42 (dk_at dksX3_meets_4 7 rfl rfl)
theorem dX3_meets_100 : decode cX3_meets 100 = .ok (.getfield 295, 3) := dk_180 1 39 (dk_at dksX3_meets_4 8 rfl rfl)
theorem dX3_meets_103 : decode cX3_meets 103 = .ok (.putfield 191, 3) := dk_181 0 191 (dk_at dksX3_meets_4 11 rfl rfl)
theorem dX3_meets_106 : decode cX3_meets 106 = .ok (.aload_n 0, 1) := dk_42 (dk_at dksX3_meets_4 14 rfl rfl)
theorem dX3_meets_107 : decode cX3_meets 107 = .ok (.invokevirtual 246, 3) := dk_182 0 246 (dk_at dksX3_meets_4 15 rfl rfl)
theorem dX3_meets_110 : decode cX3_meets 110 = .ok (.aload_n 0, 1) := dk_42 (dk_at dksX3_meets_4 18 rfl rfl)
theorem dX3_meets_111 : decode cX3_meets 111 = .ok (.invokevirtual 204, 3) := dk_182 0 204 (dk_at dksX3_meets_4 19 rfl rfl)
theorem dX3_meets_114 : decode cX3_meets 114 = .ok (.return_, 1) := dk_177 (dk_at dksX3_meets_4 22 rfl rfl)
abbrev cX3_tells : ByteArray := prog_20_method_56_code
def yX3_tells : MethodName := ⟨RX3, "tells", "()V"⟩
def dkwX3_tells_10 : List UInt8 := [182, 1, 52, 132, 3, 1, 167, 255, 52, 177]
abbrev dktX3_tells_10 : List UInt8 := dkwX3_tells_10 ++ []
def dkwX3_tells_9 : List UInt8 := [180, 0, 67, 16, 13, 9, 80, 42, 180, 0, 67, 16, 14, 9, 80, 42, 180, 0, 67, 16, 15, 9, 80, 42]
abbrev dktX3_tells_9 : List UInt8 := dkwX3_tells_9 ++ dktX3_tells_10
def dkwX3_tells_8 : List UInt8 := [80, 132, 7, 1, 167, 255, 221, 132, 4, 1, 167, 255, 102, 42, 180, 0, 67, 16, 12, 31, 80, 42]
abbrev dktX3_tells_8 : List UInt8 := dkwX3_tells_8 ++ dktX3_tells_9
def dkwX3_tells_7 : List UInt8 := [180, 0, 67, 7, 21, 4, 104, 4, 96, 21, 7, 96, 42, 180, 0, 64, 6, 21, 4, 104, 21, 7, 96, 47]
abbrev dktX3_tells_7 : List UInt8 := dkwX3_tells_7 ++ dktX3_tells_8
def dkwX3_tells_6 : List UInt8 := [180, 0, 67, 7, 21, 4, 104, 22, 5, 31, 184, 1, 49, 80, 3, 54, 7, 21, 7, 6, 162, 0, 35, 42]
abbrev dktX3_tells_6 : List UInt8 := dkwX3_tells_6 ++ dktX3_tells_7
def dkwX3_tells_5 : List UInt8 := [104, 21, 7, 96, 47, 31, 113, 22, 8, 31, 113, 105, 31, 113, 97, 55, 5, 132, 7, 1, 167, 255, 176, 42]
abbrev dktX3_tells_5 : List UInt8 := dkwX3_tells_5 ++ dktX3_tells_6
def dkwX3_tells_4 : List UInt8 := [182, 1, 45, 105, 31, 113, 97, 55, 8, 132, 10, 1, 167, 255, 220, 22, 5, 42, 180, 0, 64, 6, 21, 4]
abbrev dktX3_tells_4 : List UInt8 := dkwX3_tells_4 ++ dktX3_tells_5
def dkwX3_tells_3 : List UInt8 := [6, 162, 0, 36, 22, 8, 42, 180, 0, 58, 6, 21, 7, 104, 21, 10, 96, 47, 42, 21, 10, 29]
abbrev dktX3_tells_3 : List UInt8 := dkwX3_tells_3 ++ dktX3_tells_4
def dkwX3_tells_2 : List UInt8 := [6, 162, 0, 154, 9, 55, 5, 3, 54, 7, 21, 7, 6, 162, 0, 80, 9, 55, 8, 3, 54, 10, 21, 10]
abbrev dktX3_tells_2 : List UInt8 := dkwX3_tells_2 ++ dktX3_tells_3
def dkwX3_tells_1 : List UInt8 := [10, 167, 0, 4, 9, 80, 132, 3, 1, 167, 255, 230, 3, 62, 29, 6, 162, 0, 205, 3, 54, 4, 21, 4]
abbrev dktX3_tells_1 : List UInt8 := dkwX3_tells_1 ++ dktX3_tells_2
def dkwX3_tells_0 : List UInt8 := [42, 182, 1, 42, 64, 3, 62, 29, 16, 9, 162, 0, 26, 42, 180, 0, 64, 29, 29, 7, 112, 154, 0, 7]
abbrev dktX3_tells_0 : List UInt8 := dkwX3_tells_0 ++ dktX3_tells_1
theorem dksX3_tells_0 : cX3_tells.data.toList.drop 0 = dktX3_tells_0 := by decide +kernel
theorem dksX3_tells_1 : cX3_tells.data.toList.drop 24 = dktX3_tells_1 := dk_seg dksX3_tells_0 24 rfl rfl
theorem dksX3_tells_2 : cX3_tells.data.toList.drop 48 = dktX3_tells_2 := dk_seg dksX3_tells_1 24 rfl rfl
theorem dksX3_tells_3 : cX3_tells.data.toList.drop 72 = dktX3_tells_3 := dk_seg dksX3_tells_2 24 rfl rfl
theorem dksX3_tells_4 : cX3_tells.data.toList.drop 94 = dktX3_tells_4 := dk_seg dksX3_tells_3 22 rfl rfl
theorem dksX3_tells_5 : cX3_tells.data.toList.drop 118 = dktX3_tells_5 := dk_seg dksX3_tells_4 24 rfl rfl
theorem dksX3_tells_6 : cX3_tells.data.toList.drop 142 = dktX3_tells_6 := dk_seg dksX3_tells_5 24 rfl rfl
theorem dksX3_tells_7 : cX3_tells.data.toList.drop 166 = dktX3_tells_7 := dk_seg dksX3_tells_6 24 rfl rfl
theorem dksX3_tells_8 : cX3_tells.data.toList.drop 190 = dktX3_tells_8 := dk_seg dksX3_tells_7 24 rfl rfl
theorem dksX3_tells_9 : cX3_tells.data.toList.drop 212 = dktX3_tells_9 := dk_seg dksX3_tells_8 22 rfl rfl
theorem dksX3_tells_10 : cX3_tells.data.toList.drop 236 = dktX3_tells_10 := dk_seg dksX3_tells_9 24 rfl rfl
theorem dX3_tells_0 : decode cX3_tells 0 = .ok (.aload_n 0, 1) := dk_42 (dk_at dksX3_tells_0 0 rfl rfl)
theorem dX3_tells_1 : decode cX3_tells 1 = .ok (.invokevirtual 298, 3) := dk_182 1 42 (dk_at dksX3_tells_0 1 rfl rfl)
theorem dX3_tells_4 : decode cX3_tells 4 = .ok (.lstore_n 1, 1) := dk_64 (dk_at dksX3_tells_0 4 rfl rfl)
theorem dX3_tells_5 : decode cX3_tells 5 = .ok (.iconst 0, 1) := dk_3 (dk_at dksX3_tells_0 5 rfl rfl)
theorem dX3_tells_6 : decode cX3_tells 6 = .ok (.istore_n 3, 1) := dk_62 (dk_at dksX3_tells_0 6 rfl rfl)
theorem dX3_tells_7 : decode cX3_tells 7 = .ok (.iload_n 3, 1) := dk_29 (dk_at dksX3_tells_0 7 rfl rfl)
theorem dX3_tells_8 : decode cX3_tells 8 = .ok (.bipush 9, 2) := dk_16 9 (dk_at dksX3_tells_0 8 rfl rfl)
theorem dX3_tells_10 : decode cX3_tells 10 = .ok (.if_icmp .ge 26, 3) := dk_162 0 26 (dk_at dksX3_tells_0 10 rfl rfl)
theorem dX3_tells_13 : decode cX3_tells 13 = .ok (.aload_n 0, 1) := dk_42 (dk_at dksX3_tells_0 13 rfl rfl)
theorem dX3_tells_14 : decode cX3_tells 14 = .ok (.getfield 64, 3) := dk_180 0 64 (dk_at dksX3_tells_0 14 rfl rfl)
theorem dX3_tells_17 : decode cX3_tells 17 = .ok (.iload_n 3, 1) := dk_29 (dk_at dksX3_tells_0 17 rfl rfl)
theorem dX3_tells_18 : decode cX3_tells 18 = .ok (.iload_n 3, 1) := dk_29 (dk_at dksX3_tells_0 18 rfl rfl)
theorem dX3_tells_19 : decode cX3_tells 19 = .ok (.iconst 4, 1) := dk_7 (dk_at dksX3_tells_0 19 rfl rfl)
theorem dX3_tells_20 : decode cX3_tells 20 = .ok (.irem, 1) := dk_112 (dk_at dksX3_tells_0 20 rfl rfl)
theorem dX3_tells_21 : decode cX3_tells 21 = .ok (.ifCond .ne 7, 3) := dk_154 0 7 (dk_at dksX3_tells_0 21 rfl rfl)
theorem dX3_tells_24 : decode cX3_tells 24 = .ok (.lconst 1, 1) := dk_10 (dk_at dksX3_tells_1 0 rfl rfl)
theorem dX3_tells_25 : decode cX3_tells 25 = .ok (.goto 4, 3) := dk_167 0 4 (dk_at dksX3_tells_1 1 rfl rfl)
theorem dX3_tells_28 : decode cX3_tells 28 = .ok (.lconst 0, 1) := dk_9 (dk_at dksX3_tells_1 4 rfl rfl)
theorem dX3_tells_29 : decode cX3_tells 29 = .ok (.lastore, 1) := dk_80 (dk_at dksX3_tells_1 5 rfl rfl)
theorem dX3_tells_30 : decode cX3_tells 30 = .ok (.iinc 3 1, 3) := dk_132 3 1 (dk_at dksX3_tells_1 6 rfl rfl)
theorem dX3_tells_33 : decode cX3_tells 33 = .ok (.goto (-26), 3) := dk_167 255 230 (dk_at dksX3_tells_1 9 rfl rfl)
theorem dX3_tells_36 : decode cX3_tells 36 = .ok (.iconst 0, 1) := dk_3 (dk_at dksX3_tells_1 12 rfl rfl)
theorem dX3_tells_37 : decode cX3_tells 37 = .ok (.istore_n 3, 1) := dk_62 (dk_at dksX3_tells_1 13 rfl rfl)
theorem dX3_tells_38 : decode cX3_tells 38 = .ok (.iload_n 3, 1) := dk_29 (dk_at dksX3_tells_1 14 rfl rfl)
theorem dX3_tells_39 : decode cX3_tells 39 = .ok (.iconst 3, 1) := dk_6 (dk_at dksX3_tells_1 15 rfl rfl)
theorem dX3_tells_40 : decode cX3_tells 40 = .ok (.if_icmp .ge 205, 3) := dk_162 0 205 (dk_at dksX3_tells_1 16 rfl rfl)
theorem dX3_tells_43 : decode cX3_tells 43 = .ok (.iconst 0, 1) := dk_3 (dk_at dksX3_tells_1 19 rfl rfl)
theorem dX3_tells_44 : decode cX3_tells 44 = .ok (.istore 4, 2) := dk_54 4 (dk_at dksX3_tells_1 20 rfl rfl)
theorem dX3_tells_46 : decode cX3_tells 46 = .ok (.iload 4, 2) := dk_21 4 (dk_at dksX3_tells_1 22 rfl rfl)
theorem dX3_tells_48 : decode cX3_tells 48 = .ok (.iconst 3, 1) := dk_6 (dk_at dksX3_tells_2 0 rfl rfl)
theorem dX3_tells_49 : decode cX3_tells 49 = .ok (.if_icmp .ge 154, 3) := dk_162 0 154 (dk_at dksX3_tells_2 1 rfl rfl)
theorem dX3_tells_52 : decode cX3_tells 52 = .ok (.lconst 0, 1) := dk_9 (dk_at dksX3_tells_2 4 rfl rfl)
theorem dX3_tells_53 : decode cX3_tells 53 = .ok (.lstore 5, 2) := dk_55 5 (dk_at dksX3_tells_2 5 rfl rfl)
theorem dX3_tells_55 : decode cX3_tells 55 = .ok (.iconst 0, 1) := dk_3 (dk_at dksX3_tells_2 7 rfl rfl)
theorem dX3_tells_56 : decode cX3_tells 56 = .ok (.istore 7, 2) := dk_54 7 (dk_at dksX3_tells_2 8 rfl rfl)
theorem dX3_tells_58 : decode cX3_tells 58 = .ok (.iload 7, 2) := dk_21 7 (dk_at dksX3_tells_2 10 rfl rfl)
theorem dX3_tells_60 : decode cX3_tells 60 = .ok (.iconst 3, 1) := dk_6 (dk_at dksX3_tells_2 12 rfl rfl)
theorem dX3_tells_61 : decode cX3_tells 61 = .ok (.if_icmp .ge 80, 3) := dk_162 0 80 (dk_at dksX3_tells_2 13 rfl rfl)
theorem dX3_tells_64 : decode cX3_tells 64 = .ok (.lconst 0, 1) := dk_9 (dk_at dksX3_tells_2 16 rfl rfl)
theorem dX3_tells_65 : decode cX3_tells 65 = .ok (.lstore 8, 2) := dk_55 8 (dk_at dksX3_tells_2 17 rfl rfl)
theorem dX3_tells_67 : decode cX3_tells 67 = .ok (.iconst 0, 1) := dk_3 (dk_at dksX3_tells_2 19 rfl rfl)
theorem dX3_tells_68 : decode cX3_tells 68 = .ok (.istore 10, 2) := dk_54 10 (dk_at dksX3_tells_2 20 rfl rfl)
theorem dX3_tells_70 : decode cX3_tells 70 = .ok (.iload 10, 2) := dk_21 10 (dk_at dksX3_tells_2 22 rfl rfl)
theorem dX3_tells_72 : decode cX3_tells 72 = .ok (.iconst 3, 1) := dk_6 (dk_at dksX3_tells_3 0 rfl rfl)
theorem dX3_tells_73 : decode cX3_tells 73 = .ok (.if_icmp .ge 36, 3) := dk_162 0 36 (dk_at dksX3_tells_3 1 rfl rfl)
theorem dX3_tells_76 : decode cX3_tells 76 = .ok (.lload 8, 2) := dk_22 8 (dk_at dksX3_tells_3 4 rfl rfl)
theorem dX3_tells_78 : decode cX3_tells 78 = .ok (.aload_n 0, 1) := dk_42 (dk_at dksX3_tells_3 6 rfl rfl)
theorem dX3_tells_79 : decode cX3_tells 79 = .ok (.getfield 58, 3) := dk_180 0 58 (dk_at dksX3_tells_3 7 rfl rfl)
theorem dX3_tells_82 : decode cX3_tells 82 = .ok (.iconst 3, 1) := dk_6 (dk_at dksX3_tells_3 10 rfl rfl)
theorem dX3_tells_83 : decode cX3_tells 83 = .ok (.iload 7, 2) := dk_21 7 (dk_at dksX3_tells_3 11 rfl rfl)
theorem dX3_tells_85 : decode cX3_tells 85 = .ok (.imul, 1) := dk_104 (dk_at dksX3_tells_3 13 rfl rfl)
theorem dX3_tells_86 : decode cX3_tells 86 = .ok (.iload 10, 2) := dk_21 10 (dk_at dksX3_tells_3 14 rfl rfl)
theorem dX3_tells_88 : decode cX3_tells 88 = .ok (.iadd, 1) := dk_96 (dk_at dksX3_tells_3 16 rfl rfl)
theorem dX3_tells_89 : decode cX3_tells 89 = .ok (.laload, 1) := dk_47 (dk_at dksX3_tells_3 17 rfl rfl)
theorem dX3_tells_90 : decode cX3_tells 90 = .ok (.aload_n 0, 1) := dk_42 (dk_at dksX3_tells_3 18 rfl rfl)
theorem dX3_tells_91 : decode cX3_tells 91 = .ok (.iload 10, 2) := dk_21 10 (dk_at dksX3_tells_3 19 rfl rfl)
theorem dX3_tells_93 : decode cX3_tells 93 = .ok (.iload_n 3, 1) := dk_29 (dk_at dksX3_tells_3 21 rfl rfl)
theorem dX3_tells_94 : decode cX3_tells 94 = .ok (.invokevirtual 301, 3) := dk_182 1 45 (dk_at dksX3_tells_4 0 rfl rfl)
theorem dX3_tells_97 : decode cX3_tells 97 = .ok (.lmul, 1) := dk_105 (dk_at dksX3_tells_4 3 rfl rfl)
theorem dX3_tells_98 : decode cX3_tells 98 = .ok (.lload_n 1, 1) := dk_31 (dk_at dksX3_tells_4 4 rfl rfl)
theorem dX3_tells_99 : decode cX3_tells 99 = .ok (.lrem, 1) := dk_113 (dk_at dksX3_tells_4 5 rfl rfl)
theorem dX3_tells_100 : decode cX3_tells 100 = .ok (.ladd, 1) := dk_97 (dk_at dksX3_tells_4 6 rfl rfl)
theorem dX3_tells_101 : decode cX3_tells 101 = .ok (.lstore 8, 2) := dk_55 8 (dk_at dksX3_tells_4 7 rfl rfl)
theorem dX3_tells_103 : decode cX3_tells 103 = .ok (.iinc 10 1, 3) := dk_132 10 1 (dk_at dksX3_tells_4 9 rfl rfl)
theorem dX3_tells_106 : decode cX3_tells 106 = .ok (.goto (-36), 3) := dk_167 255 220 (dk_at dksX3_tells_4 12 rfl rfl)
theorem dX3_tells_109 : decode cX3_tells 109 = .ok (.lload 5, 2) := dk_22 5 (dk_at dksX3_tells_4 15 rfl rfl)
theorem dX3_tells_111 : decode cX3_tells 111 = .ok (.aload_n 0, 1) := dk_42 (dk_at dksX3_tells_4 17 rfl rfl)
theorem dX3_tells_112 : decode cX3_tells 112 = .ok (.getfield 64, 3) := dk_180 0 64 (dk_at dksX3_tells_4 18 rfl rfl)
theorem dX3_tells_115 : decode cX3_tells 115 = .ok (.iconst 3, 1) := dk_6 (dk_at dksX3_tells_4 21 rfl rfl)
theorem dX3_tells_116 : decode cX3_tells 116 = .ok (.iload 4, 2) := dk_21 4 (dk_at dksX3_tells_4 22 rfl rfl)
theorem dX3_tells_118 : decode cX3_tells 118 = .ok (.imul, 1) := dk_104 (dk_at dksX3_tells_5 0 rfl rfl)
theorem dX3_tells_119 : decode cX3_tells 119 = .ok (.iload 7, 2) := dk_21 7 (dk_at dksX3_tells_5 1 rfl rfl)
theorem dX3_tells_121 : decode cX3_tells 121 = .ok (.iadd, 1) := dk_96 (dk_at dksX3_tells_5 3 rfl rfl)
theorem dX3_tells_122 : decode cX3_tells 122 = .ok (.laload, 1) := dk_47 (dk_at dksX3_tells_5 4 rfl rfl)
theorem dX3_tells_123 : decode cX3_tells 123 = .ok (.lload_n 1, 1) := dk_31 (dk_at dksX3_tells_5 5 rfl rfl)
theorem dX3_tells_124 : decode cX3_tells 124 = .ok (.lrem, 1) := dk_113 (dk_at dksX3_tells_5 6 rfl rfl)
theorem dX3_tells_125 : decode cX3_tells 125 = .ok (.lload 8, 2) := dk_22 8 (dk_at dksX3_tells_5 7 rfl rfl)
theorem dX3_tells_127 : decode cX3_tells 127 = .ok (.lload_n 1, 1) := dk_31 (dk_at dksX3_tells_5 9 rfl rfl)
theorem dX3_tells_128 : decode cX3_tells 128 = .ok (.lrem, 1) := dk_113 (dk_at dksX3_tells_5 10 rfl rfl)
theorem dX3_tells_129 : decode cX3_tells 129 = .ok (.lmul, 1) := dk_105 (dk_at dksX3_tells_5 11 rfl rfl)
theorem dX3_tells_130 : decode cX3_tells 130 = .ok (.lload_n 1, 1) := dk_31 (dk_at dksX3_tells_5 12 rfl rfl)
theorem dX3_tells_131 : decode cX3_tells 131 = .ok (.lrem, 1) := dk_113 (dk_at dksX3_tells_5 13 rfl rfl)
theorem dX3_tells_132 : decode cX3_tells 132 = .ok (.ladd, 1) := dk_97 (dk_at dksX3_tells_5 14 rfl rfl)
theorem dX3_tells_133 : decode cX3_tells 133 = .ok (.lstore 5, 2) := dk_55 5 (dk_at dksX3_tells_5 15 rfl rfl)
theorem dX3_tells_135 : decode cX3_tells 135 = .ok (.iinc 7 1, 3) := dk_132 7 1 (dk_at dksX3_tells_5 17 rfl rfl)
theorem dX3_tells_138 : decode cX3_tells 138 = .ok (.goto (-80), 3) := dk_167 255 176 (dk_at dksX3_tells_5 20 rfl rfl)
theorem dX3_tells_141 : decode cX3_tells 141 = .ok (.aload_n 0, 1) := dk_42 (dk_at dksX3_tells_5 23 rfl rfl)
theorem dX3_tells_142 : decode cX3_tells 142 = .ok (.getfield 67, 3) := dk_180 0 67 (dk_at dksX3_tells_6 0 rfl rfl)
theorem dX3_tells_145 : decode cX3_tells 145 = .ok (.iconst 4, 1) := dk_7 (dk_at dksX3_tells_6 3 rfl rfl)
theorem dX3_tells_146 : decode cX3_tells 146 = .ok (.iload 4, 2) := dk_21 4 (dk_at dksX3_tells_6 4 rfl rfl)
theorem dX3_tells_148 : decode cX3_tells 148 = .ok (.imul, 1) := dk_104 (dk_at dksX3_tells_6 6 rfl rfl)
theorem dX3_tells_149 : decode cX3_tells 149 = .ok (.lload 5, 2) := dk_22 5 (dk_at dksX3_tells_6 7 rfl rfl)
theorem dX3_tells_151 : decode cX3_tells 151 = .ok (.lload_n 1, 1) := dk_31 (dk_at dksX3_tells_6 9 rfl rfl)
theorem dX3_tells_152 : decode cX3_tells 152 = .ok (.invokestatic 305, 3) := dk_184 1 49 (dk_at dksX3_tells_6 10 rfl rfl)
theorem dX3_tells_155 : decode cX3_tells 155 = .ok (.lastore, 1) := dk_80 (dk_at dksX3_tells_6 13 rfl rfl)
theorem dX3_tells_156 : decode cX3_tells 156 = .ok (.iconst 0, 1) := dk_3 (dk_at dksX3_tells_6 14 rfl rfl)
theorem dX3_tells_157 : decode cX3_tells 157 = .ok (.istore 7, 2) := dk_54 7 (dk_at dksX3_tells_6 15 rfl rfl)
theorem dX3_tells_159 : decode cX3_tells 159 = .ok (.iload 7, 2) := dk_21 7 (dk_at dksX3_tells_6 17 rfl rfl)
theorem dX3_tells_161 : decode cX3_tells 161 = .ok (.iconst 3, 1) := dk_6 (dk_at dksX3_tells_6 19 rfl rfl)
theorem dX3_tells_162 : decode cX3_tells 162 = .ok (.if_icmp .ge 35, 3) := dk_162 0 35 (dk_at dksX3_tells_6 20 rfl rfl)
theorem dX3_tells_165 : decode cX3_tells 165 = .ok (.aload_n 0, 1) := dk_42 (dk_at dksX3_tells_6 23 rfl rfl)
theorem dX3_tells_166 : decode cX3_tells 166 = .ok (.getfield 67, 3) := dk_180 0 67 (dk_at dksX3_tells_7 0 rfl rfl)
theorem dX3_tells_169 : decode cX3_tells 169 = .ok (.iconst 4, 1) := dk_7 (dk_at dksX3_tells_7 3 rfl rfl)
theorem dX3_tells_170 : decode cX3_tells 170 = .ok (.iload 4, 2) := dk_21 4 (dk_at dksX3_tells_7 4 rfl rfl)
theorem dX3_tells_172 : decode cX3_tells 172 = .ok (.imul, 1) := dk_104 (dk_at dksX3_tells_7 6 rfl rfl)
theorem dX3_tells_173 : decode cX3_tells 173 = .ok (.iconst 1, 1) := dk_4 (dk_at dksX3_tells_7 7 rfl rfl)
theorem dX3_tells_174 : decode cX3_tells 174 = .ok (.iadd, 1) := dk_96 (dk_at dksX3_tells_7 8 rfl rfl)
theorem dX3_tells_175 : decode cX3_tells 175 = .ok (.iload 7, 2) := dk_21 7 (dk_at dksX3_tells_7 9 rfl rfl)
theorem dX3_tells_177 : decode cX3_tells 177 = .ok (.iadd, 1) := dk_96 (dk_at dksX3_tells_7 11 rfl rfl)
theorem dX3_tells_178 : decode cX3_tells 178 = .ok (.aload_n 0, 1) := dk_42 (dk_at dksX3_tells_7 12 rfl rfl)
theorem dX3_tells_179 : decode cX3_tells 179 = .ok (.getfield 64, 3) := dk_180 0 64 (dk_at dksX3_tells_7 13 rfl rfl)
theorem dX3_tells_182 : decode cX3_tells 182 = .ok (.iconst 3, 1) := dk_6 (dk_at dksX3_tells_7 16 rfl rfl)
theorem dX3_tells_183 : decode cX3_tells 183 = .ok (.iload 4, 2) := dk_21 4 (dk_at dksX3_tells_7 17 rfl rfl)
theorem dX3_tells_185 : decode cX3_tells 185 = .ok (.imul, 1) := dk_104 (dk_at dksX3_tells_7 19 rfl rfl)
theorem dX3_tells_186 : decode cX3_tells 186 = .ok (.iload 7, 2) := dk_21 7 (dk_at dksX3_tells_7 20 rfl rfl)
theorem dX3_tells_188 : decode cX3_tells 188 = .ok (.iadd, 1) := dk_96 (dk_at dksX3_tells_7 22 rfl rfl)
theorem dX3_tells_189 : decode cX3_tells 189 = .ok (.laload, 1) := dk_47 (dk_at dksX3_tells_7 23 rfl rfl)
theorem dX3_tells_190 : decode cX3_tells 190 = .ok (.lastore, 1) := dk_80 (dk_at dksX3_tells_8 0 rfl rfl)
theorem dX3_tells_191 : decode cX3_tells 191 = .ok (.iinc 7 1, 3) := dk_132 7 1 (dk_at dksX3_tells_8 1 rfl rfl)
theorem dX3_tells_194 : decode cX3_tells 194 = .ok (.goto (-35), 3) := dk_167 255 221 (dk_at dksX3_tells_8 4 rfl rfl)
theorem dX3_tells_197 : decode cX3_tells 197 = .ok (.iinc 4 1, 3) := dk_132 4 1 (dk_at dksX3_tells_8 7 rfl rfl)
theorem dX3_tells_200 : decode cX3_tells 200 = .ok (.goto (-154), 3) := dk_167 255 102 (dk_at dksX3_tells_8 10 rfl rfl)
theorem dX3_tells_203 : decode cX3_tells 203 = .ok (.aload_n 0, 1) := dk_42 (dk_at dksX3_tells_8 13 rfl rfl)
theorem dX3_tells_204 : decode cX3_tells 204 = .ok (.getfield 67, 3) := dk_180 0 67 (dk_at dksX3_tells_8 14 rfl rfl)
theorem dX3_tells_207 : decode cX3_tells 207 = .ok (.bipush 12, 2) := dk_16 12 (dk_at dksX3_tells_8 17 rfl rfl)
theorem dX3_tells_209 : decode cX3_tells 209 = .ok (.lload_n 1, 1) := dk_31 (dk_at dksX3_tells_8 19 rfl rfl)
theorem dX3_tells_210 : decode cX3_tells 210 = .ok (.lastore, 1) := dk_80 (dk_at dksX3_tells_8 20 rfl rfl)
theorem dX3_tells_211 : decode cX3_tells 211 = .ok (.aload_n 0, 1) := dk_42 (dk_at dksX3_tells_8 21 rfl rfl)
theorem dX3_tells_212 : decode cX3_tells 212 = .ok (.getfield 67, 3) := dk_180 0 67 (dk_at dksX3_tells_9 0 rfl rfl)
theorem dX3_tells_215 : decode cX3_tells 215 = .ok (.bipush 13, 2) := dk_16 13 (dk_at dksX3_tells_9 3 rfl rfl)
theorem dX3_tells_217 : decode cX3_tells 217 = .ok (.lconst 0, 1) := dk_9 (dk_at dksX3_tells_9 5 rfl rfl)
theorem dX3_tells_218 : decode cX3_tells 218 = .ok (.lastore, 1) := dk_80 (dk_at dksX3_tells_9 6 rfl rfl)
theorem dX3_tells_219 : decode cX3_tells 219 = .ok (.aload_n 0, 1) := dk_42 (dk_at dksX3_tells_9 7 rfl rfl)
theorem dX3_tells_220 : decode cX3_tells 220 = .ok (.getfield 67, 3) := dk_180 0 67 (dk_at dksX3_tells_9 8 rfl rfl)
theorem dX3_tells_223 : decode cX3_tells 223 = .ok (.bipush 14, 2) := dk_16 14 (dk_at dksX3_tells_9 11 rfl rfl)
theorem dX3_tells_225 : decode cX3_tells 225 = .ok (.lconst 0, 1) := dk_9 (dk_at dksX3_tells_9 13 rfl rfl)
theorem dX3_tells_226 : decode cX3_tells 226 = .ok (.lastore, 1) := dk_80 (dk_at dksX3_tells_9 14 rfl rfl)
theorem dX3_tells_227 : decode cX3_tells 227 = .ok (.aload_n 0, 1) := dk_42 (dk_at dksX3_tells_9 15 rfl rfl)
theorem dX3_tells_228 : decode cX3_tells 228 = .ok (.getfield 67, 3) := dk_180 0 67 (dk_at dksX3_tells_9 16 rfl rfl)
theorem dX3_tells_231 : decode cX3_tells 231 = .ok (.bipush 15, 2) := dk_16 15 (dk_at dksX3_tells_9 19 rfl rfl)
theorem dX3_tells_233 : decode cX3_tells 233 = .ok (.lconst 0, 1) := dk_9 (dk_at dksX3_tells_9 21 rfl rfl)
theorem dX3_tells_234 : decode cX3_tells 234 = .ok (.lastore, 1) := dk_80 (dk_at dksX3_tells_9 22 rfl rfl)
theorem dX3_tells_235 : decode cX3_tells 235 = .ok (.aload_n 0, 1) := dk_42 (dk_at dksX3_tells_9 23 rfl rfl)
theorem dX3_tells_236 : decode cX3_tells 236 = .ok (.invokevirtual 308, 3) := dk_182 1 52 (dk_at dksX3_tells_10 0 rfl rfl)
theorem dX3_tells_239 : decode cX3_tells 239 = .ok (.iinc 3 1, 3) := dk_132 3 1 (dk_at dksX3_tells_10 3 rfl rfl)
theorem dX3_tells_242 : decode cX3_tells 242 = .ok (.goto (-204), 3) := dk_167 255 52 (dk_at dksX3_tells_10 6 rfl rfl)
theorem dX3_tells_245 : decode cX3_tells 245 = .ok (.return_, 1) := dk_177 (dk_at dksX3_tells_10 9 rfl rfl)
abbrev cX3_otherDet : ByteArray := prog_20_method_54_code
def yX3_otherDet : MethodName := ⟨RX3, "otherDet", "()J"⟩
def dkwX3_otherDet_3 : List UInt8 := [132, 3, 1, 167, 255, 185, 31, 184, 0, 1, 173]
abbrev dktX3_otherDet_3 : List UInt8 := dkwX3_otherDet_3 ++ []
def dkwX3_otherDet_2 : List UInt8 := [5, 96, 6, 112, 96, 47, 42, 180, 0, 61, 16, 6, 29, 4, 96, 6, 112, 96, 47, 105, 101, 105, 97, 64]
abbrev dktX3_otherDet_2 : List UInt8 := dkwX3_otherDet_2 ++ dktX3_otherDet_3
def dkwX3_otherDet_1 : List UInt8 := [6, 112, 96, 47, 42, 180, 0, 61, 16, 6, 29, 5, 96, 6, 112, 96, 47, 105, 42, 180, 0, 61, 6, 29]
abbrev dktX3_otherDet_1 : List UInt8 := dkwX3_otherDet_1 ++ dktX3_otherDet_2
def dkwX3_otherDet_0 : List UInt8 := [9, 64, 3, 62, 29, 6, 162, 0, 72, 31, 42, 180, 0, 61, 29, 47, 42, 180, 0, 61, 6, 29, 4, 96]
abbrev dktX3_otherDet_0 : List UInt8 := dkwX3_otherDet_0 ++ dktX3_otherDet_1
theorem dksX3_otherDet_0 : cX3_otherDet.data.toList.drop 0 = dktX3_otherDet_0 := by decide +kernel
theorem dksX3_otherDet_1 : cX3_otherDet.data.toList.drop 24 = dktX3_otherDet_1 := dk_seg dksX3_otherDet_0 24 rfl rfl
theorem dksX3_otherDet_2 : cX3_otherDet.data.toList.drop 48 = dktX3_otherDet_2 := dk_seg dksX3_otherDet_1 24 rfl rfl
theorem dksX3_otherDet_3 : cX3_otherDet.data.toList.drop 72 = dktX3_otherDet_3 := dk_seg dksX3_otherDet_2 24 rfl rfl
theorem dX3_otherDet_0 : decode cX3_otherDet 0 = .ok (.lconst 0, 1) := dk_9 (dk_at dksX3_otherDet_0 0 rfl rfl)
theorem dX3_otherDet_1 : decode cX3_otherDet 1 = .ok (.lstore_n 1, 1) := dk_64 (dk_at dksX3_otherDet_0 1 rfl rfl)
theorem dX3_otherDet_2 : decode cX3_otherDet 2 = .ok (.iconst 0, 1) := dk_3 (dk_at dksX3_otherDet_0 2 rfl rfl)
theorem dX3_otherDet_3 : decode cX3_otherDet 3 = .ok (.istore_n 3, 1) := dk_62 (dk_at dksX3_otherDet_0 3 rfl rfl)
theorem dX3_otherDet_4 : decode cX3_otherDet 4 = .ok (.iload_n 3, 1) := dk_29 (dk_at dksX3_otherDet_0 4 rfl rfl)
theorem dX3_otherDet_5 : decode cX3_otherDet 5 = .ok (.iconst 3, 1) := dk_6 (dk_at dksX3_otherDet_0 5 rfl rfl)
theorem dX3_otherDet_6 : decode cX3_otherDet 6 = .ok (.if_icmp .ge 72, 3) := dk_162 0 72 (dk_at dksX3_otherDet_0 6 rfl rfl)
theorem dX3_otherDet_9 : decode cX3_otherDet 9 = .ok (.lload_n 1, 1) := dk_31 (dk_at dksX3_otherDet_0 9 rfl rfl)
theorem dX3_otherDet_10 : decode cX3_otherDet 10 = .ok (.aload_n 0, 1) := dk_42 (dk_at dksX3_otherDet_0 10 rfl rfl)
theorem dX3_otherDet_11 : decode cX3_otherDet 11 = .ok (.getfield 61, 3) := dk_180 0 61 (dk_at dksX3_otherDet_0 11 rfl rfl)
theorem dX3_otherDet_14 : decode cX3_otherDet 14 = .ok (.iload_n 3, 1) := dk_29 (dk_at dksX3_otherDet_0 14 rfl rfl)
theorem dX3_otherDet_15 : decode cX3_otherDet 15 = .ok (.laload, 1) := dk_47 (dk_at dksX3_otherDet_0 15 rfl rfl)
theorem dX3_otherDet_16 : decode cX3_otherDet 16 = .ok (.aload_n 0, 1) := dk_42 (dk_at dksX3_otherDet_0 16 rfl rfl)
theorem dX3_otherDet_17 : decode cX3_otherDet 17 = .ok (.getfield 61, 3) := dk_180 0 61 (dk_at dksX3_otherDet_0 17 rfl rfl)
theorem dX3_otherDet_20 : decode cX3_otherDet 20 = .ok (.iconst 3, 1) := dk_6 (dk_at dksX3_otherDet_0 20 rfl rfl)
theorem dX3_otherDet_21 : decode cX3_otherDet 21 = .ok (.iload_n 3, 1) := dk_29 (dk_at dksX3_otherDet_0 21 rfl rfl)
theorem dX3_otherDet_22 : decode cX3_otherDet 22 = .ok (.iconst 1, 1) := dk_4 (dk_at dksX3_otherDet_0 22 rfl rfl)
theorem dX3_otherDet_23 : decode cX3_otherDet 23 = .ok (.iadd, 1) := dk_96 (dk_at dksX3_otherDet_0 23 rfl rfl)
theorem dX3_otherDet_24 : decode cX3_otherDet 24 = .ok (.iconst 3, 1) := dk_6 (dk_at dksX3_otherDet_1 0 rfl rfl)
theorem dX3_otherDet_25 : decode cX3_otherDet 25 = .ok (.irem, 1) := dk_112 (dk_at dksX3_otherDet_1 1 rfl rfl)
theorem dX3_otherDet_26 : decode cX3_otherDet 26 = .ok (.iadd, 1) := dk_96 (dk_at dksX3_otherDet_1 2 rfl rfl)
theorem dX3_otherDet_27 : decode cX3_otherDet 27 = .ok (.laload, 1) := dk_47 (dk_at dksX3_otherDet_1 3 rfl rfl)
theorem dX3_otherDet_28 : decode cX3_otherDet 28 = .ok (.aload_n 0, 1) := dk_42 (dk_at dksX3_otherDet_1 4 rfl rfl)
theorem dX3_otherDet_29 : decode cX3_otherDet 29 = .ok (.getfield 61, 3) := dk_180 0 61 (dk_at dksX3_otherDet_1 5 rfl rfl)
theorem dX3_otherDet_32 : decode cX3_otherDet 32 = .ok (.bipush 6, 2) := dk_16 6 (dk_at dksX3_otherDet_1 8 rfl rfl)
theorem dX3_otherDet_34 : decode cX3_otherDet 34 = .ok (.iload_n 3, 1) := dk_29 (dk_at dksX3_otherDet_1 10 rfl rfl)
theorem dX3_otherDet_35 : decode cX3_otherDet 35 = .ok (.iconst 2, 1) := dk_5 (dk_at dksX3_otherDet_1 11 rfl rfl)
theorem dX3_otherDet_36 : decode cX3_otherDet 36 = .ok (.iadd, 1) := dk_96 (dk_at dksX3_otherDet_1 12 rfl rfl)
theorem dX3_otherDet_37 : decode cX3_otherDet 37 = .ok (.iconst 3, 1) := dk_6 (dk_at dksX3_otherDet_1 13 rfl rfl)
theorem dX3_otherDet_38 : decode cX3_otherDet 38 = .ok (.irem, 1) := dk_112 (dk_at dksX3_otherDet_1 14 rfl rfl)
theorem dX3_otherDet_39 : decode cX3_otherDet 39 = .ok (.iadd, 1) := dk_96 (dk_at dksX3_otherDet_1 15 rfl rfl)
theorem dX3_otherDet_40 : decode cX3_otherDet 40 = .ok (.laload, 1) := dk_47 (dk_at dksX3_otherDet_1 16 rfl rfl)
theorem dX3_otherDet_41 : decode cX3_otherDet 41 = .ok (.lmul, 1) := dk_105 (dk_at dksX3_otherDet_1 17 rfl rfl)
theorem dX3_otherDet_42 : decode cX3_otherDet 42 = .ok (.aload_n 0, 1) := dk_42 (dk_at dksX3_otherDet_1 18 rfl rfl)
theorem dX3_otherDet_43 : decode cX3_otherDet 43 = .ok (.getfield 61, 3) := dk_180 0 61 (dk_at dksX3_otherDet_1 19 rfl rfl)
theorem dX3_otherDet_46 : decode cX3_otherDet 46 = .ok (.iconst 3, 1) := dk_6 (dk_at dksX3_otherDet_1 22 rfl rfl)
theorem dX3_otherDet_47 : decode cX3_otherDet 47 = .ok (.iload_n 3, 1) := dk_29 (dk_at dksX3_otherDet_1 23 rfl rfl)
theorem dX3_otherDet_48 : decode cX3_otherDet 48 = .ok (.iconst 2, 1) := dk_5 (dk_at dksX3_otherDet_2 0 rfl rfl)
theorem dX3_otherDet_49 : decode cX3_otherDet 49 = .ok (.iadd, 1) := dk_96 (dk_at dksX3_otherDet_2 1 rfl rfl)
theorem dX3_otherDet_50 : decode cX3_otherDet 50 = .ok (.iconst 3, 1) := dk_6 (dk_at dksX3_otherDet_2 2 rfl rfl)
theorem dX3_otherDet_51 : decode cX3_otherDet 51 = .ok (.irem, 1) := dk_112 (dk_at dksX3_otherDet_2 3 rfl rfl)
theorem dX3_otherDet_52 : decode cX3_otherDet 52 = .ok (.iadd, 1) := dk_96 (dk_at dksX3_otherDet_2 4 rfl rfl)
theorem dX3_otherDet_53 : decode cX3_otherDet 53 = .ok (.laload, 1) := dk_47 (dk_at dksX3_otherDet_2 5 rfl rfl)
theorem dX3_otherDet_54 : decode cX3_otherDet 54 = .ok (.aload_n 0, 1) := dk_42 (dk_at dksX3_otherDet_2 6 rfl rfl)
theorem dX3_otherDet_55 : decode cX3_otherDet 55 = .ok (.getfield 61, 3) := dk_180 0 61 (dk_at dksX3_otherDet_2 7 rfl rfl)
theorem dX3_otherDet_58 : decode cX3_otherDet 58 = .ok (.bipush 6, 2) := dk_16 6 (dk_at dksX3_otherDet_2 10 rfl rfl)
theorem dX3_otherDet_60 : decode cX3_otherDet 60 = .ok (.iload_n 3, 1) := dk_29 (dk_at dksX3_otherDet_2 12 rfl rfl)
theorem dX3_otherDet_61 : decode cX3_otherDet 61 = .ok (.iconst 1, 1) := dk_4 (dk_at dksX3_otherDet_2 13 rfl rfl)
theorem dX3_otherDet_62 : decode cX3_otherDet 62 = .ok (.iadd, 1) := dk_96 (dk_at dksX3_otherDet_2 14 rfl rfl)
theorem dX3_otherDet_63 : decode cX3_otherDet 63 = .ok (.iconst 3, 1) := dk_6 (dk_at dksX3_otherDet_2 15 rfl rfl)
theorem dX3_otherDet_64 : decode cX3_otherDet 64 = .ok (.irem, 1) := dk_112 (dk_at dksX3_otherDet_2 16 rfl rfl)
theorem dX3_otherDet_65 : decode cX3_otherDet 65 = .ok (.iadd, 1) := dk_96 (dk_at dksX3_otherDet_2 17 rfl rfl)
theorem dX3_otherDet_66 : decode cX3_otherDet 66 = .ok (.laload, 1) := dk_47 (dk_at dksX3_otherDet_2 18 rfl rfl)
theorem dX3_otherDet_67 : decode cX3_otherDet 67 = .ok (.lmul, 1) := dk_105 (dk_at dksX3_otherDet_2 19 rfl rfl)
theorem dX3_otherDet_68 : decode cX3_otherDet 68 = .ok (.lsub, 1) := dk_101 (dk_at dksX3_otherDet_2 20 rfl rfl)
theorem dX3_otherDet_69 : decode cX3_otherDet 69 = .ok (.lmul, 1) := dk_105 (dk_at dksX3_otherDet_2 21 rfl rfl)
theorem dX3_otherDet_70 : decode cX3_otherDet 70 = .ok (.ladd, 1) := dk_97 (dk_at dksX3_otherDet_2 22 rfl rfl)
theorem dX3_otherDet_71 : decode cX3_otherDet 71 = .ok (.lstore_n 1, 1) := dk_64 (dk_at dksX3_otherDet_2 23 rfl rfl)
theorem dX3_otherDet_72 : decode cX3_otherDet 72 = .ok (.iinc 3 1, 3) := dk_132 3 1 (dk_at dksX3_otherDet_3 0 rfl rfl)
theorem dX3_otherDet_75 : decode cX3_otherDet 75 = .ok (.goto (-71), 3) := dk_167 255 185 (dk_at dksX3_otherDet_3 3 rfl rfl)
theorem dX3_otherDet_78 : decode cX3_otherDet 78 = .ok (.lload_n 1, 1) := dk_31 (dk_at dksX3_otherDet_3 6 rfl rfl)
theorem dX3_otherDet_79 : decode cX3_otherDet 79 = .ok (.invokestatic 1, 3) := dk_184 0 1 (dk_at dksX3_otherDet_3 7 rfl rfl)
theorem dX3_otherDet_82 : decode cX3_otherDet 82 = .ok (.lreturn, 1) := dk_173 (dk_at dksX3_otherDet_3 10 rfl rfl)
abbrev cX3_adjugate : ByteArray := prog_20_method_55_code
def yX3_adjugate : MethodName := ⟨RX3, "adjugate", "(II)J"⟩
def dkwX3_adjugate_3 : List UInt8 := [96, 47, 105, 101, 173]
abbrev dktX3_adjugate_3 : List UInt8 := dkwX3_adjugate_3 ++ []
def dkwX3_adjugate_2 : List UInt8 := [96, 47, 105, 42, 180, 0, 61, 6, 29, 104, 21, 6, 96, 47, 42, 180, 0, 61, 6, 21, 4, 104, 21, 5]
abbrev dktX3_adjugate_2 : List UInt8 := dkwX3_adjugate_2 ++ dktX3_adjugate_3
def dkwX3_adjugate_1 : List UInt8 := [112, 54, 6, 42, 180, 0, 61, 6, 29, 104, 21, 5, 96, 47, 42, 180, 0, 61, 6, 21, 4, 104, 21, 6]
abbrev dktX3_adjugate_1 : List UInt8 := dkwX3_adjugate_1 ++ dktX3_adjugate_2
def dkwX3_adjugate_0 : List UInt8 := [28, 4, 96, 6, 112, 62, 28, 5, 96, 6, 112, 54, 4, 27, 4, 96, 6, 112, 54, 5, 27, 5, 96, 6]
abbrev dktX3_adjugate_0 : List UInt8 := dkwX3_adjugate_0 ++ dktX3_adjugate_1
theorem dksX3_adjugate_0 : cX3_adjugate.data.toList.drop 0 = dktX3_adjugate_0 := by decide +kernel
theorem dksX3_adjugate_1 : cX3_adjugate.data.toList.drop 24 = dktX3_adjugate_1 := dk_seg dksX3_adjugate_0 24 rfl rfl
theorem dksX3_adjugate_2 : cX3_adjugate.data.toList.drop 48 = dktX3_adjugate_2 := dk_seg dksX3_adjugate_1 24 rfl rfl
theorem dksX3_adjugate_3 : cX3_adjugate.data.toList.drop 72 = dktX3_adjugate_3 := dk_seg dksX3_adjugate_2 24 rfl rfl
theorem dX3_adjugate_0 : decode cX3_adjugate 0 = .ok (.iload_n 2, 1) := dk_28 (dk_at dksX3_adjugate_0 0 rfl rfl)
theorem dX3_adjugate_1 : decode cX3_adjugate 1 = .ok (.iconst 1, 1) := dk_4 (dk_at dksX3_adjugate_0 1 rfl rfl)
theorem dX3_adjugate_2 : decode cX3_adjugate 2 = .ok (.iadd, 1) := dk_96 (dk_at dksX3_adjugate_0 2 rfl rfl)
theorem dX3_adjugate_3 : decode cX3_adjugate 3 = .ok (.iconst 3, 1) := dk_6 (dk_at dksX3_adjugate_0 3 rfl rfl)
theorem dX3_adjugate_4 : decode cX3_adjugate 4 = .ok (.irem, 1) := dk_112 (dk_at dksX3_adjugate_0 4 rfl rfl)
theorem dX3_adjugate_5 : decode cX3_adjugate 5 = .ok (.istore_n 3, 1) := dk_62 (dk_at dksX3_adjugate_0 5 rfl rfl)
theorem dX3_adjugate_6 : decode cX3_adjugate 6 = .ok (.iload_n 2, 1) := dk_28 (dk_at dksX3_adjugate_0 6 rfl rfl)
theorem dX3_adjugate_7 : decode cX3_adjugate 7 = .ok (.iconst 2, 1) := dk_5 (dk_at dksX3_adjugate_0 7 rfl rfl)
theorem dX3_adjugate_8 : decode cX3_adjugate 8 = .ok (.iadd, 1) := dk_96 (dk_at dksX3_adjugate_0 8 rfl rfl)
theorem dX3_adjugate_9 : decode cX3_adjugate 9 = .ok (.iconst 3, 1) := dk_6 (dk_at dksX3_adjugate_0 9 rfl rfl)
theorem dX3_adjugate_10 : decode cX3_adjugate 10 = .ok (.irem, 1) := dk_112 (dk_at dksX3_adjugate_0 10 rfl rfl)
theorem dX3_adjugate_11 : decode cX3_adjugate 11 = .ok (.istore 4, 2) := dk_54 4 (dk_at dksX3_adjugate_0 11 rfl rfl)
theorem dX3_adjugate_13 : decode cX3_adjugate 13 = .ok (.iload_n 1, 1) := dk_27 (dk_at dksX3_adjugate_0 13 rfl rfl)
theorem dX3_adjugate_14 : decode cX3_adjugate 14 = .ok (.iconst 1, 1) := dk_4 (dk_at dksX3_adjugate_0 14 rfl rfl)
theorem dX3_adjugate_15 : decode cX3_adjugate 15 = .ok (.iadd, 1) := dk_96 (dk_at dksX3_adjugate_0 15 rfl rfl)
theorem dX3_adjugate_16 : decode cX3_adjugate 16 = .ok (.iconst 3, 1) := dk_6 (dk_at dksX3_adjugate_0 16 rfl rfl)
theorem dX3_adjugate_17 : decode cX3_adjugate 17 = .ok (.irem, 1) := dk_112 (dk_at dksX3_adjugate_0 17 rfl rfl)
theorem dX3_adjugate_18 : decode cX3_adjugate 18 = .ok (.istore 5, 2) := dk_54 5 (dk_at dksX3_adjugate_0 18 rfl rfl)
theorem dX3_adjugate_20 : decode cX3_adjugate 20 = .ok (.iload_n 1, 1) := dk_27 (dk_at dksX3_adjugate_0 20 rfl rfl)
theorem dX3_adjugate_21 : decode cX3_adjugate 21 = .ok (.iconst 2, 1) := dk_5 (dk_at dksX3_adjugate_0 21 rfl rfl)
theorem dX3_adjugate_22 : decode cX3_adjugate 22 = .ok (.iadd, 1) := dk_96 (dk_at dksX3_adjugate_0 22 rfl rfl)
theorem dX3_adjugate_23 : decode cX3_adjugate 23 = .ok (.iconst 3, 1) := dk_6 (dk_at dksX3_adjugate_0 23 rfl rfl)
theorem dX3_adjugate_24 : decode cX3_adjugate 24 = .ok (.irem, 1) := dk_112 (dk_at dksX3_adjugate_1 0 rfl rfl)
theorem dX3_adjugate_25 : decode cX3_adjugate 25 = .ok (.istore 6, 2) := dk_54 6 (dk_at dksX3_adjugate_1 1 rfl rfl)
theorem dX3_adjugate_27 : decode cX3_adjugate 27 = .ok (.aload_n 0, 1) := dk_42 (dk_at dksX3_adjugate_1 3 rfl rfl)
theorem dX3_adjugate_28 : decode cX3_adjugate 28 = .ok (.getfield 61, 3) := dk_180 0 61 (dk_at dksX3_adjugate_1 4 rfl rfl)
theorem dX3_adjugate_31 : decode cX3_adjugate 31 = .ok (.iconst 3, 1) := dk_6 (dk_at dksX3_adjugate_1 7 rfl rfl)
theorem dX3_adjugate_32 : decode cX3_adjugate 32 = .ok (.iload_n 3, 1) := dk_29 (dk_at dksX3_adjugate_1 8 rfl rfl)
theorem dX3_adjugate_33 : decode cX3_adjugate 33 = .ok (.imul, 1) := dk_104 (dk_at dksX3_adjugate_1 9 rfl rfl)
theorem dX3_adjugate_34 : decode cX3_adjugate 34 = .ok (.iload 5, 2) := dk_21 5 (dk_at dksX3_adjugate_1 10 rfl rfl)
theorem dX3_adjugate_36 : decode cX3_adjugate 36 = .ok (.iadd, 1) := dk_96 (dk_at dksX3_adjugate_1 12 rfl rfl)
theorem dX3_adjugate_37 : decode cX3_adjugate 37 = .ok (.laload, 1) := dk_47 (dk_at dksX3_adjugate_1 13 rfl rfl)
theorem dX3_adjugate_38 : decode cX3_adjugate 38 = .ok (.aload_n 0, 1) := dk_42 (dk_at dksX3_adjugate_1 14 rfl rfl)
theorem dX3_adjugate_39 : decode cX3_adjugate 39 = .ok (.getfield 61, 3) := dk_180 0 61 (dk_at dksX3_adjugate_1 15 rfl rfl)
theorem dX3_adjugate_42 : decode cX3_adjugate 42 = .ok (.iconst 3, 1) := dk_6 (dk_at dksX3_adjugate_1 18 rfl rfl)
theorem dX3_adjugate_43 : decode cX3_adjugate 43 = .ok (.iload 4, 2) := dk_21 4 (dk_at dksX3_adjugate_1 19 rfl rfl)
theorem dX3_adjugate_45 : decode cX3_adjugate 45 = .ok (.imul, 1) := dk_104 (dk_at dksX3_adjugate_1 21 rfl rfl)
theorem dX3_adjugate_46 : decode cX3_adjugate 46 = .ok (.iload 6, 2) := dk_21 6 (dk_at dksX3_adjugate_1 22 rfl rfl)
theorem dX3_adjugate_48 : decode cX3_adjugate 48 = .ok (.iadd, 1) := dk_96 (dk_at dksX3_adjugate_2 0 rfl rfl)
theorem dX3_adjugate_49 : decode cX3_adjugate 49 = .ok (.laload, 1) := dk_47 (dk_at dksX3_adjugate_2 1 rfl rfl)
theorem dX3_adjugate_50 : decode cX3_adjugate 50 = .ok (.lmul, 1) := dk_105 (dk_at dksX3_adjugate_2 2 rfl rfl)
theorem dX3_adjugate_51 : decode cX3_adjugate 51 = .ok (.aload_n 0, 1) := dk_42 (dk_at dksX3_adjugate_2 3 rfl rfl)
theorem dX3_adjugate_52 : decode cX3_adjugate 52 = .ok (.getfield 61, 3) := dk_180 0 61 (dk_at dksX3_adjugate_2 4 rfl rfl)
theorem dX3_adjugate_55 : decode cX3_adjugate 55 = .ok (.iconst 3, 1) := dk_6 (dk_at dksX3_adjugate_2 7 rfl rfl)
theorem dX3_adjugate_56 : decode cX3_adjugate 56 = .ok (.iload_n 3, 1) := dk_29 (dk_at dksX3_adjugate_2 8 rfl rfl)
theorem dX3_adjugate_57 : decode cX3_adjugate 57 = .ok (.imul, 1) := dk_104 (dk_at dksX3_adjugate_2 9 rfl rfl)
theorem dX3_adjugate_58 : decode cX3_adjugate 58 = .ok (.iload 6, 2) := dk_21 6 (dk_at dksX3_adjugate_2 10 rfl rfl)
theorem dX3_adjugate_60 : decode cX3_adjugate 60 = .ok (.iadd, 1) := dk_96 (dk_at dksX3_adjugate_2 12 rfl rfl)
theorem dX3_adjugate_61 : decode cX3_adjugate 61 = .ok (.laload, 1) := dk_47 (dk_at dksX3_adjugate_2 13 rfl rfl)
theorem dX3_adjugate_62 : decode cX3_adjugate 62 = .ok (.aload_n 0, 1) := dk_42 (dk_at dksX3_adjugate_2 14 rfl rfl)
theorem dX3_adjugate_63 : decode cX3_adjugate 63 = .ok (.getfield 61, 3) := dk_180 0 61 (dk_at dksX3_adjugate_2 15 rfl rfl)
theorem dX3_adjugate_66 : decode cX3_adjugate 66 = .ok (.iconst 3, 1) := dk_6 (dk_at dksX3_adjugate_2 18 rfl rfl)
theorem dX3_adjugate_67 : decode cX3_adjugate 67 = .ok (.iload 4, 2) := dk_21 4 (dk_at dksX3_adjugate_2 19 rfl rfl)
theorem dX3_adjugate_69 : decode cX3_adjugate 69 = .ok (.imul, 1) := dk_104 (dk_at dksX3_adjugate_2 21 rfl rfl)
theorem dX3_adjugate_70 : decode cX3_adjugate 70 = .ok (.iload 5, 2) := dk_21 5 (dk_at dksX3_adjugate_2 22 rfl rfl)
theorem dX3_adjugate_72 : decode cX3_adjugate 72 = .ok (.iadd, 1) := dk_96 (dk_at dksX3_adjugate_3 0 rfl rfl)
theorem dX3_adjugate_73 : decode cX3_adjugate 73 = .ok (.laload, 1) := dk_47 (dk_at dksX3_adjugate_3 1 rfl rfl)
theorem dX3_adjugate_74 : decode cX3_adjugate 74 = .ok (.lmul, 1) := dk_105 (dk_at dksX3_adjugate_3 2 rfl rfl)
theorem dX3_adjugate_75 : decode cX3_adjugate 75 = .ok (.lsub, 1) := dk_101 (dk_at dksX3_adjugate_3 3 rfl rfl)
theorem dX3_adjugate_76 : decode cX3_adjugate 76 = .ok (.lreturn, 1) := dk_173 (dk_at dksX3_adjugate_3 4 rfl rfl)
abbrev cX3_leavesNone : ByteArray := prog_20_method_57_code
def yX3_leavesNone : MethodName := ⟨RX3, "leavesNone", "()V"⟩
def dkwX3_leavesNone_11 : List UInt8 := [167, 255, 187, 42, 182, 1, 55, 177]
abbrev dktX3_leavesNone_11 : List UInt8 := dkwX3_leavesNone_11 ++ []
def dkwX3_leavesNone_10 : List UInt8 := [132, 5, 1, 167, 255, 216, 29, 21, 4, 28, 160, 0, 7, 3, 167, 0, 4, 4, 96, 62, 132, 4, 1]
abbrev dktX3_leavesNone_10 : List UInt8 := dkwX3_leavesNone_10 ++ dktX3_leavesNone_11
def dkwX3_leavesNone_9 : List UInt8 := [180, 0, 64, 6, 29, 104, 21, 5, 96, 42, 180, 0, 67, 7, 21, 4, 104, 4, 96, 21, 5, 96, 47, 80]
abbrev dktX3_leavesNone_9 : List UInt8 := dkwX3_leavesNone_9 ++ dktX3_leavesNone_10
def dkwX3_leavesNone_8 : List UInt8 := [21, 4, 7, 162, 0, 69, 3, 54, 5, 21, 5, 6, 162, 0, 40, 21, 4, 28, 159, 0, 34, 42]
abbrev dktX3_leavesNone_8 : List UInt8 := dkwX3_leavesNone_8 ++ dktX3_leavesNone_9
def dkwX3_leavesNone_7 : List UInt8 := [153, 0, 7, 4, 167, 0, 4, 3, 60, 132, 3, 1, 167, 255, 142, 167, 255, 79, 3, 62, 3, 54, 4]
abbrev dktX3_leavesNone_7 : List UInt8 := dkwX3_leavesNone_7 ++ dktX3_leavesNone_8
def dkwX3_leavesNone_6 : List UInt8 := [105, 101, 80, 132, 6, 1, 167, 255, 219, 27, 154, 0, 16, 42, 180, 0, 67, 7, 29, 104, 47, 9, 148]
abbrev dktX3_leavesNone_6 : List UInt8 := dkwX3_leavesNone_6 ++ dktX3_leavesNone_7
def dkwX3_leavesNone_5 : List UInt8 := [180, 0, 67, 7, 29, 104, 21, 6, 96, 92, 47, 22, 4, 42, 180, 0, 67, 7, 28, 104, 21, 6, 96, 47]
abbrev dktX3_leavesNone_5 : List UInt8 := dkwX3_leavesNone_5 ++ dktX3_leavesNone_6
def dkwX3_leavesNone_4 : List UInt8 := [29, 104, 47, 42, 180, 0, 67, 7, 28, 104, 47, 109, 55, 4, 3, 54, 6, 21, 6, 7, 162, 0, 37, 42]
abbrev dktX3_leavesNone_4 : List UInt8 := dkwX3_leavesNone_4 ++ dktX3_leavesNone_5
def dkwX3_leavesNone_3 : List UInt8 := [159, 0, 104, 42, 180, 0, 67, 7, 29, 104, 47, 9, 148, 154, 0, 6, 167, 0, 88, 42, 180, 0, 67, 7]
abbrev dktX3_leavesNone_3 : List UInt8 := dkwX3_leavesNone_3 ++ dktX3_leavesNone_4
def dkwX3_leavesNone_2 : List UInt8 := [156, 0, 7, 29, 167, 0, 4, 28, 61, 132, 3, 1, 167, 255, 209, 3, 62, 29, 7, 162, 0, 115, 29, 28]
abbrev dktX3_leavesNone_2 : List UInt8 := dkwX3_leavesNone_2 ++ dktX3_leavesNone_3
def dkwX3_leavesNone_1 : List UInt8 := [47, 9, 148, 153, 0, 27, 42, 180, 0, 67, 7, 29, 104, 47, 42, 180, 0, 67, 7, 28, 104, 47, 148]
abbrev dktX3_leavesNone_1 : List UInt8 := dkwX3_leavesNone_1 ++ dktX3_leavesNone_2
def dkwX3_leavesNone_0 : List UInt8 := [4, 60, 6, 61, 27, 153, 0, 179, 3, 60, 3, 62, 29, 7, 162, 0, 48, 42, 180, 0, 67, 7, 29, 104]
abbrev dktX3_leavesNone_0 : List UInt8 := dkwX3_leavesNone_0 ++ dktX3_leavesNone_1
theorem dksX3_leavesNone_0 : cX3_leavesNone.data.toList.drop 0 = dktX3_leavesNone_0 := by decide +kernel
theorem dksX3_leavesNone_1 : cX3_leavesNone.data.toList.drop 24 = dktX3_leavesNone_1 := dk_seg dksX3_leavesNone_0 24 rfl rfl
theorem dksX3_leavesNone_2 : cX3_leavesNone.data.toList.drop 47 = dktX3_leavesNone_2 := dk_seg dksX3_leavesNone_1 23 rfl rfl
theorem dksX3_leavesNone_3 : cX3_leavesNone.data.toList.drop 71 = dktX3_leavesNone_3 := dk_seg dksX3_leavesNone_2 24 rfl rfl
theorem dksX3_leavesNone_4 : cX3_leavesNone.data.toList.drop 95 = dktX3_leavesNone_4 := dk_seg dksX3_leavesNone_3 24 rfl rfl
theorem dksX3_leavesNone_5 : cX3_leavesNone.data.toList.drop 119 = dktX3_leavesNone_5 := dk_seg dksX3_leavesNone_4 24 rfl rfl
theorem dksX3_leavesNone_6 : cX3_leavesNone.data.toList.drop 143 = dktX3_leavesNone_6 := dk_seg dksX3_leavesNone_5 24 rfl rfl
theorem dksX3_leavesNone_7 : cX3_leavesNone.data.toList.drop 166 = dktX3_leavesNone_7 := dk_seg dksX3_leavesNone_6 23 rfl rfl
theorem dksX3_leavesNone_8 : cX3_leavesNone.data.toList.drop 189 = dktX3_leavesNone_8 := dk_seg dksX3_leavesNone_7 23 rfl rfl
theorem dksX3_leavesNone_9 : cX3_leavesNone.data.toList.drop 211 = dktX3_leavesNone_9 := dk_seg dksX3_leavesNone_8 22 rfl rfl
theorem dksX3_leavesNone_10 : cX3_leavesNone.data.toList.drop 235 = dktX3_leavesNone_10 := dk_seg dksX3_leavesNone_9 24 rfl rfl
theorem dksX3_leavesNone_11 : cX3_leavesNone.data.toList.drop 258 = dktX3_leavesNone_11 := dk_seg dksX3_leavesNone_10 23 rfl rfl
theorem dX3_leavesNone_0 : decode cX3_leavesNone 0 = .ok (.iconst 1, 1) := dk_4 (dk_at dksX3_leavesNone_0 0 rfl rfl)
theorem dX3_leavesNone_1 : decode cX3_leavesNone 1 = .ok (.istore_n 1, 1) := dk_60 (dk_at dksX3_leavesNone_0 1 rfl rfl)
theorem dX3_leavesNone_2 : decode cX3_leavesNone 2 = .ok (.iconst 3, 1) := dk_6 (dk_at dksX3_leavesNone_0 2 rfl rfl)
theorem dX3_leavesNone_3 : decode cX3_leavesNone 3 = .ok (.istore_n 2, 1) := dk_61 (dk_at dksX3_leavesNone_0 3 rfl rfl)
theorem dX3_leavesNone_4 : decode cX3_leavesNone 4 = .ok (.iload_n 1, 1) := dk_27 (dk_at dksX3_leavesNone_0 4 rfl rfl)
theorem dX3_leavesNone_5 : decode cX3_leavesNone 5 = .ok (.ifCond .eq 179, 3) := dk_153 0 179 (dk_at dksX3_leavesNone_0 5 rfl rfl)
theorem dX3_leavesNone_8 : decode cX3_leavesNone 8 = .ok (.iconst 0, 1) := dk_3 (dk_at dksX3_leavesNone_0 8 rfl rfl)
theorem dX3_leavesNone_9 : decode cX3_leavesNone 9 = .ok (.istore_n 1, 1) := dk_60 (dk_at dksX3_leavesNone_0 9 rfl rfl)
theorem dX3_leavesNone_10 : decode cX3_leavesNone 10 = .ok (.iconst 0, 1) := dk_3 (dk_at dksX3_leavesNone_0 10 rfl rfl)
theorem dX3_leavesNone_11 : decode cX3_leavesNone 11 = .ok (.istore_n 3, 1) := dk_62 (dk_at dksX3_leavesNone_0 11 rfl rfl)
theorem dX3_leavesNone_12 : decode cX3_leavesNone 12 = .ok (.iload_n 3, 1) := dk_29 (dk_at dksX3_leavesNone_0 12 rfl rfl)
theorem dX3_leavesNone_13 : decode cX3_leavesNone 13 = .ok (.iconst 4, 1) := dk_7 (dk_at dksX3_leavesNone_0 13 rfl rfl)
theorem dX3_leavesNone_14 : decode cX3_leavesNone 14 = .ok (.if_icmp .ge 48, 3) := dk_162 0 48 (dk_at dksX3_leavesNone_0 14 rfl rfl)
theorem dX3_leavesNone_17 : decode cX3_leavesNone 17 = .ok (.aload_n 0, 1) := dk_42 (dk_at dksX3_leavesNone_0 17 rfl rfl)
theorem dX3_leavesNone_18 : decode cX3_leavesNone 18 = .ok (.getfield 67, 3) := dk_180 0 67 (dk_at dksX3_leavesNone_0 18 rfl rfl)
theorem dX3_leavesNone_21 : decode cX3_leavesNone 21 = .ok (.iconst 4, 1) := dk_7 (dk_at dksX3_leavesNone_0 21 rfl rfl)
theorem dX3_leavesNone_22 : decode cX3_leavesNone 22 = .ok (.iload_n 3, 1) := dk_29 (dk_at dksX3_leavesNone_0 22 rfl rfl)
theorem dX3_leavesNone_23 : decode cX3_leavesNone 23 = .ok (.imul, 1) := dk_104 (dk_at dksX3_leavesNone_0 23 rfl rfl)
theorem dX3_leavesNone_24 : decode cX3_leavesNone 24 = .ok (.laload, 1) := dk_47 (dk_at dksX3_leavesNone_1 0 rfl rfl)
theorem dX3_leavesNone_25 : decode cX3_leavesNone 25 = .ok (.lconst 0, 1) := dk_9 (dk_at dksX3_leavesNone_1 1 rfl rfl)
theorem dX3_leavesNone_26 : decode cX3_leavesNone 26 = .ok (.lcmp, 1) := dk_148 (dk_at dksX3_leavesNone_1 2 rfl rfl)
theorem dX3_leavesNone_27 : decode cX3_leavesNone 27 = .ok (.ifCond .eq 27, 3) := dk_153 0 27 (dk_at dksX3_leavesNone_1 3 rfl rfl)
theorem dX3_leavesNone_30 : decode cX3_leavesNone 30 = .ok (.aload_n 0, 1) := dk_42 (dk_at dksX3_leavesNone_1 6 rfl rfl)
theorem dX3_leavesNone_31 : decode cX3_leavesNone 31 = .ok (.getfield 67, 3) := dk_180 0 67 (dk_at dksX3_leavesNone_1 7 rfl rfl)
theorem dX3_leavesNone_34 : decode cX3_leavesNone 34 = .ok (.iconst 4, 1) := dk_7 (dk_at dksX3_leavesNone_1 10 rfl rfl)
theorem dX3_leavesNone_35 : decode cX3_leavesNone 35 = .ok (.iload_n 3, 1) := dk_29 (dk_at dksX3_leavesNone_1 11 rfl rfl)
theorem dX3_leavesNone_36 : decode cX3_leavesNone 36 = .ok (.imul, 1) := dk_104 (dk_at dksX3_leavesNone_1 12 rfl rfl)
theorem dX3_leavesNone_37 : decode cX3_leavesNone 37 = .ok (.laload, 1) := dk_47 (dk_at dksX3_leavesNone_1 13 rfl rfl)
theorem dX3_leavesNone_38 : decode cX3_leavesNone 38 = .ok (.aload_n 0, 1) := dk_42 (dk_at dksX3_leavesNone_1 14 rfl rfl)
theorem dX3_leavesNone_39 : decode cX3_leavesNone 39 = .ok (.getfield 67, 3) := dk_180 0 67 (dk_at dksX3_leavesNone_1 15 rfl rfl)
theorem dX3_leavesNone_42 : decode cX3_leavesNone 42 = .ok (.iconst 4, 1) := dk_7 (dk_at dksX3_leavesNone_1 18 rfl rfl)
theorem dX3_leavesNone_43 : decode cX3_leavesNone 43 = .ok (.iload_n 2, 1) := dk_28 (dk_at dksX3_leavesNone_1 19 rfl rfl)
theorem dX3_leavesNone_44 : decode cX3_leavesNone 44 = .ok (.imul, 1) := dk_104 (dk_at dksX3_leavesNone_1 20 rfl rfl)
theorem dX3_leavesNone_45 : decode cX3_leavesNone 45 = .ok (.laload, 1) := dk_47 (dk_at dksX3_leavesNone_1 21 rfl rfl)
theorem dX3_leavesNone_46 : decode cX3_leavesNone 46 = .ok (.lcmp, 1) := dk_148 (dk_at dksX3_leavesNone_1 22 rfl rfl)
theorem dX3_leavesNone_47 : decode cX3_leavesNone 47 = .ok (.ifCond .ge 7, 3) := dk_156 0 7 (dk_at dksX3_leavesNone_2 0 rfl rfl)
theorem dX3_leavesNone_50 : decode cX3_leavesNone 50 = .ok (.iload_n 3, 1) := dk_29 (dk_at dksX3_leavesNone_2 3 rfl rfl)
theorem dX3_leavesNone_51 : decode cX3_leavesNone 51 = .ok (.goto 4, 3) := dk_167 0 4 (dk_at dksX3_leavesNone_2 4 rfl rfl)
theorem dX3_leavesNone_54 : decode cX3_leavesNone 54 = .ok (.iload_n 2, 1) := dk_28 (dk_at dksX3_leavesNone_2 7 rfl rfl)
theorem dX3_leavesNone_55 : decode cX3_leavesNone 55 = .ok (.istore_n 2, 1) := dk_61 (dk_at dksX3_leavesNone_2 8 rfl rfl)
theorem dX3_leavesNone_56 : decode cX3_leavesNone 56 = .ok (.iinc 3 1, 3) := dk_132 3 1 (dk_at dksX3_leavesNone_2 9 rfl rfl)
theorem dX3_leavesNone_59 : decode cX3_leavesNone 59 = .ok (.goto (-47), 3) := dk_167 255 209 (dk_at dksX3_leavesNone_2 12 rfl rfl)
theorem dX3_leavesNone_62 : decode cX3_leavesNone 62 = .ok (.iconst 0, 1) := dk_3 (dk_at dksX3_leavesNone_2 15 rfl rfl)
theorem dX3_leavesNone_63 : decode cX3_leavesNone 63 = .ok (.istore_n 3, 1) := dk_62 (dk_at dksX3_leavesNone_2 16 rfl rfl)
theorem dX3_leavesNone_64 : decode cX3_leavesNone 64 = .ok (.iload_n 3, 1) := dk_29 (dk_at dksX3_leavesNone_2 17 rfl rfl)
theorem dX3_leavesNone_65 : decode cX3_leavesNone 65 = .ok (.iconst 4, 1) := dk_7 (dk_at dksX3_leavesNone_2 18 rfl rfl)
theorem dX3_leavesNone_66 : decode cX3_leavesNone 66 = .ok (.if_icmp .ge 115, 3) := dk_162 0 115 (dk_at dksX3_leavesNone_2 19 rfl rfl)
theorem dX3_leavesNone_69 : decode cX3_leavesNone 69 = .ok (.iload_n 3, 1) := dk_29 (dk_at dksX3_leavesNone_2 22 rfl rfl)
theorem dX3_leavesNone_70 : decode cX3_leavesNone 70 = .ok (.iload_n 2, 1) := dk_28 (dk_at dksX3_leavesNone_2 23 rfl rfl)
theorem dX3_leavesNone_71 : decode cX3_leavesNone 71 = .ok (.if_icmp .eq 104, 3) := dk_159 0 104 (dk_at dksX3_leavesNone_3 0 rfl rfl)
theorem dX3_leavesNone_74 : decode cX3_leavesNone 74 = .ok (.aload_n 0, 1) := dk_42 (dk_at dksX3_leavesNone_3 3 rfl rfl)
theorem dX3_leavesNone_75 : decode cX3_leavesNone 75 = .ok (.getfield 67, 3) := dk_180 0 67 (dk_at dksX3_leavesNone_3 4 rfl rfl)
theorem dX3_leavesNone_78 : decode cX3_leavesNone 78 = .ok (.iconst 4, 1) := dk_7 (dk_at dksX3_leavesNone_3 7 rfl rfl)
theorem dX3_leavesNone_79 : decode cX3_leavesNone 79 = .ok (.iload_n 3, 1) := dk_29 (dk_at dksX3_leavesNone_3 8 rfl rfl)
theorem dX3_leavesNone_80 : decode cX3_leavesNone 80 = .ok (.imul, 1) := dk_104 (dk_at dksX3_leavesNone_3 9 rfl rfl)
theorem dX3_leavesNone_81 : decode cX3_leavesNone 81 = .ok (.laload, 1) := dk_47 (dk_at dksX3_leavesNone_3 10 rfl rfl)
theorem dX3_leavesNone_82 : decode cX3_leavesNone 82 = .ok (.lconst 0, 1) := dk_9 (dk_at dksX3_leavesNone_3 11 rfl rfl)
theorem dX3_leavesNone_83 : decode cX3_leavesNone 83 = .ok (.lcmp, 1) := dk_148 (dk_at dksX3_leavesNone_3 12 rfl rfl)
theorem dX3_leavesNone_84 : decode cX3_leavesNone 84 = .ok (.ifCond .ne 6, 3) := dk_154 0 6 (dk_at dksX3_leavesNone_3 13 rfl rfl)
theorem dX3_leavesNone_87 : decode cX3_leavesNone 87 = .ok (.goto 88, 3) := dk_167 0 88 (dk_at dksX3_leavesNone_3 16 rfl rfl)
theorem dX3_leavesNone_90 : decode cX3_leavesNone 90 = .ok (.aload_n 0, 1) := dk_42 (dk_at dksX3_leavesNone_3 19 rfl rfl)
theorem dX3_leavesNone_91 : decode cX3_leavesNone 91 = .ok (.getfield 67, 3) := dk_180 0 67 (dk_at dksX3_leavesNone_3 20 rfl rfl)
theorem dX3_leavesNone_94 : decode cX3_leavesNone 94 = .ok (.iconst 4, 1) := dk_7 (dk_at dksX3_leavesNone_3 23 rfl rfl)
theorem dX3_leavesNone_95 : decode cX3_leavesNone 95 = .ok (.iload_n 3, 1) := dk_29 (dk_at dksX3_leavesNone_4 0 rfl rfl)
theorem dX3_leavesNone_96 : decode cX3_leavesNone 96 = .ok (.imul, 1) := dk_104 (dk_at dksX3_leavesNone_4 1 rfl rfl)
theorem dX3_leavesNone_97 : decode cX3_leavesNone 97 = .ok (.laload, 1) := dk_47 (dk_at dksX3_leavesNone_4 2 rfl rfl)
theorem dX3_leavesNone_98 : decode cX3_leavesNone 98 = .ok (.aload_n 0, 1) := dk_42 (dk_at dksX3_leavesNone_4 3 rfl rfl)
theorem dX3_leavesNone_99 : decode cX3_leavesNone 99 = .ok (.getfield 67, 3) := dk_180 0 67 (dk_at dksX3_leavesNone_4 4 rfl rfl)
theorem dX3_leavesNone_102 : decode cX3_leavesNone 102 = .ok (.iconst 4, 1) := dk_7 (dk_at dksX3_leavesNone_4 7 rfl rfl)
theorem dX3_leavesNone_103 : decode cX3_leavesNone 103 = .ok (.iload_n 2, 1) := dk_28 (dk_at dksX3_leavesNone_4 8 rfl rfl)
theorem dX3_leavesNone_104 : decode cX3_leavesNone 104 = .ok (.imul, 1) := dk_104 (dk_at dksX3_leavesNone_4 9 rfl rfl)
theorem dX3_leavesNone_105 : decode cX3_leavesNone 105 = .ok (.laload, 1) := dk_47 (dk_at dksX3_leavesNone_4 10 rfl rfl)
theorem dX3_leavesNone_106 : decode cX3_leavesNone 106 = .ok (.ldiv, 1) := dk_109 (dk_at dksX3_leavesNone_4 11 rfl rfl)
theorem dX3_leavesNone_107 : decode cX3_leavesNone 107 = .ok (.lstore 4, 2) := dk_55 4 (dk_at dksX3_leavesNone_4 12 rfl rfl)
theorem dX3_leavesNone_109 : decode cX3_leavesNone 109 = .ok (.iconst 0, 1) := dk_3 (dk_at dksX3_leavesNone_4 14 rfl rfl)
theorem dX3_leavesNone_110 : decode cX3_leavesNone 110 = .ok (.istore 6, 2) := dk_54 6 (dk_at dksX3_leavesNone_4 15 rfl rfl)
theorem dX3_leavesNone_112 : decode cX3_leavesNone 112 = .ok (.iload 6, 2) := dk_21 6 (dk_at dksX3_leavesNone_4 17 rfl rfl)
theorem dX3_leavesNone_114 : decode cX3_leavesNone 114 = .ok (.iconst 4, 1) := dk_7 (dk_at dksX3_leavesNone_4 19 rfl rfl)
theorem dX3_leavesNone_115 : decode cX3_leavesNone 115 = .ok (.if_icmp .ge 37, 3) := dk_162 0 37 (dk_at dksX3_leavesNone_4 20 rfl rfl)
theorem dX3_leavesNone_118 : decode cX3_leavesNone 118 = .ok (.aload_n 0, 1) := dk_42 (dk_at dksX3_leavesNone_4 23 rfl rfl)
theorem dX3_leavesNone_119 : decode cX3_leavesNone 119 = .ok (.getfield 67, 3) := dk_180 0 67 (dk_at dksX3_leavesNone_5 0 rfl rfl)
theorem dX3_leavesNone_122 : decode cX3_leavesNone 122 = .ok (.iconst 4, 1) := dk_7 (dk_at dksX3_leavesNone_5 3 rfl rfl)
theorem dX3_leavesNone_123 : decode cX3_leavesNone 123 = .ok (.iload_n 3, 1) := dk_29 (dk_at dksX3_leavesNone_5 4 rfl rfl)
theorem dX3_leavesNone_124 : decode cX3_leavesNone 124 = .ok (.imul, 1) := dk_104 (dk_at dksX3_leavesNone_5 5 rfl rfl)
theorem dX3_leavesNone_125 : decode cX3_leavesNone 125 = .ok (.iload 6, 2) := dk_21 6 (dk_at dksX3_leavesNone_5 6 rfl rfl)
theorem dX3_leavesNone_127 : decode cX3_leavesNone 127 = .ok (.iadd, 1) := dk_96 (dk_at dksX3_leavesNone_5 8 rfl rfl)
theorem dX3_leavesNone_128 : decode cX3_leavesNone 128 = .ok (.dup2, 1) := dk_92 (dk_at dksX3_leavesNone_5 9 rfl rfl)
theorem dX3_leavesNone_129 : decode cX3_leavesNone 129 = .ok (.laload, 1) := dk_47 (dk_at dksX3_leavesNone_5 10 rfl rfl)
theorem dX3_leavesNone_130 : decode cX3_leavesNone 130 = .ok (.lload 4, 2) := dk_22 4 (dk_at dksX3_leavesNone_5 11 rfl rfl)
theorem dX3_leavesNone_132 : decode cX3_leavesNone 132 = .ok (.aload_n 0, 1) := dk_42 (dk_at dksX3_leavesNone_5 13 rfl rfl)
theorem dX3_leavesNone_133 : decode cX3_leavesNone 133 = .ok (.getfield 67, 3) := dk_180 0 67 (dk_at dksX3_leavesNone_5 14 rfl rfl)
theorem dX3_leavesNone_136 : decode cX3_leavesNone 136 = .ok (.iconst 4, 1) := dk_7 (dk_at dksX3_leavesNone_5 17 rfl rfl)
theorem dX3_leavesNone_137 : decode cX3_leavesNone 137 = .ok (.iload_n 2, 1) := dk_28 (dk_at dksX3_leavesNone_5 18 rfl rfl)
theorem dX3_leavesNone_138 : decode cX3_leavesNone 138 = .ok (.imul, 1) := dk_104 (dk_at dksX3_leavesNone_5 19 rfl rfl)
theorem dX3_leavesNone_139 : decode cX3_leavesNone 139 = .ok (.iload 6, 2) := dk_21 6 (dk_at dksX3_leavesNone_5 20 rfl rfl)
theorem dX3_leavesNone_141 : decode cX3_leavesNone 141 = .ok (.iadd, 1) := dk_96 (dk_at dksX3_leavesNone_5 22 rfl rfl)
theorem dX3_leavesNone_142 : decode cX3_leavesNone 142 = .ok (.laload, 1) := dk_47 (dk_at dksX3_leavesNone_5 23 rfl rfl)
theorem dX3_leavesNone_143 : decode cX3_leavesNone 143 = .ok (.lmul, 1) := dk_105 (dk_at dksX3_leavesNone_6 0 rfl rfl)
theorem dX3_leavesNone_144 : decode cX3_leavesNone 144 = .ok (.lsub, 1) := dk_101 (dk_at dksX3_leavesNone_6 1 rfl rfl)
theorem dX3_leavesNone_145 : decode cX3_leavesNone 145 = .ok (.lastore, 1) := dk_80 (dk_at dksX3_leavesNone_6 2 rfl rfl)
theorem dX3_leavesNone_146 : decode cX3_leavesNone 146 = .ok (.iinc 6 1, 3) := dk_132 6 1 (dk_at dksX3_leavesNone_6 3 rfl rfl)
theorem dX3_leavesNone_149 : decode cX3_leavesNone 149 = .ok (.goto (-37), 3) := dk_167 255 219 (dk_at dksX3_leavesNone_6 6 rfl rfl)
theorem dX3_leavesNone_152 : decode cX3_leavesNone 152 = .ok (.iload_n 1, 1) := dk_27 (dk_at dksX3_leavesNone_6 9 rfl rfl)
theorem dX3_leavesNone_153 : decode cX3_leavesNone 153 = .ok (.ifCond .ne 16, 3) := dk_154 0 16 (dk_at dksX3_leavesNone_6 10 rfl rfl)
theorem dX3_leavesNone_156 : decode cX3_leavesNone 156 = .ok (.aload_n 0, 1) := dk_42 (dk_at dksX3_leavesNone_6 13 rfl rfl)
theorem dX3_leavesNone_157 : decode cX3_leavesNone 157 = .ok (.getfield 67, 3) := dk_180 0 67 (dk_at dksX3_leavesNone_6 14 rfl rfl)
theorem dX3_leavesNone_160 : decode cX3_leavesNone 160 = .ok (.iconst 4, 1) := dk_7 (dk_at dksX3_leavesNone_6 17 rfl rfl)
theorem dX3_leavesNone_161 : decode cX3_leavesNone 161 = .ok (.iload_n 3, 1) := dk_29 (dk_at dksX3_leavesNone_6 18 rfl rfl)
theorem dX3_leavesNone_162 : decode cX3_leavesNone 162 = .ok (.imul, 1) := dk_104 (dk_at dksX3_leavesNone_6 19 rfl rfl)
theorem dX3_leavesNone_163 : decode cX3_leavesNone 163 = .ok (.laload, 1) := dk_47 (dk_at dksX3_leavesNone_6 20 rfl rfl)
theorem dX3_leavesNone_164 : decode cX3_leavesNone 164 = .ok (.lconst 0, 1) := dk_9 (dk_at dksX3_leavesNone_6 21 rfl rfl)
theorem dX3_leavesNone_165 : decode cX3_leavesNone 165 = .ok (.lcmp, 1) := dk_148 (dk_at dksX3_leavesNone_6 22 rfl rfl)
theorem dX3_leavesNone_166 : decode cX3_leavesNone 166 = .ok (.ifCond .eq 7, 3) := dk_153 0 7 (dk_at dksX3_leavesNone_7 0 rfl rfl)
theorem dX3_leavesNone_169 : decode cX3_leavesNone 169 = .ok (.iconst 1, 1) := dk_4 (dk_at dksX3_leavesNone_7 3 rfl rfl)
theorem dX3_leavesNone_170 : decode cX3_leavesNone 170 = .ok (.goto 4, 3) := dk_167 0 4 (dk_at dksX3_leavesNone_7 4 rfl rfl)
theorem dX3_leavesNone_173 : decode cX3_leavesNone 173 = .ok (.iconst 0, 1) := dk_3 (dk_at dksX3_leavesNone_7 7 rfl rfl)
theorem dX3_leavesNone_174 : decode cX3_leavesNone 174 = .ok (.istore_n 1, 1) := dk_60 (dk_at dksX3_leavesNone_7 8 rfl rfl)
theorem dX3_leavesNone_175 : decode cX3_leavesNone 175 = .ok (.iinc 3 1, 3) := dk_132 3 1 (dk_at dksX3_leavesNone_7 9 rfl rfl)
theorem dX3_leavesNone_178 : decode cX3_leavesNone 178 = .ok (.goto (-114), 3) := dk_167 255 142 (dk_at dksX3_leavesNone_7 12 rfl rfl)
theorem dX3_leavesNone_181 : decode cX3_leavesNone 181 = .ok (.goto (-177), 3) := dk_167 255 79 (dk_at dksX3_leavesNone_7 15 rfl rfl)
theorem dX3_leavesNone_184 : decode cX3_leavesNone 184 = .ok (.iconst 0, 1) := dk_3 (dk_at dksX3_leavesNone_7 18 rfl rfl)
theorem dX3_leavesNone_185 : decode cX3_leavesNone 185 = .ok (.istore_n 3, 1) := dk_62 (dk_at dksX3_leavesNone_7 19 rfl rfl)
theorem dX3_leavesNone_186 : decode cX3_leavesNone 186 = .ok (.iconst 0, 1) := dk_3 (dk_at dksX3_leavesNone_7 20 rfl rfl)
theorem dX3_leavesNone_187 : decode cX3_leavesNone 187 = .ok (.istore 4, 2) := dk_54 4 (dk_at dksX3_leavesNone_7 21 rfl rfl)
theorem dX3_leavesNone_189 : decode cX3_leavesNone 189 = .ok (.iload 4, 2) := dk_21 4 (dk_at dksX3_leavesNone_8 0 rfl rfl)
theorem dX3_leavesNone_191 : decode cX3_leavesNone 191 = .ok (.iconst 4, 1) := dk_7 (dk_at dksX3_leavesNone_8 2 rfl rfl)
theorem dX3_leavesNone_192 : decode cX3_leavesNone 192 = .ok (.if_icmp .ge 69, 3) := dk_162 0 69 (dk_at dksX3_leavesNone_8 3 rfl rfl)
theorem dX3_leavesNone_195 : decode cX3_leavesNone 195 = .ok (.iconst 0, 1) := dk_3 (dk_at dksX3_leavesNone_8 6 rfl rfl)
theorem dX3_leavesNone_196 : decode cX3_leavesNone 196 = .ok (.istore 5, 2) := dk_54 5 (dk_at dksX3_leavesNone_8 7 rfl rfl)
theorem dX3_leavesNone_198 : decode cX3_leavesNone 198 = .ok (.iload 5, 2) := dk_21 5 (dk_at dksX3_leavesNone_8 9 rfl rfl)
theorem dX3_leavesNone_200 : decode cX3_leavesNone 200 = .ok (.iconst 3, 1) := dk_6 (dk_at dksX3_leavesNone_8 11 rfl rfl)
theorem dX3_leavesNone_201 : decode cX3_leavesNone 201 = .ok (.if_icmp .ge 40, 3) := dk_162 0 40 (dk_at dksX3_leavesNone_8 12 rfl rfl)
theorem dX3_leavesNone_204 : decode cX3_leavesNone 204 = .ok (.iload 4, 2) := dk_21 4 (dk_at dksX3_leavesNone_8 15 rfl rfl)
theorem dX3_leavesNone_206 : decode cX3_leavesNone 206 = .ok (.iload_n 2, 1) := dk_28 (dk_at dksX3_leavesNone_8 17 rfl rfl)
theorem dX3_leavesNone_207 : decode cX3_leavesNone 207 = .ok (.if_icmp .eq 34, 3) := dk_159 0 34 (dk_at dksX3_leavesNone_8 18 rfl rfl)
theorem dX3_leavesNone_210 : decode cX3_leavesNone 210 = .ok (.aload_n 0, 1) := dk_42 (dk_at dksX3_leavesNone_8 21 rfl rfl)
theorem dX3_leavesNone_211 : decode cX3_leavesNone 211 = .ok (.getfield 64, 3) := dk_180 0 64 (dk_at dksX3_leavesNone_9 0 rfl rfl)
theorem dX3_leavesNone_214 : decode cX3_leavesNone 214 = .ok (.iconst 3, 1) := dk_6 (dk_at dksX3_leavesNone_9 3 rfl rfl)
theorem dX3_leavesNone_215 : decode cX3_leavesNone 215 = .ok (.iload_n 3, 1) := dk_29 (dk_at dksX3_leavesNone_9 4 rfl rfl)
theorem dX3_leavesNone_216 : decode cX3_leavesNone 216 = .ok (.imul, 1) := dk_104 (dk_at dksX3_leavesNone_9 5 rfl rfl)
theorem dX3_leavesNone_217 : decode cX3_leavesNone 217 = .ok (.iload 5, 2) := dk_21 5 (dk_at dksX3_leavesNone_9 6 rfl rfl)
theorem dX3_leavesNone_219 : decode cX3_leavesNone 219 = .ok (.iadd, 1) := dk_96 (dk_at dksX3_leavesNone_9 8 rfl rfl)
theorem dX3_leavesNone_220 : decode cX3_leavesNone 220 = .ok (.aload_n 0, 1) := dk_42 (dk_at dksX3_leavesNone_9 9 rfl rfl)
theorem dX3_leavesNone_221 : decode cX3_leavesNone 221 = .ok (.getfield 67, 3) := dk_180 0 67 (dk_at dksX3_leavesNone_9 10 rfl rfl)
theorem dX3_leavesNone_224 : decode cX3_leavesNone 224 = .ok (.iconst 4, 1) := dk_7 (dk_at dksX3_leavesNone_9 13 rfl rfl)
theorem dX3_leavesNone_225 : decode cX3_leavesNone 225 = .ok (.iload 4, 2) := dk_21 4 (dk_at dksX3_leavesNone_9 14 rfl rfl)
theorem dX3_leavesNone_227 : decode cX3_leavesNone 227 = .ok (.imul, 1) := dk_104 (dk_at dksX3_leavesNone_9 16 rfl rfl)
theorem dX3_leavesNone_228 : decode cX3_leavesNone 228 = .ok (.iconst 1, 1) := dk_4 (dk_at dksX3_leavesNone_9 17 rfl rfl)
theorem dX3_leavesNone_229 : decode cX3_leavesNone 229 = .ok (.iadd, 1) := dk_96 (dk_at dksX3_leavesNone_9 18 rfl rfl)
theorem dX3_leavesNone_230 : decode cX3_leavesNone 230 = .ok (.iload 5, 2) := dk_21 5 (dk_at dksX3_leavesNone_9 19 rfl rfl)
theorem dX3_leavesNone_232 : decode cX3_leavesNone 232 = .ok (.iadd, 1) := dk_96 (dk_at dksX3_leavesNone_9 21 rfl rfl)
theorem dX3_leavesNone_233 : decode cX3_leavesNone 233 = .ok (.laload, 1) := dk_47 (dk_at dksX3_leavesNone_9 22 rfl rfl)
theorem dX3_leavesNone_234 : decode cX3_leavesNone 234 = .ok (.lastore, 1) := dk_80 (dk_at dksX3_leavesNone_9 23 rfl rfl)
theorem dX3_leavesNone_235 : decode cX3_leavesNone 235 = .ok (.iinc 5 1, 3) := dk_132 5 1 (dk_at dksX3_leavesNone_10 0 rfl rfl)
theorem dX3_leavesNone_238 : decode cX3_leavesNone 238 = .ok (.goto (-40), 3) := dk_167 255 216 (dk_at dksX3_leavesNone_10 3 rfl rfl)
theorem dX3_leavesNone_241 : decode cX3_leavesNone 241 = .ok (.iload_n 3, 1) := dk_29 (dk_at dksX3_leavesNone_10 6 rfl rfl)
theorem dX3_leavesNone_242 : decode cX3_leavesNone 242 = .ok (.iload 4, 2) := dk_21 4 (dk_at dksX3_leavesNone_10 7 rfl rfl)
theorem dX3_leavesNone_244 : decode cX3_leavesNone 244 = .ok (.iload_n 2, 1) := dk_28 (dk_at dksX3_leavesNone_10 9 rfl rfl)
theorem dX3_leavesNone_245 : decode cX3_leavesNone 245 = .ok (.if_icmp .ne 7, 3) := dk_160 0 7 (dk_at dksX3_leavesNone_10 10 rfl rfl)
theorem dX3_leavesNone_248 : decode cX3_leavesNone 248 = .ok (.iconst 0, 1) := dk_3 (dk_at dksX3_leavesNone_10 13 rfl rfl)
theorem dX3_leavesNone_249 : decode cX3_leavesNone 249 = .ok (.goto 4, 3) := dk_167 0 4 (dk_at dksX3_leavesNone_10 14 rfl rfl)
theorem dX3_leavesNone_252 : decode cX3_leavesNone 252 = .ok (.iconst 1, 1) := dk_4 (dk_at dksX3_leavesNone_10 17 rfl rfl)
theorem dX3_leavesNone_253 : decode cX3_leavesNone 253 = .ok (.iadd, 1) := dk_96 (dk_at dksX3_leavesNone_10 18 rfl rfl)
theorem dX3_leavesNone_254 : decode cX3_leavesNone 254 = .ok (.istore_n 3, 1) := dk_62 (dk_at dksX3_leavesNone_10 19 rfl rfl)
theorem dX3_leavesNone_255 : decode cX3_leavesNone 255 = .ok (.iinc 4 1, 3) := dk_132 4 1 (dk_at dksX3_leavesNone_10 20 rfl rfl)
theorem dX3_leavesNone_258 : decode cX3_leavesNone 258 = .ok (.goto (-69), 3) := dk_167 255 187 (dk_at dksX3_leavesNone_11 0 rfl rfl)
theorem dX3_leavesNone_261 : decode cX3_leavesNone 261 = .ok (.aload_n 0, 1) := dk_42 (dk_at dksX3_leavesNone_11 3 rfl rfl)
theorem dX3_leavesNone_262 : decode cX3_leavesNone 262 = .ok (.invokevirtual 311, 3) := dk_182 1 55 (dk_at dksX3_leavesNone_11 4 rfl rfl)
theorem dX3_leavesNone_265 : decode cX3_leavesNone 265 = .ok (.return_, 1) := dk_177 (dk_at dksX3_leavesNone_11 7 rfl rfl)
abbrev cX3_smallens : ByteArray := prog_20_method_58_code
def yX3_smallens : MethodName := ⟨RX3, "smallens", "()V"⟩
def dkwX3_smallens_2 : List UInt8 := [27, 47, 80, 132, 1, 1, 167, 255, 235, 177]
abbrev dktX3_smallens_2 : List UInt8 := dkwX3_smallens_2 ++ []
def dkwX3_smallens_1 : List UInt8 := [167, 255, 235, 42, 182, 0, 246, 3, 60, 27, 16, 9, 162, 0, 21, 42, 180, 0, 64, 27, 42, 180, 0, 36]
abbrev dktX3_smallens_1 : List UInt8 := dkwX3_smallens_1 ++ dktX3_smallens_2
def dkwX3_smallens_0 : List UInt8 := [3, 60, 27, 16, 9, 162, 0, 21, 42, 180, 0, 36, 27, 42, 180, 0, 64, 27, 47, 80, 132, 1, 1]
abbrev dktX3_smallens_0 : List UInt8 := dkwX3_smallens_0 ++ dktX3_smallens_1
theorem dksX3_smallens_0 : cX3_smallens.data.toList.drop 0 = dktX3_smallens_0 := by decide +kernel
theorem dksX3_smallens_1 : cX3_smallens.data.toList.drop 23 = dktX3_smallens_1 := dk_seg dksX3_smallens_0 23 rfl rfl
theorem dksX3_smallens_2 : cX3_smallens.data.toList.drop 47 = dktX3_smallens_2 := dk_seg dksX3_smallens_1 24 rfl rfl
theorem dX3_smallens_0 : decode cX3_smallens 0 = .ok (.iconst 0, 1) := dk_3 (dk_at dksX3_smallens_0 0 rfl rfl)
theorem dX3_smallens_1 : decode cX3_smallens 1 = .ok (.istore_n 1, 1) := dk_60 (dk_at dksX3_smallens_0 1 rfl rfl)
theorem dX3_smallens_2 : decode cX3_smallens 2 = .ok (.iload_n 1, 1) := dk_27 (dk_at dksX3_smallens_0 2 rfl rfl)
theorem dX3_smallens_3 : decode cX3_smallens 3 = .ok (.bipush 9, 2) := dk_16 9 (dk_at dksX3_smallens_0 3 rfl rfl)
theorem dX3_smallens_5 : decode cX3_smallens 5 = .ok (.if_icmp .ge 21, 3) := dk_162 0 21 (dk_at dksX3_smallens_0 5 rfl rfl)
theorem dX3_smallens_8 : decode cX3_smallens 8 = .ok (.aload_n 0, 1) := dk_42 (dk_at dksX3_smallens_0 8 rfl rfl)
theorem dX3_smallens_9 : decode cX3_smallens 9 = .ok (.getfield 36, 3) := dk_180 0 36 (dk_at dksX3_smallens_0 9 rfl rfl)
theorem dX3_smallens_12 : decode cX3_smallens 12 = .ok (.iload_n 1, 1) := dk_27 (dk_at dksX3_smallens_0 12 rfl rfl)
theorem dX3_smallens_13 : decode cX3_smallens 13 = .ok (.aload_n 0, 1) := dk_42 (dk_at dksX3_smallens_0 13 rfl rfl)
theorem dX3_smallens_14 : decode cX3_smallens 14 = .ok (.getfield 64, 3) := dk_180 0 64 (dk_at dksX3_smallens_0 14 rfl rfl)
theorem dX3_smallens_17 : decode cX3_smallens 17 = .ok (.iload_n 1, 1) := dk_27 (dk_at dksX3_smallens_0 17 rfl rfl)
theorem dX3_smallens_18 : decode cX3_smallens 18 = .ok (.laload, 1) := dk_47 (dk_at dksX3_smallens_0 18 rfl rfl)
theorem dX3_smallens_19 : decode cX3_smallens 19 = .ok (.lastore, 1) := dk_80 (dk_at dksX3_smallens_0 19 rfl rfl)
theorem dX3_smallens_20 : decode cX3_smallens 20 = .ok (.iinc 1 1, 3) := dk_132 1 1 (dk_at dksX3_smallens_0 20 rfl rfl)
theorem dX3_smallens_23 : decode cX3_smallens 23 = .ok (.goto (-21), 3) := dk_167 255 235 (dk_at dksX3_smallens_1 0 rfl rfl)
theorem dX3_smallens_26 : decode cX3_smallens 26 = .ok (.aload_n 0, 1) := dk_42 (dk_at dksX3_smallens_1 3 rfl rfl)
theorem dX3_smallens_27 : decode cX3_smallens 27 = .ok (.invokevirtual 246, 3) := dk_182 0 246 (dk_at dksX3_smallens_1 4 rfl rfl)
theorem dX3_smallens_30 : decode cX3_smallens 30 = .ok (.iconst 0, 1) := dk_3 (dk_at dksX3_smallens_1 7 rfl rfl)
theorem dX3_smallens_31 : decode cX3_smallens 31 = .ok (.istore_n 1, 1) := dk_60 (dk_at dksX3_smallens_1 8 rfl rfl)
theorem dX3_smallens_32 : decode cX3_smallens 32 = .ok (.iload_n 1, 1) := dk_27 (dk_at dksX3_smallens_1 9 rfl rfl)
theorem dX3_smallens_33 : decode cX3_smallens 33 = .ok (.bipush 9, 2) := dk_16 9 (dk_at dksX3_smallens_1 10 rfl rfl)
theorem dX3_smallens_35 : decode cX3_smallens 35 = .ok (.if_icmp .ge 21, 3) := dk_162 0 21 (dk_at dksX3_smallens_1 12 rfl rfl)
theorem dX3_smallens_38 : decode cX3_smallens 38 = .ok (.aload_n 0, 1) := dk_42 (dk_at dksX3_smallens_1 15 rfl rfl)
theorem dX3_smallens_39 : decode cX3_smallens 39 = .ok (.getfield 64, 3) := dk_180 0 64 (dk_at dksX3_smallens_1 16 rfl rfl)
theorem dX3_smallens_42 : decode cX3_smallens 42 = .ok (.iload_n 1, 1) := dk_27 (dk_at dksX3_smallens_1 19 rfl rfl)
theorem dX3_smallens_43 : decode cX3_smallens 43 = .ok (.aload_n 0, 1) := dk_42 (dk_at dksX3_smallens_1 20 rfl rfl)
theorem dX3_smallens_44 : decode cX3_smallens 44 = .ok (.getfield 36, 3) := dk_180 0 36 (dk_at dksX3_smallens_1 21 rfl rfl)
theorem dX3_smallens_47 : decode cX3_smallens 47 = .ok (.iload_n 1, 1) := dk_27 (dk_at dksX3_smallens_2 0 rfl rfl)
theorem dX3_smallens_48 : decode cX3_smallens 48 = .ok (.laload, 1) := dk_47 (dk_at dksX3_smallens_2 1 rfl rfl)
theorem dX3_smallens_49 : decode cX3_smallens 49 = .ok (.lastore, 1) := dk_80 (dk_at dksX3_smallens_2 2 rfl rfl)
theorem dX3_smallens_50 : decode cX3_smallens 50 = .ok (.iinc 1 1, 3) := dk_132 1 1 (dk_at dksX3_smallens_2 3 rfl rfl)
theorem dX3_smallens_53 : decode cX3_smallens 53 = .ok (.goto (-21), 3) := dk_167 255 235 (dk_at dksX3_smallens_2 6 rfl rfl)
theorem dX3_smallens_56 : decode cX3_smallens 56 = .ok (.return_, 1) := dk_177 (dk_at dksX3_smallens_2 9 rfl rfl)
abbrev cX3_meet : ByteArray := prog_20_method_64_code
def yX3_meet : MethodName := ⟨RX3, "meet", "(IIII)J"⟩
def dkwX3_meet_2 : List UInt8 := [29, 104, 21, 4, 96, 47, 173]
abbrev dktX3_meet_2 : List UInt8 := dkwX3_meet_2 ++ []
def dkwX3_meet_1 : List UInt8 := [20, 0, 244, 173, 21, 5, 156, 0, 7, 21, 5, 133, 173, 42, 27, 28, 182, 1, 70, 42, 180, 0, 36, 6]
abbrev dktX3_meet_1 : List UInt8 := dkwX3_meet_1 ++ dktX3_meet_2
def dkwX3_meet_0 : List UInt8 := [42, 27, 28, 182, 1, 67, 54, 5, 21, 5, 16, 254, 159, 0, 12, 29, 21, 4, 184, 0, 214, 154, 0, 7]
abbrev dktX3_meet_0 : List UInt8 := dkwX3_meet_0 ++ dktX3_meet_1
theorem dksX3_meet_0 : cX3_meet.data.toList.drop 0 = dktX3_meet_0 := by decide +kernel
theorem dksX3_meet_1 : cX3_meet.data.toList.drop 24 = dktX3_meet_1 := dk_seg dksX3_meet_0 24 rfl rfl
theorem dksX3_meet_2 : cX3_meet.data.toList.drop 48 = dktX3_meet_2 := dk_seg dksX3_meet_1 24 rfl rfl
theorem dX3_meet_0 : decode cX3_meet 0 = .ok (.aload_n 0, 1) := dk_42 (dk_at dksX3_meet_0 0 rfl rfl)
theorem dX3_meet_1 : decode cX3_meet 1 = .ok (.iload_n 1, 1) := dk_27 (dk_at dksX3_meet_0 1 rfl rfl)
theorem dX3_meet_2 : decode cX3_meet 2 = .ok (.iload_n 2, 1) := dk_28 (dk_at dksX3_meet_0 2 rfl rfl)
theorem dX3_meet_3 : decode cX3_meet 3 = .ok (.invokevirtual 323, 3) := dk_182 1 67 (dk_at dksX3_meet_0 3 rfl rfl)
theorem dX3_meet_6 : decode cX3_meet 6 = .ok (.istore 5, 2) := dk_54 5 (dk_at dksX3_meet_0 6 rfl rfl)
theorem dX3_meet_8 : decode cX3_meet 8 = .ok (.iload 5, 2) := dk_21 5 (dk_at dksX3_meet_0 8 rfl rfl)
theorem dX3_meet_10 : decode cX3_meet 10 = .ok (.bipush (-2), 2) := dk_16 254 (dk_at dksX3_meet_0 10 rfl rfl)
theorem dX3_meet_12 : decode cX3_meet 12 = .ok (.if_icmp .eq 12, 3) := dk_159 0 12 (dk_at dksX3_meet_0 12 rfl rfl)
theorem dX3_meet_15 : decode cX3_meet 15 = .ok (.iload_n 3, 1) := dk_29 (dk_at dksX3_meet_0 15 rfl rfl)
theorem dX3_meet_16 : decode cX3_meet 16 = .ok (.iload 4, 2) := dk_21 4 (dk_at dksX3_meet_0 16 rfl rfl)
theorem dX3_meet_18 : decode cX3_meet 18 = .ok (.invokestatic 214, 3) := dk_184 0 214 (dk_at dksX3_meet_0 18 rfl rfl)
theorem dX3_meet_21 : decode cX3_meet 21 = .ok (.ifCond .ne 7, 3) := dk_154 0 7 (dk_at dksX3_meet_0 21 rfl rfl)
theorem dX3_meet_24 : decode cX3_meet 24 = .ok (.ldc2_w 244, 3) := dk_20 0 244 (dk_at dksX3_meet_1 0 rfl rfl)
theorem dX3_meet_27 : decode cX3_meet 27 = .ok (.lreturn, 1) := dk_173 (dk_at dksX3_meet_1 3 rfl rfl)
theorem dX3_meet_28 : decode cX3_meet 28 = .ok (.iload 5, 2) := dk_21 5 (dk_at dksX3_meet_1 4 rfl rfl)
theorem dX3_meet_30 : decode cX3_meet 30 = .ok (.ifCond .ge 7, 3) := dk_156 0 7 (dk_at dksX3_meet_1 6 rfl rfl)
theorem dX3_meet_33 : decode cX3_meet 33 = .ok (.iload 5, 2) := dk_21 5 (dk_at dksX3_meet_1 9 rfl rfl)
theorem dX3_meet_35 : decode cX3_meet 35 = .ok (.i2l, 1) := dk_133 (dk_at dksX3_meet_1 11 rfl rfl)
theorem dX3_meet_36 : decode cX3_meet 36 = .ok (.lreturn, 1) := dk_173 (dk_at dksX3_meet_1 12 rfl rfl)
theorem dX3_meet_37 : decode cX3_meet 37 = .ok (.aload_n 0, 1) := dk_42 (dk_at dksX3_meet_1 13 rfl rfl)
theorem dX3_meet_38 : decode cX3_meet 38 = .ok (.iload_n 1, 1) := dk_27 (dk_at dksX3_meet_1 14 rfl rfl)
theorem dX3_meet_39 : decode cX3_meet 39 = .ok (.iload_n 2, 1) := dk_28 (dk_at dksX3_meet_1 15 rfl rfl)
theorem dX3_meet_40 : decode cX3_meet 40 = .ok (.invokevirtual 326, 3) := dk_182 1 70 (dk_at dksX3_meet_1 16 rfl rfl)
theorem dX3_meet_43 : decode cX3_meet 43 = .ok (.aload_n 0, 1) := dk_42 (dk_at dksX3_meet_1 19 rfl rfl)
theorem dX3_meet_44 : decode cX3_meet 44 = .ok (.getfield 36, 3) := dk_180 0 36 (dk_at dksX3_meet_1 20 rfl rfl)
theorem dX3_meet_47 : decode cX3_meet 47 = .ok (.iconst 3, 1) := dk_6 (dk_at dksX3_meet_1 23 rfl rfl)
theorem dX3_meet_48 : decode cX3_meet 48 = .ok (.iload_n 3, 1) := dk_29 (dk_at dksX3_meet_2 0 rfl rfl)
theorem dX3_meet_49 : decode cX3_meet 49 = .ok (.imul, 1) := dk_104 (dk_at dksX3_meet_2 1 rfl rfl)
theorem dX3_meet_50 : decode cX3_meet 50 = .ok (.iload 4, 2) := dk_21 4 (dk_at dksX3_meet_2 2 rfl rfl)
theorem dX3_meet_52 : decode cX3_meet 52 = .ok (.iadd, 1) := dk_96 (dk_at dksX3_meet_2 4 rfl rfl)
theorem dX3_meet_53 : decode cX3_meet 53 = .ok (.laload, 1) := dk_47 (dk_at dksX3_meet_2 5 rfl rfl)
theorem dX3_meet_54 : decode cX3_meet 54 = .ok (.lreturn, 1) := dk_173 (dk_at dksX3_meet_2 6 rfl rfl)
abbrev cX3_joinOver : ByteArray := prog_20_method_65_code
def yX3_joinOver : MethodName := ⟨RX3, "joinOver", "(II)I"⟩
def dkwX3_joinOver_1 : List UInt8 := [172]
abbrev dktX3_joinOver_1 : List UInt8 := dkwX3_joinOver_1 ++ []
def dkwX3_joinOver_0 : List UInt8 := [42, 27, 28, 182, 1, 67, 62, 29, 156, 0, 5, 29, 172, 42, 27, 28, 182, 1, 73, 42, 180, 0, 191, 136]
abbrev dktX3_joinOver_0 : List UInt8 := dkwX3_joinOver_0 ++ dktX3_joinOver_1
theorem dksX3_joinOver_0 : cX3_joinOver.data.toList.drop 0 = dktX3_joinOver_0 := by decide +kernel
theorem dksX3_joinOver_1 : cX3_joinOver.data.toList.drop 24 = dktX3_joinOver_1 := dk_seg dksX3_joinOver_0 24 rfl rfl
theorem dX3_joinOver_0 : decode cX3_joinOver 0 = .ok (.aload_n 0, 1) := dk_42 (dk_at dksX3_joinOver_0 0 rfl rfl)
theorem dX3_joinOver_1 : decode cX3_joinOver 1 = .ok (.iload_n 1, 1) := dk_27 (dk_at dksX3_joinOver_0 1 rfl rfl)
theorem dX3_joinOver_2 : decode cX3_joinOver 2 = .ok (.iload_n 2, 1) := dk_28 (dk_at dksX3_joinOver_0 2 rfl rfl)
theorem dX3_joinOver_3 : decode cX3_joinOver 3 = .ok (.invokevirtual 323, 3) := dk_182 1 67 (dk_at dksX3_joinOver_0 3 rfl rfl)
theorem dX3_joinOver_6 : decode cX3_joinOver 6 = .ok (.istore_n 3, 1) := dk_62 (dk_at dksX3_joinOver_0 6 rfl rfl)
theorem dX3_joinOver_7 : decode cX3_joinOver 7 = .ok (.iload_n 3, 1) := dk_29 (dk_at dksX3_joinOver_0 7 rfl rfl)
theorem dX3_joinOver_8 : decode cX3_joinOver 8 = .ok (.ifCond .ge 5, 3) := dk_156 0 5 (dk_at dksX3_joinOver_0 8 rfl rfl)
theorem dX3_joinOver_11 : decode cX3_joinOver 11 = .ok (.iload_n 3, 1) := dk_29 (dk_at dksX3_joinOver_0 11 rfl rfl)
theorem dX3_joinOver_12 : decode cX3_joinOver 12 = .ok (.ireturn, 1) := dk_172 (dk_at dksX3_joinOver_0 12 rfl rfl)
theorem dX3_joinOver_13 : decode cX3_joinOver 13 = .ok (.aload_n 0, 1) := dk_42 (dk_at dksX3_joinOver_0 13 rfl rfl)
theorem dX3_joinOver_14 : decode cX3_joinOver 14 = .ok (.iload_n 1, 1) := dk_27 (dk_at dksX3_joinOver_0 14 rfl rfl)
theorem dX3_joinOver_15 : decode cX3_joinOver 15 = .ok (.iload_n 2, 1) := dk_28 (dk_at dksX3_joinOver_0 15 rfl rfl)
theorem dX3_joinOver_16 : decode cX3_joinOver 16 = .ok (.invokevirtual 329, 3) := dk_182 1 73 (dk_at dksX3_joinOver_0 16 rfl rfl)
theorem dX3_joinOver_19 : decode cX3_joinOver 19 = .ok (.aload_n 0, 1) := dk_42 (dk_at dksX3_joinOver_0 19 rfl rfl)
theorem dX3_joinOver_20 : decode cX3_joinOver 20 = .ok (.getfield 191, 3) := dk_180 0 191 (dk_at dksX3_joinOver_0 20 rfl rfl)
theorem dX3_joinOver_23 : decode cX3_joinOver 23 = .ok (.l2i, 1) := dk_136 (dk_at dksX3_joinOver_0 23 rfl rfl)
theorem dX3_joinOver_24 : decode cX3_joinOver 24 = .ok (.ireturn, 1) := dk_172 (dk_at dksX3_joinOver_1 0 rfl rfl)
abbrev cX3_joins : ByteArray := prog_20_method_60_code
def yX3_joins : MethodName := ⟨RX3, "joins", "(II)V"⟩
def dkwX3_joins_4 : List UInt8 := [180, 1, 39, 181, 0, 191, 42, 182, 0, 246, 42, 182, 0, 204, 177]
abbrev dktX3_joins_4 : List UInt8 := dkwX3_joins_4 ++ []
def dkwX3_joins_3 : List UInt8 := [162, 0, 21, 42, 180, 0, 36, 29, 42, 180, 0, 70, 29, 47, 80, 132, 3, 1, 167, 255, 235, 42, 42]
abbrev dktX3_joins_3 : List UInt8 := dkwX3_joins_3 ++ dktX3_joins_4
def dkwX3_joins_2 : List UInt8 := [62, 29, 6, 162, 0, 14, 42, 29, 182, 1, 64, 132, 3, 1, 167, 255, 243, 3, 62, 29, 16, 9]
abbrev dktX3_joins_2 : List UInt8 := dkwX3_joins_2 ++ dktX3_joins_3
def dkwX3_joins_1 : List UInt8 := [47, 80, 42, 180, 0, 70, 16, 9, 29, 96, 42, 180, 0, 61, 29, 47, 80, 132, 3, 1, 167, 255, 220, 3]
abbrev dktX3_joins_1 : List UInt8 := dkwX3_joins_1 ++ dktX3_joins_2
def dkwX3_joins_0 : List UInt8 := [42, 27, 28, 182, 1, 58, 3, 62, 29, 16, 9, 162, 0, 36, 42, 180, 0, 70, 29, 42, 180, 0, 58, 29]
abbrev dktX3_joins_0 : List UInt8 := dkwX3_joins_0 ++ dktX3_joins_1
theorem dksX3_joins_0 : cX3_joins.data.toList.drop 0 = dktX3_joins_0 := by decide +kernel
theorem dksX3_joins_1 : cX3_joins.data.toList.drop 24 = dktX3_joins_1 := dk_seg dksX3_joins_0 24 rfl rfl
theorem dksX3_joins_2 : cX3_joins.data.toList.drop 48 = dktX3_joins_2 := dk_seg dksX3_joins_1 24 rfl rfl
theorem dksX3_joins_3 : cX3_joins.data.toList.drop 70 = dktX3_joins_3 := dk_seg dksX3_joins_2 22 rfl rfl
theorem dksX3_joins_4 : cX3_joins.data.toList.drop 93 = dktX3_joins_4 := dk_seg dksX3_joins_3 23 rfl rfl
theorem dX3_joins_0 : decode cX3_joins 0 = .ok (.aload_n 0, 1) := dk_42 (dk_at dksX3_joins_0 0 rfl rfl)
theorem dX3_joins_1 : decode cX3_joins 1 = .ok (.iload_n 1, 1) := dk_27 (dk_at dksX3_joins_0 1 rfl rfl)
theorem dX3_joins_2 : decode cX3_joins 2 = .ok (.iload_n 2, 1) := dk_28 (dk_at dksX3_joins_0 2 rfl rfl)
theorem dX3_joins_3 : decode cX3_joins 3 = .ok (.invokevirtual 314, 3) := dk_182 1 58 (dk_at dksX3_joins_0 3 rfl rfl)
theorem dX3_joins_6 : decode cX3_joins 6 = .ok (.iconst 0, 1) := dk_3 (dk_at dksX3_joins_0 6 rfl rfl)
theorem dX3_joins_7 : decode cX3_joins 7 = .ok (.istore_n 3, 1) := dk_62 (dk_at dksX3_joins_0 7 rfl rfl)
theorem dX3_joins_8 : decode cX3_joins 8 = .ok (.iload_n 3, 1) := dk_29 (dk_at dksX3_joins_0 8 rfl rfl)
theorem dX3_joins_9 : decode cX3_joins 9 = .ok (.bipush 9, 2) := dk_16 9 (dk_at dksX3_joins_0 9 rfl rfl)
theorem dX3_joins_11 : decode cX3_joins 11 = .ok (.if_icmp .ge 36, 3) := dk_162 0 36 (dk_at dksX3_joins_0 11 rfl rfl)
theorem dX3_joins_14 : decode cX3_joins 14 = .ok (.aload_n 0, 1) := dk_42 (dk_at dksX3_joins_0 14 rfl rfl)
theorem dX3_joins_15 : decode cX3_joins 15 = .ok (.getfield 70, 3) := dk_180 0 70 (dk_at dksX3_joins_0 15 rfl rfl)
theorem dX3_joins_18 : decode cX3_joins 18 = .ok (.iload_n 3, 1) := dk_29 (dk_at dksX3_joins_0 18 rfl rfl)
theorem dX3_joins_19 : decode cX3_joins 19 = .ok (.aload_n 0, 1) := dk_42 (dk_at dksX3_joins_0 19 rfl rfl)
theorem dX3_joins_20 : decode cX3_joins 20 = .ok (.getfield 58, 3) := dk_180 0 58 (dk_at dksX3_joins_0 20 rfl rfl)
theorem dX3_joins_23 : decode cX3_joins 23 = .ok (.iload_n 3, 1) := dk_29 (dk_at dksX3_joins_0 23 rfl rfl)
theorem dX3_joins_24 : decode cX3_joins 24 = .ok (.laload, 1) := dk_47 (dk_at dksX3_joins_1 0 rfl rfl)
theorem dX3_joins_25 : decode cX3_joins 25 = .ok (.lastore, 1) := dk_80 (dk_at dksX3_joins_1 1 rfl rfl)
theorem dX3_joins_26 : decode cX3_joins 26 = .ok (.aload_n 0, 1) := dk_42 (dk_at dksX3_joins_1 2 rfl rfl)
theorem dX3_joins_27 : decode cX3_joins 27 = .ok (.getfield 70, 3) := dk_180 0 70 (dk_at dksX3_joins_1 3 rfl rfl)
theorem dX3_joins_30 : decode cX3_joins 30 = .ok (.bipush 9, 2) := dk_16 9 (dk_at dksX3_joins_1 6 rfl rfl)
theorem dX3_joins_32 : decode cX3_joins 32 = .ok (.iload_n 3, 1) := dk_29 (dk_at dksX3_joins_1 8 rfl rfl)
theorem dX3_joins_33 : decode cX3_joins 33 = .ok (.iadd, 1) := dk_96 (dk_at dksX3_joins_1 9 rfl rfl)
theorem dX3_joins_34 : decode cX3_joins 34 = .ok (.aload_n 0, 1) := dk_42 (dk_at dksX3_joins_1 10 rfl rfl)
theorem dX3_joins_35 : decode cX3_joins 35 = .ok (.getfield 61, 3) := dk_180 0 61 (dk_at dksX3_joins_1 11 rfl rfl)
theorem dX3_joins_38 : decode cX3_joins 38 = .ok (.iload_n 3, 1) := dk_29 (dk_at dksX3_joins_1 14 rfl rfl)
theorem dX3_joins_39 : decode cX3_joins 39 = .ok (.laload, 1) := dk_47 (dk_at dksX3_joins_1 15 rfl rfl)
theorem dX3_joins_40 : decode cX3_joins 40 = .ok (.lastore, 1) := dk_80 (dk_at dksX3_joins_1 16 rfl rfl)
theorem dX3_joins_41 : decode cX3_joins 41 = .ok (.iinc 3 1, 3) := dk_132 3 1 (dk_at dksX3_joins_1 17 rfl rfl)
theorem dX3_joins_44 : decode cX3_joins 44 = .ok (.goto (-36), 3) := dk_167 255 220 (dk_at dksX3_joins_1 20 rfl rfl)
theorem dX3_joins_47 : decode cX3_joins 47 = .ok (.iconst 0, 1) := dk_3 (dk_at dksX3_joins_1 23 rfl rfl)
theorem dX3_joins_48 : decode cX3_joins 48 = .ok (.istore_n 3, 1) := dk_62 (dk_at dksX3_joins_2 0 rfl rfl)
theorem dX3_joins_49 : decode cX3_joins 49 = .ok (.iload_n 3, 1) := dk_29 (dk_at dksX3_joins_2 1 rfl rfl)
theorem dX3_joins_50 : decode cX3_joins 50 = .ok (.iconst 3, 1) := dk_6 (dk_at dksX3_joins_2 2 rfl rfl)
theorem dX3_joins_51 : decode cX3_joins 51 = .ok (.if_icmp .ge 14, 3) := dk_162 0 14 (dk_at dksX3_joins_2 3 rfl rfl)
theorem dX3_joins_54 : decode cX3_joins 54 = .ok (.aload_n 0, 1) := dk_42 (dk_at dksX3_joins_2 6 rfl rfl)
theorem dX3_joins_55 : decode cX3_joins 55 = .ok (.iload_n 3, 1) := dk_29 (dk_at dksX3_joins_2 7 rfl rfl)
theorem dX3_joins_56 : decode cX3_joins 56 = .ok (.invokevirtual 320, 3) := dk_182 1 64 (dk_at dksX3_joins_2 8 rfl rfl)
theorem dX3_joins_59 : decode cX3_joins 59 = .ok (.iinc 3 1, 3) := dk_132 3 1 (dk_at dksX3_joins_2 11 rfl rfl)
theorem dX3_joins_62 : decode cX3_joins 62 = .ok (.goto (-13), 3) := dk_167 255 243 (dk_at dksX3_joins_2 14 rfl rfl)
theorem dX3_joins_65 : decode cX3_joins 65 = .ok (.iconst 0, 1) := dk_3 (dk_at dksX3_joins_2 17 rfl rfl)
theorem dX3_joins_66 : decode cX3_joins 66 = .ok (.istore_n 3, 1) := dk_62 (dk_at dksX3_joins_2 18 rfl rfl)
theorem dX3_joins_67 : decode cX3_joins 67 = .ok (.iload_n 3, 1) := dk_29 (dk_at dksX3_joins_2 19 rfl rfl)
theorem dX3_joins_68 : decode cX3_joins 68 = .ok (.bipush 9, 2) := dk_16 9 (dk_at dksX3_joins_2 20 rfl rfl)
theorem dX3_joins_70 : decode cX3_joins 70 = .ok (.if_icmp .ge 21, 3) := dk_162 0 21 (dk_at dksX3_joins_3 0 rfl rfl)
theorem dX3_joins_73 : decode cX3_joins 73 = .ok (.aload_n 0, 1) := dk_42 (dk_at dksX3_joins_3 3 rfl rfl)
theorem dX3_joins_74 : decode cX3_joins 74 = .ok (.getfield 36, 3) := dk_180 0 36 (dk_at dksX3_joins_3 4 rfl rfl)
theorem dX3_joins_77 : decode cX3_joins 77 = .ok (.iload_n 3, 1) := dk_29 (dk_at dksX3_joins_3 7 rfl rfl)
theorem dX3_joins_78 : decode cX3_joins 78 = .ok (.aload_n 0, 1) := dk_42 (dk_at dksX3_joins_3 8 rfl rfl)
theorem dX3_joins_79 : decode cX3_joins 79 = .ok (.getfield 70, 3) := dk_180 0 70 (dk_at dksX3_joins_3 9 rfl rfl)
theorem dX3_joins_82 : decode cX3_joins 82 = .ok (.iload_n 3, 1) := dk_29 (dk_at dksX3_joins_3 12 rfl rfl)
theorem dX3_joins_83 : decode cX3_joins 83 = .ok (.laload, 1) := dk_47 (dk_at dksX3_joins_3 13 rfl rfl)
theorem dX3_joins_84 : decode cX3_joins 84 = .ok (.lastore, 1) := dk_80 (dk_at dksX3_joins_3 14 rfl rfl)
theorem dX3_joins_85 : decode cX3_joins 85 = .ok (.iinc 3 1, 3) := dk_132 3 1 (dk_at dksX3_joins_3 15 rfl rfl)
theorem dX3_joins_88 : decode cX3_joins 88 = .ok (.goto (-21), 3) := dk_167 255 235 (dk_at dksX3_joins_3 18 rfl rfl)
theorem dX3_joins_91 : decode cX3_joins 91 = .ok (.aload_n 0, 1) := dk_42 (dk_at dksX3_joins_3 21 rfl rfl)
theorem dX3_joins_92 : decode cX3_joins 92 = .ok (.aload_n 0, 1) := dk_42 (dk_at dksX3_joins_3 22 rfl rfl)
theorem dX3_joins_93 : decode cX3_joins 93 = .ok (.getfield 295, 3) := dk_180 1 39 (dk_at dksX3_joins_4 0 rfl rfl)
theorem dX3_joins_96 : decode cX3_joins 96 = .ok (.putfield 191, 3) := dk_181 0 191 (dk_at dksX3_joins_4 3 rfl rfl)
theorem dX3_joins_99 : decode cX3_joins 99 = .ok (.aload_n 0, 1) := dk_42 (dk_at dksX3_joins_4 6 rfl rfl)
theorem dX3_joins_100 : decode cX3_joins 100 = .ok (.invokevirtual 246, 3) := dk_182 0 246 (dk_at dksX3_joins_4 7 rfl rfl)
theorem dX3_joins_103 : decode cX3_joins 103 = .ok (.aload_n 0, 1) := dk_42 (dk_at dksX3_joins_4 10 rfl rfl)
theorem dX3_joins_104 : decode cX3_joins 104 = .ok (.invokevirtual 204, 3) := dk_182 0 204 (dk_at dksX3_joins_4 11 rfl rfl)
theorem dX3_joins_107 : decode cX3_joins 107 = .ok (.return_, 1) := dk_177 (dk_at dksX3_joins_4 14 rfl rfl)
abbrev cX3_gathers : ByteArray := prog_20_method_61_code
def yX3_gathers : MethodName := ⟨RX3, "gathers", "(I)V"⟩
def dkwX3_gathers_10 : List UInt8 := [47, 9, 148, 153, 0, 7, 4, 167, 0, 4, 3, 61, 132, 4, 1, 167, 255, 152, 167, 255, 3, 177]
abbrev dktX3_gathers_10 : List UInt8 := dkwX3_gathers_10 ++ []
def dkwX3_gathers_9 : List UInt8 := [47, 105, 101, 80, 132, 7, 1, 167, 255, 218, 28, 154, 0, 19, 42, 180, 0, 70, 6, 21, 4, 104, 27, 96]
abbrev dktX3_gathers_9 : List UInt8 := dkwX3_gathers_9 ++ dktX3_gathers_10
def dkwX3_gathers_8 : List UInt8 := [180, 0, 70, 6, 21, 4, 104, 21, 7, 96, 92, 47, 22, 5, 42, 180, 0, 70, 6, 27, 104, 21, 7, 96]
abbrev dktX3_gathers_8 : List UInt8 := dkwX3_gathers_8 ++ dktX3_gathers_9
def dkwX3_gathers_7 : List UInt8 := [47, 42, 180, 0, 70, 6, 27, 104, 27, 96, 47, 109, 55, 5, 3, 54, 7, 21, 7, 6, 162, 0, 38, 42]
abbrev dktX3_gathers_7 : List UInt8 := dkwX3_gathers_7 ++ dktX3_gathers_8
def dkwX3_gathers_6 : List UInt8 := [3, 61, 27, 4, 96, 54, 4, 21, 4, 16, 6, 162, 0, 103, 42, 180, 0, 70, 6, 21, 4, 104, 27, 96]
abbrev dktX3_gathers_6 : List UInt8 := dkwX3_gathers_6 ++ dktX3_gathers_7
def dkwX3_gathers_5 : List UInt8 := [21, 4, 96, 47, 80, 42, 180, 0, 70, 6, 27, 104, 21, 4, 96, 22, 5, 80, 132, 4, 1, 167, 255, 199]
abbrev dktX3_gathers_5 : List UInt8 := dkwX3_gathers_5 ++ dktX3_gathers_6
def dkwX3_gathers_4 : List UInt8 := [21, 4, 96, 47, 55, 5, 42, 180, 0, 70, 6, 29, 104, 21, 4, 96, 42, 180, 0, 70, 6, 27, 104]
abbrev dktX3_gathers_4 : List UInt8 := dkwX3_gathers_4 ++ dktX3_gathers_5
def dkwX3_gathers_3 : List UInt8 := [29, 62, 132, 4, 1, 167, 255, 192, 3, 54, 4, 21, 4, 6, 162, 0, 57, 42, 180, 0, 70, 6, 29, 104]
abbrev dktX3_gathers_3 : List UInt8 := dkwX3_gathers_3 ++ dktX3_gathers_4
def dkwX3_gathers_2 : List UInt8 := [22, 5, 42, 180, 0, 70, 6, 29, 104, 27, 96, 47, 184, 0, 1, 148, 156, 0, 8, 21, 4, 167, 0, 4]
abbrev dktX3_gathers_2 : List UInt8 := dkwX3_gathers_2 ++ dktX3_gathers_3
def dkwX3_gathers_1 : List UInt8 := [21, 4, 104, 27, 96, 47, 184, 0, 1, 55, 5, 22, 5, 9, 148, 153, 0, 32, 29, 2, 159, 0, 22]
abbrev dktX3_gathers_1 : List UInt8 := dkwX3_gathers_1 ++ dktX3_gathers_2
def dkwX3_gathers_0 : List UInt8 := [4, 61, 28, 153, 0, 255, 2, 62, 27, 54, 4, 21, 4, 16, 6, 162, 0, 63, 42, 180, 0, 70, 6]
abbrev dktX3_gathers_0 : List UInt8 := dkwX3_gathers_0 ++ dktX3_gathers_1
theorem dksX3_gathers_0 : cX3_gathers.data.toList.drop 0 = dktX3_gathers_0 := by decide +kernel
theorem dksX3_gathers_1 : cX3_gathers.data.toList.drop 23 = dktX3_gathers_1 := dk_seg dksX3_gathers_0 23 rfl rfl
theorem dksX3_gathers_2 : cX3_gathers.data.toList.drop 46 = dktX3_gathers_2 := dk_seg dksX3_gathers_1 23 rfl rfl
theorem dksX3_gathers_3 : cX3_gathers.data.toList.drop 70 = dktX3_gathers_3 := dk_seg dksX3_gathers_2 24 rfl rfl
theorem dksX3_gathers_4 : cX3_gathers.data.toList.drop 94 = dktX3_gathers_4 := dk_seg dksX3_gathers_3 24 rfl rfl
theorem dksX3_gathers_5 : cX3_gathers.data.toList.drop 117 = dktX3_gathers_5 := dk_seg dksX3_gathers_4 23 rfl rfl
theorem dksX3_gathers_6 : cX3_gathers.data.toList.drop 141 = dktX3_gathers_6 := dk_seg dksX3_gathers_5 24 rfl rfl
theorem dksX3_gathers_7 : cX3_gathers.data.toList.drop 165 = dktX3_gathers_7 := dk_seg dksX3_gathers_6 24 rfl rfl
theorem dksX3_gathers_8 : cX3_gathers.data.toList.drop 189 = dktX3_gathers_8 := dk_seg dksX3_gathers_7 24 rfl rfl
theorem dksX3_gathers_9 : cX3_gathers.data.toList.drop 213 = dktX3_gathers_9 := dk_seg dksX3_gathers_8 24 rfl rfl
theorem dksX3_gathers_10 : cX3_gathers.data.toList.drop 237 = dktX3_gathers_10 := dk_seg dksX3_gathers_9 24 rfl rfl
theorem dX3_gathers_0 : decode cX3_gathers 0 = .ok (.iconst 1, 1) := dk_4 (dk_at dksX3_gathers_0 0 rfl rfl)
theorem dX3_gathers_1 : decode cX3_gathers 1 = .ok (.istore_n 2, 1) := dk_61 (dk_at dksX3_gathers_0 1 rfl rfl)
theorem dX3_gathers_2 : decode cX3_gathers 2 = .ok (.iload_n 2, 1) := dk_28 (dk_at dksX3_gathers_0 2 rfl rfl)
theorem dX3_gathers_3 : decode cX3_gathers 3 = .ok (.ifCond .eq 255, 3) := dk_153 0 255 (dk_at dksX3_gathers_0 3 rfl rfl)
theorem dX3_gathers_6 : decode cX3_gathers 6 = .ok (.iconst (-1), 1) := dk_2 (dk_at dksX3_gathers_0 6 rfl rfl)
theorem dX3_gathers_7 : decode cX3_gathers 7 = .ok (.istore_n 3, 1) := dk_62 (dk_at dksX3_gathers_0 7 rfl rfl)
theorem dX3_gathers_8 : decode cX3_gathers 8 = .ok (.iload_n 1, 1) := dk_27 (dk_at dksX3_gathers_0 8 rfl rfl)
theorem dX3_gathers_9 : decode cX3_gathers 9 = .ok (.istore 4, 2) := dk_54 4 (dk_at dksX3_gathers_0 9 rfl rfl)
theorem dX3_gathers_11 : decode cX3_gathers 11 = .ok (.iload 4, 2) := dk_21 4 (dk_at dksX3_gathers_0 11 rfl rfl)
theorem dX3_gathers_13 : decode cX3_gathers 13 = .ok (.bipush 6, 2) := dk_16 6 (dk_at dksX3_gathers_0 13 rfl rfl)
theorem dX3_gathers_15 : decode cX3_gathers 15 = .ok (.if_icmp .ge 63, 3) := dk_162 0 63 (dk_at dksX3_gathers_0 15 rfl rfl)
theorem dX3_gathers_18 : decode cX3_gathers 18 = .ok (.aload_n 0, 1) := dk_42 (dk_at dksX3_gathers_0 18 rfl rfl)
theorem dX3_gathers_19 : decode cX3_gathers 19 = .ok (.getfield 70, 3) := dk_180 0 70 (dk_at dksX3_gathers_0 19 rfl rfl)
theorem dX3_gathers_22 : decode cX3_gathers 22 = .ok (.iconst 3, 1) := dk_6 (dk_at dksX3_gathers_0 22 rfl rfl)
theorem dX3_gathers_23 : decode cX3_gathers 23 = .ok (.iload 4, 2) := dk_21 4 (dk_at dksX3_gathers_1 0 rfl rfl)
theorem dX3_gathers_25 : decode cX3_gathers 25 = .ok (.imul, 1) := dk_104 (dk_at dksX3_gathers_1 2 rfl rfl)
theorem dX3_gathers_26 : decode cX3_gathers 26 = .ok (.iload_n 1, 1) := dk_27 (dk_at dksX3_gathers_1 3 rfl rfl)
theorem dX3_gathers_27 : decode cX3_gathers 27 = .ok (.iadd, 1) := dk_96 (dk_at dksX3_gathers_1 4 rfl rfl)
theorem dX3_gathers_28 : decode cX3_gathers 28 = .ok (.laload, 1) := dk_47 (dk_at dksX3_gathers_1 5 rfl rfl)
theorem dX3_gathers_29 : decode cX3_gathers 29 = .ok (.invokestatic 1, 3) := dk_184 0 1 (dk_at dksX3_gathers_1 6 rfl rfl)
theorem dX3_gathers_32 : decode cX3_gathers 32 = .ok (.lstore 5, 2) := dk_55 5 (dk_at dksX3_gathers_1 9 rfl rfl)
theorem dX3_gathers_34 : decode cX3_gathers 34 = .ok (.lload 5, 2) := dk_22 5 (dk_at dksX3_gathers_1 11 rfl rfl)
theorem dX3_gathers_36 : decode cX3_gathers 36 = .ok (.lconst 0, 1) := dk_9 (dk_at dksX3_gathers_1 13 rfl rfl)
theorem dX3_gathers_37 : decode cX3_gathers 37 = .ok (.lcmp, 1) := dk_148 (dk_at dksX3_gathers_1 14 rfl rfl)
theorem dX3_gathers_38 : decode cX3_gathers 38 = .ok (.ifCond .eq 32, 3) := dk_153 0 32 (dk_at dksX3_gathers_1 15 rfl rfl)
theorem dX3_gathers_41 : decode cX3_gathers 41 = .ok (.iload_n 3, 1) := dk_29 (dk_at dksX3_gathers_1 18 rfl rfl)
theorem dX3_gathers_42 : decode cX3_gathers 42 = .ok (.iconst (-1), 1) := dk_2 (dk_at dksX3_gathers_1 19 rfl rfl)
theorem dX3_gathers_43 : decode cX3_gathers 43 = .ok (.if_icmp .eq 22, 3) := dk_159 0 22 (dk_at dksX3_gathers_1 20 rfl rfl)
theorem dX3_gathers_46 : decode cX3_gathers 46 = .ok (.lload 5, 2) := dk_22 5 (dk_at dksX3_gathers_2 0 rfl rfl)
theorem dX3_gathers_48 : decode cX3_gathers 48 = .ok (.aload_n 0, 1) := dk_42 (dk_at dksX3_gathers_2 2 rfl rfl)
theorem dX3_gathers_49 : decode cX3_gathers 49 = .ok (.getfield 70, 3) := dk_180 0 70 (dk_at dksX3_gathers_2 3 rfl rfl)
theorem dX3_gathers_52 : decode cX3_gathers 52 = .ok (.iconst 3, 1) := dk_6 (dk_at dksX3_gathers_2 6 rfl rfl)
theorem dX3_gathers_53 : decode cX3_gathers 53 = .ok (.iload_n 3, 1) := dk_29 (dk_at dksX3_gathers_2 7 rfl rfl)
theorem dX3_gathers_54 : decode cX3_gathers 54 = .ok (.imul, 1) := dk_104 (dk_at dksX3_gathers_2 8 rfl rfl)
theorem dX3_gathers_55 : decode cX3_gathers 55 = .ok (.iload_n 1, 1) := dk_27 (dk_at dksX3_gathers_2 9 rfl rfl)
theorem dX3_gathers_56 : decode cX3_gathers 56 = .ok (.iadd, 1) := dk_96 (dk_at dksX3_gathers_2 10 rfl rfl)
theorem dX3_gathers_57 : decode cX3_gathers 57 = .ok (.laload, 1) := dk_47 (dk_at dksX3_gathers_2 11 rfl rfl)
theorem dX3_gathers_58 : decode cX3_gathers 58 = .ok (.invokestatic 1, 3) := dk_184 0 1 (dk_at dksX3_gathers_2 12 rfl rfl)
theorem dX3_gathers_61 : decode cX3_gathers 61 = .ok (.lcmp, 1) := dk_148 (dk_at dksX3_gathers_2 15 rfl rfl)
theorem dX3_gathers_62 : decode cX3_gathers 62 = .ok (.ifCond .ge 8, 3) := dk_156 0 8 (dk_at dksX3_gathers_2 16 rfl rfl)
theorem dX3_gathers_65 : decode cX3_gathers 65 = .ok (.iload 4, 2) := dk_21 4 (dk_at dksX3_gathers_2 19 rfl rfl)
theorem dX3_gathers_67 : decode cX3_gathers 67 = .ok (.goto 4, 3) := dk_167 0 4 (dk_at dksX3_gathers_2 21 rfl rfl)
theorem dX3_gathers_70 : decode cX3_gathers 70 = .ok (.iload_n 3, 1) := dk_29 (dk_at dksX3_gathers_3 0 rfl rfl)
theorem dX3_gathers_71 : decode cX3_gathers 71 = .ok (.istore_n 3, 1) := dk_62 (dk_at dksX3_gathers_3 1 rfl rfl)
theorem dX3_gathers_72 : decode cX3_gathers 72 = .ok (.iinc 4 1, 3) := dk_132 4 1 (dk_at dksX3_gathers_3 2 rfl rfl)
theorem dX3_gathers_75 : decode cX3_gathers 75 = .ok (.goto (-64), 3) := dk_167 255 192 (dk_at dksX3_gathers_3 5 rfl rfl)
theorem dX3_gathers_78 : decode cX3_gathers 78 = .ok (.iconst 0, 1) := dk_3 (dk_at dksX3_gathers_3 8 rfl rfl)
theorem dX3_gathers_79 : decode cX3_gathers 79 = .ok (.istore 4, 2) := dk_54 4 (dk_at dksX3_gathers_3 9 rfl rfl)
theorem dX3_gathers_81 : decode cX3_gathers 81 = .ok (.iload 4, 2) := dk_21 4 (dk_at dksX3_gathers_3 11 rfl rfl)
theorem dX3_gathers_83 : decode cX3_gathers 83 = .ok (.iconst 3, 1) := dk_6 (dk_at dksX3_gathers_3 13 rfl rfl)
theorem dX3_gathers_84 : decode cX3_gathers 84 = .ok (.if_icmp .ge 57, 3) := dk_162 0 57 (dk_at dksX3_gathers_3 14 rfl rfl)
theorem dX3_gathers_87 : decode cX3_gathers 87 = .ok (.aload_n 0, 1) := dk_42 (dk_at dksX3_gathers_3 17 rfl rfl)
theorem dX3_gathers_88 : decode cX3_gathers 88 = .ok (.getfield 70, 3) := dk_180 0 70 (dk_at dksX3_gathers_3 18 rfl rfl)
theorem dX3_gathers_91 : decode cX3_gathers 91 = .ok (.iconst 3, 1) := dk_6 (dk_at dksX3_gathers_3 21 rfl rfl)
theorem dX3_gathers_92 : decode cX3_gathers 92 = .ok (.iload_n 3, 1) := dk_29 (dk_at dksX3_gathers_3 22 rfl rfl)
theorem dX3_gathers_93 : decode cX3_gathers 93 = .ok (.imul, 1) := dk_104 (dk_at dksX3_gathers_3 23 rfl rfl)
theorem dX3_gathers_94 : decode cX3_gathers 94 = .ok (.iload 4, 2) := dk_21 4 (dk_at dksX3_gathers_4 0 rfl rfl)
theorem dX3_gathers_96 : decode cX3_gathers 96 = .ok (.iadd, 1) := dk_96 (dk_at dksX3_gathers_4 2 rfl rfl)
theorem dX3_gathers_97 : decode cX3_gathers 97 = .ok (.laload, 1) := dk_47 (dk_at dksX3_gathers_4 3 rfl rfl)
theorem dX3_gathers_98 : decode cX3_gathers 98 = .ok (.lstore 5, 2) := dk_55 5 (dk_at dksX3_gathers_4 4 rfl rfl)
theorem dX3_gathers_100 : decode cX3_gathers 100 = .ok (.aload_n 0, 1) := dk_42 (dk_at dksX3_gathers_4 6 rfl rfl)
theorem dX3_gathers_101 : decode cX3_gathers 101 = .ok (.getfield 70, 3) := dk_180 0 70 (dk_at dksX3_gathers_4 7 rfl rfl)
theorem dX3_gathers_104 : decode cX3_gathers 104 = .ok (.iconst 3, 1) := dk_6 (dk_at dksX3_gathers_4 10 rfl rfl)
theorem dX3_gathers_105 : decode cX3_gathers 105 = .ok (.iload_n 3, 1) := dk_29 (dk_at dksX3_gathers_4 11 rfl rfl)
theorem dX3_gathers_106 : decode cX3_gathers 106 = .ok (.imul, 1) := dk_104 (dk_at dksX3_gathers_4 12 rfl rfl)
theorem dX3_gathers_107 : decode cX3_gathers 107 = .ok (.iload 4, 2) := dk_21 4 (dk_at dksX3_gathers_4 13 rfl rfl)
theorem dX3_gathers_109 : decode cX3_gathers 109 = .ok (.iadd, 1) := dk_96 (dk_at dksX3_gathers_4 15 rfl rfl)
theorem dX3_gathers_110 : decode cX3_gathers 110 = .ok (.aload_n 0, 1) := dk_42 (dk_at dksX3_gathers_4 16 rfl rfl)
theorem dX3_gathers_111 : decode cX3_gathers 111 = .ok (.getfield 70, 3) := dk_180 0 70 (dk_at dksX3_gathers_4 17 rfl rfl)
theorem dX3_gathers_114 : decode cX3_gathers 114 = .ok (.iconst 3, 1) := dk_6 (dk_at dksX3_gathers_4 20 rfl rfl)
theorem dX3_gathers_115 : decode cX3_gathers 115 = .ok (.iload_n 1, 1) := dk_27 (dk_at dksX3_gathers_4 21 rfl rfl)
theorem dX3_gathers_116 : decode cX3_gathers 116 = .ok (.imul, 1) := dk_104 (dk_at dksX3_gathers_4 22 rfl rfl)
theorem dX3_gathers_117 : decode cX3_gathers 117 = .ok (.iload 4, 2) := dk_21 4 (dk_at dksX3_gathers_5 0 rfl rfl)
theorem dX3_gathers_119 : decode cX3_gathers 119 = .ok (.iadd, 1) := dk_96 (dk_at dksX3_gathers_5 2 rfl rfl)
theorem dX3_gathers_120 : decode cX3_gathers 120 = .ok (.laload, 1) := dk_47 (dk_at dksX3_gathers_5 3 rfl rfl)
theorem dX3_gathers_121 : decode cX3_gathers 121 = .ok (.lastore, 1) := dk_80 (dk_at dksX3_gathers_5 4 rfl rfl)
theorem dX3_gathers_122 : decode cX3_gathers 122 = .ok (.aload_n 0, 1) := dk_42 (dk_at dksX3_gathers_5 5 rfl rfl)
theorem dX3_gathers_123 : decode cX3_gathers 123 = .ok (.getfield 70, 3) := dk_180 0 70 (dk_at dksX3_gathers_5 6 rfl rfl)
theorem dX3_gathers_126 : decode cX3_gathers 126 = .ok (.iconst 3, 1) := dk_6 (dk_at dksX3_gathers_5 9 rfl rfl)
theorem dX3_gathers_127 : decode cX3_gathers 127 = .ok (.iload_n 1, 1) := dk_27 (dk_at dksX3_gathers_5 10 rfl rfl)
theorem dX3_gathers_128 : decode cX3_gathers 128 = .ok (.imul, 1) := dk_104 (dk_at dksX3_gathers_5 11 rfl rfl)
theorem dX3_gathers_129 : decode cX3_gathers 129 = .ok (.iload 4, 2) := dk_21 4 (dk_at dksX3_gathers_5 12 rfl rfl)
theorem dX3_gathers_131 : decode cX3_gathers 131 = .ok (.iadd, 1) := dk_96 (dk_at dksX3_gathers_5 14 rfl rfl)
theorem dX3_gathers_132 : decode cX3_gathers 132 = .ok (.lload 5, 2) := dk_22 5 (dk_at dksX3_gathers_5 15 rfl rfl)
theorem dX3_gathers_134 : decode cX3_gathers 134 = .ok (.lastore, 1) := dk_80 (dk_at dksX3_gathers_5 17 rfl rfl)
theorem dX3_gathers_135 : decode cX3_gathers 135 = .ok (.iinc 4 1, 3) := dk_132 4 1 (dk_at dksX3_gathers_5 18 rfl rfl)
theorem dX3_gathers_138 : decode cX3_gathers 138 = .ok (.goto (-57), 3) := dk_167 255 199 (dk_at dksX3_gathers_5 21 rfl rfl)
theorem dX3_gathers_141 : decode cX3_gathers 141 = .ok (.iconst 0, 1) := dk_3 (dk_at dksX3_gathers_6 0 rfl rfl)
theorem dX3_gathers_142 : decode cX3_gathers 142 = .ok (.istore_n 2, 1) := dk_61 (dk_at dksX3_gathers_6 1 rfl rfl)
theorem dX3_gathers_143 : decode cX3_gathers 143 = .ok (.iload_n 1, 1) := dk_27 (dk_at dksX3_gathers_6 2 rfl rfl)
theorem dX3_gathers_144 : decode cX3_gathers 144 = .ok (.iconst 1, 1) := dk_4 (dk_at dksX3_gathers_6 3 rfl rfl)
theorem dX3_gathers_145 : decode cX3_gathers 145 = .ok (.iadd, 1) := dk_96 (dk_at dksX3_gathers_6 4 rfl rfl)
theorem dX3_gathers_146 : decode cX3_gathers 146 = .ok (.istore 4, 2) := dk_54 4 (dk_at dksX3_gathers_6 5 rfl rfl)
theorem dX3_gathers_148 : decode cX3_gathers 148 = .ok (.iload 4, 2) := dk_21 4 (dk_at dksX3_gathers_6 7 rfl rfl)
theorem dX3_gathers_150 : decode cX3_gathers 150 = .ok (.bipush 6, 2) := dk_16 6 (dk_at dksX3_gathers_6 9 rfl rfl)
theorem dX3_gathers_152 : decode cX3_gathers 152 = .ok (.if_icmp .ge 103, 3) := dk_162 0 103 (dk_at dksX3_gathers_6 11 rfl rfl)
theorem dX3_gathers_155 : decode cX3_gathers 155 = .ok (.aload_n 0, 1) := dk_42 (dk_at dksX3_gathers_6 14 rfl rfl)
theorem dX3_gathers_156 : decode cX3_gathers 156 = .ok (.getfield 70, 3) := dk_180 0 70 (dk_at dksX3_gathers_6 15 rfl rfl)
theorem dX3_gathers_159 : decode cX3_gathers 159 = .ok (.iconst 3, 1) := dk_6 (dk_at dksX3_gathers_6 18 rfl rfl)
theorem dX3_gathers_160 : decode cX3_gathers 160 = .ok (.iload 4, 2) := dk_21 4 (dk_at dksX3_gathers_6 19 rfl rfl)
theorem dX3_gathers_162 : decode cX3_gathers 162 = .ok (.imul, 1) := dk_104 (dk_at dksX3_gathers_6 21 rfl rfl)
theorem dX3_gathers_163 : decode cX3_gathers 163 = .ok (.iload_n 1, 1) := dk_27 (dk_at dksX3_gathers_6 22 rfl rfl)
theorem dX3_gathers_164 : decode cX3_gathers 164 = .ok (.iadd, 1) := dk_96 (dk_at dksX3_gathers_6 23 rfl rfl)
theorem dX3_gathers_165 : decode cX3_gathers 165 = .ok (.laload, 1) := dk_47 (dk_at dksX3_gathers_7 0 rfl rfl)
theorem dX3_gathers_166 : decode cX3_gathers 166 = .ok (.aload_n 0, 1) := dk_42 (dk_at dksX3_gathers_7 1 rfl rfl)
theorem dX3_gathers_167 : decode cX3_gathers 167 = .ok (.getfield 70, 3) := dk_180 0 70 (dk_at dksX3_gathers_7 2 rfl rfl)
theorem dX3_gathers_170 : decode cX3_gathers 170 = .ok (.iconst 3, 1) := dk_6 (dk_at dksX3_gathers_7 5 rfl rfl)
theorem dX3_gathers_171 : decode cX3_gathers 171 = .ok (.iload_n 1, 1) := dk_27 (dk_at dksX3_gathers_7 6 rfl rfl)
theorem dX3_gathers_172 : decode cX3_gathers 172 = .ok (.imul, 1) := dk_104 (dk_at dksX3_gathers_7 7 rfl rfl)
theorem dX3_gathers_173 : decode cX3_gathers 173 = .ok (.iload_n 1, 1) := dk_27 (dk_at dksX3_gathers_7 8 rfl rfl)
theorem dX3_gathers_174 : decode cX3_gathers 174 = .ok (.iadd, 1) := dk_96 (dk_at dksX3_gathers_7 9 rfl rfl)
theorem dX3_gathers_175 : decode cX3_gathers 175 = .ok (.laload, 1) := dk_47 (dk_at dksX3_gathers_7 10 rfl rfl)
theorem dX3_gathers_176 : decode cX3_gathers 176 = .ok (.ldiv, 1) := dk_109 (dk_at dksX3_gathers_7 11 rfl rfl)
theorem dX3_gathers_177 : decode cX3_gathers 177 = .ok (.lstore 5, 2) := dk_55 5 (dk_at dksX3_gathers_7 12 rfl rfl)
theorem dX3_gathers_179 : decode cX3_gathers 179 = .ok (.iconst 0, 1) := dk_3 (dk_at dksX3_gathers_7 14 rfl rfl)
theorem dX3_gathers_180 : decode cX3_gathers 180 = .ok (.istore 7, 2) := dk_54 7 (dk_at dksX3_gathers_7 15 rfl rfl)
theorem dX3_gathers_182 : decode cX3_gathers 182 = .ok (.iload 7, 2) := dk_21 7 (dk_at dksX3_gathers_7 17 rfl rfl)
theorem dX3_gathers_184 : decode cX3_gathers 184 = .ok (.iconst 3, 1) := dk_6 (dk_at dksX3_gathers_7 19 rfl rfl)
theorem dX3_gathers_185 : decode cX3_gathers 185 = .ok (.if_icmp .ge 38, 3) := dk_162 0 38 (dk_at dksX3_gathers_7 20 rfl rfl)
theorem dX3_gathers_188 : decode cX3_gathers 188 = .ok (.aload_n 0, 1) := dk_42 (dk_at dksX3_gathers_7 23 rfl rfl)
theorem dX3_gathers_189 : decode cX3_gathers 189 = .ok (.getfield 70, 3) := dk_180 0 70 (dk_at dksX3_gathers_8 0 rfl rfl)
theorem dX3_gathers_192 : decode cX3_gathers 192 = .ok (.iconst 3, 1) := dk_6 (dk_at dksX3_gathers_8 3 rfl rfl)
theorem dX3_gathers_193 : decode cX3_gathers 193 = .ok (.iload 4, 2) := dk_21 4 (dk_at dksX3_gathers_8 4 rfl rfl)
theorem dX3_gathers_195 : decode cX3_gathers 195 = .ok (.imul, 1) := dk_104 (dk_at dksX3_gathers_8 6 rfl rfl)
theorem dX3_gathers_196 : decode cX3_gathers 196 = .ok (.iload 7, 2) := dk_21 7 (dk_at dksX3_gathers_8 7 rfl rfl)
theorem dX3_gathers_198 : decode cX3_gathers 198 = .ok (.iadd, 1) := dk_96 (dk_at dksX3_gathers_8 9 rfl rfl)
theorem dX3_gathers_199 : decode cX3_gathers 199 = .ok (.dup2, 1) := dk_92 (dk_at dksX3_gathers_8 10 rfl rfl)
theorem dX3_gathers_200 : decode cX3_gathers 200 = .ok (.laload, 1) := dk_47 (dk_at dksX3_gathers_8 11 rfl rfl)
theorem dX3_gathers_201 : decode cX3_gathers 201 = .ok (.lload 5, 2) := dk_22 5 (dk_at dksX3_gathers_8 12 rfl rfl)
theorem dX3_gathers_203 : decode cX3_gathers 203 = .ok (.aload_n 0, 1) := dk_42 (dk_at dksX3_gathers_8 14 rfl rfl)
theorem dX3_gathers_204 : decode cX3_gathers 204 = .ok (.getfield 70, 3) := dk_180 0 70 (dk_at dksX3_gathers_8 15 rfl rfl)
theorem dX3_gathers_207 : decode cX3_gathers 207 = .ok (.iconst 3, 1) := dk_6 (dk_at dksX3_gathers_8 18 rfl rfl)
theorem dX3_gathers_208 : decode cX3_gathers 208 = .ok (.iload_n 1, 1) := dk_27 (dk_at dksX3_gathers_8 19 rfl rfl)
theorem dX3_gathers_209 : decode cX3_gathers 209 = .ok (.imul, 1) := dk_104 (dk_at dksX3_gathers_8 20 rfl rfl)
theorem dX3_gathers_210 : decode cX3_gathers 210 = .ok (.iload 7, 2) := dk_21 7 (dk_at dksX3_gathers_8 21 rfl rfl)
theorem dX3_gathers_212 : decode cX3_gathers 212 = .ok (.iadd, 1) := dk_96 (dk_at dksX3_gathers_8 23 rfl rfl)
theorem dX3_gathers_213 : decode cX3_gathers 213 = .ok (.laload, 1) := dk_47 (dk_at dksX3_gathers_9 0 rfl rfl)
theorem dX3_gathers_214 : decode cX3_gathers 214 = .ok (.lmul, 1) := dk_105 (dk_at dksX3_gathers_9 1 rfl rfl)
theorem dX3_gathers_215 : decode cX3_gathers 215 = .ok (.lsub, 1) := dk_101 (dk_at dksX3_gathers_9 2 rfl rfl)
theorem dX3_gathers_216 : decode cX3_gathers 216 = .ok (.lastore, 1) := dk_80 (dk_at dksX3_gathers_9 3 rfl rfl)
theorem dX3_gathers_217 : decode cX3_gathers 217 = .ok (.iinc 7 1, 3) := dk_132 7 1 (dk_at dksX3_gathers_9 4 rfl rfl)
theorem dX3_gathers_220 : decode cX3_gathers 220 = .ok (.goto (-38), 3) := dk_167 255 218 (dk_at dksX3_gathers_9 7 rfl rfl)
theorem dX3_gathers_223 : decode cX3_gathers 223 = .ok (.iload_n 2, 1) := dk_28 (dk_at dksX3_gathers_9 10 rfl rfl)
theorem dX3_gathers_224 : decode cX3_gathers 224 = .ok (.ifCond .ne 19, 3) := dk_154 0 19 (dk_at dksX3_gathers_9 11 rfl rfl)
theorem dX3_gathers_227 : decode cX3_gathers 227 = .ok (.aload_n 0, 1) := dk_42 (dk_at dksX3_gathers_9 14 rfl rfl)
theorem dX3_gathers_228 : decode cX3_gathers 228 = .ok (.getfield 70, 3) := dk_180 0 70 (dk_at dksX3_gathers_9 15 rfl rfl)
theorem dX3_gathers_231 : decode cX3_gathers 231 = .ok (.iconst 3, 1) := dk_6 (dk_at dksX3_gathers_9 18 rfl rfl)
theorem dX3_gathers_232 : decode cX3_gathers 232 = .ok (.iload 4, 2) := dk_21 4 (dk_at dksX3_gathers_9 19 rfl rfl)
theorem dX3_gathers_234 : decode cX3_gathers 234 = .ok (.imul, 1) := dk_104 (dk_at dksX3_gathers_9 21 rfl rfl)
theorem dX3_gathers_235 : decode cX3_gathers 235 = .ok (.iload_n 1, 1) := dk_27 (dk_at dksX3_gathers_9 22 rfl rfl)
theorem dX3_gathers_236 : decode cX3_gathers 236 = .ok (.iadd, 1) := dk_96 (dk_at dksX3_gathers_9 23 rfl rfl)
theorem dX3_gathers_237 : decode cX3_gathers 237 = .ok (.laload, 1) := dk_47 (dk_at dksX3_gathers_10 0 rfl rfl)
theorem dX3_gathers_238 : decode cX3_gathers 238 = .ok (.lconst 0, 1) := dk_9 (dk_at dksX3_gathers_10 1 rfl rfl)
theorem dX3_gathers_239 : decode cX3_gathers 239 = .ok (.lcmp, 1) := dk_148 (dk_at dksX3_gathers_10 2 rfl rfl)
theorem dX3_gathers_240 : decode cX3_gathers 240 = .ok (.ifCond .eq 7, 3) := dk_153 0 7 (dk_at dksX3_gathers_10 3 rfl rfl)
theorem dX3_gathers_243 : decode cX3_gathers 243 = .ok (.iconst 1, 1) := dk_4 (dk_at dksX3_gathers_10 6 rfl rfl)
theorem dX3_gathers_244 : decode cX3_gathers 244 = .ok (.goto 4, 3) := dk_167 0 4 (dk_at dksX3_gathers_10 7 rfl rfl)
theorem dX3_gathers_247 : decode cX3_gathers 247 = .ok (.iconst 0, 1) := dk_3 (dk_at dksX3_gathers_10 10 rfl rfl)
theorem dX3_gathers_248 : decode cX3_gathers 248 = .ok (.istore_n 2, 1) := dk_61 (dk_at dksX3_gathers_10 11 rfl rfl)
theorem dX3_gathers_249 : decode cX3_gathers 249 = .ok (.iinc 4 1, 3) := dk_132 4 1 (dk_at dksX3_gathers_10 12 rfl rfl)
theorem dX3_gathers_252 : decode cX3_gathers 252 = .ok (.goto (-104), 3) := dk_167 255 152 (dk_at dksX3_gathers_10 15 rfl rfl)
theorem dX3_gathers_255 : decode cX3_gathers 255 = .ok (.goto (-253), 3) := dk_167 255 3 (dk_at dksX3_gathers_10 18 rfl rfl)
theorem dX3_gathers_258 : decode cX3_gathers 258 = .ok (.return_, 1) := dk_177 (dk_at dksX3_gathers_10 21 rfl rfl)
abbrev cX3_join : ByteArray := prog_20_method_66_code
def yX3_join : MethodName := ⟨RX3, "join", "(IIII)J"⟩
def dkwX3_join_2 : List UInt8 := [29, 104, 21, 4, 96, 47, 173]
abbrev dktX3_join_2 : List UInt8 := dkwX3_join_2 ++ []
def dkwX3_join_1 : List UInt8 := [20, 0, 244, 173, 21, 5, 156, 0, 7, 21, 5, 133, 173, 42, 27, 28, 182, 1, 73, 42, 180, 0, 36, 6]
abbrev dktX3_join_1 : List UInt8 := dkwX3_join_1 ++ dktX3_join_2
def dkwX3_join_0 : List UInt8 := [42, 27, 28, 182, 1, 67, 54, 5, 21, 5, 16, 254, 159, 0, 12, 29, 21, 4, 184, 0, 214, 154, 0, 7]
abbrev dktX3_join_0 : List UInt8 := dkwX3_join_0 ++ dktX3_join_1
theorem dksX3_join_0 : cX3_join.data.toList.drop 0 = dktX3_join_0 := by decide +kernel
theorem dksX3_join_1 : cX3_join.data.toList.drop 24 = dktX3_join_1 := dk_seg dksX3_join_0 24 rfl rfl
theorem dksX3_join_2 : cX3_join.data.toList.drop 48 = dktX3_join_2 := dk_seg dksX3_join_1 24 rfl rfl
theorem dX3_join_0 : decode cX3_join 0 = .ok (.aload_n 0, 1) := dk_42 (dk_at dksX3_join_0 0 rfl rfl)
theorem dX3_join_1 : decode cX3_join 1 = .ok (.iload_n 1, 1) := dk_27 (dk_at dksX3_join_0 1 rfl rfl)
theorem dX3_join_2 : decode cX3_join 2 = .ok (.iload_n 2, 1) := dk_28 (dk_at dksX3_join_0 2 rfl rfl)
theorem dX3_join_3 : decode cX3_join 3 = .ok (.invokevirtual 323, 3) := dk_182 1 67 (dk_at dksX3_join_0 3 rfl rfl)
theorem dX3_join_6 : decode cX3_join 6 = .ok (.istore 5, 2) := dk_54 5 (dk_at dksX3_join_0 6 rfl rfl)
theorem dX3_join_8 : decode cX3_join 8 = .ok (.iload 5, 2) := dk_21 5 (dk_at dksX3_join_0 8 rfl rfl)
theorem dX3_join_10 : decode cX3_join 10 = .ok (.bipush (-2), 2) := dk_16 254 (dk_at dksX3_join_0 10 rfl rfl)
theorem dX3_join_12 : decode cX3_join 12 = .ok (.if_icmp .eq 12, 3) := dk_159 0 12 (dk_at dksX3_join_0 12 rfl rfl)
theorem dX3_join_15 : decode cX3_join 15 = .ok (.iload_n 3, 1) := dk_29 (dk_at dksX3_join_0 15 rfl rfl)
theorem dX3_join_16 : decode cX3_join 16 = .ok (.iload 4, 2) := dk_21 4 (dk_at dksX3_join_0 16 rfl rfl)
theorem dX3_join_18 : decode cX3_join 18 = .ok (.invokestatic 214, 3) := dk_184 0 214 (dk_at dksX3_join_0 18 rfl rfl)
theorem dX3_join_21 : decode cX3_join 21 = .ok (.ifCond .ne 7, 3) := dk_154 0 7 (dk_at dksX3_join_0 21 rfl rfl)
theorem dX3_join_24 : decode cX3_join 24 = .ok (.ldc2_w 244, 3) := dk_20 0 244 (dk_at dksX3_join_1 0 rfl rfl)
theorem dX3_join_27 : decode cX3_join 27 = .ok (.lreturn, 1) := dk_173 (dk_at dksX3_join_1 3 rfl rfl)
theorem dX3_join_28 : decode cX3_join 28 = .ok (.iload 5, 2) := dk_21 5 (dk_at dksX3_join_1 4 rfl rfl)
theorem dX3_join_30 : decode cX3_join 30 = .ok (.ifCond .ge 7, 3) := dk_156 0 7 (dk_at dksX3_join_1 6 rfl rfl)
theorem dX3_join_33 : decode cX3_join 33 = .ok (.iload 5, 2) := dk_21 5 (dk_at dksX3_join_1 9 rfl rfl)
theorem dX3_join_35 : decode cX3_join 35 = .ok (.i2l, 1) := dk_133 (dk_at dksX3_join_1 11 rfl rfl)
theorem dX3_join_36 : decode cX3_join 36 = .ok (.lreturn, 1) := dk_173 (dk_at dksX3_join_1 12 rfl rfl)
theorem dX3_join_37 : decode cX3_join 37 = .ok (.aload_n 0, 1) := dk_42 (dk_at dksX3_join_1 13 rfl rfl)
theorem dX3_join_38 : decode cX3_join 38 = .ok (.iload_n 1, 1) := dk_27 (dk_at dksX3_join_1 14 rfl rfl)
theorem dX3_join_39 : decode cX3_join 39 = .ok (.iload_n 2, 1) := dk_28 (dk_at dksX3_join_1 15 rfl rfl)
theorem dX3_join_40 : decode cX3_join 40 = .ok (.invokevirtual 329, 3) := dk_182 1 73 (dk_at dksX3_join_1 16 rfl rfl)
theorem dX3_join_43 : decode cX3_join 43 = .ok (.aload_n 0, 1) := dk_42 (dk_at dksX3_join_1 19 rfl rfl)
theorem dX3_join_44 : decode cX3_join 44 = .ok (.getfield 36, 3) := dk_180 0 36 (dk_at dksX3_join_1 20 rfl rfl)
theorem dX3_join_47 : decode cX3_join 47 = .ok (.iconst 3, 1) := dk_6 (dk_at dksX3_join_1 23 rfl rfl)
theorem dX3_join_48 : decode cX3_join 48 = .ok (.iload_n 3, 1) := dk_29 (dk_at dksX3_join_2 0 rfl rfl)
theorem dX3_join_49 : decode cX3_join 49 = .ok (.imul, 1) := dk_104 (dk_at dksX3_join_2 1 rfl rfl)
theorem dX3_join_50 : decode cX3_join 50 = .ok (.iload 4, 2) := dk_21 4 (dk_at dksX3_join_2 2 rfl rfl)
theorem dX3_join_52 : decode cX3_join 52 = .ok (.iadd, 1) := dk_96 (dk_at dksX3_join_2 4 rfl rfl)
theorem dX3_join_53 : decode cX3_join 53 = .ok (.laload, 1) := dk_47 (dk_at dksX3_join_2 5 rfl rfl)
theorem dX3_join_54 : decode cX3_join 54 = .ok (.lreturn, 1) := dk_173 (dk_at dksX3_join_2 6 rfl rfl)
abbrev cX3_index : ByteArray := prog_20_method_68_code
def yX3_index : MethodName := ⟨RX3, "index", "(II)J"⟩
def dkwX3_index_1 : List UInt8 := [184, 0, 1, 173]
abbrev dktX3_index_1 : List UInt8 := dkwX3_index_1 ++ []
def dkwX3_index_0 : List UInt8 := [42, 27, 28, 182, 1, 67, 62, 29, 156, 0, 6, 29, 133, 173, 42, 27, 28, 182, 1, 76, 42, 182, 0, 254]
abbrev dktX3_index_0 : List UInt8 := dkwX3_index_0 ++ dktX3_index_1
theorem dksX3_index_0 : cX3_index.data.toList.drop 0 = dktX3_index_0 := by decide +kernel
theorem dksX3_index_1 : cX3_index.data.toList.drop 24 = dktX3_index_1 := dk_seg dksX3_index_0 24 rfl rfl
theorem dX3_index_0 : decode cX3_index 0 = .ok (.aload_n 0, 1) := dk_42 (dk_at dksX3_index_0 0 rfl rfl)
theorem dX3_index_1 : decode cX3_index 1 = .ok (.iload_n 1, 1) := dk_27 (dk_at dksX3_index_0 1 rfl rfl)
theorem dX3_index_2 : decode cX3_index 2 = .ok (.iload_n 2, 1) := dk_28 (dk_at dksX3_index_0 2 rfl rfl)
theorem dX3_index_3 : decode cX3_index 3 = .ok (.invokevirtual 323, 3) := dk_182 1 67 (dk_at dksX3_index_0 3 rfl rfl)
theorem dX3_index_6 : decode cX3_index 6 = .ok (.istore_n 3, 1) := dk_62 (dk_at dksX3_index_0 6 rfl rfl)
theorem dX3_index_7 : decode cX3_index 7 = .ok (.iload_n 3, 1) := dk_29 (dk_at dksX3_index_0 7 rfl rfl)
theorem dX3_index_8 : decode cX3_index 8 = .ok (.ifCond .ge 6, 3) := dk_156 0 6 (dk_at dksX3_index_0 8 rfl rfl)
theorem dX3_index_11 : decode cX3_index 11 = .ok (.iload_n 3, 1) := dk_29 (dk_at dksX3_index_0 11 rfl rfl)
theorem dX3_index_12 : decode cX3_index 12 = .ok (.i2l, 1) := dk_133 (dk_at dksX3_index_0 12 rfl rfl)
theorem dX3_index_13 : decode cX3_index 13 = .ok (.lreturn, 1) := dk_173 (dk_at dksX3_index_0 13 rfl rfl)
theorem dX3_index_14 : decode cX3_index 14 = .ok (.aload_n 0, 1) := dk_42 (dk_at dksX3_index_0 14 rfl rfl)
theorem dX3_index_15 : decode cX3_index 15 = .ok (.iload_n 1, 1) := dk_27 (dk_at dksX3_index_0 15 rfl rfl)
theorem dX3_index_16 : decode cX3_index 16 = .ok (.iload_n 2, 1) := dk_28 (dk_at dksX3_index_0 16 rfl rfl)
theorem dX3_index_17 : decode cX3_index 17 = .ok (.invokevirtual 332, 3) := dk_182 1 76 (dk_at dksX3_index_0 17 rfl rfl)
theorem dX3_index_20 : decode cX3_index 20 = .ok (.aload_n 0, 1) := dk_42 (dk_at dksX3_index_0 20 rfl rfl)
theorem dX3_index_21 : decode cX3_index 21 = .ok (.invokevirtual 254, 3) := dk_182 0 254 (dk_at dksX3_index_0 21 rfl rfl)
theorem dX3_index_24 : decode cX3_index 24 = .ok (.invokestatic 1, 3) := dk_184 0 1 (dk_at dksX3_index_1 0 rfl rfl)
theorem dX3_index_27 : decode cX3_index 27 = .ok (.lreturn, 1) := dk_173 (dk_at dksX3_index_1 3 rfl rfl)
abbrev cX3_laysTold : ByteArray := prog_20_method_67_code
def yX3_laysTold : MethodName := ⟨RX3, "laysTold", "(II)V"⟩
def dkwX3_laysTold_1 : List UInt8 := [180, 0, 64, 29, 47, 80, 132, 3, 1, 167, 255, 235, 177]
abbrev dktX3_laysTold_1 : List UInt8 := dkwX3_laysTold_1 ++ []
def dkwX3_laysTold_0 : List UInt8 := [42, 27, 28, 182, 1, 58, 42, 182, 1, 61, 3, 62, 29, 16, 9, 162, 0, 21, 42, 180, 0, 36, 29, 42]
abbrev dktX3_laysTold_0 : List UInt8 := dkwX3_laysTold_0 ++ dktX3_laysTold_1
theorem dksX3_laysTold_0 : cX3_laysTold.data.toList.drop 0 = dktX3_laysTold_0 := by decide +kernel
theorem dksX3_laysTold_1 : cX3_laysTold.data.toList.drop 24 = dktX3_laysTold_1 := dk_seg dksX3_laysTold_0 24 rfl rfl
theorem dX3_laysTold_0 : decode cX3_laysTold 0 = .ok (.aload_n 0, 1) := dk_42 (dk_at dksX3_laysTold_0 0 rfl rfl)
theorem dX3_laysTold_1 : decode cX3_laysTold 1 = .ok (.iload_n 1, 1) := dk_27 (dk_at dksX3_laysTold_0 1 rfl rfl)
theorem dX3_laysTold_2 : decode cX3_laysTold 2 = .ok (.iload_n 2, 1) := dk_28 (dk_at dksX3_laysTold_0 2 rfl rfl)
theorem dX3_laysTold_3 : decode cX3_laysTold 3 = .ok (.invokevirtual 314, 3) := dk_182 1 58 (dk_at dksX3_laysTold_0 3 rfl rfl)
theorem dX3_laysTold_6 : decode cX3_laysTold 6 = .ok (.aload_n 0, 1) := dk_42 (dk_at dksX3_laysTold_0 6 rfl rfl)
theorem dX3_laysTold_7 : decode cX3_laysTold 7 = .ok (.invokevirtual 317, 3) := dk_182 1 61 (dk_at dksX3_laysTold_0 7 rfl rfl)
theorem dX3_laysTold_10 : decode cX3_laysTold 10 = .ok (.iconst 0, 1) := dk_3 (dk_at dksX3_laysTold_0 10 rfl rfl)
theorem dX3_laysTold_11 : decode cX3_laysTold 11 = .ok (.istore_n 3, 1) := dk_62 (dk_at dksX3_laysTold_0 11 rfl rfl)
theorem dX3_laysTold_12 : decode cX3_laysTold 12 = .ok (.iload_n 3, 1) := dk_29 (dk_at dksX3_laysTold_0 12 rfl rfl)
theorem dX3_laysTold_13 : decode cX3_laysTold 13 = .ok (.bipush 9, 2) := dk_16 9 (dk_at dksX3_laysTold_0 13 rfl rfl)
theorem dX3_laysTold_15 : decode cX3_laysTold 15 = .ok (.if_icmp .ge 21, 3) := dk_162 0 21 (dk_at dksX3_laysTold_0 15 rfl rfl)
theorem dX3_laysTold_18 : decode cX3_laysTold 18 = .ok (.aload_n 0, 1) := dk_42 (dk_at dksX3_laysTold_0 18 rfl rfl)
theorem dX3_laysTold_19 : decode cX3_laysTold 19 = .ok (.getfield 36, 3) := dk_180 0 36 (dk_at dksX3_laysTold_0 19 rfl rfl)
theorem dX3_laysTold_22 : decode cX3_laysTold 22 = .ok (.iload_n 3, 1) := dk_29 (dk_at dksX3_laysTold_0 22 rfl rfl)
theorem dX3_laysTold_23 : decode cX3_laysTold 23 = .ok (.aload_n 0, 1) := dk_42 (dk_at dksX3_laysTold_0 23 rfl rfl)
theorem dX3_laysTold_24 : decode cX3_laysTold 24 = .ok (.getfield 64, 3) := dk_180 0 64 (dk_at dksX3_laysTold_1 0 rfl rfl)
theorem dX3_laysTold_27 : decode cX3_laysTold 27 = .ok (.iload_n 3, 1) := dk_29 (dk_at dksX3_laysTold_1 3 rfl rfl)
theorem dX3_laysTold_28 : decode cX3_laysTold 28 = .ok (.laload, 1) := dk_47 (dk_at dksX3_laysTold_1 4 rfl rfl)
theorem dX3_laysTold_29 : decode cX3_laysTold 29 = .ok (.lastore, 1) := dk_80 (dk_at dksX3_laysTold_1 5 rfl rfl)
theorem dX3_laysTold_30 : decode cX3_laysTold 30 = .ok (.iinc 3 1, 3) := dk_132 3 1 (dk_at dksX3_laysTold_1 6 rfl rfl)
theorem dX3_laysTold_33 : decode cX3_laysTold 33 = .ok (.goto (-21), 3) := dk_167 255 235 (dk_at dksX3_laysTold_1 9 rfl rfl)
theorem dX3_laysTold_36 : decode cX3_laysTold 36 = .ok (.return_, 1) := dk_177 (dk_at dksX3_laysTold_1 12 rfl rfl)
abbrev cX3_group : ByteArray := prog_20_method_69_code
def yX3_group : MethodName := ⟨RX3, "group", "(III)J"⟩
def dkwX3_group_2 : List UInt8 := [182, 1, 6, 173]
abbrev dktX3_group_2 : List UInt8 := dkwX3_group_2 ++ []
def dkwX3_group_1 : List UInt8 := [154, 0, 7, 20, 0, 252, 173, 21, 4, 156, 0, 7, 21, 4, 133, 173, 42, 27, 28, 182, 1, 76, 42, 29]
abbrev dktX3_group_1 : List UInt8 := dkwX3_group_1 ++ dktX3_group_2
def dkwX3_group_0 : List UInt8 := [42, 27, 28, 182, 1, 67, 54, 4, 21, 4, 16, 254, 159, 0, 15, 29, 133, 9, 20, 0, 202, 184, 0, 88]
abbrev dktX3_group_0 : List UInt8 := dkwX3_group_0 ++ dktX3_group_1
theorem dksX3_group_0 : cX3_group.data.toList.drop 0 = dktX3_group_0 := by decide +kernel
theorem dksX3_group_1 : cX3_group.data.toList.drop 24 = dktX3_group_1 := dk_seg dksX3_group_0 24 rfl rfl
theorem dksX3_group_2 : cX3_group.data.toList.drop 48 = dktX3_group_2 := dk_seg dksX3_group_1 24 rfl rfl
theorem dX3_group_0 : decode cX3_group 0 = .ok (.aload_n 0, 1) := dk_42 (dk_at dksX3_group_0 0 rfl rfl)
theorem dX3_group_1 : decode cX3_group 1 = .ok (.iload_n 1, 1) := dk_27 (dk_at dksX3_group_0 1 rfl rfl)
theorem dX3_group_2 : decode cX3_group 2 = .ok (.iload_n 2, 1) := dk_28 (dk_at dksX3_group_0 2 rfl rfl)
theorem dX3_group_3 : decode cX3_group 3 = .ok (.invokevirtual 323, 3) := dk_182 1 67 (dk_at dksX3_group_0 3 rfl rfl)
theorem dX3_group_6 : decode cX3_group 6 = .ok (.istore 4, 2) := dk_54 4 (dk_at dksX3_group_0 6 rfl rfl)
theorem dX3_group_8 : decode cX3_group 8 = .ok (.iload 4, 2) := dk_21 4 (dk_at dksX3_group_0 8 rfl rfl)
theorem dX3_group_10 : decode cX3_group 10 = .ok (.bipush (-2), 2) := dk_16 254 (dk_at dksX3_group_0 10 rfl rfl)
theorem dX3_group_12 : decode cX3_group 12 = .ok (.if_icmp .eq 15, 3) := dk_159 0 15 (dk_at dksX3_group_0 12 rfl rfl)
theorem dX3_group_15 : decode cX3_group 15 = .ok (.iload_n 3, 1) := dk_29 (dk_at dksX3_group_0 15 rfl rfl)
theorem dX3_group_16 : decode cX3_group 16 = .ok (.i2l, 1) := dk_133 (dk_at dksX3_group_0 16 rfl rfl)
theorem dX3_group_17 : decode cX3_group 17 = .ok (.lconst 0, 1) := dk_9 (dk_at dksX3_group_0 17 rfl rfl)
theorem dX3_group_18 : decode cX3_group 18 = .ok (.ldc2_w 202, 3) := dk_20 0 202 (dk_at dksX3_group_0 18 rfl rfl)
theorem dX3_group_21 : decode cX3_group 21 = .ok (.invokestatic 88, 3) := dk_184 0 88 (dk_at dksX3_group_0 21 rfl rfl)
theorem dX3_group_24 : decode cX3_group 24 = .ok (.ifCond .ne 7, 3) := dk_154 0 7 (dk_at dksX3_group_1 0 rfl rfl)
theorem dX3_group_27 : decode cX3_group 27 = .ok (.ldc2_w 252, 3) := dk_20 0 252 (dk_at dksX3_group_1 3 rfl rfl)
theorem dX3_group_30 : decode cX3_group 30 = .ok (.lreturn, 1) := dk_173 (dk_at dksX3_group_1 6 rfl rfl)
theorem dX3_group_31 : decode cX3_group 31 = .ok (.iload 4, 2) := dk_21 4 (dk_at dksX3_group_1 7 rfl rfl)
theorem dX3_group_33 : decode cX3_group 33 = .ok (.ifCond .ge 7, 3) := dk_156 0 7 (dk_at dksX3_group_1 9 rfl rfl)
theorem dX3_group_36 : decode cX3_group 36 = .ok (.iload 4, 2) := dk_21 4 (dk_at dksX3_group_1 12 rfl rfl)
theorem dX3_group_38 : decode cX3_group 38 = .ok (.i2l, 1) := dk_133 (dk_at dksX3_group_1 14 rfl rfl)
theorem dX3_group_39 : decode cX3_group 39 = .ok (.lreturn, 1) := dk_173 (dk_at dksX3_group_1 15 rfl rfl)
theorem dX3_group_40 : decode cX3_group 40 = .ok (.aload_n 0, 1) := dk_42 (dk_at dksX3_group_1 16 rfl rfl)
theorem dX3_group_41 : decode cX3_group 41 = .ok (.iload_n 1, 1) := dk_27 (dk_at dksX3_group_1 17 rfl rfl)
theorem dX3_group_42 : decode cX3_group 42 = .ok (.iload_n 2, 1) := dk_28 (dk_at dksX3_group_1 18 rfl rfl)
theorem dX3_group_43 : decode cX3_group 43 = .ok (.invokevirtual 332, 3) := dk_182 1 76 (dk_at dksX3_group_1 19 rfl rfl)
theorem dX3_group_46 : decode cX3_group 46 = .ok (.aload_n 0, 1) := dk_42 (dk_at dksX3_group_1 22 rfl rfl)
theorem dX3_group_47 : decode cX3_group 47 = .ok (.iload_n 3, 1) := dk_29 (dk_at dksX3_group_1 23 rfl rfl)
theorem dX3_group_48 : decode cX3_group 48 = .ok (.invokevirtual 262, 3) := dk_182 1 6 (dk_at dksX3_group_2 0 rfl rfl)
theorem dX3_group_51 : decode cX3_group 51 = .ok (.lreturn, 1) := dk_173 (dk_at dksX3_group_2 3 rfl rfl)
abbrev cX3_met : ByteArray := prog_20_method_71_code
def yX3_met : MethodName := ⟨RX3, "met", "(IIIIII)I"⟩
def dkwX3_met_1 : List UInt8 := [28, 29, 133, 21, 4, 133, 21, 5, 133, 21, 6, 133, 182, 1, 23, 153, 0, 7, 4, 167, 0, 4, 3, 172]
abbrev dktX3_met_1 : List UInt8 := dkwX3_met_1 ++ []
def dkwX3_met_0 : List UInt8 := [42, 27, 28, 29, 21, 4, 21, 5, 21, 6, 182, 1, 79, 54, 7, 21, 7, 156, 0, 6, 21, 7, 172, 42]
abbrev dktX3_met_0 : List UInt8 := dkwX3_met_0 ++ dktX3_met_1
theorem dksX3_met_0 : cX3_met.data.toList.drop 0 = dktX3_met_0 := by decide +kernel
theorem dksX3_met_1 : cX3_met.data.toList.drop 24 = dktX3_met_1 := dk_seg dksX3_met_0 24 rfl rfl
theorem dX3_met_0 : decode cX3_met 0 = .ok (.aload_n 0, 1) := dk_42 (dk_at dksX3_met_0 0 rfl rfl)
theorem dX3_met_1 : decode cX3_met 1 = .ok (.iload_n 1, 1) := dk_27 (dk_at dksX3_met_0 1 rfl rfl)
theorem dX3_met_2 : decode cX3_met 2 = .ok (.iload_n 2, 1) := dk_28 (dk_at dksX3_met_0 2 rfl rfl)
theorem dX3_met_3 : decode cX3_met 3 = .ok (.iload_n 3, 1) := dk_29 (dk_at dksX3_met_0 3 rfl rfl)
theorem dX3_met_4 : decode cX3_met 4 = .ok (.iload 4, 2) := dk_21 4 (dk_at dksX3_met_0 4 rfl rfl)
theorem dX3_met_6 : decode cX3_met 6 = .ok (.iload 5, 2) := dk_21 5 (dk_at dksX3_met_0 6 rfl rfl)
theorem dX3_met_8 : decode cX3_met 8 = .ok (.iload 6, 2) := dk_21 6 (dk_at dksX3_met_0 8 rfl rfl)
theorem dX3_met_10 : decode cX3_met 10 = .ok (.invokevirtual 335, 3) := dk_182 1 79 (dk_at dksX3_met_0 10 rfl rfl)
theorem dX3_met_13 : decode cX3_met 13 = .ok (.istore 7, 2) := dk_54 7 (dk_at dksX3_met_0 13 rfl rfl)
theorem dX3_met_15 : decode cX3_met 15 = .ok (.iload 7, 2) := dk_21 7 (dk_at dksX3_met_0 15 rfl rfl)
theorem dX3_met_17 : decode cX3_met 17 = .ok (.ifCond .ge 6, 3) := dk_156 0 6 (dk_at dksX3_met_0 17 rfl rfl)
theorem dX3_met_20 : decode cX3_met 20 = .ok (.iload 7, 2) := dk_21 7 (dk_at dksX3_met_0 20 rfl rfl)
theorem dX3_met_22 : decode cX3_met 22 = .ok (.ireturn, 1) := dk_172 (dk_at dksX3_met_0 22 rfl rfl)
theorem dX3_met_23 : decode cX3_met 23 = .ok (.aload_n 0, 1) := dk_42 (dk_at dksX3_met_0 23 rfl rfl)
theorem dX3_met_24 : decode cX3_met 24 = .ok (.iload_n 2, 1) := dk_28 (dk_at dksX3_met_1 0 rfl rfl)
theorem dX3_met_25 : decode cX3_met 25 = .ok (.iload_n 3, 1) := dk_29 (dk_at dksX3_met_1 1 rfl rfl)
theorem dX3_met_26 : decode cX3_met 26 = .ok (.i2l, 1) := dk_133 (dk_at dksX3_met_1 2 rfl rfl)
theorem dX3_met_27 : decode cX3_met 27 = .ok (.iload 4, 2) := dk_21 4 (dk_at dksX3_met_1 3 rfl rfl)
theorem dX3_met_29 : decode cX3_met 29 = .ok (.i2l, 1) := dk_133 (dk_at dksX3_met_1 5 rfl rfl)
theorem dX3_met_30 : decode cX3_met 30 = .ok (.iload 5, 2) := dk_21 5 (dk_at dksX3_met_1 6 rfl rfl)
theorem dX3_met_32 : decode cX3_met 32 = .ok (.i2l, 1) := dk_133 (dk_at dksX3_met_1 8 rfl rfl)
theorem dX3_met_33 : decode cX3_met 33 = .ok (.iload 6, 2) := dk_21 6 (dk_at dksX3_met_1 9 rfl rfl)
theorem dX3_met_35 : decode cX3_met 35 = .ok (.i2l, 1) := dk_133 (dk_at dksX3_met_1 11 rfl rfl)
theorem dX3_met_36 : decode cX3_met 36 = .ok (.invokevirtual 279, 3) := dk_182 1 23 (dk_at dksX3_met_1 12 rfl rfl)
theorem dX3_met_39 : decode cX3_met 39 = .ok (.ifCond .eq 7, 3) := dk_153 0 7 (dk_at dksX3_met_1 15 rfl rfl)
theorem dX3_met_42 : decode cX3_met 42 = .ok (.iconst 1, 1) := dk_4 (dk_at dksX3_met_1 18 rfl rfl)
theorem dX3_met_43 : decode cX3_met 43 = .ok (.goto 4, 3) := dk_167 0 4 (dk_at dksX3_met_1 19 rfl rfl)
theorem dX3_met_46 : decode cX3_met 46 = .ok (.iconst 0, 1) := dk_3 (dk_at dksX3_met_1 22 rfl rfl)
theorem dX3_met_47 : decode cX3_met 47 = .ok (.ireturn, 1) := dk_172 (dk_at dksX3_met_1 23 rfl rfl)
abbrev cX3_whyNoPoint : ByteArray := prog_20_method_70_code
def yX3_whyNoPoint : MethodName := ⟨RX3, "whyNoPoint", "(IIIIII)I"⟩
def dkwX3_whyNoPoint_2 : List UInt8 := [21, 4, 133, 21, 5, 133, 21, 6, 133, 182, 1, 23, 153, 0, 7, 3, 167, 0, 5, 16, 254, 172]
abbrev dktX3_whyNoPoint_2 : List UInt8 := dkwX3_whyNoPoint_2 ++ []
def dkwX3_whyNoPoint_1 : List UInt8 := [184, 1, 19, 154, 0, 6, 16, 254, 172, 21, 7, 156, 0, 8, 21, 7, 167, 0, 28, 42, 27, 29, 133]
abbrev dktX3_whyNoPoint_1 : List UInt8 := dkwX3_whyNoPoint_1 ++ dktX3_whyNoPoint_2
def dkwX3_whyNoPoint_0 : List UInt8 := [42, 27, 28, 182, 1, 67, 54, 7, 21, 7, 16, 254, 159, 0, 16, 29, 21, 4, 21, 5, 21, 6]
abbrev dktX3_whyNoPoint_0 : List UInt8 := dkwX3_whyNoPoint_0 ++ dktX3_whyNoPoint_1
theorem dksX3_whyNoPoint_0 : cX3_whyNoPoint.data.toList.drop 0 = dktX3_whyNoPoint_0 := by decide +kernel
theorem dksX3_whyNoPoint_1 : cX3_whyNoPoint.data.toList.drop 22 = dktX3_whyNoPoint_1 := dk_seg dksX3_whyNoPoint_0 22 rfl rfl
theorem dksX3_whyNoPoint_2 : cX3_whyNoPoint.data.toList.drop 45 = dktX3_whyNoPoint_2 := dk_seg dksX3_whyNoPoint_1 23 rfl rfl
theorem dX3_whyNoPoint_0 : decode cX3_whyNoPoint 0 = .ok (.aload_n 0, 1) := dk_42 (dk_at dksX3_whyNoPoint_0 0 rfl rfl)
theorem dX3_whyNoPoint_1 : decode cX3_whyNoPoint 1 = .ok (.iload_n 1, 1) := dk_27 (dk_at dksX3_whyNoPoint_0 1 rfl rfl)
theorem dX3_whyNoPoint_2 : decode cX3_whyNoPoint 2 = .ok (.iload_n 2, 1) := dk_28 (dk_at dksX3_whyNoPoint_0 2 rfl rfl)
theorem dX3_whyNoPoint_3 : decode cX3_whyNoPoint 3 = .ok (.invokevirtual 323, 3) := dk_182 1 67 (dk_at dksX3_whyNoPoint_0 3 rfl rfl)
theorem dX3_whyNoPoint_6 : decode cX3_whyNoPoint 6 = .ok (.istore 7, 2) := dk_54 7 (dk_at dksX3_whyNoPoint_0 6 rfl rfl)
theorem dX3_whyNoPoint_8 : decode cX3_whyNoPoint 8 = .ok (.iload 7, 2) := dk_21 7 (dk_at dksX3_whyNoPoint_0 8 rfl rfl)
theorem dX3_whyNoPoint_10 : decode cX3_whyNoPoint 10 = .ok (.bipush (-2), 2) := dk_16 254 (dk_at dksX3_whyNoPoint_0 10 rfl rfl)
theorem dX3_whyNoPoint_12 : decode cX3_whyNoPoint 12 = .ok (.if_icmp .eq 16, 3) := dk_159 0 16 (dk_at dksX3_whyNoPoint_0 12 rfl rfl)
theorem dX3_whyNoPoint_15 : decode cX3_whyNoPoint 15 = .ok (.iload_n 3, 1) := dk_29 (dk_at dksX3_whyNoPoint_0 15 rfl rfl)
theorem dX3_whyNoPoint_16 : decode cX3_whyNoPoint 16 = .ok (.iload 4, 2) := dk_21 4 (dk_at dksX3_whyNoPoint_0 16 rfl rfl)
theorem dX3_whyNoPoint_18 : decode cX3_whyNoPoint 18 = .ok (.iload 5, 2) := dk_21 5 (dk_at dksX3_whyNoPoint_0 18 rfl rfl)
theorem dX3_whyNoPoint_20 : decode cX3_whyNoPoint 20 = .ok (.iload 6, 2) := dk_21 6 (dk_at dksX3_whyNoPoint_0 20 rfl rfl)
theorem dX3_whyNoPoint_22 : decode cX3_whyNoPoint 22 = .ok (.invokestatic 275, 3) := dk_184 1 19 (dk_at dksX3_whyNoPoint_1 0 rfl rfl)
theorem dX3_whyNoPoint_25 : decode cX3_whyNoPoint 25 = .ok (.ifCond .ne 6, 3) := dk_154 0 6 (dk_at dksX3_whyNoPoint_1 3 rfl rfl)
theorem dX3_whyNoPoint_28 : decode cX3_whyNoPoint 28 = .ok (.bipush (-2), 2) := dk_16 254 (dk_at dksX3_whyNoPoint_1 6 rfl rfl)
theorem dX3_whyNoPoint_30 : decode cX3_whyNoPoint 30 = .ok (.ireturn, 1) := dk_172 (dk_at dksX3_whyNoPoint_1 8 rfl rfl)
theorem dX3_whyNoPoint_31 : decode cX3_whyNoPoint 31 = .ok (.iload 7, 2) := dk_21 7 (dk_at dksX3_whyNoPoint_1 9 rfl rfl)
theorem dX3_whyNoPoint_33 : decode cX3_whyNoPoint 33 = .ok (.ifCond .ge 8, 3) := dk_156 0 8 (dk_at dksX3_whyNoPoint_1 11 rfl rfl)
theorem dX3_whyNoPoint_36 : decode cX3_whyNoPoint 36 = .ok (.iload 7, 2) := dk_21 7 (dk_at dksX3_whyNoPoint_1 14 rfl rfl)
theorem dX3_whyNoPoint_38 : decode cX3_whyNoPoint 38 = .ok (.goto 28, 3) := dk_167 0 28 (dk_at dksX3_whyNoPoint_1 16 rfl rfl)
theorem dX3_whyNoPoint_41 : decode cX3_whyNoPoint 41 = .ok (.aload_n 0, 1) := dk_42 (dk_at dksX3_whyNoPoint_1 19 rfl rfl)
theorem dX3_whyNoPoint_42 : decode cX3_whyNoPoint 42 = .ok (.iload_n 1, 1) := dk_27 (dk_at dksX3_whyNoPoint_1 20 rfl rfl)
theorem dX3_whyNoPoint_43 : decode cX3_whyNoPoint 43 = .ok (.iload_n 3, 1) := dk_29 (dk_at dksX3_whyNoPoint_1 21 rfl rfl)
theorem dX3_whyNoPoint_44 : decode cX3_whyNoPoint 44 = .ok (.i2l, 1) := dk_133 (dk_at dksX3_whyNoPoint_1 22 rfl rfl)
theorem dX3_whyNoPoint_45 : decode cX3_whyNoPoint 45 = .ok (.iload 4, 2) := dk_21 4 (dk_at dksX3_whyNoPoint_2 0 rfl rfl)
theorem dX3_whyNoPoint_47 : decode cX3_whyNoPoint 47 = .ok (.i2l, 1) := dk_133 (dk_at dksX3_whyNoPoint_2 2 rfl rfl)
theorem dX3_whyNoPoint_48 : decode cX3_whyNoPoint 48 = .ok (.iload 5, 2) := dk_21 5 (dk_at dksX3_whyNoPoint_2 3 rfl rfl)
theorem dX3_whyNoPoint_50 : decode cX3_whyNoPoint 50 = .ok (.i2l, 1) := dk_133 (dk_at dksX3_whyNoPoint_2 5 rfl rfl)
theorem dX3_whyNoPoint_51 : decode cX3_whyNoPoint 51 = .ok (.iload 6, 2) := dk_21 6 (dk_at dksX3_whyNoPoint_2 6 rfl rfl)
theorem dX3_whyNoPoint_53 : decode cX3_whyNoPoint 53 = .ok (.i2l, 1) := dk_133 (dk_at dksX3_whyNoPoint_2 8 rfl rfl)
theorem dX3_whyNoPoint_54 : decode cX3_whyNoPoint 54 = .ok (.invokevirtual 279, 3) := dk_182 1 23 (dk_at dksX3_whyNoPoint_2 9 rfl rfl)
theorem dX3_whyNoPoint_57 : decode cX3_whyNoPoint 57 = .ok (.ifCond .eq 7, 3) := dk_153 0 7 (dk_at dksX3_whyNoPoint_2 12 rfl rfl)
theorem dX3_whyNoPoint_60 : decode cX3_whyNoPoint 60 = .ok (.iconst 0, 1) := dk_3 (dk_at dksX3_whyNoPoint_2 15 rfl rfl)
theorem dX3_whyNoPoint_61 : decode cX3_whyNoPoint 61 = .ok (.goto 5, 3) := dk_167 0 5 (dk_at dksX3_whyNoPoint_2 16 rfl rfl)
theorem dX3_whyNoPoint_64 : decode cX3_whyNoPoint 64 = .ok (.bipush (-2), 2) := dk_16 254 (dk_at dksX3_whyNoPoint_2 19 rfl rfl)
theorem dX3_whyNoPoint_66 : decode cX3_whyNoPoint 66 = .ok (.ireturn, 1) := dk_172 (dk_at dksX3_whyNoPoint_2 21 rfl rfl)
abbrev cX3_order : ByteArray := prog_20_method_72_code
def yX3_order : MethodName := ⟨RX3, "order", "(IIIIII)I"⟩
def dkwX3_order_3 : List UInt8 := [21, 8, 172]
abbrev dktX3_order_3 : List UInt8 := dkwX3_order_3 ++ []
def dkwX3_order_2 : List UInt8 := [105, 21, 8, 133, 21, 5, 133, 105, 21, 6, 133, 182, 1, 9, 154, 0, 9, 132, 8, 1, 167, 255, 223]
abbrev dktX3_order_2 : List UInt8 := dkwX3_order_2 ++ dktX3_order_3
def dkwX3_order_1 : List UInt8 := [54, 8, 42, 28, 182, 0, 217, 42, 182, 0, 246, 42, 21, 8, 133, 29, 133, 105, 21, 8, 133, 21, 4, 133]
abbrev dktX3_order_1 : List UInt8 := dkwX3_order_1 ++ dktX3_order_2
def dkwX3_order_0 : List UInt8 := [42, 27, 28, 29, 21, 4, 21, 5, 21, 6, 182, 1, 79, 54, 7, 21, 7, 156, 0, 6, 21, 7, 172, 4]
abbrev dktX3_order_0 : List UInt8 := dkwX3_order_0 ++ dktX3_order_1
theorem dksX3_order_0 : cX3_order.data.toList.drop 0 = dktX3_order_0 := by decide +kernel
theorem dksX3_order_1 : cX3_order.data.toList.drop 24 = dktX3_order_1 := dk_seg dksX3_order_0 24 rfl rfl
theorem dksX3_order_2 : cX3_order.data.toList.drop 48 = dktX3_order_2 := dk_seg dksX3_order_1 24 rfl rfl
theorem dksX3_order_3 : cX3_order.data.toList.drop 71 = dktX3_order_3 := dk_seg dksX3_order_2 23 rfl rfl
theorem dX3_order_0 : decode cX3_order 0 = .ok (.aload_n 0, 1) := dk_42 (dk_at dksX3_order_0 0 rfl rfl)
theorem dX3_order_1 : decode cX3_order 1 = .ok (.iload_n 1, 1) := dk_27 (dk_at dksX3_order_0 1 rfl rfl)
theorem dX3_order_2 : decode cX3_order 2 = .ok (.iload_n 2, 1) := dk_28 (dk_at dksX3_order_0 2 rfl rfl)
theorem dX3_order_3 : decode cX3_order 3 = .ok (.iload_n 3, 1) := dk_29 (dk_at dksX3_order_0 3 rfl rfl)
theorem dX3_order_4 : decode cX3_order 4 = .ok (.iload 4, 2) := dk_21 4 (dk_at dksX3_order_0 4 rfl rfl)
theorem dX3_order_6 : decode cX3_order 6 = .ok (.iload 5, 2) := dk_21 5 (dk_at dksX3_order_0 6 rfl rfl)
theorem dX3_order_8 : decode cX3_order 8 = .ok (.iload 6, 2) := dk_21 6 (dk_at dksX3_order_0 8 rfl rfl)
theorem dX3_order_10 : decode cX3_order 10 = .ok (.invokevirtual 335, 3) := dk_182 1 79 (dk_at dksX3_order_0 10 rfl rfl)
theorem dX3_order_13 : decode cX3_order 13 = .ok (.istore 7, 2) := dk_54 7 (dk_at dksX3_order_0 13 rfl rfl)
theorem dX3_order_15 : decode cX3_order 15 = .ok (.iload 7, 2) := dk_21 7 (dk_at dksX3_order_0 15 rfl rfl)
theorem dX3_order_17 : decode cX3_order 17 = .ok (.ifCond .ge 6, 3) := dk_156 0 6 (dk_at dksX3_order_0 17 rfl rfl)
theorem dX3_order_20 : decode cX3_order 20 = .ok (.iload 7, 2) := dk_21 7 (dk_at dksX3_order_0 20 rfl rfl)
theorem dX3_order_22 : decode cX3_order 22 = .ok (.ireturn, 1) := dk_172 (dk_at dksX3_order_0 22 rfl rfl)
theorem dX3_order_23 : decode cX3_order 23 = .ok (.iconst 1, 1) := dk_4 (dk_at dksX3_order_0 23 rfl rfl)
theorem dX3_order_24 : decode cX3_order 24 = .ok (.istore 8, 2) := dk_54 8 (dk_at dksX3_order_1 0 rfl rfl)
theorem dX3_order_26 : decode cX3_order 26 = .ok (.aload_n 0, 1) := dk_42 (dk_at dksX3_order_1 2 rfl rfl)
theorem dX3_order_27 : decode cX3_order 27 = .ok (.iload_n 2, 1) := dk_28 (dk_at dksX3_order_1 3 rfl rfl)
theorem dX3_order_28 : decode cX3_order 28 = .ok (.invokevirtual 217, 3) := dk_182 0 217 (dk_at dksX3_order_1 4 rfl rfl)
theorem dX3_order_31 : decode cX3_order 31 = .ok (.aload_n 0, 1) := dk_42 (dk_at dksX3_order_1 7 rfl rfl)
theorem dX3_order_32 : decode cX3_order 32 = .ok (.invokevirtual 246, 3) := dk_182 0 246 (dk_at dksX3_order_1 8 rfl rfl)
theorem dX3_order_35 : decode cX3_order 35 = .ok (.aload_n 0, 1) := dk_42 (dk_at dksX3_order_1 11 rfl rfl)
theorem dX3_order_36 : decode cX3_order 36 = .ok (.iload 8, 2) := dk_21 8 (dk_at dksX3_order_1 12 rfl rfl)
theorem dX3_order_38 : decode cX3_order 38 = .ok (.i2l, 1) := dk_133 (dk_at dksX3_order_1 14 rfl rfl)
theorem dX3_order_39 : decode cX3_order 39 = .ok (.iload_n 3, 1) := dk_29 (dk_at dksX3_order_1 15 rfl rfl)
theorem dX3_order_40 : decode cX3_order 40 = .ok (.i2l, 1) := dk_133 (dk_at dksX3_order_1 16 rfl rfl)
theorem dX3_order_41 : decode cX3_order 41 = .ok (.lmul, 1) := dk_105 (dk_at dksX3_order_1 17 rfl rfl)
theorem dX3_order_42 : decode cX3_order 42 = .ok (.iload 8, 2) := dk_21 8 (dk_at dksX3_order_1 18 rfl rfl)
theorem dX3_order_44 : decode cX3_order 44 = .ok (.i2l, 1) := dk_133 (dk_at dksX3_order_1 20 rfl rfl)
theorem dX3_order_45 : decode cX3_order 45 = .ok (.iload 4, 2) := dk_21 4 (dk_at dksX3_order_1 21 rfl rfl)
theorem dX3_order_47 : decode cX3_order 47 = .ok (.i2l, 1) := dk_133 (dk_at dksX3_order_1 23 rfl rfl)
theorem dX3_order_48 : decode cX3_order 48 = .ok (.lmul, 1) := dk_105 (dk_at dksX3_order_2 0 rfl rfl)
theorem dX3_order_49 : decode cX3_order 49 = .ok (.iload 8, 2) := dk_21 8 (dk_at dksX3_order_2 1 rfl rfl)
theorem dX3_order_51 : decode cX3_order 51 = .ok (.i2l, 1) := dk_133 (dk_at dksX3_order_2 3 rfl rfl)
theorem dX3_order_52 : decode cX3_order 52 = .ok (.iload 5, 2) := dk_21 5 (dk_at dksX3_order_2 4 rfl rfl)
theorem dX3_order_54 : decode cX3_order 54 = .ok (.i2l, 1) := dk_133 (dk_at dksX3_order_2 6 rfl rfl)
theorem dX3_order_55 : decode cX3_order 55 = .ok (.lmul, 1) := dk_105 (dk_at dksX3_order_2 7 rfl rfl)
theorem dX3_order_56 : decode cX3_order 56 = .ok (.iload 6, 2) := dk_21 6 (dk_at dksX3_order_2 8 rfl rfl)
theorem dX3_order_58 : decode cX3_order 58 = .ok (.i2l, 1) := dk_133 (dk_at dksX3_order_2 10 rfl rfl)
theorem dX3_order_59 : decode cX3_order 59 = .ok (.invokevirtual 265, 3) := dk_182 1 9 (dk_at dksX3_order_2 11 rfl rfl)
theorem dX3_order_62 : decode cX3_order 62 = .ok (.ifCond .ne 9, 3) := dk_154 0 9 (dk_at dksX3_order_2 14 rfl rfl)
theorem dX3_order_65 : decode cX3_order 65 = .ok (.iinc 8 1, 3) := dk_132 8 1 (dk_at dksX3_order_2 17 rfl rfl)
theorem dX3_order_68 : decode cX3_order 68 = .ok (.goto (-33), 3) := dk_167 255 223 (dk_at dksX3_order_2 20 rfl rfl)
theorem dX3_order_71 : decode cX3_order 71 = .ok (.iload 8, 2) := dk_21 8 (dk_at dksX3_order_3 0 rfl rfl)
theorem dX3_order_73 : decode cX3_order 73 = .ok (.ireturn, 1) := dk_172 (dk_at dksX3_order_3 2 rfl rfl)
abbrev cX3_cosine : ByteArray := prog_20_method_73_code
def yX3_cosine : MethodName := ⟨RX3, "cosine", "(II)I"⟩
def dkwX3_cosine_5 : List UInt8 := [96, 133, 28, 184, 1, 2, 136, 172]
abbrev dktX3_cosine_5 : List UInt8 := dkwX3_cosine_5 ++ []
def dkwX3_cosine_4 : List UInt8 := [180, 0, 13, 29, 46, 42, 180, 0, 13, 29, 46, 104, 54, 5, 21, 5, 21, 4, 100, 133, 21, 5, 21, 4]
abbrev dktX3_cosine_4 : List UInt8 := dkwX3_cosine_4 ++ dktX3_cosine_5
def dkwX3_cosine_3 : List UInt8 := [104, 96, 42, 180, 0, 13, 29, 6, 96, 46, 42, 180, 0, 13, 29, 6, 96, 46, 104, 96, 54, 4, 42]
abbrev dktX3_cosine_3 : List UInt8 := dkwX3_cosine_3 ++ dktX3_cosine_4
def dkwX3_cosine_2 : List UInt8 := [180, 0, 13, 29, 4, 96, 46, 104, 42, 180, 0, 13, 29, 5, 96, 46, 42, 180, 0, 13, 29, 5, 96, 46]
abbrev dktX3_cosine_2 : List UInt8 := dkwX3_cosine_2 ++ dktX3_cosine_3
def dkwX3_cosine_1 : List UInt8 := [154, 0, 6, 18, 251, 172, 16, 8, 7, 27, 104, 96, 62, 42, 180, 0, 13, 29, 4, 96, 46, 42]
abbrev dktX3_cosine_1 : List UInt8 := dkwX3_cosine_1 ++ dktX3_cosine_2
def dkwX3_cosine_0 : List UInt8 := [42, 27, 182, 0, 211, 153, 0, 21, 42, 27, 182, 0, 187, 153, 0, 13, 28, 133, 9, 10, 184, 0, 88]
abbrev dktX3_cosine_0 : List UInt8 := dkwX3_cosine_0 ++ dktX3_cosine_1
theorem dksX3_cosine_0 : cX3_cosine.data.toList.drop 0 = dktX3_cosine_0 := by decide +kernel
theorem dksX3_cosine_1 : cX3_cosine.data.toList.drop 23 = dktX3_cosine_1 := dk_seg dksX3_cosine_0 23 rfl rfl
theorem dksX3_cosine_2 : cX3_cosine.data.toList.drop 45 = dktX3_cosine_2 := dk_seg dksX3_cosine_1 22 rfl rfl
theorem dksX3_cosine_3 : cX3_cosine.data.toList.drop 69 = dktX3_cosine_3 := dk_seg dksX3_cosine_2 24 rfl rfl
theorem dksX3_cosine_4 : cX3_cosine.data.toList.drop 92 = dktX3_cosine_4 := dk_seg dksX3_cosine_3 23 rfl rfl
theorem dksX3_cosine_5 : cX3_cosine.data.toList.drop 116 = dktX3_cosine_5 := dk_seg dksX3_cosine_4 24 rfl rfl
theorem dX3_cosine_0 : decode cX3_cosine 0 = .ok (.aload_n 0, 1) := dk_42 (dk_at dksX3_cosine_0 0 rfl rfl)
theorem dX3_cosine_1 : decode cX3_cosine 1 = .ok (.iload_n 1, 1) := dk_27 (dk_at dksX3_cosine_0 1 rfl rfl)
theorem dX3_cosine_2 : decode cX3_cosine 2 = .ok (.invokevirtual 211, 3) := dk_182 0 211 (dk_at dksX3_cosine_0 2 rfl rfl)
theorem dX3_cosine_5 : decode cX3_cosine 5 = .ok (.ifCond .eq 21, 3) := dk_153 0 21 (dk_at dksX3_cosine_0 5 rfl rfl)
theorem dX3_cosine_8 : decode cX3_cosine 8 = .ok (.aload_n 0, 1) := dk_42 (dk_at dksX3_cosine_0 8 rfl rfl)
theorem dX3_cosine_9 : decode cX3_cosine 9 = .ok (.iload_n 1, 1) := dk_27 (dk_at dksX3_cosine_0 9 rfl rfl)
theorem dX3_cosine_10 : decode cX3_cosine 10 = .ok (.invokevirtual 187, 3) := dk_182 0 187 (dk_at dksX3_cosine_0 10 rfl rfl)
theorem dX3_cosine_13 : decode cX3_cosine 13 = .ok (.ifCond .eq 13, 3) := dk_153 0 13 (dk_at dksX3_cosine_0 13 rfl rfl)
theorem dX3_cosine_16 : decode cX3_cosine 16 = .ok (.iload_n 2, 1) := dk_28 (dk_at dksX3_cosine_0 16 rfl rfl)
theorem dX3_cosine_17 : decode cX3_cosine 17 = .ok (.i2l, 1) := dk_133 (dk_at dksX3_cosine_0 17 rfl rfl)
theorem dX3_cosine_18 : decode cX3_cosine 18 = .ok (.lconst 0, 1) := dk_9 (dk_at dksX3_cosine_0 18 rfl rfl)
theorem dX3_cosine_19 : decode cX3_cosine 19 = .ok (.lconst 1, 1) := dk_10 (dk_at dksX3_cosine_0 19 rfl rfl)
theorem dX3_cosine_20 : decode cX3_cosine 20 = .ok (.invokestatic 88, 3) := dk_184 0 88 (dk_at dksX3_cosine_0 20 rfl rfl)
theorem dX3_cosine_23 : decode cX3_cosine 23 = .ok (.ifCond .ne 6, 3) := dk_154 0 6 (dk_at dksX3_cosine_1 0 rfl rfl)
theorem dX3_cosine_26 : decode cX3_cosine 26 = .ok (.ldc 251, 2) := dk_18 251 (dk_at dksX3_cosine_1 3 rfl rfl)
theorem dX3_cosine_28 : decode cX3_cosine 28 = .ok (.ireturn, 1) := dk_172 (dk_at dksX3_cosine_1 5 rfl rfl)
theorem dX3_cosine_29 : decode cX3_cosine 29 = .ok (.bipush 8, 2) := dk_16 8 (dk_at dksX3_cosine_1 6 rfl rfl)
theorem dX3_cosine_31 : decode cX3_cosine 31 = .ok (.iconst 4, 1) := dk_7 (dk_at dksX3_cosine_1 8 rfl rfl)
theorem dX3_cosine_32 : decode cX3_cosine 32 = .ok (.iload_n 1, 1) := dk_27 (dk_at dksX3_cosine_1 9 rfl rfl)
theorem dX3_cosine_33 : decode cX3_cosine 33 = .ok (.imul, 1) := dk_104 (dk_at dksX3_cosine_1 10 rfl rfl)
theorem dX3_cosine_34 : decode cX3_cosine 34 = .ok (.iadd, 1) := dk_96 (dk_at dksX3_cosine_1 11 rfl rfl)
theorem dX3_cosine_35 : decode cX3_cosine 35 = .ok (.istore_n 3, 1) := dk_62 (dk_at dksX3_cosine_1 12 rfl rfl)
theorem dX3_cosine_36 : decode cX3_cosine 36 = .ok (.aload_n 0, 1) := dk_42 (dk_at dksX3_cosine_1 13 rfl rfl)
theorem dX3_cosine_37 : decode cX3_cosine 37 = .ok (.getfield 13, 3) := dk_180 0 13 (dk_at dksX3_cosine_1 14 rfl rfl)
theorem dX3_cosine_40 : decode cX3_cosine 40 = .ok (.iload_n 3, 1) := dk_29 (dk_at dksX3_cosine_1 17 rfl rfl)
theorem dX3_cosine_41 : decode cX3_cosine 41 = .ok (.iconst 1, 1) := dk_4 (dk_at dksX3_cosine_1 18 rfl rfl)
theorem dX3_cosine_42 : decode cX3_cosine 42 = .ok (.iadd, 1) := dk_96 (dk_at dksX3_cosine_1 19 rfl rfl)
theorem dX3_cosine_43 : decode cX3_cosine 43 = .ok (.iaload, 1) := dk_46 (dk_at dksX3_cosine_1 20 rfl rfl)
theorem dX3_cosine_44 : decode cX3_cosine 44 = .ok (.aload_n 0, 1) := dk_42 (dk_at dksX3_cosine_1 21 rfl rfl)
theorem dX3_cosine_45 : decode cX3_cosine 45 = .ok (.getfield 13, 3) := dk_180 0 13 (dk_at dksX3_cosine_2 0 rfl rfl)
theorem dX3_cosine_48 : decode cX3_cosine 48 = .ok (.iload_n 3, 1) := dk_29 (dk_at dksX3_cosine_2 3 rfl rfl)
theorem dX3_cosine_49 : decode cX3_cosine 49 = .ok (.iconst 1, 1) := dk_4 (dk_at dksX3_cosine_2 4 rfl rfl)
theorem dX3_cosine_50 : decode cX3_cosine 50 = .ok (.iadd, 1) := dk_96 (dk_at dksX3_cosine_2 5 rfl rfl)
theorem dX3_cosine_51 : decode cX3_cosine 51 = .ok (.iaload, 1) := dk_46 (dk_at dksX3_cosine_2 6 rfl rfl)
theorem dX3_cosine_52 : decode cX3_cosine 52 = .ok (.imul, 1) := dk_104 (dk_at dksX3_cosine_2 7 rfl rfl)
theorem dX3_cosine_53 : decode cX3_cosine 53 = .ok (.aload_n 0, 1) := dk_42 (dk_at dksX3_cosine_2 8 rfl rfl)
theorem dX3_cosine_54 : decode cX3_cosine 54 = .ok (.getfield 13, 3) := dk_180 0 13 (dk_at dksX3_cosine_2 9 rfl rfl)
theorem dX3_cosine_57 : decode cX3_cosine 57 = .ok (.iload_n 3, 1) := dk_29 (dk_at dksX3_cosine_2 12 rfl rfl)
theorem dX3_cosine_58 : decode cX3_cosine 58 = .ok (.iconst 2, 1) := dk_5 (dk_at dksX3_cosine_2 13 rfl rfl)
theorem dX3_cosine_59 : decode cX3_cosine 59 = .ok (.iadd, 1) := dk_96 (dk_at dksX3_cosine_2 14 rfl rfl)
theorem dX3_cosine_60 : decode cX3_cosine 60 = .ok (.iaload, 1) := dk_46 (dk_at dksX3_cosine_2 15 rfl rfl)
theorem dX3_cosine_61 : decode cX3_cosine 61 = .ok (.aload_n 0, 1) := dk_42 (dk_at dksX3_cosine_2 16 rfl rfl)
theorem dX3_cosine_62 : decode cX3_cosine 62 = .ok (.getfield 13, 3) := dk_180 0 13 (dk_at dksX3_cosine_2 17 rfl rfl)
theorem dX3_cosine_65 : decode cX3_cosine 65 = .ok (.iload_n 3, 1) := dk_29 (dk_at dksX3_cosine_2 20 rfl rfl)
theorem dX3_cosine_66 : decode cX3_cosine 66 = .ok (.iconst 2, 1) := dk_5 (dk_at dksX3_cosine_2 21 rfl rfl)
theorem dX3_cosine_67 : decode cX3_cosine 67 = .ok (.iadd, 1) := dk_96 (dk_at dksX3_cosine_2 22 rfl rfl)
theorem dX3_cosine_68 : decode cX3_cosine 68 = .ok (.iaload, 1) := dk_46 (dk_at dksX3_cosine_2 23 rfl rfl)
theorem dX3_cosine_69 : decode cX3_cosine 69 = .ok (.imul, 1) := dk_104 (dk_at dksX3_cosine_3 0 rfl rfl)
theorem dX3_cosine_70 : decode cX3_cosine 70 = .ok (.iadd, 1) := dk_96 (dk_at dksX3_cosine_3 1 rfl rfl)
theorem dX3_cosine_71 : decode cX3_cosine 71 = .ok (.aload_n 0, 1) := dk_42 (dk_at dksX3_cosine_3 2 rfl rfl)
theorem dX3_cosine_72 : decode cX3_cosine 72 = .ok (.getfield 13, 3) := dk_180 0 13 (dk_at dksX3_cosine_3 3 rfl rfl)
theorem dX3_cosine_75 : decode cX3_cosine 75 = .ok (.iload_n 3, 1) := dk_29 (dk_at dksX3_cosine_3 6 rfl rfl)
theorem dX3_cosine_76 : decode cX3_cosine 76 = .ok (.iconst 3, 1) := dk_6 (dk_at dksX3_cosine_3 7 rfl rfl)
theorem dX3_cosine_77 : decode cX3_cosine 77 = .ok (.iadd, 1) := dk_96 (dk_at dksX3_cosine_3 8 rfl rfl)
theorem dX3_cosine_78 : decode cX3_cosine 78 = .ok (.iaload, 1) := dk_46 (dk_at dksX3_cosine_3 9 rfl rfl)
theorem dX3_cosine_79 : decode cX3_cosine 79 = .ok (.aload_n 0, 1) := dk_42 (dk_at dksX3_cosine_3 10 rfl rfl)
theorem dX3_cosine_80 : decode cX3_cosine 80 = .ok (.getfield 13, 3) := dk_180 0 13 (dk_at dksX3_cosine_3 11 rfl rfl)
theorem dX3_cosine_83 : decode cX3_cosine 83 = .ok (.iload_n 3, 1) := dk_29 (dk_at dksX3_cosine_3 14 rfl rfl)
theorem dX3_cosine_84 : decode cX3_cosine 84 = .ok (.iconst 3, 1) := dk_6 (dk_at dksX3_cosine_3 15 rfl rfl)
theorem dX3_cosine_85 : decode cX3_cosine 85 = .ok (.iadd, 1) := dk_96 (dk_at dksX3_cosine_3 16 rfl rfl)
theorem dX3_cosine_86 : decode cX3_cosine 86 = .ok (.iaload, 1) := dk_46 (dk_at dksX3_cosine_3 17 rfl rfl)
theorem dX3_cosine_87 : decode cX3_cosine 87 = .ok (.imul, 1) := dk_104 (dk_at dksX3_cosine_3 18 rfl rfl)
theorem dX3_cosine_88 : decode cX3_cosine 88 = .ok (.iadd, 1) := dk_96 (dk_at dksX3_cosine_3 19 rfl rfl)
theorem dX3_cosine_89 : decode cX3_cosine 89 = .ok (.istore 4, 2) := dk_54 4 (dk_at dksX3_cosine_3 20 rfl rfl)
theorem dX3_cosine_91 : decode cX3_cosine 91 = .ok (.aload_n 0, 1) := dk_42 (dk_at dksX3_cosine_3 22 rfl rfl)
theorem dX3_cosine_92 : decode cX3_cosine 92 = .ok (.getfield 13, 3) := dk_180 0 13 (dk_at dksX3_cosine_4 0 rfl rfl)
theorem dX3_cosine_95 : decode cX3_cosine 95 = .ok (.iload_n 3, 1) := dk_29 (dk_at dksX3_cosine_4 3 rfl rfl)
theorem dX3_cosine_96 : decode cX3_cosine 96 = .ok (.iaload, 1) := dk_46 (dk_at dksX3_cosine_4 4 rfl rfl)
theorem dX3_cosine_97 : decode cX3_cosine 97 = .ok (.aload_n 0, 1) := dk_42 (dk_at dksX3_cosine_4 5 rfl rfl)
theorem dX3_cosine_98 : decode cX3_cosine 98 = .ok (.getfield 13, 3) := dk_180 0 13 (dk_at dksX3_cosine_4 6 rfl rfl)
theorem dX3_cosine_101 : decode cX3_cosine 101 = .ok (.iload_n 3, 1) := dk_29 (dk_at dksX3_cosine_4 9 rfl rfl)
theorem dX3_cosine_102 : decode cX3_cosine 102 = .ok (.iaload, 1) := dk_46 (dk_at dksX3_cosine_4 10 rfl rfl)
theorem dX3_cosine_103 : decode cX3_cosine 103 = .ok (.imul, 1) := dk_104 (dk_at dksX3_cosine_4 11 rfl rfl)
theorem dX3_cosine_104 : decode cX3_cosine 104 = .ok (.istore 5, 2) := dk_54 5 (dk_at dksX3_cosine_4 12 rfl rfl)
theorem dX3_cosine_106 : decode cX3_cosine 106 = .ok (.iload 5, 2) := dk_21 5 (dk_at dksX3_cosine_4 14 rfl rfl)
theorem dX3_cosine_108 : decode cX3_cosine 108 = .ok (.iload 4, 2) := dk_21 4 (dk_at dksX3_cosine_4 16 rfl rfl)
theorem dX3_cosine_110 : decode cX3_cosine 110 = .ok (.isub, 1) := dk_100 (dk_at dksX3_cosine_4 18 rfl rfl)
theorem dX3_cosine_111 : decode cX3_cosine 111 = .ok (.i2l, 1) := dk_133 (dk_at dksX3_cosine_4 19 rfl rfl)
theorem dX3_cosine_112 : decode cX3_cosine 112 = .ok (.iload 5, 2) := dk_21 5 (dk_at dksX3_cosine_4 20 rfl rfl)
theorem dX3_cosine_114 : decode cX3_cosine 114 = .ok (.iload 4, 2) := dk_21 4 (dk_at dksX3_cosine_4 22 rfl rfl)
theorem dX3_cosine_116 : decode cX3_cosine 116 = .ok (.iadd, 1) := dk_96 (dk_at dksX3_cosine_5 0 rfl rfl)
theorem dX3_cosine_117 : decode cX3_cosine 117 = .ok (.i2l, 1) := dk_133 (dk_at dksX3_cosine_5 1 rfl rfl)
theorem dX3_cosine_118 : decode cX3_cosine 118 = .ok (.iload_n 2, 1) := dk_28 (dk_at dksX3_cosine_5 2 rfl rfl)
theorem dX3_cosine_119 : decode cX3_cosine 119 = .ok (.invokestatic 258, 3) := dk_184 1 2 (dk_at dksX3_cosine_5 3 rfl rfl)
theorem dX3_cosine_122 : decode cX3_cosine 122 = .ok (.l2i, 1) := dk_136 (dk_at dksX3_cosine_5 6 rfl rfl)
theorem dX3_cosine_123 : decode cX3_cosine 123 = .ok (.ireturn, 1) := dk_172 (dk_at dksX3_cosine_5 7 rfl rfl)
abbrev cX3_coset : ByteArray := prog_20_method_75_code
def yX3_coset : MethodName := ⟨RX3, "coset", "(IIIIII)J"⟩
def dkwX3_coset_8 : List UInt8 := [55, 9, 132, 11, 1, 167, 255, 169, 22, 9, 173]
abbrev dktX3_coset_8 : List UInt8 := dkwX3_coset_8 ++ []
def dkwX3_coset_7 : List UInt8 := [132, 14, 1, 167, 255, 224, 22, 9, 42, 180, 0, 64, 7, 21, 11, 104, 47, 105, 25, 8, 21, 11, 47, 97]
abbrev dktX3_coset_7 : List UInt8 := dkwX3_coset_7 ++ dktX3_coset_8
def dkwX3_coset_6 : List UInt8 := [25, 8, 21, 14, 92, 47, 22, 12, 42, 180, 0, 64, 6, 21, 11, 104, 21, 14, 96, 47, 105, 101, 80]
abbrev dktX3_coset_6 : List UInt8 := dkwX3_coset_6 ++ dktX3_coset_7
def dkwX3_coset_5 : List UInt8 := [180, 0, 64, 7, 21, 11, 104, 47, 184, 0, 241, 55, 12, 21, 11, 54, 14, 21, 14, 6, 162, 0, 32]
abbrev dktX3_coset_5 : List UInt8 := dkwX3_coset_5 ++ dktX3_coset_6
def dkwX3_coset_4 : List UInt8 := [182, 1, 83, 80, 58, 8, 9, 55, 9, 3, 54, 11, 21, 11, 6, 162, 0, 87, 25, 8, 21, 11, 47, 42]
abbrev dktX3_coset_4 : List UInt8 := dkwX3_coset_4 ++ dktX3_coset_5
def dkwX3_coset_3 : List UInt8 := [133, 21, 6, 133, 182, 1, 83, 80, 89, 5, 42, 5, 29, 133, 21, 4, 133, 21, 5, 133, 21, 6, 133]
abbrev dktX3_coset_3 : List UInt8 := dkwX3_coset_3 ++ dktX3_coset_4
def dkwX3_coset_2 : List UInt8 := [21, 4, 133, 21, 5, 133, 21, 6, 133, 182, 1, 83, 80, 89, 4, 42, 4, 29, 133, 21, 4, 133, 21, 5]
abbrev dktX3_coset_2 : List UInt8 := dkwX3_coset_2 ++ dktX3_coset_3
def dkwX3_coset_1 : List UInt8 := [42, 27, 28, 182, 1, 58, 42, 182, 1, 61, 42, 27, 182, 0, 217, 6, 188, 11, 89, 3, 42, 3, 29, 133]
abbrev dktX3_coset_1 : List UInt8 := dkwX3_coset_1 ++ dktX3_coset_2
def dkwX3_coset_0 : List UInt8 := [42, 27, 28, 29, 21, 4, 21, 5, 21, 6, 182, 1, 79, 54, 7, 21, 7, 156, 0, 7, 21, 7, 133, 173]
abbrev dktX3_coset_0 : List UInt8 := dkwX3_coset_0 ++ dktX3_coset_1
theorem dksX3_coset_0 : cX3_coset.data.toList.drop 0 = dktX3_coset_0 := by decide +kernel
theorem dksX3_coset_1 : cX3_coset.data.toList.drop 24 = dktX3_coset_1 := dk_seg dksX3_coset_0 24 rfl rfl
theorem dksX3_coset_2 : cX3_coset.data.toList.drop 48 = dktX3_coset_2 := dk_seg dksX3_coset_1 24 rfl rfl
theorem dksX3_coset_3 : cX3_coset.data.toList.drop 72 = dktX3_coset_3 := dk_seg dksX3_coset_2 24 rfl rfl
theorem dksX3_coset_4 : cX3_coset.data.toList.drop 95 = dktX3_coset_4 := dk_seg dksX3_coset_3 23 rfl rfl
theorem dksX3_coset_5 : cX3_coset.data.toList.drop 119 = dktX3_coset_5 := dk_seg dksX3_coset_4 24 rfl rfl
theorem dksX3_coset_6 : cX3_coset.data.toList.drop 142 = dktX3_coset_6 := dk_seg dksX3_coset_5 23 rfl rfl
theorem dksX3_coset_7 : cX3_coset.data.toList.drop 165 = dktX3_coset_7 := dk_seg dksX3_coset_6 23 rfl rfl
theorem dksX3_coset_8 : cX3_coset.data.toList.drop 189 = dktX3_coset_8 := dk_seg dksX3_coset_7 24 rfl rfl
theorem dX3_coset_0 : decode cX3_coset 0 = .ok (.aload_n 0, 1) := dk_42 (dk_at dksX3_coset_0 0 rfl rfl)
theorem dX3_coset_1 : decode cX3_coset 1 = .ok (.iload_n 1, 1) := dk_27 (dk_at dksX3_coset_0 1 rfl rfl)
theorem dX3_coset_2 : decode cX3_coset 2 = .ok (.iload_n 2, 1) := dk_28 (dk_at dksX3_coset_0 2 rfl rfl)
theorem dX3_coset_3 : decode cX3_coset 3 = .ok (.iload_n 3, 1) := dk_29 (dk_at dksX3_coset_0 3 rfl rfl)
theorem dX3_coset_4 : decode cX3_coset 4 = .ok (.iload 4, 2) := dk_21 4 (dk_at dksX3_coset_0 4 rfl rfl)
theorem dX3_coset_6 : decode cX3_coset 6 = .ok (.iload 5, 2) := dk_21 5 (dk_at dksX3_coset_0 6 rfl rfl)
theorem dX3_coset_8 : decode cX3_coset 8 = .ok (.iload 6, 2) := dk_21 6 (dk_at dksX3_coset_0 8 rfl rfl)
theorem dX3_coset_10 : decode cX3_coset 10 = .ok (.invokevirtual 335, 3) := dk_182 1 79 (dk_at dksX3_coset_0 10 rfl rfl)
theorem dX3_coset_13 : decode cX3_coset 13 = .ok (.istore 7, 2) := dk_54 7 (dk_at dksX3_coset_0 13 rfl rfl)
theorem dX3_coset_15 : decode cX3_coset 15 = .ok (.iload 7, 2) := dk_21 7 (dk_at dksX3_coset_0 15 rfl rfl)
theorem dX3_coset_17 : decode cX3_coset 17 = .ok (.ifCond .ge 7, 3) := dk_156 0 7 (dk_at dksX3_coset_0 17 rfl rfl)
theorem dX3_coset_20 : decode cX3_coset 20 = .ok (.iload 7, 2) := dk_21 7 (dk_at dksX3_coset_0 20 rfl rfl)
theorem dX3_coset_22 : decode cX3_coset 22 = .ok (.i2l, 1) := dk_133 (dk_at dksX3_coset_0 22 rfl rfl)
theorem dX3_coset_23 : decode cX3_coset 23 = .ok (.lreturn, 1) := dk_173 (dk_at dksX3_coset_0 23 rfl rfl)
theorem dX3_coset_24 : decode cX3_coset 24 = .ok (.aload_n 0, 1) := dk_42 (dk_at dksX3_coset_1 0 rfl rfl)
theorem dX3_coset_25 : decode cX3_coset 25 = .ok (.iload_n 1, 1) := dk_27 (dk_at dksX3_coset_1 1 rfl rfl)
theorem dX3_coset_26 : decode cX3_coset 26 = .ok (.iload_n 2, 1) := dk_28 (dk_at dksX3_coset_1 2 rfl rfl)
theorem dX3_coset_27 : decode cX3_coset 27 = .ok (.invokevirtual 314, 3) := dk_182 1 58 (dk_at dksX3_coset_1 3 rfl rfl)
theorem dX3_coset_30 : decode cX3_coset 30 = .ok (.aload_n 0, 1) := dk_42 (dk_at dksX3_coset_1 6 rfl rfl)
theorem dX3_coset_31 : decode cX3_coset 31 = .ok (.invokevirtual 317, 3) := dk_182 1 61 (dk_at dksX3_coset_1 7 rfl rfl)
theorem dX3_coset_34 : decode cX3_coset 34 = .ok (.aload_n 0, 1) := dk_42 (dk_at dksX3_coset_1 10 rfl rfl)
theorem dX3_coset_35 : decode cX3_coset 35 = .ok (.iload_n 1, 1) := dk_27 (dk_at dksX3_coset_1 11 rfl rfl)
theorem dX3_coset_36 : decode cX3_coset 36 = .ok (.invokevirtual 217, 3) := dk_182 0 217 (dk_at dksX3_coset_1 12 rfl rfl)
theorem dX3_coset_39 : decode cX3_coset 39 = .ok (.iconst 3, 1) := dk_6 (dk_at dksX3_coset_1 15 rfl rfl)
theorem dX3_coset_40 : decode cX3_coset 40 = .ok (.newarray .long, 2) := dk_188_11 (dk_at dksX3_coset_1 16 rfl rfl)
theorem dX3_coset_42 : decode cX3_coset 42 = .ok (.dup, 1) := dk_89 (dk_at dksX3_coset_1 18 rfl rfl)
theorem dX3_coset_43 : decode cX3_coset 43 = .ok (.iconst 0, 1) := dk_3 (dk_at dksX3_coset_1 19 rfl rfl)
theorem dX3_coset_44 : decode cX3_coset 44 = .ok (.aload_n 0, 1) := dk_42 (dk_at dksX3_coset_1 20 rfl rfl)
theorem dX3_coset_45 : decode cX3_coset 45 = .ok (.iconst 0, 1) := dk_3 (dk_at dksX3_coset_1 21 rfl rfl)
theorem dX3_coset_46 : decode cX3_coset 46 = .ok (.iload_n 3, 1) := dk_29 (dk_at dksX3_coset_1 22 rfl rfl)
theorem dX3_coset_47 : decode cX3_coset 47 = .ok (.i2l, 1) := dk_133 (dk_at dksX3_coset_1 23 rfl rfl)
theorem dX3_coset_48 : decode cX3_coset 48 = .ok (.iload 4, 2) := dk_21 4 (dk_at dksX3_coset_2 0 rfl rfl)
theorem dX3_coset_50 : decode cX3_coset 50 = .ok (.i2l, 1) := dk_133 (dk_at dksX3_coset_2 2 rfl rfl)
theorem dX3_coset_51 : decode cX3_coset 51 = .ok (.iload 5, 2) := dk_21 5 (dk_at dksX3_coset_2 3 rfl rfl)
theorem dX3_coset_53 : decode cX3_coset 53 = .ok (.i2l, 1) := dk_133 (dk_at dksX3_coset_2 5 rfl rfl)
theorem dX3_coset_54 : decode cX3_coset 54 = .ok (.iload 6, 2) := dk_21 6 (dk_at dksX3_coset_2 6 rfl rfl)
theorem dX3_coset_56 : decode cX3_coset 56 = .ok (.i2l, 1) := dk_133 (dk_at dksX3_coset_2 8 rfl rfl)
theorem dX3_coset_57 : decode cX3_coset 57 = .ok (.invokevirtual 339, 3) := dk_182 1 83 (dk_at dksX3_coset_2 9 rfl rfl)
theorem dX3_coset_60 : decode cX3_coset 60 = .ok (.lastore, 1) := dk_80 (dk_at dksX3_coset_2 12 rfl rfl)
theorem dX3_coset_61 : decode cX3_coset 61 = .ok (.dup, 1) := dk_89 (dk_at dksX3_coset_2 13 rfl rfl)
theorem dX3_coset_62 : decode cX3_coset 62 = .ok (.iconst 1, 1) := dk_4 (dk_at dksX3_coset_2 14 rfl rfl)
theorem dX3_coset_63 : decode cX3_coset 63 = .ok (.aload_n 0, 1) := dk_42 (dk_at dksX3_coset_2 15 rfl rfl)
theorem dX3_coset_64 : decode cX3_coset 64 = .ok (.iconst 1, 1) := dk_4 (dk_at dksX3_coset_2 16 rfl rfl)
theorem dX3_coset_65 : decode cX3_coset 65 = .ok (.iload_n 3, 1) := dk_29 (dk_at dksX3_coset_2 17 rfl rfl)
theorem dX3_coset_66 : decode cX3_coset 66 = .ok (.i2l, 1) := dk_133 (dk_at dksX3_coset_2 18 rfl rfl)
theorem dX3_coset_67 : decode cX3_coset 67 = .ok (.iload 4, 2) := dk_21 4 (dk_at dksX3_coset_2 19 rfl rfl)
theorem dX3_coset_69 : decode cX3_coset 69 = .ok (.i2l, 1) := dk_133 (dk_at dksX3_coset_2 21 rfl rfl)
theorem dX3_coset_70 : decode cX3_coset 70 = .ok (.iload 5, 2) := dk_21 5 (dk_at dksX3_coset_2 22 rfl rfl)
theorem dX3_coset_72 : decode cX3_coset 72 = .ok (.i2l, 1) := dk_133 (dk_at dksX3_coset_3 0 rfl rfl)
theorem dX3_coset_73 : decode cX3_coset 73 = .ok (.iload 6, 2) := dk_21 6 (dk_at dksX3_coset_3 1 rfl rfl)
theorem dX3_coset_75 : decode cX3_coset 75 = .ok (.i2l, 1) := dk_133 (dk_at dksX3_coset_3 3 rfl rfl)
theorem dX3_coset_76 : decode cX3_coset 76 = .ok (.invokevirtual 339, 3) := dk_182 1 83 (dk_at dksX3_coset_3 4 rfl rfl)
theorem dX3_coset_79 : decode cX3_coset 79 = .ok (.lastore, 1) := dk_80 (dk_at dksX3_coset_3 7 rfl rfl)
theorem dX3_coset_80 : decode cX3_coset 80 = .ok (.dup, 1) := dk_89 (dk_at dksX3_coset_3 8 rfl rfl)
theorem dX3_coset_81 : decode cX3_coset 81 = .ok (.iconst 2, 1) := dk_5 (dk_at dksX3_coset_3 9 rfl rfl)
theorem dX3_coset_82 : decode cX3_coset 82 = .ok (.aload_n 0, 1) := dk_42 (dk_at dksX3_coset_3 10 rfl rfl)
theorem dX3_coset_83 : decode cX3_coset 83 = .ok (.iconst 2, 1) := dk_5 (dk_at dksX3_coset_3 11 rfl rfl)
theorem dX3_coset_84 : decode cX3_coset 84 = .ok (.iload_n 3, 1) := dk_29 (dk_at dksX3_coset_3 12 rfl rfl)
theorem dX3_coset_85 : decode cX3_coset 85 = .ok (.i2l, 1) := dk_133 (dk_at dksX3_coset_3 13 rfl rfl)
theorem dX3_coset_86 : decode cX3_coset 86 = .ok (.iload 4, 2) := dk_21 4 (dk_at dksX3_coset_3 14 rfl rfl)
theorem dX3_coset_88 : decode cX3_coset 88 = .ok (.i2l, 1) := dk_133 (dk_at dksX3_coset_3 16 rfl rfl)
theorem dX3_coset_89 : decode cX3_coset 89 = .ok (.iload 5, 2) := dk_21 5 (dk_at dksX3_coset_3 17 rfl rfl)
theorem dX3_coset_91 : decode cX3_coset 91 = .ok (.i2l, 1) := dk_133 (dk_at dksX3_coset_3 19 rfl rfl)
theorem dX3_coset_92 : decode cX3_coset 92 = .ok (.iload 6, 2) := dk_21 6 (dk_at dksX3_coset_3 20 rfl rfl)
theorem dX3_coset_94 : decode cX3_coset 94 = .ok (.i2l, 1) := dk_133 (dk_at dksX3_coset_3 22 rfl rfl)
theorem dX3_coset_95 : decode cX3_coset 95 = .ok (.invokevirtual 339, 3) := dk_182 1 83 (dk_at dksX3_coset_4 0 rfl rfl)
theorem dX3_coset_98 : decode cX3_coset 98 = .ok (.lastore, 1) := dk_80 (dk_at dksX3_coset_4 3 rfl rfl)
theorem dX3_coset_99 : decode cX3_coset 99 = .ok (.astore 8, 2) := dk_58 8 (dk_at dksX3_coset_4 4 rfl rfl)
theorem dX3_coset_101 : decode cX3_coset 101 = .ok (.lconst 0, 1) := dk_9 (dk_at dksX3_coset_4 6 rfl rfl)
theorem dX3_coset_102 : decode cX3_coset 102 = .ok (.lstore 9, 2) := dk_55 9 (dk_at dksX3_coset_4 7 rfl rfl)
theorem dX3_coset_104 : decode cX3_coset 104 = .ok (.iconst 0, 1) := dk_3 (dk_at dksX3_coset_4 9 rfl rfl)
theorem dX3_coset_105 : decode cX3_coset 105 = .ok (.istore 11, 2) := dk_54 11 (dk_at dksX3_coset_4 10 rfl rfl)
theorem dX3_coset_107 : decode cX3_coset 107 = .ok (.iload 11, 2) := dk_21 11 (dk_at dksX3_coset_4 12 rfl rfl)
theorem dX3_coset_109 : decode cX3_coset 109 = .ok (.iconst 3, 1) := dk_6 (dk_at dksX3_coset_4 14 rfl rfl)
theorem dX3_coset_110 : decode cX3_coset 110 = .ok (.if_icmp .ge 87, 3) := dk_162 0 87 (dk_at dksX3_coset_4 15 rfl rfl)
theorem dX3_coset_113 : decode cX3_coset 113 = .ok (.aload 8, 2) := dk_25 8 (dk_at dksX3_coset_4 18 rfl rfl)
theorem dX3_coset_115 : decode cX3_coset 115 = .ok (.iload 11, 2) := dk_21 11 (dk_at dksX3_coset_4 20 rfl rfl)
theorem dX3_coset_117 : decode cX3_coset 117 = .ok (.laload, 1) := dk_47 (dk_at dksX3_coset_4 22 rfl rfl)
theorem dX3_coset_118 : decode cX3_coset 118 = .ok (.aload_n 0, 1) := dk_42 (dk_at dksX3_coset_4 23 rfl rfl)
theorem dX3_coset_119 : decode cX3_coset 119 = .ok (.getfield 64, 3) := dk_180 0 64 (dk_at dksX3_coset_5 0 rfl rfl)
theorem dX3_coset_122 : decode cX3_coset 122 = .ok (.iconst 4, 1) := dk_7 (dk_at dksX3_coset_5 3 rfl rfl)
theorem dX3_coset_123 : decode cX3_coset 123 = .ok (.iload 11, 2) := dk_21 11 (dk_at dksX3_coset_5 4 rfl rfl)
theorem dX3_coset_125 : decode cX3_coset 125 = .ok (.imul, 1) := dk_104 (dk_at dksX3_coset_5 6 rfl rfl)
theorem dX3_coset_126 : decode cX3_coset 126 = .ok (.laload, 1) := dk_47 (dk_at dksX3_coset_5 7 rfl rfl)
theorem dX3_coset_127 : decode cX3_coset 127 = .ok (.invokestatic 241, 3) := dk_184 0 241 (dk_at dksX3_coset_5 8 rfl rfl)
theorem dX3_coset_130 : decode cX3_coset 130 = .ok (.lstore 12, 2) := dk_55 12 (dk_at dksX3_coset_5 11 rfl rfl)
theorem dX3_coset_132 : decode cX3_coset 132 = .ok (.iload 11, 2) := dk_21 11 (dk_at dksX3_coset_5 13 rfl rfl)
theorem dX3_coset_134 : decode cX3_coset 134 = .ok (.istore 14, 2) := dk_54 14 (dk_at dksX3_coset_5 15 rfl rfl)
theorem dX3_coset_136 : decode cX3_coset 136 = .ok (.iload 14, 2) := dk_21 14 (dk_at dksX3_coset_5 17 rfl rfl)
theorem dX3_coset_138 : decode cX3_coset 138 = .ok (.iconst 3, 1) := dk_6 (dk_at dksX3_coset_5 19 rfl rfl)
theorem dX3_coset_139 : decode cX3_coset 139 = .ok (.if_icmp .ge 32, 3) := dk_162 0 32 (dk_at dksX3_coset_5 20 rfl rfl)
theorem dX3_coset_142 : decode cX3_coset 142 = .ok (.aload 8, 2) := dk_25 8 (dk_at dksX3_coset_6 0 rfl rfl)
theorem dX3_coset_144 : decode cX3_coset 144 = .ok (.iload 14, 2) := dk_21 14 (dk_at dksX3_coset_6 2 rfl rfl)
theorem dX3_coset_146 : decode cX3_coset 146 = .ok (.dup2, 1) := dk_92 (dk_at dksX3_coset_6 4 rfl rfl)
theorem dX3_coset_147 : decode cX3_coset 147 = .ok (.laload, 1) := dk_47 (dk_at dksX3_coset_6 5 rfl rfl)
theorem dX3_coset_148 : decode cX3_coset 148 = .ok (.lload 12, 2) := dk_22 12 (dk_at dksX3_coset_6 6 rfl rfl)
theorem dX3_coset_150 : decode cX3_coset 150 = .ok (.aload_n 0, 1) := dk_42 (dk_at dksX3_coset_6 8 rfl rfl)
theorem dX3_coset_151 : decode cX3_coset 151 = .ok (.getfield 64, 3) := dk_180 0 64 (dk_at dksX3_coset_6 9 rfl rfl)
theorem dX3_coset_154 : decode cX3_coset 154 = .ok (.iconst 3, 1) := dk_6 (dk_at dksX3_coset_6 12 rfl rfl)
theorem dX3_coset_155 : decode cX3_coset 155 = .ok (.iload 11, 2) := dk_21 11 (dk_at dksX3_coset_6 13 rfl rfl)
theorem dX3_coset_157 : decode cX3_coset 157 = .ok (.imul, 1) := dk_104 (dk_at dksX3_coset_6 15 rfl rfl)
theorem dX3_coset_158 : decode cX3_coset 158 = .ok (.iload 14, 2) := dk_21 14 (dk_at dksX3_coset_6 16 rfl rfl)
theorem dX3_coset_160 : decode cX3_coset 160 = .ok (.iadd, 1) := dk_96 (dk_at dksX3_coset_6 18 rfl rfl)
theorem dX3_coset_161 : decode cX3_coset 161 = .ok (.laload, 1) := dk_47 (dk_at dksX3_coset_6 19 rfl rfl)
theorem dX3_coset_162 : decode cX3_coset 162 = .ok (.lmul, 1) := dk_105 (dk_at dksX3_coset_6 20 rfl rfl)
theorem dX3_coset_163 : decode cX3_coset 163 = .ok (.lsub, 1) := dk_101 (dk_at dksX3_coset_6 21 rfl rfl)
theorem dX3_coset_164 : decode cX3_coset 164 = .ok (.lastore, 1) := dk_80 (dk_at dksX3_coset_6 22 rfl rfl)
theorem dX3_coset_165 : decode cX3_coset 165 = .ok (.iinc 14 1, 3) := dk_132 14 1 (dk_at dksX3_coset_7 0 rfl rfl)
theorem dX3_coset_168 : decode cX3_coset 168 = .ok (.goto (-32), 3) := dk_167 255 224 (dk_at dksX3_coset_7 3 rfl rfl)
theorem dX3_coset_171 : decode cX3_coset 171 = .ok (.lload 9, 2) := dk_22 9 (dk_at dksX3_coset_7 6 rfl rfl)
theorem dX3_coset_173 : decode cX3_coset 173 = .ok (.aload_n 0, 1) := dk_42 (dk_at dksX3_coset_7 8 rfl rfl)
theorem dX3_coset_174 : decode cX3_coset 174 = .ok (.getfield 64, 3) := dk_180 0 64 (dk_at dksX3_coset_7 9 rfl rfl)
theorem dX3_coset_177 : decode cX3_coset 177 = .ok (.iconst 4, 1) := dk_7 (dk_at dksX3_coset_7 12 rfl rfl)
theorem dX3_coset_178 : decode cX3_coset 178 = .ok (.iload 11, 2) := dk_21 11 (dk_at dksX3_coset_7 13 rfl rfl)
theorem dX3_coset_180 : decode cX3_coset 180 = .ok (.imul, 1) := dk_104 (dk_at dksX3_coset_7 15 rfl rfl)
theorem dX3_coset_181 : decode cX3_coset 181 = .ok (.laload, 1) := dk_47 (dk_at dksX3_coset_7 16 rfl rfl)
theorem dX3_coset_182 : decode cX3_coset 182 = .ok (.lmul, 1) := dk_105 (dk_at dksX3_coset_7 17 rfl rfl)
theorem dX3_coset_183 : decode cX3_coset 183 = .ok (.aload 8, 2) := dk_25 8 (dk_at dksX3_coset_7 18 rfl rfl)
theorem dX3_coset_185 : decode cX3_coset 185 = .ok (.iload 11, 2) := dk_21 11 (dk_at dksX3_coset_7 20 rfl rfl)
theorem dX3_coset_187 : decode cX3_coset 187 = .ok (.laload, 1) := dk_47 (dk_at dksX3_coset_7 22 rfl rfl)
theorem dX3_coset_188 : decode cX3_coset 188 = .ok (.ladd, 1) := dk_97 (dk_at dksX3_coset_7 23 rfl rfl)
theorem dX3_coset_189 : decode cX3_coset 189 = .ok (.lstore 9, 2) := dk_55 9 (dk_at dksX3_coset_8 0 rfl rfl)
theorem dX3_coset_191 : decode cX3_coset 191 = .ok (.iinc 11 1, 3) := dk_132 11 1 (dk_at dksX3_coset_8 2 rfl rfl)
theorem dX3_coset_194 : decode cX3_coset 194 = .ok (.goto (-87), 3) := dk_167 255 169 (dk_at dksX3_coset_8 5 rfl rfl)
theorem dX3_coset_197 : decode cX3_coset 197 = .ok (.lload 9, 2) := dk_22 9 (dk_at dksX3_coset_8 8 rfl rfl)
theorem dX3_coset_199 : decode cX3_coset 199 = .ok (.lreturn, 1) := dk_173 (dk_at dksX3_coset_8 10 rfl rfl)
abbrev cX3_timesOf : ByteArray := prog_20_method_74_code
def yX3_timesOf : MethodName := ⟨RX3, "timesOf", "(IJJJJ)J"⟩
def dkwX3_timesOf_6 : List UInt8 := [22, 8, 105, 109, 173]
abbrev dktX3_timesOf_6 : List UInt8 := dkwX3_timesOf_6 ++ []
def dkwX3_timesOf_5 : List UInt8 := [22, 17, 105, 97, 55, 10, 132, 12, 1, 167, 255, 134, 22, 10, 42, 180, 0, 191, 105, 42, 182, 0, 254]
abbrev dktX3_timesOf_5 : List UInt8 := dkwX3_timesOf_5 ++ dktX3_timesOf_6
def dkwX3_timesOf_4 : List UInt8 := [22, 10, 21, 12, 154, 0, 7, 32, 167, 0, 16, 21, 12, 4, 160, 0, 8, 22, 4, 167, 0, 5, 22, 6]
abbrev dktX3_timesOf_4 : List UInt8 := dkwX3_timesOf_4 ++ dktX3_timesOf_5
def dkwX3_timesOf_3 : List UInt8 := [6, 21, 13, 104, 21, 16, 96, 47, 42, 180, 0, 36, 6, 21, 14, 104, 21, 15, 96, 47, 105, 101, 55, 17]
abbrev dktX3_timesOf_3 : List UInt8 := dkwX3_timesOf_3 ++ dktX3_timesOf_4
def dkwX3_timesOf_2 : List UInt8 := [21, 13, 104, 21, 15, 96, 47, 42, 180, 0, 36, 6, 21, 14, 104, 21, 16, 96, 47, 105, 42, 180, 0, 36]
abbrev dktX3_timesOf_2 : List UInt8 := dkwX3_timesOf_2 ++ dktX3_timesOf_3
def dkwX3_timesOf_1 : List UInt8 := [54, 14, 21, 12, 4, 96, 6, 112, 54, 15, 21, 12, 5, 96, 6, 112, 54, 16, 42, 180, 0, 36, 6]
abbrev dktX3_timesOf_1 : List UInt8 := dkwX3_timesOf_1 ++ dktX3_timesOf_2
def dkwX3_timesOf_0 : List UInt8 := [9, 55, 10, 3, 54, 12, 21, 12, 6, 162, 0, 122, 27, 4, 96, 6, 112, 54, 13, 27, 5, 96, 6, 112]
abbrev dktX3_timesOf_0 : List UInt8 := dkwX3_timesOf_0 ++ dktX3_timesOf_1
theorem dksX3_timesOf_0 : cX3_timesOf.data.toList.drop 0 = dktX3_timesOf_0 := by decide +kernel
theorem dksX3_timesOf_1 : cX3_timesOf.data.toList.drop 24 = dktX3_timesOf_1 := dk_seg dksX3_timesOf_0 24 rfl rfl
theorem dksX3_timesOf_2 : cX3_timesOf.data.toList.drop 47 = dktX3_timesOf_2 := dk_seg dksX3_timesOf_1 23 rfl rfl
theorem dksX3_timesOf_3 : cX3_timesOf.data.toList.drop 71 = dktX3_timesOf_3 := dk_seg dksX3_timesOf_2 24 rfl rfl
theorem dksX3_timesOf_4 : cX3_timesOf.data.toList.drop 95 = dktX3_timesOf_4 := dk_seg dksX3_timesOf_3 24 rfl rfl
theorem dksX3_timesOf_5 : cX3_timesOf.data.toList.drop 119 = dktX3_timesOf_5 := dk_seg dksX3_timesOf_4 24 rfl rfl
theorem dksX3_timesOf_6 : cX3_timesOf.data.toList.drop 142 = dktX3_timesOf_6 := dk_seg dksX3_timesOf_5 23 rfl rfl
theorem dX3_timesOf_0 : decode cX3_timesOf 0 = .ok (.lconst 0, 1) := dk_9 (dk_at dksX3_timesOf_0 0 rfl rfl)
theorem dX3_timesOf_1 : decode cX3_timesOf 1 = .ok (.lstore 10, 2) := dk_55 10 (dk_at dksX3_timesOf_0 1 rfl rfl)
theorem dX3_timesOf_3 : decode cX3_timesOf 3 = .ok (.iconst 0, 1) := dk_3 (dk_at dksX3_timesOf_0 3 rfl rfl)
theorem dX3_timesOf_4 : decode cX3_timesOf 4 = .ok (.istore 12, 2) := dk_54 12 (dk_at dksX3_timesOf_0 4 rfl rfl)
theorem dX3_timesOf_6 : decode cX3_timesOf 6 = .ok (.iload 12, 2) := dk_21 12 (dk_at dksX3_timesOf_0 6 rfl rfl)
theorem dX3_timesOf_8 : decode cX3_timesOf 8 = .ok (.iconst 3, 1) := dk_6 (dk_at dksX3_timesOf_0 8 rfl rfl)
theorem dX3_timesOf_9 : decode cX3_timesOf 9 = .ok (.if_icmp .ge 122, 3) := dk_162 0 122 (dk_at dksX3_timesOf_0 9 rfl rfl)
theorem dX3_timesOf_12 : decode cX3_timesOf 12 = .ok (.iload_n 1, 1) := dk_27 (dk_at dksX3_timesOf_0 12 rfl rfl)
theorem dX3_timesOf_13 : decode cX3_timesOf 13 = .ok (.iconst 1, 1) := dk_4 (dk_at dksX3_timesOf_0 13 rfl rfl)
theorem dX3_timesOf_14 : decode cX3_timesOf 14 = .ok (.iadd, 1) := dk_96 (dk_at dksX3_timesOf_0 14 rfl rfl)
theorem dX3_timesOf_15 : decode cX3_timesOf 15 = .ok (.iconst 3, 1) := dk_6 (dk_at dksX3_timesOf_0 15 rfl rfl)
theorem dX3_timesOf_16 : decode cX3_timesOf 16 = .ok (.irem, 1) := dk_112 (dk_at dksX3_timesOf_0 16 rfl rfl)
theorem dX3_timesOf_17 : decode cX3_timesOf 17 = .ok (.istore 13, 2) := dk_54 13 (dk_at dksX3_timesOf_0 17 rfl rfl)
theorem dX3_timesOf_19 : decode cX3_timesOf 19 = .ok (.iload_n 1, 1) := dk_27 (dk_at dksX3_timesOf_0 19 rfl rfl)
theorem dX3_timesOf_20 : decode cX3_timesOf 20 = .ok (.iconst 2, 1) := dk_5 (dk_at dksX3_timesOf_0 20 rfl rfl)
theorem dX3_timesOf_21 : decode cX3_timesOf 21 = .ok (.iadd, 1) := dk_96 (dk_at dksX3_timesOf_0 21 rfl rfl)
theorem dX3_timesOf_22 : decode cX3_timesOf 22 = .ok (.iconst 3, 1) := dk_6 (dk_at dksX3_timesOf_0 22 rfl rfl)
theorem dX3_timesOf_23 : decode cX3_timesOf 23 = .ok (.irem, 1) := dk_112 (dk_at dksX3_timesOf_0 23 rfl rfl)
theorem dX3_timesOf_24 : decode cX3_timesOf 24 = .ok (.istore 14, 2) := dk_54 14 (dk_at dksX3_timesOf_1 0 rfl rfl)
theorem dX3_timesOf_26 : decode cX3_timesOf 26 = .ok (.iload 12, 2) := dk_21 12 (dk_at dksX3_timesOf_1 2 rfl rfl)
theorem dX3_timesOf_28 : decode cX3_timesOf 28 = .ok (.iconst 1, 1) := dk_4 (dk_at dksX3_timesOf_1 4 rfl rfl)
theorem dX3_timesOf_29 : decode cX3_timesOf 29 = .ok (.iadd, 1) := dk_96 (dk_at dksX3_timesOf_1 5 rfl rfl)
theorem dX3_timesOf_30 : decode cX3_timesOf 30 = .ok (.iconst 3, 1) := dk_6 (dk_at dksX3_timesOf_1 6 rfl rfl)
theorem dX3_timesOf_31 : decode cX3_timesOf 31 = .ok (.irem, 1) := dk_112 (dk_at dksX3_timesOf_1 7 rfl rfl)
theorem dX3_timesOf_32 : decode cX3_timesOf 32 = .ok (.istore 15, 2) := dk_54 15 (dk_at dksX3_timesOf_1 8 rfl rfl)
theorem dX3_timesOf_34 : decode cX3_timesOf 34 = .ok (.iload 12, 2) := dk_21 12 (dk_at dksX3_timesOf_1 10 rfl rfl)
theorem dX3_timesOf_36 : decode cX3_timesOf 36 = .ok (.iconst 2, 1) := dk_5 (dk_at dksX3_timesOf_1 12 rfl rfl)
theorem dX3_timesOf_37 : decode cX3_timesOf 37 = .ok (.iadd, 1) := dk_96 (dk_at dksX3_timesOf_1 13 rfl rfl)
theorem dX3_timesOf_38 : decode cX3_timesOf 38 = .ok (.iconst 3, 1) := dk_6 (dk_at dksX3_timesOf_1 14 rfl rfl)
theorem dX3_timesOf_39 : decode cX3_timesOf 39 = .ok (.irem, 1) := dk_112 (dk_at dksX3_timesOf_1 15 rfl rfl)
theorem dX3_timesOf_40 : decode cX3_timesOf 40 = .ok (.istore 16, 2) := dk_54 16 (dk_at dksX3_timesOf_1 16 rfl rfl)
theorem dX3_timesOf_42 : decode cX3_timesOf 42 = .ok (.aload_n 0, 1) := dk_42 (dk_at dksX3_timesOf_1 18 rfl rfl)
theorem dX3_timesOf_43 : decode cX3_timesOf 43 = .ok (.getfield 36, 3) := dk_180 0 36 (dk_at dksX3_timesOf_1 19 rfl rfl)
theorem dX3_timesOf_46 : decode cX3_timesOf 46 = .ok (.iconst 3, 1) := dk_6 (dk_at dksX3_timesOf_1 22 rfl rfl)
theorem dX3_timesOf_47 : decode cX3_timesOf 47 = .ok (.iload 13, 2) := dk_21 13 (dk_at dksX3_timesOf_2 0 rfl rfl)
theorem dX3_timesOf_49 : decode cX3_timesOf 49 = .ok (.imul, 1) := dk_104 (dk_at dksX3_timesOf_2 2 rfl rfl)
theorem dX3_timesOf_50 : decode cX3_timesOf 50 = .ok (.iload 15, 2) := dk_21 15 (dk_at dksX3_timesOf_2 3 rfl rfl)
theorem dX3_timesOf_52 : decode cX3_timesOf 52 = .ok (.iadd, 1) := dk_96 (dk_at dksX3_timesOf_2 5 rfl rfl)
theorem dX3_timesOf_53 : decode cX3_timesOf 53 = .ok (.laload, 1) := dk_47 (dk_at dksX3_timesOf_2 6 rfl rfl)
theorem dX3_timesOf_54 : decode cX3_timesOf 54 = .ok (.aload_n 0, 1) := dk_42 (dk_at dksX3_timesOf_2 7 rfl rfl)
theorem dX3_timesOf_55 : decode cX3_timesOf 55 = .ok (.getfield 36, 3) := dk_180 0 36 (dk_at dksX3_timesOf_2 8 rfl rfl)
theorem dX3_timesOf_58 : decode cX3_timesOf 58 = .ok (.iconst 3, 1) := dk_6 (dk_at dksX3_timesOf_2 11 rfl rfl)
theorem dX3_timesOf_59 : decode cX3_timesOf 59 = .ok (.iload 14, 2) := dk_21 14 (dk_at dksX3_timesOf_2 12 rfl rfl)
theorem dX3_timesOf_61 : decode cX3_timesOf 61 = .ok (.imul, 1) := dk_104 (dk_at dksX3_timesOf_2 14 rfl rfl)
theorem dX3_timesOf_62 : decode cX3_timesOf 62 = .ok (.iload 16, 2) := dk_21 16 (dk_at dksX3_timesOf_2 15 rfl rfl)
theorem dX3_timesOf_64 : decode cX3_timesOf 64 = .ok (.iadd, 1) := dk_96 (dk_at dksX3_timesOf_2 17 rfl rfl)
theorem dX3_timesOf_65 : decode cX3_timesOf 65 = .ok (.laload, 1) := dk_47 (dk_at dksX3_timesOf_2 18 rfl rfl)
theorem dX3_timesOf_66 : decode cX3_timesOf 66 = .ok (.lmul, 1) := dk_105 (dk_at dksX3_timesOf_2 19 rfl rfl)
theorem dX3_timesOf_67 : decode cX3_timesOf 67 = .ok (.aload_n 0, 1) := dk_42 (dk_at dksX3_timesOf_2 20 rfl rfl)
theorem dX3_timesOf_68 : decode cX3_timesOf 68 = .ok (.getfield 36, 3) := dk_180 0 36 (dk_at dksX3_timesOf_2 21 rfl rfl)
theorem dX3_timesOf_71 : decode cX3_timesOf 71 = .ok (.iconst 3, 1) := dk_6 (dk_at dksX3_timesOf_3 0 rfl rfl)
theorem dX3_timesOf_72 : decode cX3_timesOf 72 = .ok (.iload 13, 2) := dk_21 13 (dk_at dksX3_timesOf_3 1 rfl rfl)
theorem dX3_timesOf_74 : decode cX3_timesOf 74 = .ok (.imul, 1) := dk_104 (dk_at dksX3_timesOf_3 3 rfl rfl)
theorem dX3_timesOf_75 : decode cX3_timesOf 75 = .ok (.iload 16, 2) := dk_21 16 (dk_at dksX3_timesOf_3 4 rfl rfl)
theorem dX3_timesOf_77 : decode cX3_timesOf 77 = .ok (.iadd, 1) := dk_96 (dk_at dksX3_timesOf_3 6 rfl rfl)
theorem dX3_timesOf_78 : decode cX3_timesOf 78 = .ok (.laload, 1) := dk_47 (dk_at dksX3_timesOf_3 7 rfl rfl)
theorem dX3_timesOf_79 : decode cX3_timesOf 79 = .ok (.aload_n 0, 1) := dk_42 (dk_at dksX3_timesOf_3 8 rfl rfl)
theorem dX3_timesOf_80 : decode cX3_timesOf 80 = .ok (.getfield 36, 3) := dk_180 0 36 (dk_at dksX3_timesOf_3 9 rfl rfl)
theorem dX3_timesOf_83 : decode cX3_timesOf 83 = .ok (.iconst 3, 1) := dk_6 (dk_at dksX3_timesOf_3 12 rfl rfl)
theorem dX3_timesOf_84 : decode cX3_timesOf 84 = .ok (.iload 14, 2) := dk_21 14 (dk_at dksX3_timesOf_3 13 rfl rfl)
theorem dX3_timesOf_86 : decode cX3_timesOf 86 = .ok (.imul, 1) := dk_104 (dk_at dksX3_timesOf_3 15 rfl rfl)
theorem dX3_timesOf_87 : decode cX3_timesOf 87 = .ok (.iload 15, 2) := dk_21 15 (dk_at dksX3_timesOf_3 16 rfl rfl)
theorem dX3_timesOf_89 : decode cX3_timesOf 89 = .ok (.iadd, 1) := dk_96 (dk_at dksX3_timesOf_3 18 rfl rfl)
theorem dX3_timesOf_90 : decode cX3_timesOf 90 = .ok (.laload, 1) := dk_47 (dk_at dksX3_timesOf_3 19 rfl rfl)
theorem dX3_timesOf_91 : decode cX3_timesOf 91 = .ok (.lmul, 1) := dk_105 (dk_at dksX3_timesOf_3 20 rfl rfl)
theorem dX3_timesOf_92 : decode cX3_timesOf 92 = .ok (.lsub, 1) := dk_101 (dk_at dksX3_timesOf_3 21 rfl rfl)
theorem dX3_timesOf_93 : decode cX3_timesOf 93 = .ok (.lstore 17, 2) := dk_55 17 (dk_at dksX3_timesOf_3 22 rfl rfl)
theorem dX3_timesOf_95 : decode cX3_timesOf 95 = .ok (.lload 10, 2) := dk_22 10 (dk_at dksX3_timesOf_4 0 rfl rfl)
theorem dX3_timesOf_97 : decode cX3_timesOf 97 = .ok (.iload 12, 2) := dk_21 12 (dk_at dksX3_timesOf_4 2 rfl rfl)
theorem dX3_timesOf_99 : decode cX3_timesOf 99 = .ok (.ifCond .ne 7, 3) := dk_154 0 7 (dk_at dksX3_timesOf_4 4 rfl rfl)
theorem dX3_timesOf_102 : decode cX3_timesOf 102 = .ok (.lload_n 2, 1) := dk_32 (dk_at dksX3_timesOf_4 7 rfl rfl)
theorem dX3_timesOf_103 : decode cX3_timesOf 103 = .ok (.goto 16, 3) := dk_167 0 16 (dk_at dksX3_timesOf_4 8 rfl rfl)
theorem dX3_timesOf_106 : decode cX3_timesOf 106 = .ok (.iload 12, 2) := dk_21 12 (dk_at dksX3_timesOf_4 11 rfl rfl)
theorem dX3_timesOf_108 : decode cX3_timesOf 108 = .ok (.iconst 1, 1) := dk_4 (dk_at dksX3_timesOf_4 13 rfl rfl)
theorem dX3_timesOf_109 : decode cX3_timesOf 109 = .ok (.if_icmp .ne 8, 3) := dk_160 0 8 (dk_at dksX3_timesOf_4 14 rfl rfl)
theorem dX3_timesOf_112 : decode cX3_timesOf 112 = .ok (.lload 4, 2) := dk_22 4 (dk_at dksX3_timesOf_4 17 rfl rfl)
theorem dX3_timesOf_114 : decode cX3_timesOf 114 = .ok (.goto 5, 3) := dk_167 0 5 (dk_at dksX3_timesOf_4 19 rfl rfl)
theorem dX3_timesOf_117 : decode cX3_timesOf 117 = .ok (.lload 6, 2) := dk_22 6 (dk_at dksX3_timesOf_4 22 rfl rfl)
theorem dX3_timesOf_119 : decode cX3_timesOf 119 = .ok (.lload 17, 2) := dk_22 17 (dk_at dksX3_timesOf_5 0 rfl rfl)
theorem dX3_timesOf_121 : decode cX3_timesOf 121 = .ok (.lmul, 1) := dk_105 (dk_at dksX3_timesOf_5 2 rfl rfl)
theorem dX3_timesOf_122 : decode cX3_timesOf 122 = .ok (.ladd, 1) := dk_97 (dk_at dksX3_timesOf_5 3 rfl rfl)
theorem dX3_timesOf_123 : decode cX3_timesOf 123 = .ok (.lstore 10, 2) := dk_55 10 (dk_at dksX3_timesOf_5 4 rfl rfl)
theorem dX3_timesOf_125 : decode cX3_timesOf 125 = .ok (.iinc 12 1, 3) := dk_132 12 1 (dk_at dksX3_timesOf_5 6 rfl rfl)
theorem dX3_timesOf_128 : decode cX3_timesOf 128 = .ok (.goto (-122), 3) := dk_167 255 134 (dk_at dksX3_timesOf_5 9 rfl rfl)
theorem dX3_timesOf_131 : decode cX3_timesOf 131 = .ok (.lload 10, 2) := dk_22 10 (dk_at dksX3_timesOf_5 12 rfl rfl)
theorem dX3_timesOf_133 : decode cX3_timesOf 133 = .ok (.aload_n 0, 1) := dk_42 (dk_at dksX3_timesOf_5 14 rfl rfl)
theorem dX3_timesOf_134 : decode cX3_timesOf 134 = .ok (.getfield 191, 3) := dk_180 0 191 (dk_at dksX3_timesOf_5 15 rfl rfl)
theorem dX3_timesOf_137 : decode cX3_timesOf 137 = .ok (.lmul, 1) := dk_105 (dk_at dksX3_timesOf_5 18 rfl rfl)
theorem dX3_timesOf_138 : decode cX3_timesOf 138 = .ok (.aload_n 0, 1) := dk_42 (dk_at dksX3_timesOf_5 19 rfl rfl)
theorem dX3_timesOf_139 : decode cX3_timesOf 139 = .ok (.invokevirtual 254, 3) := dk_182 0 254 (dk_at dksX3_timesOf_5 20 rfl rfl)
theorem dX3_timesOf_142 : decode cX3_timesOf 142 = .ok (.lload 8, 2) := dk_22 8 (dk_at dksX3_timesOf_6 0 rfl rfl)
theorem dX3_timesOf_144 : decode cX3_timesOf 144 = .ok (.lmul, 1) := dk_105 (dk_at dksX3_timesOf_6 2 rfl rfl)
theorem dX3_timesOf_145 : decode cX3_timesOf 145 = .ok (.ldiv, 1) := dk_109 (dk_at dksX3_timesOf_6 3 rfl rfl)
theorem dX3_timesOf_146 : decode cX3_timesOf 146 = .ok (.lreturn, 1) := dk_173 (dk_at dksX3_timesOf_6 4 rfl rfl)
abbrev cX3_turned : ByteArray := prog_20_method_78_code
def yX3_turned : MethodName := ⟨RX3, "turned", "(II)I"⟩
def dkwX3_turned_2 : List UInt8 := [132, 4, 1, 167, 255, 224, 29, 172]
abbrev dktX3_turned_2 : List UInt8 := dkwX3_turned_2 ++ []
def dkwX3_turned_1 : List UInt8 := [162, 0, 30, 29, 42, 27, 21, 4, 182, 1, 90, 28, 133, 148, 154, 0, 7, 4, 167, 0, 4, 3, 96, 62]
abbrev dktX3_turned_1 : List UInt8 := dkwX3_turned_1 ++ dktX3_turned_2
def dkwX3_turned_0 : List UInt8 := [42, 27, 28, 182, 1, 87, 154, 0, 6, 16, 254, 172, 3, 62, 4, 54, 4, 21, 4, 17, 1, 0]
abbrev dktX3_turned_0 : List UInt8 := dkwX3_turned_0 ++ dktX3_turned_1
theorem dksX3_turned_0 : cX3_turned.data.toList.drop 0 = dktX3_turned_0 := by decide +kernel
theorem dksX3_turned_1 : cX3_turned.data.toList.drop 22 = dktX3_turned_1 := dk_seg dksX3_turned_0 22 rfl rfl
theorem dksX3_turned_2 : cX3_turned.data.toList.drop 46 = dktX3_turned_2 := dk_seg dksX3_turned_1 24 rfl rfl
theorem dX3_turned_0 : decode cX3_turned 0 = .ok (.aload_n 0, 1) := dk_42 (dk_at dksX3_turned_0 0 rfl rfl)
theorem dX3_turned_1 : decode cX3_turned 1 = .ok (.iload_n 1, 1) := dk_27 (dk_at dksX3_turned_0 1 rfl rfl)
theorem dX3_turned_2 : decode cX3_turned 2 = .ok (.iload_n 2, 1) := dk_28 (dk_at dksX3_turned_0 2 rfl rfl)
theorem dX3_turned_3 : decode cX3_turned 3 = .ok (.invokevirtual 343, 3) := dk_182 1 87 (dk_at dksX3_turned_0 3 rfl rfl)
theorem dX3_turned_6 : decode cX3_turned 6 = .ok (.ifCond .ne 6, 3) := dk_154 0 6 (dk_at dksX3_turned_0 6 rfl rfl)
theorem dX3_turned_9 : decode cX3_turned 9 = .ok (.bipush (-2), 2) := dk_16 254 (dk_at dksX3_turned_0 9 rfl rfl)
theorem dX3_turned_11 : decode cX3_turned 11 = .ok (.ireturn, 1) := dk_172 (dk_at dksX3_turned_0 11 rfl rfl)
theorem dX3_turned_12 : decode cX3_turned 12 = .ok (.iconst 0, 1) := dk_3 (dk_at dksX3_turned_0 12 rfl rfl)
theorem dX3_turned_13 : decode cX3_turned 13 = .ok (.istore_n 3, 1) := dk_62 (dk_at dksX3_turned_0 13 rfl rfl)
theorem dX3_turned_14 : decode cX3_turned 14 = .ok (.iconst 1, 1) := dk_4 (dk_at dksX3_turned_0 14 rfl rfl)
theorem dX3_turned_15 : decode cX3_turned 15 = .ok (.istore 4, 2) := dk_54 4 (dk_at dksX3_turned_0 15 rfl rfl)
theorem dX3_turned_17 : decode cX3_turned 17 = .ok (.iload 4, 2) := dk_21 4 (dk_at dksX3_turned_0 17 rfl rfl)
theorem dX3_turned_19 : decode cX3_turned 19 = .ok (.sipush 256, 3) := dk_17 1 0 (dk_at dksX3_turned_0 19 rfl rfl)
theorem dX3_turned_22 : decode cX3_turned 22 = .ok (.if_icmp .ge 30, 3) := dk_162 0 30 (dk_at dksX3_turned_1 0 rfl rfl)
theorem dX3_turned_25 : decode cX3_turned 25 = .ok (.iload_n 3, 1) := dk_29 (dk_at dksX3_turned_1 3 rfl rfl)
theorem dX3_turned_26 : decode cX3_turned 26 = .ok (.aload_n 0, 1) := dk_42 (dk_at dksX3_turned_1 4 rfl rfl)
theorem dX3_turned_27 : decode cX3_turned 27 = .ok (.iload_n 1, 1) := dk_27 (dk_at dksX3_turned_1 5 rfl rfl)
theorem dX3_turned_28 : decode cX3_turned 28 = .ok (.iload 4, 2) := dk_21 4 (dk_at dksX3_turned_1 6 rfl rfl)
theorem dX3_turned_30 : decode cX3_turned 30 = .ok (.invokevirtual 346, 3) := dk_182 1 90 (dk_at dksX3_turned_1 8 rfl rfl)
theorem dX3_turned_33 : decode cX3_turned 33 = .ok (.iload_n 2, 1) := dk_28 (dk_at dksX3_turned_1 11 rfl rfl)
theorem dX3_turned_34 : decode cX3_turned 34 = .ok (.i2l, 1) := dk_133 (dk_at dksX3_turned_1 12 rfl rfl)
theorem dX3_turned_35 : decode cX3_turned 35 = .ok (.lcmp, 1) := dk_148 (dk_at dksX3_turned_1 13 rfl rfl)
theorem dX3_turned_36 : decode cX3_turned 36 = .ok (.ifCond .ne 7, 3) := dk_154 0 7 (dk_at dksX3_turned_1 14 rfl rfl)
theorem dX3_turned_39 : decode cX3_turned 39 = .ok (.iconst 1, 1) := dk_4 (dk_at dksX3_turned_1 17 rfl rfl)
theorem dX3_turned_40 : decode cX3_turned 40 = .ok (.goto 4, 3) := dk_167 0 4 (dk_at dksX3_turned_1 18 rfl rfl)
theorem dX3_turned_43 : decode cX3_turned 43 = .ok (.iconst 0, 1) := dk_3 (dk_at dksX3_turned_1 21 rfl rfl)
theorem dX3_turned_44 : decode cX3_turned 44 = .ok (.iadd, 1) := dk_96 (dk_at dksX3_turned_1 22 rfl rfl)
theorem dX3_turned_45 : decode cX3_turned 45 = .ok (.istore_n 3, 1) := dk_62 (dk_at dksX3_turned_1 23 rfl rfl)
theorem dX3_turned_46 : decode cX3_turned 46 = .ok (.iinc 4 1, 3) := dk_132 4 1 (dk_at dksX3_turned_2 0 rfl rfl)
theorem dX3_turned_49 : decode cX3_turned 49 = .ok (.goto (-32), 3) := dk_167 255 224 (dk_at dksX3_turned_2 3 rfl rfl)
theorem dX3_turned_52 : decode cX3_turned 52 = .ok (.iload_n 3, 1) := dk_29 (dk_at dksX3_turned_2 6 rfl rfl)
theorem dX3_turned_53 : decode cX3_turned 53 = .ok (.ireturn, 1) := dk_172 (dk_at dksX3_turned_2 7 rfl rfl)
abbrev cX3_canTurn : ByteArray := prog_20_method_77_code
def yX3_canTurn : MethodName := ⟨RX3, "canTurn", "(II)Z"⟩
def dkwX3_canTurn_1 : List UInt8 := [184, 0, 88, 153, 0, 7, 4, 167, 0, 4, 3, 172]
abbrev dktX3_canTurn_1 : List UInt8 := dkwX3_canTurn_1 ++ []
def dkwX3_canTurn_0 : List UInt8 := [42, 27, 182, 0, 211, 153, 0, 27, 42, 27, 182, 0, 187, 154, 0, 19, 28, 133, 10, 20, 1, 15]
abbrev dktX3_canTurn_0 : List UInt8 := dkwX3_canTurn_0 ++ dktX3_canTurn_1
theorem dksX3_canTurn_0 : cX3_canTurn.data.toList.drop 0 = dktX3_canTurn_0 := by decide +kernel
theorem dksX3_canTurn_1 : cX3_canTurn.data.toList.drop 22 = dktX3_canTurn_1 := dk_seg dksX3_canTurn_0 22 rfl rfl
theorem dX3_canTurn_0 : decode cX3_canTurn 0 = .ok (.aload_n 0, 1) := dk_42 (dk_at dksX3_canTurn_0 0 rfl rfl)
theorem dX3_canTurn_1 : decode cX3_canTurn 1 = .ok (.iload_n 1, 1) := dk_27 (dk_at dksX3_canTurn_0 1 rfl rfl)
theorem dX3_canTurn_2 : decode cX3_canTurn 2 = .ok (.invokevirtual 211, 3) := dk_182 0 211 (dk_at dksX3_canTurn_0 2 rfl rfl)
theorem dX3_canTurn_5 : decode cX3_canTurn 5 = .ok (.ifCond .eq 27, 3) := dk_153 0 27 (dk_at dksX3_canTurn_0 5 rfl rfl)
theorem dX3_canTurn_8 : decode cX3_canTurn 8 = .ok (.aload_n 0, 1) := dk_42 (dk_at dksX3_canTurn_0 8 rfl rfl)
theorem dX3_canTurn_9 : decode cX3_canTurn 9 = .ok (.iload_n 1, 1) := dk_27 (dk_at dksX3_canTurn_0 9 rfl rfl)
theorem dX3_canTurn_10 : decode cX3_canTurn 10 = .ok (.invokevirtual 187, 3) := dk_182 0 187 (dk_at dksX3_canTurn_0 10 rfl rfl)
theorem dX3_canTurn_13 : decode cX3_canTurn 13 = .ok (.ifCond .ne 19, 3) := dk_154 0 19 (dk_at dksX3_canTurn_0 13 rfl rfl)
theorem dX3_canTurn_16 : decode cX3_canTurn 16 = .ok (.iload_n 2, 1) := dk_28 (dk_at dksX3_canTurn_0 16 rfl rfl)
theorem dX3_canTurn_17 : decode cX3_canTurn 17 = .ok (.i2l, 1) := dk_133 (dk_at dksX3_canTurn_0 17 rfl rfl)
theorem dX3_canTurn_18 : decode cX3_canTurn 18 = .ok (.lconst 1, 1) := dk_10 (dk_at dksX3_canTurn_0 18 rfl rfl)
theorem dX3_canTurn_19 : decode cX3_canTurn 19 = .ok (.ldc2_w 271, 3) := dk_20 1 15 (dk_at dksX3_canTurn_0 19 rfl rfl)
theorem dX3_canTurn_22 : decode cX3_canTurn 22 = .ok (.invokestatic 88, 3) := dk_184 0 88 (dk_at dksX3_canTurn_1 0 rfl rfl)
theorem dX3_canTurn_25 : decode cX3_canTurn 25 = .ok (.ifCond .eq 7, 3) := dk_153 0 7 (dk_at dksX3_canTurn_1 3 rfl rfl)
theorem dX3_canTurn_28 : decode cX3_canTurn 28 = .ok (.iconst 1, 1) := dk_4 (dk_at dksX3_canTurn_1 6 rfl rfl)
theorem dX3_canTurn_29 : decode cX3_canTurn 29 = .ok (.goto 4, 3) := dk_167 0 4 (dk_at dksX3_canTurn_1 7 rfl rfl)
theorem dX3_canTurn_32 : decode cX3_canTurn 32 = .ok (.iconst 0, 1) := dk_3 (dk_at dksX3_canTurn_1 10 rfl rfl)
theorem dX3_canTurn_33 : decode cX3_canTurn 33 = .ok (.ireturn, 1) := dk_172 (dk_at dksX3_canTurn_1 11 rfl rfl)
abbrev cX3_indexOf : ByteArray := prog_20_method_76_code
def yX3_indexOf : MethodName := ⟨RX3, "indexOf", "(II)J"⟩
def dkwX3_indexOf_3 : List UInt8 := [167, 255, 235, 42, 182, 0, 254, 184, 0, 1, 173]
abbrev dktX3_indexOf_3 : List UInt8 := dkwX3_indexOf_3 ++ []
def dkwX3_indexOf_2 : List UInt8 := [3, 62, 29, 16, 9, 162, 0, 21, 42, 180, 0, 36, 29, 42, 180, 0, 64, 29, 47, 80, 132, 3, 1]
abbrev dktX3_indexOf_2 : List UInt8 := dkwX3_indexOf_2 ++ dktX3_indexOf_3
def dkwX3_indexOf_1 : List UInt8 := [7, 108, 7, 112, 133, 28, 7, 112, 133, 182, 0, 195, 42, 182, 0, 199, 42, 182, 1, 30, 42, 182, 1, 61]
abbrev dktX3_indexOf_1 : List UInt8 := dkwX3_indexOf_1 ++ dktX3_indexOf_2
def dkwX3_indexOf_0 : List UInt8 := [42, 27, 182, 1, 27, 42, 27, 182, 0, 217, 42, 28, 16, 64, 108, 133, 28, 16, 16, 108, 7, 112, 133, 28]
abbrev dktX3_indexOf_0 : List UInt8 := dkwX3_indexOf_0 ++ dktX3_indexOf_1
theorem dksX3_indexOf_0 : cX3_indexOf.data.toList.drop 0 = dktX3_indexOf_0 := by decide +kernel
theorem dksX3_indexOf_1 : cX3_indexOf.data.toList.drop 24 = dktX3_indexOf_1 := dk_seg dksX3_indexOf_0 24 rfl rfl
theorem dksX3_indexOf_2 : cX3_indexOf.data.toList.drop 48 = dktX3_indexOf_2 := dk_seg dksX3_indexOf_1 24 rfl rfl
theorem dksX3_indexOf_3 : cX3_indexOf.data.toList.drop 71 = dktX3_indexOf_3 := dk_seg dksX3_indexOf_2 23 rfl rfl
theorem dX3_indexOf_0 : decode cX3_indexOf 0 = .ok (.aload_n 0, 1) := dk_42 (dk_at dksX3_indexOf_0 0 rfl rfl)
theorem dX3_indexOf_1 : decode cX3_indexOf 1 = .ok (.iload_n 1, 1) := dk_27 (dk_at dksX3_indexOf_0 1 rfl rfl)
theorem dX3_indexOf_2 : decode cX3_indexOf 2 = .ok (.invokevirtual 283, 3) := dk_182 1 27 (dk_at dksX3_indexOf_0 2 rfl rfl)
theorem dX3_indexOf_5 : decode cX3_indexOf 5 = .ok (.aload_n 0, 1) := dk_42 (dk_at dksX3_indexOf_0 5 rfl rfl)
theorem dX3_indexOf_6 : decode cX3_indexOf 6 = .ok (.iload_n 1, 1) := dk_27 (dk_at dksX3_indexOf_0 6 rfl rfl)
theorem dX3_indexOf_7 : decode cX3_indexOf 7 = .ok (.invokevirtual 217, 3) := dk_182 0 217 (dk_at dksX3_indexOf_0 7 rfl rfl)
theorem dX3_indexOf_10 : decode cX3_indexOf 10 = .ok (.aload_n 0, 1) := dk_42 (dk_at dksX3_indexOf_0 10 rfl rfl)
theorem dX3_indexOf_11 : decode cX3_indexOf 11 = .ok (.iload_n 2, 1) := dk_28 (dk_at dksX3_indexOf_0 11 rfl rfl)
theorem dX3_indexOf_12 : decode cX3_indexOf 12 = .ok (.bipush 64, 2) := dk_16 64 (dk_at dksX3_indexOf_0 12 rfl rfl)
theorem dX3_indexOf_14 : decode cX3_indexOf 14 = .ok (.idiv, 1) := dk_108 (dk_at dksX3_indexOf_0 14 rfl rfl)
theorem dX3_indexOf_15 : decode cX3_indexOf 15 = .ok (.i2l, 1) := dk_133 (dk_at dksX3_indexOf_0 15 rfl rfl)
theorem dX3_indexOf_16 : decode cX3_indexOf 16 = .ok (.iload_n 2, 1) := dk_28 (dk_at dksX3_indexOf_0 16 rfl rfl)
theorem dX3_indexOf_17 : decode cX3_indexOf 17 = .ok (.bipush 16, 2) := dk_16 16 (dk_at dksX3_indexOf_0 17 rfl rfl)
theorem dX3_indexOf_19 : decode cX3_indexOf 19 = .ok (.idiv, 1) := dk_108 (dk_at dksX3_indexOf_0 19 rfl rfl)
theorem dX3_indexOf_20 : decode cX3_indexOf 20 = .ok (.iconst 4, 1) := dk_7 (dk_at dksX3_indexOf_0 20 rfl rfl)
theorem dX3_indexOf_21 : decode cX3_indexOf 21 = .ok (.irem, 1) := dk_112 (dk_at dksX3_indexOf_0 21 rfl rfl)
theorem dX3_indexOf_22 : decode cX3_indexOf 22 = .ok (.i2l, 1) := dk_133 (dk_at dksX3_indexOf_0 22 rfl rfl)
theorem dX3_indexOf_23 : decode cX3_indexOf 23 = .ok (.iload_n 2, 1) := dk_28 (dk_at dksX3_indexOf_0 23 rfl rfl)
theorem dX3_indexOf_24 : decode cX3_indexOf 24 = .ok (.iconst 4, 1) := dk_7 (dk_at dksX3_indexOf_1 0 rfl rfl)
theorem dX3_indexOf_25 : decode cX3_indexOf 25 = .ok (.idiv, 1) := dk_108 (dk_at dksX3_indexOf_1 1 rfl rfl)
theorem dX3_indexOf_26 : decode cX3_indexOf 26 = .ok (.iconst 4, 1) := dk_7 (dk_at dksX3_indexOf_1 2 rfl rfl)
theorem dX3_indexOf_27 : decode cX3_indexOf 27 = .ok (.irem, 1) := dk_112 (dk_at dksX3_indexOf_1 3 rfl rfl)
theorem dX3_indexOf_28 : decode cX3_indexOf 28 = .ok (.i2l, 1) := dk_133 (dk_at dksX3_indexOf_1 4 rfl rfl)
theorem dX3_indexOf_29 : decode cX3_indexOf 29 = .ok (.iload_n 2, 1) := dk_28 (dk_at dksX3_indexOf_1 5 rfl rfl)
theorem dX3_indexOf_30 : decode cX3_indexOf 30 = .ok (.iconst 4, 1) := dk_7 (dk_at dksX3_indexOf_1 6 rfl rfl)
theorem dX3_indexOf_31 : decode cX3_indexOf 31 = .ok (.irem, 1) := dk_112 (dk_at dksX3_indexOf_1 7 rfl rfl)
theorem dX3_indexOf_32 : decode cX3_indexOf 32 = .ok (.i2l, 1) := dk_133 (dk_at dksX3_indexOf_1 8 rfl rfl)
theorem dX3_indexOf_33 : decode cX3_indexOf 33 = .ok (.invokevirtual 195, 3) := dk_182 0 195 (dk_at dksX3_indexOf_1 9 rfl rfl)
theorem dX3_indexOf_36 : decode cX3_indexOf 36 = .ok (.aload_n 0, 1) := dk_42 (dk_at dksX3_indexOf_1 12 rfl rfl)
theorem dX3_indexOf_37 : decode cX3_indexOf 37 = .ok (.invokevirtual 199, 3) := dk_182 0 199 (dk_at dksX3_indexOf_1 13 rfl rfl)
theorem dX3_indexOf_40 : decode cX3_indexOf 40 = .ok (.aload_n 0, 1) := dk_42 (dk_at dksX3_indexOf_1 16 rfl rfl)
theorem dX3_indexOf_41 : decode cX3_indexOf 41 = .ok (.invokevirtual 286, 3) := dk_182 1 30 (dk_at dksX3_indexOf_1 17 rfl rfl)
theorem dX3_indexOf_44 : decode cX3_indexOf 44 = .ok (.aload_n 0, 1) := dk_42 (dk_at dksX3_indexOf_1 20 rfl rfl)
theorem dX3_indexOf_45 : decode cX3_indexOf 45 = .ok (.invokevirtual 317, 3) := dk_182 1 61 (dk_at dksX3_indexOf_1 21 rfl rfl)
theorem dX3_indexOf_48 : decode cX3_indexOf 48 = .ok (.iconst 0, 1) := dk_3 (dk_at dksX3_indexOf_2 0 rfl rfl)
theorem dX3_indexOf_49 : decode cX3_indexOf 49 = .ok (.istore_n 3, 1) := dk_62 (dk_at dksX3_indexOf_2 1 rfl rfl)
theorem dX3_indexOf_50 : decode cX3_indexOf 50 = .ok (.iload_n 3, 1) := dk_29 (dk_at dksX3_indexOf_2 2 rfl rfl)
theorem dX3_indexOf_51 : decode cX3_indexOf 51 = .ok (.bipush 9, 2) := dk_16 9 (dk_at dksX3_indexOf_2 3 rfl rfl)
theorem dX3_indexOf_53 : decode cX3_indexOf 53 = .ok (.if_icmp .ge 21, 3) := dk_162 0 21 (dk_at dksX3_indexOf_2 5 rfl rfl)
theorem dX3_indexOf_56 : decode cX3_indexOf 56 = .ok (.aload_n 0, 1) := dk_42 (dk_at dksX3_indexOf_2 8 rfl rfl)
theorem dX3_indexOf_57 : decode cX3_indexOf 57 = .ok (.getfield 36, 3) := dk_180 0 36 (dk_at dksX3_indexOf_2 9 rfl rfl)
theorem dX3_indexOf_60 : decode cX3_indexOf 60 = .ok (.iload_n 3, 1) := dk_29 (dk_at dksX3_indexOf_2 12 rfl rfl)
theorem dX3_indexOf_61 : decode cX3_indexOf 61 = .ok (.aload_n 0, 1) := dk_42 (dk_at dksX3_indexOf_2 13 rfl rfl)
theorem dX3_indexOf_62 : decode cX3_indexOf 62 = .ok (.getfield 64, 3) := dk_180 0 64 (dk_at dksX3_indexOf_2 14 rfl rfl)
theorem dX3_indexOf_65 : decode cX3_indexOf 65 = .ok (.iload_n 3, 1) := dk_29 (dk_at dksX3_indexOf_2 17 rfl rfl)
theorem dX3_indexOf_66 : decode cX3_indexOf 66 = .ok (.laload, 1) := dk_47 (dk_at dksX3_indexOf_2 18 rfl rfl)
theorem dX3_indexOf_67 : decode cX3_indexOf 67 = .ok (.lastore, 1) := dk_80 (dk_at dksX3_indexOf_2 19 rfl rfl)
theorem dX3_indexOf_68 : decode cX3_indexOf 68 = .ok (.iinc 3 1, 3) := dk_132 3 1 (dk_at dksX3_indexOf_2 20 rfl rfl)
theorem dX3_indexOf_71 : decode cX3_indexOf 71 = .ok (.goto (-21), 3) := dk_167 255 235 (dk_at dksX3_indexOf_3 0 rfl rfl)
theorem dX3_indexOf_74 : decode cX3_indexOf 74 = .ok (.aload_n 0, 1) := dk_42 (dk_at dksX3_indexOf_3 3 rfl rfl)
theorem dX3_indexOf_75 : decode cX3_indexOf 75 = .ok (.invokevirtual 254, 3) := dk_182 0 254 (dk_at dksX3_indexOf_3 4 rfl rfl)
theorem dX3_indexOf_78 : decode cX3_indexOf 78 = .ok (.invokestatic 1, 3) := dk_184 0 1 (dk_at dksX3_indexOf_3 7 rfl rfl)
theorem dX3_indexOf_81 : decode cX3_indexOf 81 = .ok (.lreturn, 1) := dk_173 (dk_at dksX3_indexOf_3 10 rfl rfl)
abbrev cX3_turnOf : ByteArray := prog_20_method_79_code
def yX3_turnOf : MethodName := ⟨RX3, "turnOf", "(II)I"⟩
def dkwX3_turnOf_3 : List UInt8 := [172]
abbrev dktX3_turnOf_3 : List UInt8 := dkwX3_turnOf_3 ++ []
def dkwX3_turnOf_2 : List UInt8 := [112, 104, 96, 16, 10, 29, 7, 108, 7, 112, 104, 96, 29, 7, 112, 96, 172, 132, 3, 1, 167, 255, 202, 2]
abbrev dktX3_turnOf_2 : List UInt8 := dkwX3_turnOf_2 ++ dktX3_turnOf_3
def dkwX3_turnOf_1 : List UInt8 := [182, 1, 90, 28, 133, 148, 154, 0, 35, 17, 3, 232, 29, 16, 64, 108, 104, 16, 100, 29, 16, 16, 108, 7]
abbrev dktX3_turnOf_1 : List UInt8 := dkwX3_turnOf_1 ++ dktX3_turnOf_2
def dkwX3_turnOf_0 : List UInt8 := [42, 27, 28, 182, 1, 87, 154, 0, 6, 16, 254, 172, 4, 62, 29, 17, 1, 0, 162, 0, 53, 42, 27, 29]
abbrev dktX3_turnOf_0 : List UInt8 := dkwX3_turnOf_0 ++ dktX3_turnOf_1
theorem dksX3_turnOf_0 : cX3_turnOf.data.toList.drop 0 = dktX3_turnOf_0 := by decide +kernel
theorem dksX3_turnOf_1 : cX3_turnOf.data.toList.drop 24 = dktX3_turnOf_1 := dk_seg dksX3_turnOf_0 24 rfl rfl
theorem dksX3_turnOf_2 : cX3_turnOf.data.toList.drop 48 = dktX3_turnOf_2 := dk_seg dksX3_turnOf_1 24 rfl rfl
theorem dksX3_turnOf_3 : cX3_turnOf.data.toList.drop 72 = dktX3_turnOf_3 := dk_seg dksX3_turnOf_2 24 rfl rfl
theorem dX3_turnOf_0 : decode cX3_turnOf 0 = .ok (.aload_n 0, 1) := dk_42 (dk_at dksX3_turnOf_0 0 rfl rfl)
theorem dX3_turnOf_1 : decode cX3_turnOf 1 = .ok (.iload_n 1, 1) := dk_27 (dk_at dksX3_turnOf_0 1 rfl rfl)
theorem dX3_turnOf_2 : decode cX3_turnOf 2 = .ok (.iload_n 2, 1) := dk_28 (dk_at dksX3_turnOf_0 2 rfl rfl)
theorem dX3_turnOf_3 : decode cX3_turnOf 3 = .ok (.invokevirtual 343, 3) := dk_182 1 87 (dk_at dksX3_turnOf_0 3 rfl rfl)
theorem dX3_turnOf_6 : decode cX3_turnOf 6 = .ok (.ifCond .ne 6, 3) := dk_154 0 6 (dk_at dksX3_turnOf_0 6 rfl rfl)
theorem dX3_turnOf_9 : decode cX3_turnOf 9 = .ok (.bipush (-2), 2) := dk_16 254 (dk_at dksX3_turnOf_0 9 rfl rfl)
theorem dX3_turnOf_11 : decode cX3_turnOf 11 = .ok (.ireturn, 1) := dk_172 (dk_at dksX3_turnOf_0 11 rfl rfl)
theorem dX3_turnOf_12 : decode cX3_turnOf 12 = .ok (.iconst 1, 1) := dk_4 (dk_at dksX3_turnOf_0 12 rfl rfl)
theorem dX3_turnOf_13 : decode cX3_turnOf 13 = .ok (.istore_n 3, 1) := dk_62 (dk_at dksX3_turnOf_0 13 rfl rfl)
theorem dX3_turnOf_14 : decode cX3_turnOf 14 = .ok (.iload_n 3, 1) := dk_29 (dk_at dksX3_turnOf_0 14 rfl rfl)
theorem dX3_turnOf_15 : decode cX3_turnOf 15 = .ok (.sipush 256, 3) := dk_17 1 0 (dk_at dksX3_turnOf_0 15 rfl rfl)
theorem dX3_turnOf_18 : decode cX3_turnOf 18 = .ok (.if_icmp .ge 53, 3) := dk_162 0 53 (dk_at dksX3_turnOf_0 18 rfl rfl)
theorem dX3_turnOf_21 : decode cX3_turnOf 21 = .ok (.aload_n 0, 1) := dk_42 (dk_at dksX3_turnOf_0 21 rfl rfl)
theorem dX3_turnOf_22 : decode cX3_turnOf 22 = .ok (.iload_n 1, 1) := dk_27 (dk_at dksX3_turnOf_0 22 rfl rfl)
theorem dX3_turnOf_23 : decode cX3_turnOf 23 = .ok (.iload_n 3, 1) := dk_29 (dk_at dksX3_turnOf_0 23 rfl rfl)
theorem dX3_turnOf_24 : decode cX3_turnOf 24 = .ok (.invokevirtual 346, 3) := dk_182 1 90 (dk_at dksX3_turnOf_1 0 rfl rfl)
theorem dX3_turnOf_27 : decode cX3_turnOf 27 = .ok (.iload_n 2, 1) := dk_28 (dk_at dksX3_turnOf_1 3 rfl rfl)
theorem dX3_turnOf_28 : decode cX3_turnOf 28 = .ok (.i2l, 1) := dk_133 (dk_at dksX3_turnOf_1 4 rfl rfl)
theorem dX3_turnOf_29 : decode cX3_turnOf 29 = .ok (.lcmp, 1) := dk_148 (dk_at dksX3_turnOf_1 5 rfl rfl)
theorem dX3_turnOf_30 : decode cX3_turnOf 30 = .ok (.ifCond .ne 35, 3) := dk_154 0 35 (dk_at dksX3_turnOf_1 6 rfl rfl)
theorem dX3_turnOf_33 : decode cX3_turnOf 33 = .ok (.sipush 1000, 3) := dk_17 3 232 (dk_at dksX3_turnOf_1 9 rfl rfl)
theorem dX3_turnOf_36 : decode cX3_turnOf 36 = .ok (.iload_n 3, 1) := dk_29 (dk_at dksX3_turnOf_1 12 rfl rfl)
theorem dX3_turnOf_37 : decode cX3_turnOf 37 = .ok (.bipush 64, 2) := dk_16 64 (dk_at dksX3_turnOf_1 13 rfl rfl)
theorem dX3_turnOf_39 : decode cX3_turnOf 39 = .ok (.idiv, 1) := dk_108 (dk_at dksX3_turnOf_1 15 rfl rfl)
theorem dX3_turnOf_40 : decode cX3_turnOf 40 = .ok (.imul, 1) := dk_104 (dk_at dksX3_turnOf_1 16 rfl rfl)
theorem dX3_turnOf_41 : decode cX3_turnOf 41 = .ok (.bipush 100, 2) := dk_16 100 (dk_at dksX3_turnOf_1 17 rfl rfl)
theorem dX3_turnOf_43 : decode cX3_turnOf 43 = .ok (.iload_n 3, 1) := dk_29 (dk_at dksX3_turnOf_1 19 rfl rfl)
theorem dX3_turnOf_44 : decode cX3_turnOf 44 = .ok (.bipush 16, 2) := dk_16 16 (dk_at dksX3_turnOf_1 20 rfl rfl)
theorem dX3_turnOf_46 : decode cX3_turnOf 46 = .ok (.idiv, 1) := dk_108 (dk_at dksX3_turnOf_1 22 rfl rfl)
theorem dX3_turnOf_47 : decode cX3_turnOf 47 = .ok (.iconst 4, 1) := dk_7 (dk_at dksX3_turnOf_1 23 rfl rfl)
theorem dX3_turnOf_48 : decode cX3_turnOf 48 = .ok (.irem, 1) := dk_112 (dk_at dksX3_turnOf_2 0 rfl rfl)
theorem dX3_turnOf_49 : decode cX3_turnOf 49 = .ok (.imul, 1) := dk_104 (dk_at dksX3_turnOf_2 1 rfl rfl)
theorem dX3_turnOf_50 : decode cX3_turnOf 50 = .ok (.iadd, 1) := dk_96 (dk_at dksX3_turnOf_2 2 rfl rfl)
theorem dX3_turnOf_51 : decode cX3_turnOf 51 = .ok (.bipush 10, 2) := dk_16 10 (dk_at dksX3_turnOf_2 3 rfl rfl)
theorem dX3_turnOf_53 : decode cX3_turnOf 53 = .ok (.iload_n 3, 1) := dk_29 (dk_at dksX3_turnOf_2 5 rfl rfl)
theorem dX3_turnOf_54 : decode cX3_turnOf 54 = .ok (.iconst 4, 1) := dk_7 (dk_at dksX3_turnOf_2 6 rfl rfl)
theorem dX3_turnOf_55 : decode cX3_turnOf 55 = .ok (.idiv, 1) := dk_108 (dk_at dksX3_turnOf_2 7 rfl rfl)
theorem dX3_turnOf_56 : decode cX3_turnOf 56 = .ok (.iconst 4, 1) := dk_7 (dk_at dksX3_turnOf_2 8 rfl rfl)
theorem dX3_turnOf_57 : decode cX3_turnOf 57 = .ok (.irem, 1) := dk_112 (dk_at dksX3_turnOf_2 9 rfl rfl)
theorem dX3_turnOf_58 : decode cX3_turnOf 58 = .ok (.imul, 1) := dk_104 (dk_at dksX3_turnOf_2 10 rfl rfl)
theorem dX3_turnOf_59 : decode cX3_turnOf 59 = .ok (.iadd, 1) := dk_96 (dk_at dksX3_turnOf_2 11 rfl rfl)
theorem dX3_turnOf_60 : decode cX3_turnOf 60 = .ok (.iload_n 3, 1) := dk_29 (dk_at dksX3_turnOf_2 12 rfl rfl)
theorem dX3_turnOf_61 : decode cX3_turnOf 61 = .ok (.iconst 4, 1) := dk_7 (dk_at dksX3_turnOf_2 13 rfl rfl)
theorem dX3_turnOf_62 : decode cX3_turnOf 62 = .ok (.irem, 1) := dk_112 (dk_at dksX3_turnOf_2 14 rfl rfl)
theorem dX3_turnOf_63 : decode cX3_turnOf 63 = .ok (.iadd, 1) := dk_96 (dk_at dksX3_turnOf_2 15 rfl rfl)
theorem dX3_turnOf_64 : decode cX3_turnOf 64 = .ok (.ireturn, 1) := dk_172 (dk_at dksX3_turnOf_2 16 rfl rfl)
theorem dX3_turnOf_65 : decode cX3_turnOf 65 = .ok (.iinc 3 1, 3) := dk_132 3 1 (dk_at dksX3_turnOf_2 17 rfl rfl)
theorem dX3_turnOf_68 : decode cX3_turnOf 68 = .ok (.goto (-54), 3) := dk_167 255 202 (dk_at dksX3_turnOf_2 20 rfl rfl)
theorem dX3_turnOf_71 : decode cX3_turnOf 71 = .ok (.iconst (-1), 1) := dk_2 (dk_at dksX3_turnOf_2 23 rfl rfl)
theorem dX3_turnOf_72 : decode cX3_turnOf 72 = .ok (.ireturn, 1) := dk_172 (dk_at dksX3_turnOf_3 0 rfl rfl)
abbrev cX3_symmetries : ByteArray := prog_20_method_81_code
def yX3_symmetries : MethodName := ⟨RX3, "symmetries", "(I)I"⟩
def dkwX3_symmetries_1 : List UInt8 := [27, 27, 182, 1, 95, 153, 0, 7, 4, 167, 0, 4, 3, 96, 61, 132, 3, 1, 167, 255, 229, 28, 172]
abbrev dktX3_symmetries_1 : List UInt8 := dkwX3_symmetries_1 ++ []
def dkwX3_symmetries_0 : List UInt8 := [42, 27, 182, 0, 211, 154, 0, 6, 16, 254, 172, 3, 61, 3, 62, 29, 16, 48, 162, 0, 27, 28, 42, 29]
abbrev dktX3_symmetries_0 : List UInt8 := dkwX3_symmetries_0 ++ dktX3_symmetries_1
theorem dksX3_symmetries_0 : cX3_symmetries.data.toList.drop 0 = dktX3_symmetries_0 := by decide +kernel
theorem dksX3_symmetries_1 : cX3_symmetries.data.toList.drop 24 = dktX3_symmetries_1 := dk_seg dksX3_symmetries_0 24 rfl rfl
theorem dX3_symmetries_0 : decode cX3_symmetries 0 = .ok (.aload_n 0, 1) := dk_42 (dk_at dksX3_symmetries_0 0 rfl rfl)
theorem dX3_symmetries_1 : decode cX3_symmetries 1 = .ok (.iload_n 1, 1) := dk_27 (dk_at dksX3_symmetries_0 1 rfl rfl)
theorem dX3_symmetries_2 : decode cX3_symmetries 2 = .ok (.invokevirtual 211, 3) := dk_182 0 211 (dk_at dksX3_symmetries_0 2 rfl rfl)
theorem dX3_symmetries_5 : decode cX3_symmetries 5 = .ok (.ifCond .ne 6, 3) := dk_154 0 6 (dk_at dksX3_symmetries_0 5 rfl rfl)
theorem dX3_symmetries_8 : decode cX3_symmetries 8 = .ok (.bipush (-2), 2) := dk_16 254 (dk_at dksX3_symmetries_0 8 rfl rfl)
theorem dX3_symmetries_10 : decode cX3_symmetries 10 = .ok (.ireturn, 1) := dk_172 (dk_at dksX3_symmetries_0 10 rfl rfl)
theorem dX3_symmetries_11 : decode cX3_symmetries 11 = .ok (.iconst 0, 1) := dk_3 (dk_at dksX3_symmetries_0 11 rfl rfl)
theorem dX3_symmetries_12 : decode cX3_symmetries 12 = .ok (.istore_n 2, 1) := dk_61 (dk_at dksX3_symmetries_0 12 rfl rfl)
theorem dX3_symmetries_13 : decode cX3_symmetries 13 = .ok (.iconst 0, 1) := dk_3 (dk_at dksX3_symmetries_0 13 rfl rfl)
theorem dX3_symmetries_14 : decode cX3_symmetries 14 = .ok (.istore_n 3, 1) := dk_62 (dk_at dksX3_symmetries_0 14 rfl rfl)
theorem dX3_symmetries_15 : decode cX3_symmetries 15 = .ok (.iload_n 3, 1) := dk_29 (dk_at dksX3_symmetries_0 15 rfl rfl)
theorem dX3_symmetries_16 : decode cX3_symmetries 16 = .ok (.bipush 48, 2) := dk_16 48 (dk_at dksX3_symmetries_0 16 rfl rfl)
theorem dX3_symmetries_18 : decode cX3_symmetries 18 = .ok (.if_icmp .ge 27, 3) := dk_162 0 27 (dk_at dksX3_symmetries_0 18 rfl rfl)
theorem dX3_symmetries_21 : decode cX3_symmetries 21 = .ok (.iload_n 2, 1) := dk_28 (dk_at dksX3_symmetries_0 21 rfl rfl)
theorem dX3_symmetries_22 : decode cX3_symmetries 22 = .ok (.aload_n 0, 1) := dk_42 (dk_at dksX3_symmetries_0 22 rfl rfl)
theorem dX3_symmetries_23 : decode cX3_symmetries 23 = .ok (.iload_n 3, 1) := dk_29 (dk_at dksX3_symmetries_0 23 rfl rfl)
theorem dX3_symmetries_24 : decode cX3_symmetries 24 = .ok (.iload_n 1, 1) := dk_27 (dk_at dksX3_symmetries_1 0 rfl rfl)
theorem dX3_symmetries_25 : decode cX3_symmetries 25 = .ok (.iload_n 1, 1) := dk_27 (dk_at dksX3_symmetries_1 1 rfl rfl)
theorem dX3_symmetries_26 : decode cX3_symmetries 26 = .ok (.invokevirtual 351, 3) := dk_182 1 95 (dk_at dksX3_symmetries_1 2 rfl rfl)
theorem dX3_symmetries_29 : decode cX3_symmetries 29 = .ok (.ifCond .eq 7, 3) := dk_153 0 7 (dk_at dksX3_symmetries_1 5 rfl rfl)
theorem dX3_symmetries_32 : decode cX3_symmetries 32 = .ok (.iconst 1, 1) := dk_4 (dk_at dksX3_symmetries_1 8 rfl rfl)
theorem dX3_symmetries_33 : decode cX3_symmetries 33 = .ok (.goto 4, 3) := dk_167 0 4 (dk_at dksX3_symmetries_1 9 rfl rfl)
theorem dX3_symmetries_36 : decode cX3_symmetries 36 = .ok (.iconst 0, 1) := dk_3 (dk_at dksX3_symmetries_1 12 rfl rfl)
theorem dX3_symmetries_37 : decode cX3_symmetries 37 = .ok (.iadd, 1) := dk_96 (dk_at dksX3_symmetries_1 13 rfl rfl)
theorem dX3_symmetries_38 : decode cX3_symmetries 38 = .ok (.istore_n 2, 1) := dk_61 (dk_at dksX3_symmetries_1 14 rfl rfl)
theorem dX3_symmetries_39 : decode cX3_symmetries 39 = .ok (.iinc 3 1, 3) := dk_132 3 1 (dk_at dksX3_symmetries_1 15 rfl rfl)
theorem dX3_symmetries_42 : decode cX3_symmetries 42 = .ok (.goto (-27), 3) := dk_167 255 229 (dk_at dksX3_symmetries_1 18 rfl rfl)
theorem dX3_symmetries_45 : decode cX3_symmetries 45 = .ok (.iload_n 2, 1) := dk_28 (dk_at dksX3_symmetries_1 21 rfl rfl)
theorem dX3_symmetries_46 : decode cX3_symmetries 46 = .ok (.ireturn, 1) := dk_172 (dk_at dksX3_symmetries_1 22 rfl rfl)
abbrev cX3_goesBy : ByteArray := prog_20_method_80_code
def yX3_goesBy : MethodName := ⟨RX3, "goesBy", "(III)Z"⟩
def dkwX3_goesBy_8 : List UInt8 := [4, 172]
abbrev dktX3_goesBy_8 : List UInt8 := dkwX3_goesBy_8 ++ []
def dkwX3_goesBy_7 : List UInt8 := [25, 8, 4, 47, 25, 8, 5, 47, 22, 6, 182, 1, 9, 154, 0, 5, 3, 172, 132, 9, 1, 167, 255, 151]
abbrev dktX3_goesBy_7 : List UInt8 := dkwX3_goesBy_7 ++ dktX3_goesBy_8
def dkwX3_goesBy_6 : List UInt8 := [160, 0, 9, 22, 11, 117, 167, 0, 5, 22, 11, 80, 132, 10, 1, 167, 255, 189, 42, 25, 8, 3, 47]
abbrev dktX3_goesBy_6 : List UInt8 := dkwX3_goesBy_6 ++ dktX3_goesBy_7
def dkwX3_goesBy_5 : List UInt8 := [16, 48, 100, 47, 55, 11, 25, 8, 21, 10, 27, 16, 8, 112, 5, 21, 10, 100, 122, 4, 126, 4]
abbrev dktX3_goesBy_5 : List UInt8 := dkwX3_goesBy_5 ++ dktX3_goesBy_6
def dkwX3_goesBy_4 : List UInt8 := [180, 0, 58, 6, 21, 9, 104, 19, 1, 93, 6, 27, 16, 8, 108, 104, 21, 10, 96, 182, 0, 128, 96]
abbrev dktX3_goesBy_4 : List UInt8 := dkwX3_goesBy_4 ++ dktX3_goesBy_5
def dkwX3_goesBy_3 : List UInt8 := [188, 11, 58, 8, 3, 54, 9, 21, 9, 6, 162, 0, 105, 3, 54, 10, 21, 10, 6, 162, 0, 67, 42]
abbrev dktX3_goesBy_3 : List UInt8 := dkwX3_goesBy_3 ++ dktX3_goesBy_4
def dkwX3_goesBy_2 : List UInt8 := [184, 0, 1, 22, 6, 105, 22, 6, 105, 22, 6, 105, 148, 153, 0, 5, 3, 172, 42, 182, 0, 246, 6]
abbrev dktX3_goesBy_2 : List UInt8 := dkwX3_goesBy_2 ++ dktX3_goesBy_3
def dkwX3_goesBy_1 : List UInt8 := [182, 0, 217, 22, 4, 42, 180, 0, 191, 105, 42, 180, 0, 191, 105, 42, 180, 0, 191, 105, 42, 182, 0, 254]
abbrev dktX3_goesBy_1 : List UInt8 := dkwX3_goesBy_1 ++ dktX3_goesBy_2
def dkwX3_goesBy_0 : List UInt8 := [42, 28, 182, 1, 27, 42, 182, 0, 254, 184, 0, 1, 55, 4, 42, 180, 0, 191, 55, 6, 42, 29]
abbrev dktX3_goesBy_0 : List UInt8 := dkwX3_goesBy_0 ++ dktX3_goesBy_1
theorem dksX3_goesBy_0 : cX3_goesBy.data.toList.drop 0 = dktX3_goesBy_0 := by decide +kernel
theorem dksX3_goesBy_1 : cX3_goesBy.data.toList.drop 22 = dktX3_goesBy_1 := dk_seg dksX3_goesBy_0 22 rfl rfl
theorem dksX3_goesBy_2 : cX3_goesBy.data.toList.drop 46 = dktX3_goesBy_2 := dk_seg dksX3_goesBy_1 24 rfl rfl
theorem dksX3_goesBy_3 : cX3_goesBy.data.toList.drop 69 = dktX3_goesBy_3 := dk_seg dksX3_goesBy_2 23 rfl rfl
theorem dksX3_goesBy_4 : cX3_goesBy.data.toList.drop 92 = dktX3_goesBy_4 := dk_seg dksX3_goesBy_3 23 rfl rfl
theorem dksX3_goesBy_5 : cX3_goesBy.data.toList.drop 115 = dktX3_goesBy_5 := dk_seg dksX3_goesBy_4 23 rfl rfl
theorem dksX3_goesBy_6 : cX3_goesBy.data.toList.drop 137 = dktX3_goesBy_6 := dk_seg dksX3_goesBy_5 22 rfl rfl
theorem dksX3_goesBy_7 : cX3_goesBy.data.toList.drop 160 = dktX3_goesBy_7 := dk_seg dksX3_goesBy_6 23 rfl rfl
theorem dksX3_goesBy_8 : cX3_goesBy.data.toList.drop 184 = dktX3_goesBy_8 := dk_seg dksX3_goesBy_7 24 rfl rfl
theorem dX3_goesBy_0 : decode cX3_goesBy 0 = .ok (.aload_n 0, 1) := dk_42 (dk_at dksX3_goesBy_0 0 rfl rfl)
theorem dX3_goesBy_1 : decode cX3_goesBy 1 = .ok (.iload_n 2, 1) := dk_28 (dk_at dksX3_goesBy_0 1 rfl rfl)
theorem dX3_goesBy_2 : decode cX3_goesBy 2 = .ok (.invokevirtual 283, 3) := dk_182 1 27 (dk_at dksX3_goesBy_0 2 rfl rfl)
theorem dX3_goesBy_5 : decode cX3_goesBy 5 = .ok (.aload_n 0, 1) := dk_42 (dk_at dksX3_goesBy_0 5 rfl rfl)
theorem dX3_goesBy_6 : decode cX3_goesBy 6 = .ok (.invokevirtual 254, 3) := dk_182 0 254 (dk_at dksX3_goesBy_0 6 rfl rfl)
theorem dX3_goesBy_9 : decode cX3_goesBy 9 = .ok (.invokestatic 1, 3) := dk_184 0 1 (dk_at dksX3_goesBy_0 9 rfl rfl)
theorem dX3_goesBy_12 : decode cX3_goesBy 12 = .ok (.lstore 4, 2) := dk_55 4 (dk_at dksX3_goesBy_0 12 rfl rfl)
theorem dX3_goesBy_14 : decode cX3_goesBy 14 = .ok (.aload_n 0, 1) := dk_42 (dk_at dksX3_goesBy_0 14 rfl rfl)
theorem dX3_goesBy_15 : decode cX3_goesBy 15 = .ok (.getfield 191, 3) := dk_180 0 191 (dk_at dksX3_goesBy_0 15 rfl rfl)
theorem dX3_goesBy_18 : decode cX3_goesBy 18 = .ok (.lstore 6, 2) := dk_55 6 (dk_at dksX3_goesBy_0 18 rfl rfl)
theorem dX3_goesBy_20 : decode cX3_goesBy 20 = .ok (.aload_n 0, 1) := dk_42 (dk_at dksX3_goesBy_0 20 rfl rfl)
theorem dX3_goesBy_21 : decode cX3_goesBy 21 = .ok (.iload_n 3, 1) := dk_29 (dk_at dksX3_goesBy_0 21 rfl rfl)
theorem dX3_goesBy_22 : decode cX3_goesBy 22 = .ok (.invokevirtual 217, 3) := dk_182 0 217 (dk_at dksX3_goesBy_1 0 rfl rfl)
theorem dX3_goesBy_25 : decode cX3_goesBy 25 = .ok (.lload 4, 2) := dk_22 4 (dk_at dksX3_goesBy_1 3 rfl rfl)
theorem dX3_goesBy_27 : decode cX3_goesBy 27 = .ok (.aload_n 0, 1) := dk_42 (dk_at dksX3_goesBy_1 5 rfl rfl)
theorem dX3_goesBy_28 : decode cX3_goesBy 28 = .ok (.getfield 191, 3) := dk_180 0 191 (dk_at dksX3_goesBy_1 6 rfl rfl)
theorem dX3_goesBy_31 : decode cX3_goesBy 31 = .ok (.lmul, 1) := dk_105 (dk_at dksX3_goesBy_1 9 rfl rfl)
theorem dX3_goesBy_32 : decode cX3_goesBy 32 = .ok (.aload_n 0, 1) := dk_42 (dk_at dksX3_goesBy_1 10 rfl rfl)
theorem dX3_goesBy_33 : decode cX3_goesBy 33 = .ok (.getfield 191, 3) := dk_180 0 191 (dk_at dksX3_goesBy_1 11 rfl rfl)
theorem dX3_goesBy_36 : decode cX3_goesBy 36 = .ok (.lmul, 1) := dk_105 (dk_at dksX3_goesBy_1 14 rfl rfl)
theorem dX3_goesBy_37 : decode cX3_goesBy 37 = .ok (.aload_n 0, 1) := dk_42 (dk_at dksX3_goesBy_1 15 rfl rfl)
theorem dX3_goesBy_38 : decode cX3_goesBy 38 = .ok (.getfield 191, 3) := dk_180 0 191 (dk_at dksX3_goesBy_1 16 rfl rfl)
theorem dX3_goesBy_41 : decode cX3_goesBy 41 = .ok (.lmul, 1) := dk_105 (dk_at dksX3_goesBy_1 19 rfl rfl)
theorem dX3_goesBy_42 : decode cX3_goesBy 42 = .ok (.aload_n 0, 1) := dk_42 (dk_at dksX3_goesBy_1 20 rfl rfl)
theorem dX3_goesBy_43 : decode cX3_goesBy 43 = .ok (.invokevirtual 254, 3) := dk_182 0 254 (dk_at dksX3_goesBy_1 21 rfl rfl)
theorem dX3_goesBy_46 : decode cX3_goesBy 46 = .ok (.invokestatic 1, 3) := dk_184 0 1 (dk_at dksX3_goesBy_2 0 rfl rfl)
theorem dX3_goesBy_49 : decode cX3_goesBy 49 = .ok (.lload 6, 2) := dk_22 6 (dk_at dksX3_goesBy_2 3 rfl rfl)
theorem dX3_goesBy_51 : decode cX3_goesBy 51 = .ok (.lmul, 1) := dk_105 (dk_at dksX3_goesBy_2 5 rfl rfl)
theorem dX3_goesBy_52 : decode cX3_goesBy 52 = .ok (.lload 6, 2) := dk_22 6 (dk_at dksX3_goesBy_2 6 rfl rfl)
theorem dX3_goesBy_54 : decode cX3_goesBy 54 = .ok (.lmul, 1) := dk_105 (dk_at dksX3_goesBy_2 8 rfl rfl)
theorem dX3_goesBy_55 : decode cX3_goesBy 55 = .ok (.lload 6, 2) := dk_22 6 (dk_at dksX3_goesBy_2 9 rfl rfl)
theorem dX3_goesBy_57 : decode cX3_goesBy 57 = .ok (.lmul, 1) := dk_105 (dk_at dksX3_goesBy_2 11 rfl rfl)
theorem dX3_goesBy_58 : decode cX3_goesBy 58 = .ok (.lcmp, 1) := dk_148 (dk_at dksX3_goesBy_2 12 rfl rfl)
theorem dX3_goesBy_59 : decode cX3_goesBy 59 = .ok (.ifCond .eq 5, 3) := dk_153 0 5 (dk_at dksX3_goesBy_2 13 rfl rfl)
theorem dX3_goesBy_62 : decode cX3_goesBy 62 = .ok (.iconst 0, 1) := dk_3 (dk_at dksX3_goesBy_2 16 rfl rfl)
theorem dX3_goesBy_63 : decode cX3_goesBy 63 = .ok (.ireturn, 1) := dk_172 (dk_at dksX3_goesBy_2 17 rfl rfl)
theorem dX3_goesBy_64 : decode cX3_goesBy 64 = .ok (.aload_n 0, 1) := dk_42 (dk_at dksX3_goesBy_2 18 rfl rfl)
theorem dX3_goesBy_65 : decode cX3_goesBy 65 = .ok (.invokevirtual 246, 3) := dk_182 0 246 (dk_at dksX3_goesBy_2 19 rfl rfl)
theorem dX3_goesBy_68 : decode cX3_goesBy 68 = .ok (.iconst 3, 1) := dk_6 (dk_at dksX3_goesBy_2 22 rfl rfl)
theorem dX3_goesBy_69 : decode cX3_goesBy 69 = .ok (.newarray .long, 2) := dk_188_11 (dk_at dksX3_goesBy_3 0 rfl rfl)
theorem dX3_goesBy_71 : decode cX3_goesBy 71 = .ok (.astore 8, 2) := dk_58 8 (dk_at dksX3_goesBy_3 2 rfl rfl)
theorem dX3_goesBy_73 : decode cX3_goesBy 73 = .ok (.iconst 0, 1) := dk_3 (dk_at dksX3_goesBy_3 4 rfl rfl)
theorem dX3_goesBy_74 : decode cX3_goesBy 74 = .ok (.istore 9, 2) := dk_54 9 (dk_at dksX3_goesBy_3 5 rfl rfl)
theorem dX3_goesBy_76 : decode cX3_goesBy 76 = .ok (.iload 9, 2) := dk_21 9 (dk_at dksX3_goesBy_3 7 rfl rfl)
theorem dX3_goesBy_78 : decode cX3_goesBy 78 = .ok (.iconst 3, 1) := dk_6 (dk_at dksX3_goesBy_3 9 rfl rfl)
theorem dX3_goesBy_79 : decode cX3_goesBy 79 = .ok (.if_icmp .ge 105, 3) := dk_162 0 105 (dk_at dksX3_goesBy_3 10 rfl rfl)
theorem dX3_goesBy_82 : decode cX3_goesBy 82 = .ok (.iconst 0, 1) := dk_3 (dk_at dksX3_goesBy_3 13 rfl rfl)
theorem dX3_goesBy_83 : decode cX3_goesBy 83 = .ok (.istore 10, 2) := dk_54 10 (dk_at dksX3_goesBy_3 14 rfl rfl)
theorem dX3_goesBy_85 : decode cX3_goesBy 85 = .ok (.iload 10, 2) := dk_21 10 (dk_at dksX3_goesBy_3 16 rfl rfl)
theorem dX3_goesBy_87 : decode cX3_goesBy 87 = .ok (.iconst 3, 1) := dk_6 (dk_at dksX3_goesBy_3 18 rfl rfl)
theorem dX3_goesBy_88 : decode cX3_goesBy 88 = .ok (.if_icmp .ge 67, 3) := dk_162 0 67 (dk_at dksX3_goesBy_3 19 rfl rfl)
theorem dX3_goesBy_91 : decode cX3_goesBy 91 = .ok (.aload_n 0, 1) := dk_42 (dk_at dksX3_goesBy_3 22 rfl rfl)
theorem dX3_goesBy_92 : decode cX3_goesBy 92 = .ok (.getfield 58, 3) := dk_180 0 58 (dk_at dksX3_goesBy_4 0 rfl rfl)
theorem dX3_goesBy_95 : decode cX3_goesBy 95 = .ok (.iconst 3, 1) := dk_6 (dk_at dksX3_goesBy_4 3 rfl rfl)
theorem dX3_goesBy_96 : decode cX3_goesBy 96 = .ok (.iload 9, 2) := dk_21 9 (dk_at dksX3_goesBy_4 4 rfl rfl)
theorem dX3_goesBy_98 : decode cX3_goesBy 98 = .ok (.imul, 1) := dk_104 (dk_at dksX3_goesBy_4 6 rfl rfl)
theorem dX3_goesBy_99 : decode cX3_goesBy 99 = .ok (.ldc_w 349, 3) := dk_19 1 93 (dk_at dksX3_goesBy_4 7 rfl rfl)
theorem dX3_goesBy_102 : decode cX3_goesBy 102 = .ok (.iconst 3, 1) := dk_6 (dk_at dksX3_goesBy_4 10 rfl rfl)
theorem dX3_goesBy_103 : decode cX3_goesBy 103 = .ok (.iload_n 1, 1) := dk_27 (dk_at dksX3_goesBy_4 11 rfl rfl)
theorem dX3_goesBy_104 : decode cX3_goesBy 104 = .ok (.bipush 8, 2) := dk_16 8 (dk_at dksX3_goesBy_4 12 rfl rfl)
theorem dX3_goesBy_106 : decode cX3_goesBy 106 = .ok (.idiv, 1) := dk_108 (dk_at dksX3_goesBy_4 14 rfl rfl)
theorem dX3_goesBy_107 : decode cX3_goesBy 107 = .ok (.imul, 1) := dk_104 (dk_at dksX3_goesBy_4 15 rfl rfl)
theorem dX3_goesBy_108 : decode cX3_goesBy 108 = .ok (.iload 10, 2) := dk_21 10 (dk_at dksX3_goesBy_4 16 rfl rfl)
theorem dX3_goesBy_110 : decode cX3_goesBy 110 = .ok (.iadd, 1) := dk_96 (dk_at dksX3_goesBy_4 18 rfl rfl)
theorem dX3_goesBy_111 : decode cX3_goesBy 111 = .ok (.invokevirtual 128, 3) := dk_182 0 128 (dk_at dksX3_goesBy_4 19 rfl rfl)
theorem dX3_goesBy_114 : decode cX3_goesBy 114 = .ok (.iadd, 1) := dk_96 (dk_at dksX3_goesBy_4 22 rfl rfl)
theorem dX3_goesBy_115 : decode cX3_goesBy 115 = .ok (.bipush 48, 2) := dk_16 48 (dk_at dksX3_goesBy_5 0 rfl rfl)
theorem dX3_goesBy_117 : decode cX3_goesBy 117 = .ok (.isub, 1) := dk_100 (dk_at dksX3_goesBy_5 2 rfl rfl)
theorem dX3_goesBy_118 : decode cX3_goesBy 118 = .ok (.laload, 1) := dk_47 (dk_at dksX3_goesBy_5 3 rfl rfl)
theorem dX3_goesBy_119 : decode cX3_goesBy 119 = .ok (.lstore 11, 2) := dk_55 11 (dk_at dksX3_goesBy_5 4 rfl rfl)
theorem dX3_goesBy_121 : decode cX3_goesBy 121 = .ok (.aload 8, 2) := dk_25 8 (dk_at dksX3_goesBy_5 6 rfl rfl)
theorem dX3_goesBy_123 : decode cX3_goesBy 123 = .ok (.iload 10, 2) := dk_21 10 (dk_at dksX3_goesBy_5 8 rfl rfl)
theorem dX3_goesBy_125 : decode cX3_goesBy 125 = .ok (.iload_n 1, 1) := dk_27 (dk_at dksX3_goesBy_5 10 rfl rfl)
theorem dX3_goesBy_126 : decode cX3_goesBy 126 = .ok (.bipush 8, 2) := dk_16 8 (dk_at dksX3_goesBy_5 11 rfl rfl)
theorem dX3_goesBy_128 : decode cX3_goesBy 128 = .ok (.irem, 1) := dk_112 (dk_at dksX3_goesBy_5 13 rfl rfl)
theorem dX3_goesBy_129 : decode cX3_goesBy 129 = .ok (.iconst 2, 1) := dk_5 (dk_at dksX3_goesBy_5 14 rfl rfl)
theorem dX3_goesBy_130 : decode cX3_goesBy 130 = .ok (.iload 10, 2) := dk_21 10 (dk_at dksX3_goesBy_5 15 rfl rfl)
theorem dX3_goesBy_132 : decode cX3_goesBy 132 = .ok (.isub, 1) := dk_100 (dk_at dksX3_goesBy_5 17 rfl rfl)
theorem dX3_goesBy_133 : decode cX3_goesBy 133 = .ok (.ishr, 1) := dk_122 (dk_at dksX3_goesBy_5 18 rfl rfl)
theorem dX3_goesBy_134 : decode cX3_goesBy 134 = .ok (.iconst 1, 1) := dk_4 (dk_at dksX3_goesBy_5 19 rfl rfl)
theorem dX3_goesBy_135 : decode cX3_goesBy 135 = .ok (.iand, 1) := dk_126 (dk_at dksX3_goesBy_5 20 rfl rfl)
theorem dX3_goesBy_136 : decode cX3_goesBy 136 = .ok (.iconst 1, 1) := dk_4 (dk_at dksX3_goesBy_5 21 rfl rfl)
theorem dX3_goesBy_137 : decode cX3_goesBy 137 = .ok (.if_icmp .ne 9, 3) := dk_160 0 9 (dk_at dksX3_goesBy_6 0 rfl rfl)
theorem dX3_goesBy_140 : decode cX3_goesBy 140 = .ok (.lload 11, 2) := dk_22 11 (dk_at dksX3_goesBy_6 3 rfl rfl)
theorem dX3_goesBy_142 : decode cX3_goesBy 142 = .ok (.lneg, 1) := dk_117 (dk_at dksX3_goesBy_6 5 rfl rfl)
theorem dX3_goesBy_143 : decode cX3_goesBy 143 = .ok (.goto 5, 3) := dk_167 0 5 (dk_at dksX3_goesBy_6 6 rfl rfl)
theorem dX3_goesBy_146 : decode cX3_goesBy 146 = .ok (.lload 11, 2) := dk_22 11 (dk_at dksX3_goesBy_6 9 rfl rfl)
theorem dX3_goesBy_148 : decode cX3_goesBy 148 = .ok (.lastore, 1) := dk_80 (dk_at dksX3_goesBy_6 11 rfl rfl)
theorem dX3_goesBy_149 : decode cX3_goesBy 149 = .ok (.iinc 10 1, 3) := dk_132 10 1 (dk_at dksX3_goesBy_6 12 rfl rfl)
theorem dX3_goesBy_152 : decode cX3_goesBy 152 = .ok (.goto (-67), 3) := dk_167 255 189 (dk_at dksX3_goesBy_6 15 rfl rfl)
theorem dX3_goesBy_155 : decode cX3_goesBy 155 = .ok (.aload_n 0, 1) := dk_42 (dk_at dksX3_goesBy_6 18 rfl rfl)
theorem dX3_goesBy_156 : decode cX3_goesBy 156 = .ok (.aload 8, 2) := dk_25 8 (dk_at dksX3_goesBy_6 19 rfl rfl)
theorem dX3_goesBy_158 : decode cX3_goesBy 158 = .ok (.iconst 0, 1) := dk_3 (dk_at dksX3_goesBy_6 21 rfl rfl)
theorem dX3_goesBy_159 : decode cX3_goesBy 159 = .ok (.laload, 1) := dk_47 (dk_at dksX3_goesBy_6 22 rfl rfl)
theorem dX3_goesBy_160 : decode cX3_goesBy 160 = .ok (.aload 8, 2) := dk_25 8 (dk_at dksX3_goesBy_7 0 rfl rfl)
theorem dX3_goesBy_162 : decode cX3_goesBy 162 = .ok (.iconst 1, 1) := dk_4 (dk_at dksX3_goesBy_7 2 rfl rfl)
theorem dX3_goesBy_163 : decode cX3_goesBy 163 = .ok (.laload, 1) := dk_47 (dk_at dksX3_goesBy_7 3 rfl rfl)
theorem dX3_goesBy_164 : decode cX3_goesBy 164 = .ok (.aload 8, 2) := dk_25 8 (dk_at dksX3_goesBy_7 4 rfl rfl)
theorem dX3_goesBy_166 : decode cX3_goesBy 166 = .ok (.iconst 2, 1) := dk_5 (dk_at dksX3_goesBy_7 6 rfl rfl)
theorem dX3_goesBy_167 : decode cX3_goesBy 167 = .ok (.laload, 1) := dk_47 (dk_at dksX3_goesBy_7 7 rfl rfl)
theorem dX3_goesBy_168 : decode cX3_goesBy 168 = .ok (.lload 6, 2) := dk_22 6 (dk_at dksX3_goesBy_7 8 rfl rfl)
theorem dX3_goesBy_170 : decode cX3_goesBy 170 = .ok (.invokevirtual 265, 3) := dk_182 1 9 (dk_at dksX3_goesBy_7 10 rfl rfl)
theorem dX3_goesBy_173 : decode cX3_goesBy 173 = .ok (.ifCond .ne 5, 3) := dk_154 0 5 (dk_at dksX3_goesBy_7 13 rfl rfl)
theorem dX3_goesBy_176 : decode cX3_goesBy 176 = .ok (.iconst 0, 1) := dk_3 (dk_at dksX3_goesBy_7 16 rfl rfl)
theorem dX3_goesBy_177 : decode cX3_goesBy 177 = .ok (.ireturn, 1) := dk_172 (dk_at dksX3_goesBy_7 17 rfl rfl)
theorem dX3_goesBy_178 : decode cX3_goesBy 178 = .ok (.iinc 9 1, 3) := dk_132 9 1 (dk_at dksX3_goesBy_7 18 rfl rfl)
theorem dX3_goesBy_181 : decode cX3_goesBy 181 = .ok (.goto (-105), 3) := dk_167 255 151 (dk_at dksX3_goesBy_7 21 rfl rfl)
theorem dX3_goesBy_184 : decode cX3_goesBy 184 = .ok (.iconst 1, 1) := dk_4 (dk_at dksX3_goesBy_8 0 rfl rfl)
theorem dX3_goesBy_185 : decode cX3_goesBy 185 = .ok (.ireturn, 1) := dk_172 (dk_at dksX3_goesBy_8 1 rfl rfl)
abbrev cX3_takes : ByteArray := prog_20_method_82_code
def yX3_takes : MethodName := ⟨RX3, "takes", "(II)I"⟩
def dkwX3_takes_1 : List UInt8 := [162, 0, 21, 42, 29, 27, 28, 182, 1, 95, 153, 0, 5, 29, 172, 132, 3, 1, 167, 255, 235, 2, 172]
abbrev dktX3_takes_1 : List UInt8 := dkwX3_takes_1 ++ []
def dkwX3_takes_0 : List UInt8 := [42, 27, 182, 0, 211, 153, 0, 11, 42, 28, 182, 0, 211, 154, 0, 6, 16, 254, 172, 3, 62, 29, 16, 48]
abbrev dktX3_takes_0 : List UInt8 := dkwX3_takes_0 ++ dktX3_takes_1
theorem dksX3_takes_0 : cX3_takes.data.toList.drop 0 = dktX3_takes_0 := by decide +kernel
theorem dksX3_takes_1 : cX3_takes.data.toList.drop 24 = dktX3_takes_1 := dk_seg dksX3_takes_0 24 rfl rfl
theorem dX3_takes_0 : decode cX3_takes 0 = .ok (.aload_n 0, 1) := dk_42 (dk_at dksX3_takes_0 0 rfl rfl)
theorem dX3_takes_1 : decode cX3_takes 1 = .ok (.iload_n 1, 1) := dk_27 (dk_at dksX3_takes_0 1 rfl rfl)
theorem dX3_takes_2 : decode cX3_takes 2 = .ok (.invokevirtual 211, 3) := dk_182 0 211 (dk_at dksX3_takes_0 2 rfl rfl)
theorem dX3_takes_5 : decode cX3_takes 5 = .ok (.ifCond .eq 11, 3) := dk_153 0 11 (dk_at dksX3_takes_0 5 rfl rfl)
theorem dX3_takes_8 : decode cX3_takes 8 = .ok (.aload_n 0, 1) := dk_42 (dk_at dksX3_takes_0 8 rfl rfl)
theorem dX3_takes_9 : decode cX3_takes 9 = .ok (.iload_n 2, 1) := dk_28 (dk_at dksX3_takes_0 9 rfl rfl)
theorem dX3_takes_10 : decode cX3_takes 10 = .ok (.invokevirtual 211, 3) := dk_182 0 211 (dk_at dksX3_takes_0 10 rfl rfl)
theorem dX3_takes_13 : decode cX3_takes 13 = .ok (.ifCond .ne 6, 3) := dk_154 0 6 (dk_at dksX3_takes_0 13 rfl rfl)
theorem dX3_takes_16 : decode cX3_takes 16 = .ok (.bipush (-2), 2) := dk_16 254 (dk_at dksX3_takes_0 16 rfl rfl)
theorem dX3_takes_18 : decode cX3_takes 18 = .ok (.ireturn, 1) := dk_172 (dk_at dksX3_takes_0 18 rfl rfl)
theorem dX3_takes_19 : decode cX3_takes 19 = .ok (.iconst 0, 1) := dk_3 (dk_at dksX3_takes_0 19 rfl rfl)
theorem dX3_takes_20 : decode cX3_takes 20 = .ok (.istore_n 3, 1) := dk_62 (dk_at dksX3_takes_0 20 rfl rfl)
theorem dX3_takes_21 : decode cX3_takes 21 = .ok (.iload_n 3, 1) := dk_29 (dk_at dksX3_takes_0 21 rfl rfl)
theorem dX3_takes_22 : decode cX3_takes 22 = .ok (.bipush 48, 2) := dk_16 48 (dk_at dksX3_takes_0 22 rfl rfl)
theorem dX3_takes_24 : decode cX3_takes 24 = .ok (.if_icmp .ge 21, 3) := dk_162 0 21 (dk_at dksX3_takes_1 0 rfl rfl)
theorem dX3_takes_27 : decode cX3_takes 27 = .ok (.aload_n 0, 1) := dk_42 (dk_at dksX3_takes_1 3 rfl rfl)
theorem dX3_takes_28 : decode cX3_takes 28 = .ok (.iload_n 3, 1) := dk_29 (dk_at dksX3_takes_1 4 rfl rfl)
theorem dX3_takes_29 : decode cX3_takes 29 = .ok (.iload_n 1, 1) := dk_27 (dk_at dksX3_takes_1 5 rfl rfl)
theorem dX3_takes_30 : decode cX3_takes 30 = .ok (.iload_n 2, 1) := dk_28 (dk_at dksX3_takes_1 6 rfl rfl)
theorem dX3_takes_31 : decode cX3_takes 31 = .ok (.invokevirtual 351, 3) := dk_182 1 95 (dk_at dksX3_takes_1 7 rfl rfl)
theorem dX3_takes_34 : decode cX3_takes 34 = .ok (.ifCond .eq 5, 3) := dk_153 0 5 (dk_at dksX3_takes_1 10 rfl rfl)
theorem dX3_takes_37 : decode cX3_takes 37 = .ok (.iload_n 3, 1) := dk_29 (dk_at dksX3_takes_1 13 rfl rfl)
theorem dX3_takes_38 : decode cX3_takes 38 = .ok (.ireturn, 1) := dk_172 (dk_at dksX3_takes_1 14 rfl rfl)
theorem dX3_takes_39 : decode cX3_takes 39 = .ok (.iinc 3 1, 3) := dk_132 3 1 (dk_at dksX3_takes_1 15 rfl rfl)
theorem dX3_takes_42 : decode cX3_takes 42 = .ok (.goto (-21), 3) := dk_167 255 235 (dk_at dksX3_takes_1 18 rfl rfl)
theorem dX3_takes_45 : decode cX3_takes 45 = .ok (.iconst (-1), 1) := dk_2 (dk_at dksX3_takes_1 21 rfl rfl)
theorem dX3_takes_46 : decode cX3_takes 46 = .ok (.ireturn, 1) := dk_172 (dk_at dksX3_takes_1 22 rfl rfl)
abbrev cX3_reduced : ByteArray := prog_20_method_89_code
def yX3_reduced : MethodName := ⟨RX3, "reduced", "(III)I"⟩
def dkwX3_reduced_1 : List UInt8 := [42, 180, 0, 36, 6, 28, 104, 29, 96, 47, 136, 172]
abbrev dktX3_reduced_1 : List UInt8 := dkwX3_reduced_1 ++ []
def dkwX3_reduced_0 : List UInt8 := [42, 27, 182, 0, 211, 153, 0, 11, 28, 29, 184, 0, 214, 154, 0, 6, 18, 251, 172, 42, 27, 182, 1, 117]
abbrev dktX3_reduced_0 : List UInt8 := dkwX3_reduced_0 ++ dktX3_reduced_1
theorem dksX3_reduced_0 : cX3_reduced.data.toList.drop 0 = dktX3_reduced_0 := by decide +kernel
theorem dksX3_reduced_1 : cX3_reduced.data.toList.drop 24 = dktX3_reduced_1 := dk_seg dksX3_reduced_0 24 rfl rfl
theorem dX3_reduced_0 : decode cX3_reduced 0 = .ok (.aload_n 0, 1) := dk_42 (dk_at dksX3_reduced_0 0 rfl rfl)
theorem dX3_reduced_1 : decode cX3_reduced 1 = .ok (.iload_n 1, 1) := dk_27 (dk_at dksX3_reduced_0 1 rfl rfl)
theorem dX3_reduced_2 : decode cX3_reduced 2 = .ok (.invokevirtual 211, 3) := dk_182 0 211 (dk_at dksX3_reduced_0 2 rfl rfl)
theorem dX3_reduced_5 : decode cX3_reduced 5 = .ok (.ifCond .eq 11, 3) := dk_153 0 11 (dk_at dksX3_reduced_0 5 rfl rfl)
theorem dX3_reduced_8 : decode cX3_reduced 8 = .ok (.iload_n 2, 1) := dk_28 (dk_at dksX3_reduced_0 8 rfl rfl)
theorem dX3_reduced_9 : decode cX3_reduced 9 = .ok (.iload_n 3, 1) := dk_29 (dk_at dksX3_reduced_0 9 rfl rfl)
theorem dX3_reduced_10 : decode cX3_reduced 10 = .ok (.invokestatic 214, 3) := dk_184 0 214 (dk_at dksX3_reduced_0 10 rfl rfl)
theorem dX3_reduced_13 : decode cX3_reduced 13 = .ok (.ifCond .ne 6, 3) := dk_154 0 6 (dk_at dksX3_reduced_0 13 rfl rfl)
theorem dX3_reduced_16 : decode cX3_reduced 16 = .ok (.ldc 251, 2) := dk_18 251 (dk_at dksX3_reduced_0 16 rfl rfl)
theorem dX3_reduced_18 : decode cX3_reduced 18 = .ok (.ireturn, 1) := dk_172 (dk_at dksX3_reduced_0 18 rfl rfl)
theorem dX3_reduced_19 : decode cX3_reduced 19 = .ok (.aload_n 0, 1) := dk_42 (dk_at dksX3_reduced_0 19 rfl rfl)
theorem dX3_reduced_20 : decode cX3_reduced 20 = .ok (.iload_n 1, 1) := dk_27 (dk_at dksX3_reduced_0 20 rfl rfl)
theorem dX3_reduced_21 : decode cX3_reduced 21 = .ok (.invokevirtual 373, 3) := dk_182 1 117 (dk_at dksX3_reduced_0 21 rfl rfl)
theorem dX3_reduced_24 : decode cX3_reduced 24 = .ok (.aload_n 0, 1) := dk_42 (dk_at dksX3_reduced_1 0 rfl rfl)
theorem dX3_reduced_25 : decode cX3_reduced 25 = .ok (.getfield 36, 3) := dk_180 0 36 (dk_at dksX3_reduced_1 1 rfl rfl)
theorem dX3_reduced_28 : decode cX3_reduced 28 = .ok (.iconst 3, 1) := dk_6 (dk_at dksX3_reduced_1 4 rfl rfl)
theorem dX3_reduced_29 : decode cX3_reduced 29 = .ok (.iload_n 2, 1) := dk_28 (dk_at dksX3_reduced_1 5 rfl rfl)
theorem dX3_reduced_30 : decode cX3_reduced 30 = .ok (.imul, 1) := dk_104 (dk_at dksX3_reduced_1 6 rfl rfl)
theorem dX3_reduced_31 : decode cX3_reduced 31 = .ok (.iload_n 3, 1) := dk_29 (dk_at dksX3_reduced_1 7 rfl rfl)
theorem dX3_reduced_32 : decode cX3_reduced 32 = .ok (.iadd, 1) := dk_96 (dk_at dksX3_reduced_1 8 rfl rfl)
theorem dX3_reduced_33 : decode cX3_reduced 33 = .ok (.laload, 1) := dk_47 (dk_at dksX3_reduced_1 9 rfl rfl)
theorem dX3_reduced_34 : decode cX3_reduced 34 = .ok (.l2i, 1) := dk_136 (dk_at dksX3_reduced_1 10 rfl rfl)
theorem dX3_reduced_35 : decode cX3_reduced 35 = .ok (.ireturn, 1) := dk_172 (dk_at dksX3_reduced_1 11 rfl rfl)
abbrev cX3_laysShort : ByteArray := prog_20_method_88_code
def yX3_laysShort : MethodName := ⟨RX3, "laysShort", "(I)V"⟩
def dkwX3_laysShort_0 : List UInt8 := [42, 27, 182, 0, 217, 42, 182, 0, 246, 42, 182, 1, 114, 177]
abbrev dktX3_laysShort_0 : List UInt8 := dkwX3_laysShort_0 ++ []
theorem dksX3_laysShort_0 : cX3_laysShort.data.toList.drop 0 = dktX3_laysShort_0 := by decide +kernel
theorem dX3_laysShort_0 : decode cX3_laysShort 0 = .ok (.aload_n 0, 1) := dk_42 (dk_at dksX3_laysShort_0 0 rfl rfl)
theorem dX3_laysShort_1 : decode cX3_laysShort 1 = .ok (.iload_n 1, 1) := dk_27 (dk_at dksX3_laysShort_0 1 rfl rfl)
theorem dX3_laysShort_2 : decode cX3_laysShort 2 = .ok (.invokevirtual 217, 3) := dk_182 0 217 (dk_at dksX3_laysShort_0 2 rfl rfl)
theorem dX3_laysShort_5 : decode cX3_laysShort 5 = .ok (.aload_n 0, 1) := dk_42 (dk_at dksX3_laysShort_0 5 rfl rfl)
theorem dX3_laysShort_6 : decode cX3_laysShort 6 = .ok (.invokevirtual 246, 3) := dk_182 0 246 (dk_at dksX3_laysShort_0 6 rfl rfl)
theorem dX3_laysShort_9 : decode cX3_laysShort 9 = .ok (.aload_n 0, 1) := dk_42 (dk_at dksX3_laysShort_0 9 rfl rfl)
theorem dX3_laysShort_10 : decode cX3_laysShort 10 = .ok (.invokevirtual 370, 3) := dk_182 1 114 (dk_at dksX3_laysShort_0 10 rfl rfl)
theorem dX3_laysShort_13 : decode cX3_laysShort 13 = .ok (.return_, 1) := dk_177 (dk_at dksX3_laysShort_0 13 rfl rfl)
abbrev cX3_shortens : ByteArray := prog_20_method_87_code
def yX3_shortens : MethodName := ⟨RX3, "shortens", "()V"⟩
def dkwX3_shortens_6 : List UInt8 := [180, 0, 36, 6, 28, 104, 21, 5, 96, 47, 80, 132, 5, 1, 167, 255, 205, 132, 2, 1, 167, 255, 146, 177]
abbrev dktX3_shortens_6 : List UInt8 := dkwX3_shortens_6 ++ []
def dkwX3_shortens_5 : List UInt8 := [96, 21, 4, 153, 0, 18, 42, 180, 0, 36, 6, 28, 104, 21, 5, 96, 47, 117, 167, 0, 14, 42]
abbrev dktX3_shortens_5 : List UInt8 := dkwX3_shortens_5 ++ dktX3_shortens_6
def dkwX3_shortens_4 : List UInt8 := [167, 0, 4, 3, 54, 4, 3, 54, 5, 21, 5, 6, 162, 0, 51, 42, 180, 0, 36, 6, 28, 104, 21, 5]
abbrev dktX3_shortens_4 : List UInt8 := dkwX3_shortens_4 ++ dktX3_shortens_5
def dkwX3_shortens_3 : List UInt8 := [132, 3, 1, 167, 255, 238, 42, 180, 0, 36, 6, 28, 104, 29, 96, 47, 9, 148, 156, 0, 7, 4]
abbrev dktX3_shortens_3 : List UInt8 := dkwX3_shortens_3 ++ dktX3_shortens_4
def dkwX3_shortens_2 : List UInt8 := [61, 28, 6, 162, 0, 111, 3, 62, 42, 180, 0, 36, 6, 28, 104, 29, 96, 47, 9, 148, 154, 0, 9]
abbrev dktX3_shortens_2 : List UInt8 := dkwX3_shortens_2 ++ dktX3_shortens_3
def dkwX3_shortens_1 : List UInt8 := [182, 1, 111, 154, 0, 11, 42, 4, 182, 1, 111, 153, 0, 7, 4, 167, 0, 4, 3, 60, 167, 255, 226, 3]
abbrev dktX3_shortens_1 : List UInt8 := dkwX3_shortens_1 ++ dktX3_shortens_2
def dkwX3_shortens_0 : List UInt8 := [42, 3, 181, 1, 105, 42, 3, 181, 0, 220, 4, 60, 27, 153, 0, 32, 42, 182, 1, 108, 42, 5]
abbrev dktX3_shortens_0 : List UInt8 := dkwX3_shortens_0 ++ dktX3_shortens_1
theorem dksX3_shortens_0 : cX3_shortens.data.toList.drop 0 = dktX3_shortens_0 := by decide +kernel
theorem dksX3_shortens_1 : cX3_shortens.data.toList.drop 22 = dktX3_shortens_1 := dk_seg dksX3_shortens_0 22 rfl rfl
theorem dksX3_shortens_2 : cX3_shortens.data.toList.drop 46 = dktX3_shortens_2 := dk_seg dksX3_shortens_1 24 rfl rfl
theorem dksX3_shortens_3 : cX3_shortens.data.toList.drop 69 = dktX3_shortens_3 := dk_seg dksX3_shortens_2 23 rfl rfl
theorem dksX3_shortens_4 : cX3_shortens.data.toList.drop 91 = dktX3_shortens_4 := dk_seg dksX3_shortens_3 22 rfl rfl
theorem dksX3_shortens_5 : cX3_shortens.data.toList.drop 115 = dktX3_shortens_5 := dk_seg dksX3_shortens_4 24 rfl rfl
theorem dksX3_shortens_6 : cX3_shortens.data.toList.drop 137 = dktX3_shortens_6 := dk_seg dksX3_shortens_5 22 rfl rfl
theorem dX3_shortens_0 : decode cX3_shortens 0 = .ok (.aload_n 0, 1) := dk_42 (dk_at dksX3_shortens_0 0 rfl rfl)
theorem dX3_shortens_1 : decode cX3_shortens 1 = .ok (.iconst 0, 1) := dk_3 (dk_at dksX3_shortens_0 1 rfl rfl)
theorem dX3_shortens_2 : decode cX3_shortens 2 = .ok (.putfield 361, 3) := dk_181 1 105 (dk_at dksX3_shortens_0 2 rfl rfl)
theorem dX3_shortens_5 : decode cX3_shortens 5 = .ok (.aload_n 0, 1) := dk_42 (dk_at dksX3_shortens_0 5 rfl rfl)
theorem dX3_shortens_6 : decode cX3_shortens 6 = .ok (.iconst 0, 1) := dk_3 (dk_at dksX3_shortens_0 6 rfl rfl)
theorem dX3_shortens_7 : decode cX3_shortens 7 = .ok (.putfield 220, 3) := dk_181 0 220 (dk_at dksX3_shortens_0 7 rfl rfl)
theorem dX3_shortens_10 : decode cX3_shortens 10 = .ok (.iconst 1, 1) := dk_4 (dk_at dksX3_shortens_0 10 rfl rfl)
theorem dX3_shortens_11 : decode cX3_shortens 11 = .ok (.istore_n 1, 1) := dk_60 (dk_at dksX3_shortens_0 11 rfl rfl)
theorem dX3_shortens_12 : decode cX3_shortens 12 = .ok (.iload_n 1, 1) := dk_27 (dk_at dksX3_shortens_0 12 rfl rfl)
theorem dX3_shortens_13 : decode cX3_shortens 13 = .ok (.ifCond .eq 32, 3) := dk_153 0 32 (dk_at dksX3_shortens_0 13 rfl rfl)
theorem dX3_shortens_16 : decode cX3_shortens 16 = .ok (.aload_n 0, 1) := dk_42 (dk_at dksX3_shortens_0 16 rfl rfl)
theorem dX3_shortens_17 : decode cX3_shortens 17 = .ok (.invokevirtual 364, 3) := dk_182 1 108 (dk_at dksX3_shortens_0 17 rfl rfl)
theorem dX3_shortens_20 : decode cX3_shortens 20 = .ok (.aload_n 0, 1) := dk_42 (dk_at dksX3_shortens_0 20 rfl rfl)
theorem dX3_shortens_21 : decode cX3_shortens 21 = .ok (.iconst 2, 1) := dk_5 (dk_at dksX3_shortens_0 21 rfl rfl)
theorem dX3_shortens_22 : decode cX3_shortens 22 = .ok (.invokevirtual 367, 3) := dk_182 1 111 (dk_at dksX3_shortens_1 0 rfl rfl)
theorem dX3_shortens_25 : decode cX3_shortens 25 = .ok (.ifCond .ne 11, 3) := dk_154 0 11 (dk_at dksX3_shortens_1 3 rfl rfl)
theorem dX3_shortens_28 : decode cX3_shortens 28 = .ok (.aload_n 0, 1) := dk_42 (dk_at dksX3_shortens_1 6 rfl rfl)
theorem dX3_shortens_29 : decode cX3_shortens 29 = .ok (.iconst 1, 1) := dk_4 (dk_at dksX3_shortens_1 7 rfl rfl)
theorem dX3_shortens_30 : decode cX3_shortens 30 = .ok (.invokevirtual 367, 3) := dk_182 1 111 (dk_at dksX3_shortens_1 8 rfl rfl)
theorem dX3_shortens_33 : decode cX3_shortens 33 = .ok (.ifCond .eq 7, 3) := dk_153 0 7 (dk_at dksX3_shortens_1 11 rfl rfl)
theorem dX3_shortens_36 : decode cX3_shortens 36 = .ok (.iconst 1, 1) := dk_4 (dk_at dksX3_shortens_1 14 rfl rfl)
theorem dX3_shortens_37 : decode cX3_shortens 37 = .ok (.goto 4, 3) := dk_167 0 4 (dk_at dksX3_shortens_1 15 rfl rfl)
theorem dX3_shortens_40 : decode cX3_shortens 40 = .ok (.iconst 0, 1) := dk_3 (dk_at dksX3_shortens_1 18 rfl rfl)
theorem dX3_shortens_41 : decode cX3_shortens 41 = .ok (.istore_n 1, 1) := dk_60 (dk_at dksX3_shortens_1 19 rfl rfl)
theorem dX3_shortens_42 : decode cX3_shortens 42 = .ok (.goto (-30), 3) := dk_167 255 226 (dk_at dksX3_shortens_1 20 rfl rfl)
theorem dX3_shortens_45 : decode cX3_shortens 45 = .ok (.iconst 0, 1) := dk_3 (dk_at dksX3_shortens_1 23 rfl rfl)
theorem dX3_shortens_46 : decode cX3_shortens 46 = .ok (.istore_n 2, 1) := dk_61 (dk_at dksX3_shortens_2 0 rfl rfl)
theorem dX3_shortens_47 : decode cX3_shortens 47 = .ok (.iload_n 2, 1) := dk_28 (dk_at dksX3_shortens_2 1 rfl rfl)
theorem dX3_shortens_48 : decode cX3_shortens 48 = .ok (.iconst 3, 1) := dk_6 (dk_at dksX3_shortens_2 2 rfl rfl)
theorem dX3_shortens_49 : decode cX3_shortens 49 = .ok (.if_icmp .ge 111, 3) := dk_162 0 111 (dk_at dksX3_shortens_2 3 rfl rfl)
theorem dX3_shortens_52 : decode cX3_shortens 52 = .ok (.iconst 0, 1) := dk_3 (dk_at dksX3_shortens_2 6 rfl rfl)
theorem dX3_shortens_53 : decode cX3_shortens 53 = .ok (.istore_n 3, 1) := dk_62 (dk_at dksX3_shortens_2 7 rfl rfl)
theorem dX3_shortens_54 : decode cX3_shortens 54 = .ok (.aload_n 0, 1) := dk_42 (dk_at dksX3_shortens_2 8 rfl rfl)
theorem dX3_shortens_55 : decode cX3_shortens 55 = .ok (.getfield 36, 3) := dk_180 0 36 (dk_at dksX3_shortens_2 9 rfl rfl)
theorem dX3_shortens_58 : decode cX3_shortens 58 = .ok (.iconst 3, 1) := dk_6 (dk_at dksX3_shortens_2 12 rfl rfl)
theorem dX3_shortens_59 : decode cX3_shortens 59 = .ok (.iload_n 2, 1) := dk_28 (dk_at dksX3_shortens_2 13 rfl rfl)
theorem dX3_shortens_60 : decode cX3_shortens 60 = .ok (.imul, 1) := dk_104 (dk_at dksX3_shortens_2 14 rfl rfl)
theorem dX3_shortens_61 : decode cX3_shortens 61 = .ok (.iload_n 3, 1) := dk_29 (dk_at dksX3_shortens_2 15 rfl rfl)
theorem dX3_shortens_62 : decode cX3_shortens 62 = .ok (.iadd, 1) := dk_96 (dk_at dksX3_shortens_2 16 rfl rfl)
theorem dX3_shortens_63 : decode cX3_shortens 63 = .ok (.laload, 1) := dk_47 (dk_at dksX3_shortens_2 17 rfl rfl)
theorem dX3_shortens_64 : decode cX3_shortens 64 = .ok (.lconst 0, 1) := dk_9 (dk_at dksX3_shortens_2 18 rfl rfl)
theorem dX3_shortens_65 : decode cX3_shortens 65 = .ok (.lcmp, 1) := dk_148 (dk_at dksX3_shortens_2 19 rfl rfl)
theorem dX3_shortens_66 : decode cX3_shortens 66 = .ok (.ifCond .ne 9, 3) := dk_154 0 9 (dk_at dksX3_shortens_2 20 rfl rfl)
theorem dX3_shortens_69 : decode cX3_shortens 69 = .ok (.iinc 3 1, 3) := dk_132 3 1 (dk_at dksX3_shortens_3 0 rfl rfl)
theorem dX3_shortens_72 : decode cX3_shortens 72 = .ok (.goto (-18), 3) := dk_167 255 238 (dk_at dksX3_shortens_3 3 rfl rfl)
theorem dX3_shortens_75 : decode cX3_shortens 75 = .ok (.aload_n 0, 1) := dk_42 (dk_at dksX3_shortens_3 6 rfl rfl)
theorem dX3_shortens_76 : decode cX3_shortens 76 = .ok (.getfield 36, 3) := dk_180 0 36 (dk_at dksX3_shortens_3 7 rfl rfl)
theorem dX3_shortens_79 : decode cX3_shortens 79 = .ok (.iconst 3, 1) := dk_6 (dk_at dksX3_shortens_3 10 rfl rfl)
theorem dX3_shortens_80 : decode cX3_shortens 80 = .ok (.iload_n 2, 1) := dk_28 (dk_at dksX3_shortens_3 11 rfl rfl)
theorem dX3_shortens_81 : decode cX3_shortens 81 = .ok (.imul, 1) := dk_104 (dk_at dksX3_shortens_3 12 rfl rfl)
theorem dX3_shortens_82 : decode cX3_shortens 82 = .ok (.iload_n 3, 1) := dk_29 (dk_at dksX3_shortens_3 13 rfl rfl)
theorem dX3_shortens_83 : decode cX3_shortens 83 = .ok (.iadd, 1) := dk_96 (dk_at dksX3_shortens_3 14 rfl rfl)
theorem dX3_shortens_84 : decode cX3_shortens 84 = .ok (.laload, 1) := dk_47 (dk_at dksX3_shortens_3 15 rfl rfl)
theorem dX3_shortens_85 : decode cX3_shortens 85 = .ok (.lconst 0, 1) := dk_9 (dk_at dksX3_shortens_3 16 rfl rfl)
theorem dX3_shortens_86 : decode cX3_shortens 86 = .ok (.lcmp, 1) := dk_148 (dk_at dksX3_shortens_3 17 rfl rfl)
theorem dX3_shortens_87 : decode cX3_shortens 87 = .ok (.ifCond .ge 7, 3) := dk_156 0 7 (dk_at dksX3_shortens_3 18 rfl rfl)
theorem dX3_shortens_90 : decode cX3_shortens 90 = .ok (.iconst 1, 1) := dk_4 (dk_at dksX3_shortens_3 21 rfl rfl)
theorem dX3_shortens_91 : decode cX3_shortens 91 = .ok (.goto 4, 3) := dk_167 0 4 (dk_at dksX3_shortens_4 0 rfl rfl)
theorem dX3_shortens_94 : decode cX3_shortens 94 = .ok (.iconst 0, 1) := dk_3 (dk_at dksX3_shortens_4 3 rfl rfl)
theorem dX3_shortens_95 : decode cX3_shortens 95 = .ok (.istore 4, 2) := dk_54 4 (dk_at dksX3_shortens_4 4 rfl rfl)
theorem dX3_shortens_97 : decode cX3_shortens 97 = .ok (.iconst 0, 1) := dk_3 (dk_at dksX3_shortens_4 6 rfl rfl)
theorem dX3_shortens_98 : decode cX3_shortens 98 = .ok (.istore 5, 2) := dk_54 5 (dk_at dksX3_shortens_4 7 rfl rfl)
theorem dX3_shortens_100 : decode cX3_shortens 100 = .ok (.iload 5, 2) := dk_21 5 (dk_at dksX3_shortens_4 9 rfl rfl)
theorem dX3_shortens_102 : decode cX3_shortens 102 = .ok (.iconst 3, 1) := dk_6 (dk_at dksX3_shortens_4 11 rfl rfl)
theorem dX3_shortens_103 : decode cX3_shortens 103 = .ok (.if_icmp .ge 51, 3) := dk_162 0 51 (dk_at dksX3_shortens_4 12 rfl rfl)
theorem dX3_shortens_106 : decode cX3_shortens 106 = .ok (.aload_n 0, 1) := dk_42 (dk_at dksX3_shortens_4 15 rfl rfl)
theorem dX3_shortens_107 : decode cX3_shortens 107 = .ok (.getfield 36, 3) := dk_180 0 36 (dk_at dksX3_shortens_4 16 rfl rfl)
theorem dX3_shortens_110 : decode cX3_shortens 110 = .ok (.iconst 3, 1) := dk_6 (dk_at dksX3_shortens_4 19 rfl rfl)
theorem dX3_shortens_111 : decode cX3_shortens 111 = .ok (.iload_n 2, 1) := dk_28 (dk_at dksX3_shortens_4 20 rfl rfl)
theorem dX3_shortens_112 : decode cX3_shortens 112 = .ok (.imul, 1) := dk_104 (dk_at dksX3_shortens_4 21 rfl rfl)
theorem dX3_shortens_113 : decode cX3_shortens 113 = .ok (.iload 5, 2) := dk_21 5 (dk_at dksX3_shortens_4 22 rfl rfl)
theorem dX3_shortens_115 : decode cX3_shortens 115 = .ok (.iadd, 1) := dk_96 (dk_at dksX3_shortens_5 0 rfl rfl)
theorem dX3_shortens_116 : decode cX3_shortens 116 = .ok (.iload 4, 2) := dk_21 4 (dk_at dksX3_shortens_5 1 rfl rfl)
theorem dX3_shortens_118 : decode cX3_shortens 118 = .ok (.ifCond .eq 18, 3) := dk_153 0 18 (dk_at dksX3_shortens_5 3 rfl rfl)
theorem dX3_shortens_121 : decode cX3_shortens 121 = .ok (.aload_n 0, 1) := dk_42 (dk_at dksX3_shortens_5 6 rfl rfl)
theorem dX3_shortens_122 : decode cX3_shortens 122 = .ok (.getfield 36, 3) := dk_180 0 36 (dk_at dksX3_shortens_5 7 rfl rfl)
theorem dX3_shortens_125 : decode cX3_shortens 125 = .ok (.iconst 3, 1) := dk_6 (dk_at dksX3_shortens_5 10 rfl rfl)
theorem dX3_shortens_126 : decode cX3_shortens 126 = .ok (.iload_n 2, 1) := dk_28 (dk_at dksX3_shortens_5 11 rfl rfl)
theorem dX3_shortens_127 : decode cX3_shortens 127 = .ok (.imul, 1) := dk_104 (dk_at dksX3_shortens_5 12 rfl rfl)
theorem dX3_shortens_128 : decode cX3_shortens 128 = .ok (.iload 5, 2) := dk_21 5 (dk_at dksX3_shortens_5 13 rfl rfl)
theorem dX3_shortens_130 : decode cX3_shortens 130 = .ok (.iadd, 1) := dk_96 (dk_at dksX3_shortens_5 15 rfl rfl)
theorem dX3_shortens_131 : decode cX3_shortens 131 = .ok (.laload, 1) := dk_47 (dk_at dksX3_shortens_5 16 rfl rfl)
theorem dX3_shortens_132 : decode cX3_shortens 132 = .ok (.lneg, 1) := dk_117 (dk_at dksX3_shortens_5 17 rfl rfl)
theorem dX3_shortens_133 : decode cX3_shortens 133 = .ok (.goto 14, 3) := dk_167 0 14 (dk_at dksX3_shortens_5 18 rfl rfl)
theorem dX3_shortens_136 : decode cX3_shortens 136 = .ok (.aload_n 0, 1) := dk_42 (dk_at dksX3_shortens_5 21 rfl rfl)
theorem dX3_shortens_137 : decode cX3_shortens 137 = .ok (.getfield 36, 3) := dk_180 0 36 (dk_at dksX3_shortens_6 0 rfl rfl)
theorem dX3_shortens_140 : decode cX3_shortens 140 = .ok (.iconst 3, 1) := dk_6 (dk_at dksX3_shortens_6 3 rfl rfl)
theorem dX3_shortens_141 : decode cX3_shortens 141 = .ok (.iload_n 2, 1) := dk_28 (dk_at dksX3_shortens_6 4 rfl rfl)
theorem dX3_shortens_142 : decode cX3_shortens 142 = .ok (.imul, 1) := dk_104 (dk_at dksX3_shortens_6 5 rfl rfl)
theorem dX3_shortens_143 : decode cX3_shortens 143 = .ok (.iload 5, 2) := dk_21 5 (dk_at dksX3_shortens_6 6 rfl rfl)
theorem dX3_shortens_145 : decode cX3_shortens 145 = .ok (.iadd, 1) := dk_96 (dk_at dksX3_shortens_6 8 rfl rfl)
theorem dX3_shortens_146 : decode cX3_shortens 146 = .ok (.laload, 1) := dk_47 (dk_at dksX3_shortens_6 9 rfl rfl)
theorem dX3_shortens_147 : decode cX3_shortens 147 = .ok (.lastore, 1) := dk_80 (dk_at dksX3_shortens_6 10 rfl rfl)
theorem dX3_shortens_148 : decode cX3_shortens 148 = .ok (.iinc 5 1, 3) := dk_132 5 1 (dk_at dksX3_shortens_6 11 rfl rfl)
theorem dX3_shortens_151 : decode cX3_shortens 151 = .ok (.goto (-51), 3) := dk_167 255 205 (dk_at dksX3_shortens_6 14 rfl rfl)
theorem dX3_shortens_154 : decode cX3_shortens 154 = .ok (.iinc 2 1, 3) := dk_132 2 1 (dk_at dksX3_shortens_6 17 rfl rfl)
theorem dX3_shortens_157 : decode cX3_shortens 157 = .ok (.goto (-110), 3) := dk_167 255 146 (dk_at dksX3_shortens_6 20 rfl rfl)
theorem dX3_shortens_160 : decode cX3_shortens 160 = .ok (.return_, 1) := dk_177 (dk_at dksX3_shortens_6 23 rfl rfl)
abbrev cX3_orders : ByteArray := prog_20_method_85_code
def yX3_orders : MethodName := ⟨RX3, "orders", "()V"⟩
def dkwX3_orders_2 : List UInt8 := [132, 1, 1, 167, 255, 211, 177]
abbrev dktX3_orders_2 : List UInt8 := dkwX3_orders_2 ++ []
def dkwX3_orders_1 : List UInt8 := [153, 0, 16, 42, 28, 28, 4, 96, 182, 0, 233, 42, 3, 181, 0, 220, 132, 2, 1, 167, 255, 224]
abbrev dktX3_orders_1 : List UInt8 := dkwX3_orders_1 ++ dktX3_orders_2
def dkwX3_orders_0 : List UInt8 := [3, 60, 27, 6, 162, 0, 46, 3, 61, 28, 5, 162, 0, 33, 42, 28, 4, 96, 28, 182, 1, 102]
abbrev dktX3_orders_0 : List UInt8 := dkwX3_orders_0 ++ dktX3_orders_1
theorem dksX3_orders_0 : cX3_orders.data.toList.drop 0 = dktX3_orders_0 := by decide +kernel
theorem dksX3_orders_1 : cX3_orders.data.toList.drop 22 = dktX3_orders_1 := dk_seg dksX3_orders_0 22 rfl rfl
theorem dksX3_orders_2 : cX3_orders.data.toList.drop 44 = dktX3_orders_2 := dk_seg dksX3_orders_1 22 rfl rfl
theorem dX3_orders_0 : decode cX3_orders 0 = .ok (.iconst 0, 1) := dk_3 (dk_at dksX3_orders_0 0 rfl rfl)
theorem dX3_orders_1 : decode cX3_orders 1 = .ok (.istore_n 1, 1) := dk_60 (dk_at dksX3_orders_0 1 rfl rfl)
theorem dX3_orders_2 : decode cX3_orders 2 = .ok (.iload_n 1, 1) := dk_27 (dk_at dksX3_orders_0 2 rfl rfl)
theorem dX3_orders_3 : decode cX3_orders 3 = .ok (.iconst 3, 1) := dk_6 (dk_at dksX3_orders_0 3 rfl rfl)
theorem dX3_orders_4 : decode cX3_orders 4 = .ok (.if_icmp .ge 46, 3) := dk_162 0 46 (dk_at dksX3_orders_0 4 rfl rfl)
theorem dX3_orders_7 : decode cX3_orders 7 = .ok (.iconst 0, 1) := dk_3 (dk_at dksX3_orders_0 7 rfl rfl)
theorem dX3_orders_8 : decode cX3_orders 8 = .ok (.istore_n 2, 1) := dk_61 (dk_at dksX3_orders_0 8 rfl rfl)
theorem dX3_orders_9 : decode cX3_orders 9 = .ok (.iload_n 2, 1) := dk_28 (dk_at dksX3_orders_0 9 rfl rfl)
theorem dX3_orders_10 : decode cX3_orders 10 = .ok (.iconst 2, 1) := dk_5 (dk_at dksX3_orders_0 10 rfl rfl)
theorem dX3_orders_11 : decode cX3_orders 11 = .ok (.if_icmp .ge 33, 3) := dk_162 0 33 (dk_at dksX3_orders_0 11 rfl rfl)
theorem dX3_orders_14 : decode cX3_orders 14 = .ok (.aload_n 0, 1) := dk_42 (dk_at dksX3_orders_0 14 rfl rfl)
theorem dX3_orders_15 : decode cX3_orders 15 = .ok (.iload_n 2, 1) := dk_28 (dk_at dksX3_orders_0 15 rfl rfl)
theorem dX3_orders_16 : decode cX3_orders 16 = .ok (.iconst 1, 1) := dk_4 (dk_at dksX3_orders_0 16 rfl rfl)
theorem dX3_orders_17 : decode cX3_orders 17 = .ok (.iadd, 1) := dk_96 (dk_at dksX3_orders_0 17 rfl rfl)
theorem dX3_orders_18 : decode cX3_orders 18 = .ok (.iload_n 2, 1) := dk_28 (dk_at dksX3_orders_0 18 rfl rfl)
theorem dX3_orders_19 : decode cX3_orders 19 = .ok (.invokevirtual 358, 3) := dk_182 1 102 (dk_at dksX3_orders_0 19 rfl rfl)
theorem dX3_orders_22 : decode cX3_orders 22 = .ok (.ifCond .eq 16, 3) := dk_153 0 16 (dk_at dksX3_orders_1 0 rfl rfl)
theorem dX3_orders_25 : decode cX3_orders 25 = .ok (.aload_n 0, 1) := dk_42 (dk_at dksX3_orders_1 3 rfl rfl)
theorem dX3_orders_26 : decode cX3_orders 26 = .ok (.iload_n 2, 1) := dk_28 (dk_at dksX3_orders_1 4 rfl rfl)
theorem dX3_orders_27 : decode cX3_orders 27 = .ok (.iload_n 2, 1) := dk_28 (dk_at dksX3_orders_1 5 rfl rfl)
theorem dX3_orders_28 : decode cX3_orders 28 = .ok (.iconst 1, 1) := dk_4 (dk_at dksX3_orders_1 6 rfl rfl)
theorem dX3_orders_29 : decode cX3_orders 29 = .ok (.iadd, 1) := dk_96 (dk_at dksX3_orders_1 7 rfl rfl)
theorem dX3_orders_30 : decode cX3_orders 30 = .ok (.invokevirtual 233, 3) := dk_182 0 233 (dk_at dksX3_orders_1 8 rfl rfl)
theorem dX3_orders_33 : decode cX3_orders 33 = .ok (.aload_n 0, 1) := dk_42 (dk_at dksX3_orders_1 11 rfl rfl)
theorem dX3_orders_34 : decode cX3_orders 34 = .ok (.iconst 0, 1) := dk_3 (dk_at dksX3_orders_1 12 rfl rfl)
theorem dX3_orders_35 : decode cX3_orders 35 = .ok (.putfield 220, 3) := dk_181 0 220 (dk_at dksX3_orders_1 13 rfl rfl)
theorem dX3_orders_38 : decode cX3_orders 38 = .ok (.iinc 2 1, 3) := dk_132 2 1 (dk_at dksX3_orders_1 16 rfl rfl)
theorem dX3_orders_41 : decode cX3_orders 41 = .ok (.goto (-32), 3) := dk_167 255 224 (dk_at dksX3_orders_1 19 rfl rfl)
theorem dX3_orders_44 : decode cX3_orders 44 = .ok (.iinc 1 1, 3) := dk_132 1 1 (dk_at dksX3_orders_2 0 rfl rfl)
theorem dX3_orders_47 : decode cX3_orders 47 = .ok (.goto (-45), 3) := dk_167 255 211 (dk_at dksX3_orders_2 3 rfl rfl)
theorem dX3_orders_50 : decode cX3_orders 50 = .ok (.return_, 1) := dk_177 (dk_at dksX3_orders_2 6 rfl rfl)
abbrev cX3_isAhead : ByteArray := prog_20_method_84_code
def yX3_isAhead : MethodName := ⟨RX3, "isAhead", "(II)Z"⟩
def dkwX3_isAhead_4 : List UInt8 := [132, 3, 1, 167, 255, 194, 3, 172]
abbrev dktX3_isAhead_4 : List UInt8 := dkwX3_isAhead_4 ++ []
def dkwX3_isAhead_3 : List UInt8 := [29, 96, 47, 42, 180, 0, 36, 6, 28, 104, 29, 96, 47, 148, 156, 0, 7, 4, 167, 0, 4, 3, 172]
abbrev dktX3_isAhead_3 : List UInt8 := dkwX3_isAhead_3 ++ dktX3_isAhead_4
def dkwX3_isAhead_2 : List UInt8 := [29, 96, 47, 42, 180, 0, 36, 6, 28, 104, 29, 96, 47, 148, 153, 0, 33, 42, 180, 0, 36, 6, 27, 104]
abbrev dktX3_isAhead_2 : List UInt8 := dkwX3_isAhead_2 ++ dktX3_isAhead_3
def dkwX3_isAhead_1 : List UInt8 := [148, 156, 0, 7, 4, 167, 0, 4, 3, 172, 3, 62, 29, 6, 162, 0, 63, 42, 180, 0, 36, 6, 27, 104]
abbrev dktX3_isAhead_1 : List UInt8 := dkwX3_isAhead_1 ++ dktX3_isAhead_2
def dkwX3_isAhead_0 : List UInt8 := [42, 27, 182, 1, 99, 42, 28, 182, 1, 99, 148, 153, 0, 23, 42, 27, 182, 1, 99, 42, 28, 182, 1, 99]
abbrev dktX3_isAhead_0 : List UInt8 := dkwX3_isAhead_0 ++ dktX3_isAhead_1
theorem dksX3_isAhead_0 : cX3_isAhead.data.toList.drop 0 = dktX3_isAhead_0 := by decide +kernel
theorem dksX3_isAhead_1 : cX3_isAhead.data.toList.drop 24 = dktX3_isAhead_1 := dk_seg dksX3_isAhead_0 24 rfl rfl
theorem dksX3_isAhead_2 : cX3_isAhead.data.toList.drop 48 = dktX3_isAhead_2 := dk_seg dksX3_isAhead_1 24 rfl rfl
theorem dksX3_isAhead_3 : cX3_isAhead.data.toList.drop 72 = dktX3_isAhead_3 := dk_seg dksX3_isAhead_2 24 rfl rfl
theorem dksX3_isAhead_4 : cX3_isAhead.data.toList.drop 95 = dktX3_isAhead_4 := dk_seg dksX3_isAhead_3 23 rfl rfl
theorem dX3_isAhead_0 : decode cX3_isAhead 0 = .ok (.aload_n 0, 1) := dk_42 (dk_at dksX3_isAhead_0 0 rfl rfl)
theorem dX3_isAhead_1 : decode cX3_isAhead 1 = .ok (.iload_n 1, 1) := dk_27 (dk_at dksX3_isAhead_0 1 rfl rfl)
theorem dX3_isAhead_2 : decode cX3_isAhead 2 = .ok (.invokevirtual 355, 3) := dk_182 1 99 (dk_at dksX3_isAhead_0 2 rfl rfl)
theorem dX3_isAhead_5 : decode cX3_isAhead 5 = .ok (.aload_n 0, 1) := dk_42 (dk_at dksX3_isAhead_0 5 rfl rfl)
theorem dX3_isAhead_6 : decode cX3_isAhead 6 = .ok (.iload_n 2, 1) := dk_28 (dk_at dksX3_isAhead_0 6 rfl rfl)
theorem dX3_isAhead_7 : decode cX3_isAhead 7 = .ok (.invokevirtual 355, 3) := dk_182 1 99 (dk_at dksX3_isAhead_0 7 rfl rfl)
theorem dX3_isAhead_10 : decode cX3_isAhead 10 = .ok (.lcmp, 1) := dk_148 (dk_at dksX3_isAhead_0 10 rfl rfl)
theorem dX3_isAhead_11 : decode cX3_isAhead 11 = .ok (.ifCond .eq 23, 3) := dk_153 0 23 (dk_at dksX3_isAhead_0 11 rfl rfl)
theorem dX3_isAhead_14 : decode cX3_isAhead 14 = .ok (.aload_n 0, 1) := dk_42 (dk_at dksX3_isAhead_0 14 rfl rfl)
theorem dX3_isAhead_15 : decode cX3_isAhead 15 = .ok (.iload_n 1, 1) := dk_27 (dk_at dksX3_isAhead_0 15 rfl rfl)
theorem dX3_isAhead_16 : decode cX3_isAhead 16 = .ok (.invokevirtual 355, 3) := dk_182 1 99 (dk_at dksX3_isAhead_0 16 rfl rfl)
theorem dX3_isAhead_19 : decode cX3_isAhead 19 = .ok (.aload_n 0, 1) := dk_42 (dk_at dksX3_isAhead_0 19 rfl rfl)
theorem dX3_isAhead_20 : decode cX3_isAhead 20 = .ok (.iload_n 2, 1) := dk_28 (dk_at dksX3_isAhead_0 20 rfl rfl)
theorem dX3_isAhead_21 : decode cX3_isAhead 21 = .ok (.invokevirtual 355, 3) := dk_182 1 99 (dk_at dksX3_isAhead_0 21 rfl rfl)
theorem dX3_isAhead_24 : decode cX3_isAhead 24 = .ok (.lcmp, 1) := dk_148 (dk_at dksX3_isAhead_1 0 rfl rfl)
theorem dX3_isAhead_25 : decode cX3_isAhead 25 = .ok (.ifCond .ge 7, 3) := dk_156 0 7 (dk_at dksX3_isAhead_1 1 rfl rfl)
theorem dX3_isAhead_28 : decode cX3_isAhead 28 = .ok (.iconst 1, 1) := dk_4 (dk_at dksX3_isAhead_1 4 rfl rfl)
theorem dX3_isAhead_29 : decode cX3_isAhead 29 = .ok (.goto 4, 3) := dk_167 0 4 (dk_at dksX3_isAhead_1 5 rfl rfl)
theorem dX3_isAhead_32 : decode cX3_isAhead 32 = .ok (.iconst 0, 1) := dk_3 (dk_at dksX3_isAhead_1 8 rfl rfl)
theorem dX3_isAhead_33 : decode cX3_isAhead 33 = .ok (.ireturn, 1) := dk_172 (dk_at dksX3_isAhead_1 9 rfl rfl)
theorem dX3_isAhead_34 : decode cX3_isAhead 34 = .ok (.iconst 0, 1) := dk_3 (dk_at dksX3_isAhead_1 10 rfl rfl)
theorem dX3_isAhead_35 : decode cX3_isAhead 35 = .ok (.istore_n 3, 1) := dk_62 (dk_at dksX3_isAhead_1 11 rfl rfl)
theorem dX3_isAhead_36 : decode cX3_isAhead 36 = .ok (.iload_n 3, 1) := dk_29 (dk_at dksX3_isAhead_1 12 rfl rfl)
theorem dX3_isAhead_37 : decode cX3_isAhead 37 = .ok (.iconst 3, 1) := dk_6 (dk_at dksX3_isAhead_1 13 rfl rfl)
theorem dX3_isAhead_38 : decode cX3_isAhead 38 = .ok (.if_icmp .ge 63, 3) := dk_162 0 63 (dk_at dksX3_isAhead_1 14 rfl rfl)
theorem dX3_isAhead_41 : decode cX3_isAhead 41 = .ok (.aload_n 0, 1) := dk_42 (dk_at dksX3_isAhead_1 17 rfl rfl)
theorem dX3_isAhead_42 : decode cX3_isAhead 42 = .ok (.getfield 36, 3) := dk_180 0 36 (dk_at dksX3_isAhead_1 18 rfl rfl)
theorem dX3_isAhead_45 : decode cX3_isAhead 45 = .ok (.iconst 3, 1) := dk_6 (dk_at dksX3_isAhead_1 21 rfl rfl)
theorem dX3_isAhead_46 : decode cX3_isAhead 46 = .ok (.iload_n 1, 1) := dk_27 (dk_at dksX3_isAhead_1 22 rfl rfl)
theorem dX3_isAhead_47 : decode cX3_isAhead 47 = .ok (.imul, 1) := dk_104 (dk_at dksX3_isAhead_1 23 rfl rfl)
theorem dX3_isAhead_48 : decode cX3_isAhead 48 = .ok (.iload_n 3, 1) := dk_29 (dk_at dksX3_isAhead_2 0 rfl rfl)
theorem dX3_isAhead_49 : decode cX3_isAhead 49 = .ok (.iadd, 1) := dk_96 (dk_at dksX3_isAhead_2 1 rfl rfl)
theorem dX3_isAhead_50 : decode cX3_isAhead 50 = .ok (.laload, 1) := dk_47 (dk_at dksX3_isAhead_2 2 rfl rfl)
theorem dX3_isAhead_51 : decode cX3_isAhead 51 = .ok (.aload_n 0, 1) := dk_42 (dk_at dksX3_isAhead_2 3 rfl rfl)
theorem dX3_isAhead_52 : decode cX3_isAhead 52 = .ok (.getfield 36, 3) := dk_180 0 36 (dk_at dksX3_isAhead_2 4 rfl rfl)
theorem dX3_isAhead_55 : decode cX3_isAhead 55 = .ok (.iconst 3, 1) := dk_6 (dk_at dksX3_isAhead_2 7 rfl rfl)
theorem dX3_isAhead_56 : decode cX3_isAhead 56 = .ok (.iload_n 2, 1) := dk_28 (dk_at dksX3_isAhead_2 8 rfl rfl)
theorem dX3_isAhead_57 : decode cX3_isAhead 57 = .ok (.imul, 1) := dk_104 (dk_at dksX3_isAhead_2 9 rfl rfl)
theorem dX3_isAhead_58 : decode cX3_isAhead 58 = .ok (.iload_n 3, 1) := dk_29 (dk_at dksX3_isAhead_2 10 rfl rfl)
theorem dX3_isAhead_59 : decode cX3_isAhead 59 = .ok (.iadd, 1) := dk_96 (dk_at dksX3_isAhead_2 11 rfl rfl)
theorem dX3_isAhead_60 : decode cX3_isAhead 60 = .ok (.laload, 1) := dk_47 (dk_at dksX3_isAhead_2 12 rfl rfl)
theorem dX3_isAhead_61 : decode cX3_isAhead 61 = .ok (.lcmp, 1) := dk_148 (dk_at dksX3_isAhead_2 13 rfl rfl)
theorem dX3_isAhead_62 : decode cX3_isAhead 62 = .ok (.ifCond .eq 33, 3) := dk_153 0 33 (dk_at dksX3_isAhead_2 14 rfl rfl)
theorem dX3_isAhead_65 : decode cX3_isAhead 65 = .ok (.aload_n 0, 1) := dk_42 (dk_at dksX3_isAhead_2 17 rfl rfl)
theorem dX3_isAhead_66 : decode cX3_isAhead 66 = .ok (.getfield 36, 3) := dk_180 0 36 (dk_at dksX3_isAhead_2 18 rfl rfl)
theorem dX3_isAhead_69 : decode cX3_isAhead 69 = .ok (.iconst 3, 1) := dk_6 (dk_at dksX3_isAhead_2 21 rfl rfl)
theorem dX3_isAhead_70 : decode cX3_isAhead 70 = .ok (.iload_n 1, 1) := dk_27 (dk_at dksX3_isAhead_2 22 rfl rfl)
theorem dX3_isAhead_71 : decode cX3_isAhead 71 = .ok (.imul, 1) := dk_104 (dk_at dksX3_isAhead_2 23 rfl rfl)
theorem dX3_isAhead_72 : decode cX3_isAhead 72 = .ok (.iload_n 3, 1) := dk_29 (dk_at dksX3_isAhead_3 0 rfl rfl)
theorem dX3_isAhead_73 : decode cX3_isAhead 73 = .ok (.iadd, 1) := dk_96 (dk_at dksX3_isAhead_3 1 rfl rfl)
theorem dX3_isAhead_74 : decode cX3_isAhead 74 = .ok (.laload, 1) := dk_47 (dk_at dksX3_isAhead_3 2 rfl rfl)
theorem dX3_isAhead_75 : decode cX3_isAhead 75 = .ok (.aload_n 0, 1) := dk_42 (dk_at dksX3_isAhead_3 3 rfl rfl)
theorem dX3_isAhead_76 : decode cX3_isAhead 76 = .ok (.getfield 36, 3) := dk_180 0 36 (dk_at dksX3_isAhead_3 4 rfl rfl)
theorem dX3_isAhead_79 : decode cX3_isAhead 79 = .ok (.iconst 3, 1) := dk_6 (dk_at dksX3_isAhead_3 7 rfl rfl)
theorem dX3_isAhead_80 : decode cX3_isAhead 80 = .ok (.iload_n 2, 1) := dk_28 (dk_at dksX3_isAhead_3 8 rfl rfl)
theorem dX3_isAhead_81 : decode cX3_isAhead 81 = .ok (.imul, 1) := dk_104 (dk_at dksX3_isAhead_3 9 rfl rfl)
theorem dX3_isAhead_82 : decode cX3_isAhead 82 = .ok (.iload_n 3, 1) := dk_29 (dk_at dksX3_isAhead_3 10 rfl rfl)
theorem dX3_isAhead_83 : decode cX3_isAhead 83 = .ok (.iadd, 1) := dk_96 (dk_at dksX3_isAhead_3 11 rfl rfl)
theorem dX3_isAhead_84 : decode cX3_isAhead 84 = .ok (.laload, 1) := dk_47 (dk_at dksX3_isAhead_3 12 rfl rfl)
theorem dX3_isAhead_85 : decode cX3_isAhead 85 = .ok (.lcmp, 1) := dk_148 (dk_at dksX3_isAhead_3 13 rfl rfl)
theorem dX3_isAhead_86 : decode cX3_isAhead 86 = .ok (.ifCond .ge 7, 3) := dk_156 0 7 (dk_at dksX3_isAhead_3 14 rfl rfl)
theorem dX3_isAhead_89 : decode cX3_isAhead 89 = .ok (.iconst 1, 1) := dk_4 (dk_at dksX3_isAhead_3 17 rfl rfl)
theorem dX3_isAhead_90 : decode cX3_isAhead 90 = .ok (.goto 4, 3) := dk_167 0 4 (dk_at dksX3_isAhead_3 18 rfl rfl)
theorem dX3_isAhead_93 : decode cX3_isAhead 93 = .ok (.iconst 0, 1) := dk_3 (dk_at dksX3_isAhead_3 21 rfl rfl)
theorem dX3_isAhead_94 : decode cX3_isAhead 94 = .ok (.ireturn, 1) := dk_172 (dk_at dksX3_isAhead_3 22 rfl rfl)
theorem dX3_isAhead_95 : decode cX3_isAhead 95 = .ok (.iinc 3 1, 3) := dk_132 3 1 (dk_at dksX3_isAhead_4 0 rfl rfl)
theorem dX3_isAhead_98 : decode cX3_isAhead 98 = .ok (.goto (-62), 3) := dk_167 255 194 (dk_at dksX3_isAhead_4 3 rfl rfl)
theorem dX3_isAhead_101 : decode cX3_isAhead 101 = .ok (.iconst 0, 1) := dk_3 (dk_at dksX3_isAhead_4 6 rfl rfl)
theorem dX3_isAhead_102 : decode cX3_isAhead 102 = .ok (.ireturn, 1) := dk_172 (dk_at dksX3_isAhead_4 7 rfl rfl)
abbrev cX3_lengthOf : ByteArray := prog_20_method_83_code
def yX3_lengthOf : MethodName := ⟨RX3, "lengthOf", "(I)J"⟩
def dkwX3_lengthOf_2 : List UInt8 := [47, 42, 180, 0, 36, 6, 27, 104, 5, 96, 47, 105, 97, 173]
abbrev dktX3_lengthOf_2 : List UInt8 := dkwX3_lengthOf_2 ++ []
def dkwX3_lengthOf_1 : List UInt8 := [4, 96, 47, 42, 180, 0, 36, 6, 27, 104, 4, 96, 47, 105, 97, 42, 180, 0, 36, 6, 27, 104, 5, 96]
abbrev dktX3_lengthOf_1 : List UInt8 := dkwX3_lengthOf_1 ++ dktX3_lengthOf_2
def dkwX3_lengthOf_0 : List UInt8 := [42, 180, 0, 36, 6, 27, 104, 47, 42, 180, 0, 36, 6, 27, 104, 47, 105, 42, 180, 0, 36, 6, 27, 104]
abbrev dktX3_lengthOf_0 : List UInt8 := dkwX3_lengthOf_0 ++ dktX3_lengthOf_1
theorem dksX3_lengthOf_0 : cX3_lengthOf.data.toList.drop 0 = dktX3_lengthOf_0 := by decide +kernel
theorem dksX3_lengthOf_1 : cX3_lengthOf.data.toList.drop 24 = dktX3_lengthOf_1 := dk_seg dksX3_lengthOf_0 24 rfl rfl
theorem dksX3_lengthOf_2 : cX3_lengthOf.data.toList.drop 48 = dktX3_lengthOf_2 := dk_seg dksX3_lengthOf_1 24 rfl rfl
theorem dX3_lengthOf_0 : decode cX3_lengthOf 0 = .ok (.aload_n 0, 1) := dk_42 (dk_at dksX3_lengthOf_0 0 rfl rfl)
theorem dX3_lengthOf_1 : decode cX3_lengthOf 1 = .ok (.getfield 36, 3) := dk_180 0 36 (dk_at dksX3_lengthOf_0 1 rfl rfl)
theorem dX3_lengthOf_4 : decode cX3_lengthOf 4 = .ok (.iconst 3, 1) := dk_6 (dk_at dksX3_lengthOf_0 4 rfl rfl)
theorem dX3_lengthOf_5 : decode cX3_lengthOf 5 = .ok (.iload_n 1, 1) := dk_27 (dk_at dksX3_lengthOf_0 5 rfl rfl)
theorem dX3_lengthOf_6 : decode cX3_lengthOf 6 = .ok (.imul, 1) := dk_104 (dk_at dksX3_lengthOf_0 6 rfl rfl)
theorem dX3_lengthOf_7 : decode cX3_lengthOf 7 = .ok (.laload, 1) := dk_47 (dk_at dksX3_lengthOf_0 7 rfl rfl)
theorem dX3_lengthOf_8 : decode cX3_lengthOf 8 = .ok (.aload_n 0, 1) := dk_42 (dk_at dksX3_lengthOf_0 8 rfl rfl)
theorem dX3_lengthOf_9 : decode cX3_lengthOf 9 = .ok (.getfield 36, 3) := dk_180 0 36 (dk_at dksX3_lengthOf_0 9 rfl rfl)
theorem dX3_lengthOf_12 : decode cX3_lengthOf 12 = .ok (.iconst 3, 1) := dk_6 (dk_at dksX3_lengthOf_0 12 rfl rfl)
theorem dX3_lengthOf_13 : decode cX3_lengthOf 13 = .ok (.iload_n 1, 1) := dk_27 (dk_at dksX3_lengthOf_0 13 rfl rfl)
theorem dX3_lengthOf_14 : decode cX3_lengthOf 14 = .ok (.imul, 1) := dk_104 (dk_at dksX3_lengthOf_0 14 rfl rfl)
theorem dX3_lengthOf_15 : decode cX3_lengthOf 15 = .ok (.laload, 1) := dk_47 (dk_at dksX3_lengthOf_0 15 rfl rfl)
theorem dX3_lengthOf_16 : decode cX3_lengthOf 16 = .ok (.lmul, 1) := dk_105 (dk_at dksX3_lengthOf_0 16 rfl rfl)
theorem dX3_lengthOf_17 : decode cX3_lengthOf 17 = .ok (.aload_n 0, 1) := dk_42 (dk_at dksX3_lengthOf_0 17 rfl rfl)
theorem dX3_lengthOf_18 : decode cX3_lengthOf 18 = .ok (.getfield 36, 3) := dk_180 0 36 (dk_at dksX3_lengthOf_0 18 rfl rfl)
theorem dX3_lengthOf_21 : decode cX3_lengthOf 21 = .ok (.iconst 3, 1) := dk_6 (dk_at dksX3_lengthOf_0 21 rfl rfl)
theorem dX3_lengthOf_22 : decode cX3_lengthOf 22 = .ok (.iload_n 1, 1) := dk_27 (dk_at dksX3_lengthOf_0 22 rfl rfl)
theorem dX3_lengthOf_23 : decode cX3_lengthOf 23 = .ok (.imul, 1) := dk_104 (dk_at dksX3_lengthOf_0 23 rfl rfl)
theorem dX3_lengthOf_24 : decode cX3_lengthOf 24 = .ok (.iconst 1, 1) := dk_4 (dk_at dksX3_lengthOf_1 0 rfl rfl)
theorem dX3_lengthOf_25 : decode cX3_lengthOf 25 = .ok (.iadd, 1) := dk_96 (dk_at dksX3_lengthOf_1 1 rfl rfl)
theorem dX3_lengthOf_26 : decode cX3_lengthOf 26 = .ok (.laload, 1) := dk_47 (dk_at dksX3_lengthOf_1 2 rfl rfl)
theorem dX3_lengthOf_27 : decode cX3_lengthOf 27 = .ok (.aload_n 0, 1) := dk_42 (dk_at dksX3_lengthOf_1 3 rfl rfl)
theorem dX3_lengthOf_28 : decode cX3_lengthOf 28 = .ok (.getfield 36, 3) := dk_180 0 36 (dk_at dksX3_lengthOf_1 4 rfl rfl)
theorem dX3_lengthOf_31 : decode cX3_lengthOf 31 = .ok (.iconst 3, 1) := dk_6 (dk_at dksX3_lengthOf_1 7 rfl rfl)
theorem dX3_lengthOf_32 : decode cX3_lengthOf 32 = .ok (.iload_n 1, 1) := dk_27 (dk_at dksX3_lengthOf_1 8 rfl rfl)
theorem dX3_lengthOf_33 : decode cX3_lengthOf 33 = .ok (.imul, 1) := dk_104 (dk_at dksX3_lengthOf_1 9 rfl rfl)
theorem dX3_lengthOf_34 : decode cX3_lengthOf 34 = .ok (.iconst 1, 1) := dk_4 (dk_at dksX3_lengthOf_1 10 rfl rfl)
theorem dX3_lengthOf_35 : decode cX3_lengthOf 35 = .ok (.iadd, 1) := dk_96 (dk_at dksX3_lengthOf_1 11 rfl rfl)
theorem dX3_lengthOf_36 : decode cX3_lengthOf 36 = .ok (.laload, 1) := dk_47 (dk_at dksX3_lengthOf_1 12 rfl rfl)
theorem dX3_lengthOf_37 : decode cX3_lengthOf 37 = .ok (.lmul, 1) := dk_105 (dk_at dksX3_lengthOf_1 13 rfl rfl)
theorem dX3_lengthOf_38 : decode cX3_lengthOf 38 = .ok (.ladd, 1) := dk_97 (dk_at dksX3_lengthOf_1 14 rfl rfl)
theorem dX3_lengthOf_39 : decode cX3_lengthOf 39 = .ok (.aload_n 0, 1) := dk_42 (dk_at dksX3_lengthOf_1 15 rfl rfl)
theorem dX3_lengthOf_40 : decode cX3_lengthOf 40 = .ok (.getfield 36, 3) := dk_180 0 36 (dk_at dksX3_lengthOf_1 16 rfl rfl)
theorem dX3_lengthOf_43 : decode cX3_lengthOf 43 = .ok (.iconst 3, 1) := dk_6 (dk_at dksX3_lengthOf_1 19 rfl rfl)
theorem dX3_lengthOf_44 : decode cX3_lengthOf 44 = .ok (.iload_n 1, 1) := dk_27 (dk_at dksX3_lengthOf_1 20 rfl rfl)
theorem dX3_lengthOf_45 : decode cX3_lengthOf 45 = .ok (.imul, 1) := dk_104 (dk_at dksX3_lengthOf_1 21 rfl rfl)
theorem dX3_lengthOf_46 : decode cX3_lengthOf 46 = .ok (.iconst 2, 1) := dk_5 (dk_at dksX3_lengthOf_1 22 rfl rfl)
theorem dX3_lengthOf_47 : decode cX3_lengthOf 47 = .ok (.iadd, 1) := dk_96 (dk_at dksX3_lengthOf_1 23 rfl rfl)
theorem dX3_lengthOf_48 : decode cX3_lengthOf 48 = .ok (.laload, 1) := dk_47 (dk_at dksX3_lengthOf_2 0 rfl rfl)
theorem dX3_lengthOf_49 : decode cX3_lengthOf 49 = .ok (.aload_n 0, 1) := dk_42 (dk_at dksX3_lengthOf_2 1 rfl rfl)
theorem dX3_lengthOf_50 : decode cX3_lengthOf 50 = .ok (.getfield 36, 3) := dk_180 0 36 (dk_at dksX3_lengthOf_2 2 rfl rfl)
theorem dX3_lengthOf_53 : decode cX3_lengthOf 53 = .ok (.iconst 3, 1) := dk_6 (dk_at dksX3_lengthOf_2 5 rfl rfl)
theorem dX3_lengthOf_54 : decode cX3_lengthOf 54 = .ok (.iload_n 1, 1) := dk_27 (dk_at dksX3_lengthOf_2 6 rfl rfl)
theorem dX3_lengthOf_55 : decode cX3_lengthOf 55 = .ok (.imul, 1) := dk_104 (dk_at dksX3_lengthOf_2 7 rfl rfl)
theorem dX3_lengthOf_56 : decode cX3_lengthOf 56 = .ok (.iconst 2, 1) := dk_5 (dk_at dksX3_lengthOf_2 8 rfl rfl)
theorem dX3_lengthOf_57 : decode cX3_lengthOf 57 = .ok (.iadd, 1) := dk_96 (dk_at dksX3_lengthOf_2 9 rfl rfl)
theorem dX3_lengthOf_58 : decode cX3_lengthOf 58 = .ok (.laload, 1) := dk_47 (dk_at dksX3_lengthOf_2 10 rfl rfl)
theorem dX3_lengthOf_59 : decode cX3_lengthOf 59 = .ok (.lmul, 1) := dk_105 (dk_at dksX3_lengthOf_2 11 rfl rfl)
theorem dX3_lengthOf_60 : decode cX3_lengthOf 60 = .ok (.ladd, 1) := dk_97 (dk_at dksX3_lengthOf_2 12 rfl rfl)
theorem dX3_lengthOf_61 : decode cX3_lengthOf 61 = .ok (.lreturn, 1) := dk_173 (dk_at dksX3_lengthOf_2 13 rfl rfl)
abbrev cX3_betters : ByteArray := prog_20_method_86_code
def yX3_betters : MethodName := ⟨RX3, "betters", "(I)Z"⟩
def dkwX3_betters_10 : List UInt8 := [172]
abbrev dktX3_betters_10 : List UInt8 := dkwX3_betters_10 ++ []
def dkwX3_betters_9 : List UInt8 := [167, 255, 224, 42, 89, 180, 1, 105, 21, 4, 153, 0, 7, 4, 167, 0, 4, 3, 96, 181, 1, 105, 21, 4]
abbrev dktX3_betters_9 : List UInt8 := dkwX3_betters_9 ++ dktX3_betters_10
def dkwX3_betters_8 : List UInt8 := [153, 0, 27, 42, 180, 0, 36, 6, 27, 104, 21, 5, 96, 42, 180, 0, 76, 21, 5, 47, 80, 132, 5, 1]
abbrev dktX3_betters_8 : List UInt8 := dkwX3_betters_8 ++ dktX3_betters_9
def dkwX3_betters_7 : List UInt8 := [132, 6, 1, 167, 255, 110, 132, 5, 1, 167, 255, 95, 3, 54, 5, 21, 5, 6, 162, 0, 32, 21, 4]
abbrev dktX3_betters_7 : List UInt8 := dkwX3_betters_7 ++ dktX3_betters_8
def dkwX3_betters_6 : List UInt8 := [162, 0, 23, 42, 180, 0, 76, 21, 10, 42, 180, 0, 73, 21, 10, 47, 80, 132, 10, 1, 167, 255, 233]
abbrev dktX3_betters_6 : List UInt8 := dkwX3_betters_6 ++ dktX3_betters_7
def dkwX3_betters_5 : List UInt8 := [167, 255, 183, 22, 8, 32, 148, 156, 0, 38, 22, 8, 65, 4, 54, 4, 3, 54, 10, 21, 10, 6]
abbrev dktX3_betters_5 : List UInt8 := dkwX3_betters_5 ++ dktX3_betters_6
def dkwX3_betters_4 : List UInt8 := [22, 8, 42, 180, 0, 73, 21, 10, 47, 42, 180, 0, 73, 21, 10, 47, 105, 97, 55, 8, 132, 10, 1]
abbrev dktX3_betters_4 : List UInt8 := dkwX3_betters_4 ++ dktX3_betters_5
def dkwX3_betters_3 : List UInt8 := [42, 180, 0, 36, 21, 10, 47, 105, 97, 21, 7, 133, 42, 180, 0, 36, 6, 21, 10, 96, 47, 105, 97, 80]
abbrev dktX3_betters_3 : List UInt8 := dkwX3_betters_3 ++ dktX3_betters_4
def dkwX3_betters_2 : List UInt8 := [6, 162, 0, 73, 42, 180, 0, 73, 21, 10, 42, 180, 0, 36, 6, 27, 104, 21, 10, 96, 47, 21, 5, 133]
abbrev dktX3_betters_2 : List UInt8 := dkwX3_betters_2 ++ dktX3_betters_3
def dkwX3_betters_1 : List UInt8 := [162, 0, 146, 27, 5, 160, 0, 8, 21, 6, 167, 0, 4, 3, 54, 7, 9, 55, 8, 3, 54, 10, 21, 10]
abbrev dktX3_betters_1 : List UInt8 := dkwX3_betters_1 ++ dktX3_betters_2
def dkwX3_betters_0 : List UInt8 := [42, 27, 182, 1, 99, 65, 3, 54, 4, 2, 54, 5, 21, 5, 5, 162, 0, 161, 2, 54, 6, 21, 6, 5]
abbrev dktX3_betters_0 : List UInt8 := dkwX3_betters_0 ++ dktX3_betters_1
theorem dksX3_betters_0 : cX3_betters.data.toList.drop 0 = dktX3_betters_0 := by decide +kernel
theorem dksX3_betters_1 : cX3_betters.data.toList.drop 24 = dktX3_betters_1 := dk_seg dksX3_betters_0 24 rfl rfl
theorem dksX3_betters_2 : cX3_betters.data.toList.drop 48 = dktX3_betters_2 := dk_seg dksX3_betters_1 24 rfl rfl
theorem dksX3_betters_3 : cX3_betters.data.toList.drop 72 = dktX3_betters_3 := dk_seg dksX3_betters_2 24 rfl rfl
theorem dksX3_betters_4 : cX3_betters.data.toList.drop 96 = dktX3_betters_4 := dk_seg dksX3_betters_3 24 rfl rfl
theorem dksX3_betters_5 : cX3_betters.data.toList.drop 119 = dktX3_betters_5 := dk_seg dksX3_betters_4 23 rfl rfl
theorem dksX3_betters_6 : cX3_betters.data.toList.drop 141 = dktX3_betters_6 := dk_seg dksX3_betters_5 22 rfl rfl
theorem dksX3_betters_7 : cX3_betters.data.toList.drop 164 = dktX3_betters_7 := dk_seg dksX3_betters_6 23 rfl rfl
theorem dksX3_betters_8 : cX3_betters.data.toList.drop 187 = dktX3_betters_8 := dk_seg dksX3_betters_7 23 rfl rfl
theorem dksX3_betters_9 : cX3_betters.data.toList.drop 211 = dktX3_betters_9 := dk_seg dksX3_betters_8 24 rfl rfl
theorem dksX3_betters_10 : cX3_betters.data.toList.drop 235 = dktX3_betters_10 := dk_seg dksX3_betters_9 24 rfl rfl
theorem dX3_betters_0 : decode cX3_betters 0 = .ok (.aload_n 0, 1) := dk_42 (dk_at dksX3_betters_0 0 rfl rfl)
theorem dX3_betters_1 : decode cX3_betters 1 = .ok (.iload_n 1, 1) := dk_27 (dk_at dksX3_betters_0 1 rfl rfl)
theorem dX3_betters_2 : decode cX3_betters 2 = .ok (.invokevirtual 355, 3) := dk_182 1 99 (dk_at dksX3_betters_0 2 rfl rfl)
theorem dX3_betters_5 : decode cX3_betters 5 = .ok (.lstore_n 2, 1) := dk_65 (dk_at dksX3_betters_0 5 rfl rfl)
theorem dX3_betters_6 : decode cX3_betters 6 = .ok (.iconst 0, 1) := dk_3 (dk_at dksX3_betters_0 6 rfl rfl)
theorem dX3_betters_7 : decode cX3_betters 7 = .ok (.istore 4, 2) := dk_54 4 (dk_at dksX3_betters_0 7 rfl rfl)
theorem dX3_betters_9 : decode cX3_betters 9 = .ok (.iconst (-1), 1) := dk_2 (dk_at dksX3_betters_0 9 rfl rfl)
theorem dX3_betters_10 : decode cX3_betters 10 = .ok (.istore 5, 2) := dk_54 5 (dk_at dksX3_betters_0 10 rfl rfl)
theorem dX3_betters_12 : decode cX3_betters 12 = .ok (.iload 5, 2) := dk_21 5 (dk_at dksX3_betters_0 12 rfl rfl)
theorem dX3_betters_14 : decode cX3_betters 14 = .ok (.iconst 2, 1) := dk_5 (dk_at dksX3_betters_0 14 rfl rfl)
theorem dX3_betters_15 : decode cX3_betters 15 = .ok (.if_icmp .ge 161, 3) := dk_162 0 161 (dk_at dksX3_betters_0 15 rfl rfl)
theorem dX3_betters_18 : decode cX3_betters 18 = .ok (.iconst (-1), 1) := dk_2 (dk_at dksX3_betters_0 18 rfl rfl)
theorem dX3_betters_19 : decode cX3_betters 19 = .ok (.istore 6, 2) := dk_54 6 (dk_at dksX3_betters_0 19 rfl rfl)
theorem dX3_betters_21 : decode cX3_betters 21 = .ok (.iload 6, 2) := dk_21 6 (dk_at dksX3_betters_0 21 rfl rfl)
theorem dX3_betters_23 : decode cX3_betters 23 = .ok (.iconst 2, 1) := dk_5 (dk_at dksX3_betters_0 23 rfl rfl)
theorem dX3_betters_24 : decode cX3_betters 24 = .ok (.if_icmp .ge 146, 3) := dk_162 0 146 (dk_at dksX3_betters_1 0 rfl rfl)
theorem dX3_betters_27 : decode cX3_betters 27 = .ok (.iload_n 1, 1) := dk_27 (dk_at dksX3_betters_1 3 rfl rfl)
theorem dX3_betters_28 : decode cX3_betters 28 = .ok (.iconst 2, 1) := dk_5 (dk_at dksX3_betters_1 4 rfl rfl)
theorem dX3_betters_29 : decode cX3_betters 29 = .ok (.if_icmp .ne 8, 3) := dk_160 0 8 (dk_at dksX3_betters_1 5 rfl rfl)
theorem dX3_betters_32 : decode cX3_betters 32 = .ok (.iload 6, 2) := dk_21 6 (dk_at dksX3_betters_1 8 rfl rfl)
theorem dX3_betters_34 : decode cX3_betters 34 = .ok (.goto 4, 3) := dk_167 0 4 (dk_at dksX3_betters_1 10 rfl rfl)
theorem dX3_betters_37 : decode cX3_betters 37 = .ok (.iconst 0, 1) := dk_3 (dk_at dksX3_betters_1 13 rfl rfl)
theorem dX3_betters_38 : decode cX3_betters 38 = .ok (.istore 7, 2) := dk_54 7 (dk_at dksX3_betters_1 14 rfl rfl)
theorem dX3_betters_40 : decode cX3_betters 40 = .ok (.lconst 0, 1) := dk_9 (dk_at dksX3_betters_1 16 rfl rfl)
theorem dX3_betters_41 : decode cX3_betters 41 = .ok (.lstore 8, 2) := dk_55 8 (dk_at dksX3_betters_1 17 rfl rfl)
theorem dX3_betters_43 : decode cX3_betters 43 = .ok (.iconst 0, 1) := dk_3 (dk_at dksX3_betters_1 19 rfl rfl)
theorem dX3_betters_44 : decode cX3_betters 44 = .ok (.istore 10, 2) := dk_54 10 (dk_at dksX3_betters_1 20 rfl rfl)
theorem dX3_betters_46 : decode cX3_betters 46 = .ok (.iload 10, 2) := dk_21 10 (dk_at dksX3_betters_1 22 rfl rfl)
theorem dX3_betters_48 : decode cX3_betters 48 = .ok (.iconst 3, 1) := dk_6 (dk_at dksX3_betters_2 0 rfl rfl)
theorem dX3_betters_49 : decode cX3_betters 49 = .ok (.if_icmp .ge 73, 3) := dk_162 0 73 (dk_at dksX3_betters_2 1 rfl rfl)
theorem dX3_betters_52 : decode cX3_betters 52 = .ok (.aload_n 0, 1) := dk_42 (dk_at dksX3_betters_2 4 rfl rfl)
theorem dX3_betters_53 : decode cX3_betters 53 = .ok (.getfield 73, 3) := dk_180 0 73 (dk_at dksX3_betters_2 5 rfl rfl)
theorem dX3_betters_56 : decode cX3_betters 56 = .ok (.iload 10, 2) := dk_21 10 (dk_at dksX3_betters_2 8 rfl rfl)
theorem dX3_betters_58 : decode cX3_betters 58 = .ok (.aload_n 0, 1) := dk_42 (dk_at dksX3_betters_2 10 rfl rfl)
theorem dX3_betters_59 : decode cX3_betters 59 = .ok (.getfield 36, 3) := dk_180 0 36 (dk_at dksX3_betters_2 11 rfl rfl)
theorem dX3_betters_62 : decode cX3_betters 62 = .ok (.iconst 3, 1) := dk_6 (dk_at dksX3_betters_2 14 rfl rfl)
theorem dX3_betters_63 : decode cX3_betters 63 = .ok (.iload_n 1, 1) := dk_27 (dk_at dksX3_betters_2 15 rfl rfl)
theorem dX3_betters_64 : decode cX3_betters 64 = .ok (.imul, 1) := dk_104 (dk_at dksX3_betters_2 16 rfl rfl)
theorem dX3_betters_65 : decode cX3_betters 65 = .ok (.iload 10, 2) := dk_21 10 (dk_at dksX3_betters_2 17 rfl rfl)
theorem dX3_betters_67 : decode cX3_betters 67 = .ok (.iadd, 1) := dk_96 (dk_at dksX3_betters_2 19 rfl rfl)
theorem dX3_betters_68 : decode cX3_betters 68 = .ok (.laload, 1) := dk_47 (dk_at dksX3_betters_2 20 rfl rfl)
theorem dX3_betters_69 : decode cX3_betters 69 = .ok (.iload 5, 2) := dk_21 5 (dk_at dksX3_betters_2 21 rfl rfl)
theorem dX3_betters_71 : decode cX3_betters 71 = .ok (.i2l, 1) := dk_133 (dk_at dksX3_betters_2 23 rfl rfl)
theorem dX3_betters_72 : decode cX3_betters 72 = .ok (.aload_n 0, 1) := dk_42 (dk_at dksX3_betters_3 0 rfl rfl)
theorem dX3_betters_73 : decode cX3_betters 73 = .ok (.getfield 36, 3) := dk_180 0 36 (dk_at dksX3_betters_3 1 rfl rfl)
theorem dX3_betters_76 : decode cX3_betters 76 = .ok (.iload 10, 2) := dk_21 10 (dk_at dksX3_betters_3 4 rfl rfl)
theorem dX3_betters_78 : decode cX3_betters 78 = .ok (.laload, 1) := dk_47 (dk_at dksX3_betters_3 6 rfl rfl)
theorem dX3_betters_79 : decode cX3_betters 79 = .ok (.lmul, 1) := dk_105 (dk_at dksX3_betters_3 7 rfl rfl)
theorem dX3_betters_80 : decode cX3_betters 80 = .ok (.ladd, 1) := dk_97 (dk_at dksX3_betters_3 8 rfl rfl)
theorem dX3_betters_81 : decode cX3_betters 81 = .ok (.iload 7, 2) := dk_21 7 (dk_at dksX3_betters_3 9 rfl rfl)
theorem dX3_betters_83 : decode cX3_betters 83 = .ok (.i2l, 1) := dk_133 (dk_at dksX3_betters_3 11 rfl rfl)
theorem dX3_betters_84 : decode cX3_betters 84 = .ok (.aload_n 0, 1) := dk_42 (dk_at dksX3_betters_3 12 rfl rfl)
theorem dX3_betters_85 : decode cX3_betters 85 = .ok (.getfield 36, 3) := dk_180 0 36 (dk_at dksX3_betters_3 13 rfl rfl)
theorem dX3_betters_88 : decode cX3_betters 88 = .ok (.iconst 3, 1) := dk_6 (dk_at dksX3_betters_3 16 rfl rfl)
theorem dX3_betters_89 : decode cX3_betters 89 = .ok (.iload 10, 2) := dk_21 10 (dk_at dksX3_betters_3 17 rfl rfl)
theorem dX3_betters_91 : decode cX3_betters 91 = .ok (.iadd, 1) := dk_96 (dk_at dksX3_betters_3 19 rfl rfl)
theorem dX3_betters_92 : decode cX3_betters 92 = .ok (.laload, 1) := dk_47 (dk_at dksX3_betters_3 20 rfl rfl)
theorem dX3_betters_93 : decode cX3_betters 93 = .ok (.lmul, 1) := dk_105 (dk_at dksX3_betters_3 21 rfl rfl)
theorem dX3_betters_94 : decode cX3_betters 94 = .ok (.ladd, 1) := dk_97 (dk_at dksX3_betters_3 22 rfl rfl)
theorem dX3_betters_95 : decode cX3_betters 95 = .ok (.lastore, 1) := dk_80 (dk_at dksX3_betters_3 23 rfl rfl)
theorem dX3_betters_96 : decode cX3_betters 96 = .ok (.lload 8, 2) := dk_22 8 (dk_at dksX3_betters_4 0 rfl rfl)
theorem dX3_betters_98 : decode cX3_betters 98 = .ok (.aload_n 0, 1) := dk_42 (dk_at dksX3_betters_4 2 rfl rfl)
theorem dX3_betters_99 : decode cX3_betters 99 = .ok (.getfield 73, 3) := dk_180 0 73 (dk_at dksX3_betters_4 3 rfl rfl)
theorem dX3_betters_102 : decode cX3_betters 102 = .ok (.iload 10, 2) := dk_21 10 (dk_at dksX3_betters_4 6 rfl rfl)
theorem dX3_betters_104 : decode cX3_betters 104 = .ok (.laload, 1) := dk_47 (dk_at dksX3_betters_4 8 rfl rfl)
theorem dX3_betters_105 : decode cX3_betters 105 = .ok (.aload_n 0, 1) := dk_42 (dk_at dksX3_betters_4 9 rfl rfl)
theorem dX3_betters_106 : decode cX3_betters 106 = .ok (.getfield 73, 3) := dk_180 0 73 (dk_at dksX3_betters_4 10 rfl rfl)
theorem dX3_betters_109 : decode cX3_betters 109 = .ok (.iload 10, 2) := dk_21 10 (dk_at dksX3_betters_4 13 rfl rfl)
theorem dX3_betters_111 : decode cX3_betters 111 = .ok (.laload, 1) := dk_47 (dk_at dksX3_betters_4 15 rfl rfl)
theorem dX3_betters_112 : decode cX3_betters 112 = .ok (.lmul, 1) := dk_105 (dk_at dksX3_betters_4 16 rfl rfl)
theorem dX3_betters_113 : decode cX3_betters 113 = .ok (.ladd, 1) := dk_97 (dk_at dksX3_betters_4 17 rfl rfl)
theorem dX3_betters_114 : decode cX3_betters 114 = .ok (.lstore 8, 2) := dk_55 8 (dk_at dksX3_betters_4 18 rfl rfl)
theorem dX3_betters_116 : decode cX3_betters 116 = .ok (.iinc 10 1, 3) := dk_132 10 1 (dk_at dksX3_betters_4 20 rfl rfl)
theorem dX3_betters_119 : decode cX3_betters 119 = .ok (.goto (-73), 3) := dk_167 255 183 (dk_at dksX3_betters_5 0 rfl rfl)
theorem dX3_betters_122 : decode cX3_betters 122 = .ok (.lload 8, 2) := dk_22 8 (dk_at dksX3_betters_5 3 rfl rfl)
theorem dX3_betters_124 : decode cX3_betters 124 = .ok (.lload_n 2, 1) := dk_32 (dk_at dksX3_betters_5 5 rfl rfl)
theorem dX3_betters_125 : decode cX3_betters 125 = .ok (.lcmp, 1) := dk_148 (dk_at dksX3_betters_5 6 rfl rfl)
theorem dX3_betters_126 : decode cX3_betters 126 = .ok (.ifCond .ge 38, 3) := dk_156 0 38 (dk_at dksX3_betters_5 7 rfl rfl)
theorem dX3_betters_129 : decode cX3_betters 129 = .ok (.lload 8, 2) := dk_22 8 (dk_at dksX3_betters_5 10 rfl rfl)
theorem dX3_betters_131 : decode cX3_betters 131 = .ok (.lstore_n 2, 1) := dk_65 (dk_at dksX3_betters_5 12 rfl rfl)
theorem dX3_betters_132 : decode cX3_betters 132 = .ok (.iconst 1, 1) := dk_4 (dk_at dksX3_betters_5 13 rfl rfl)
theorem dX3_betters_133 : decode cX3_betters 133 = .ok (.istore 4, 2) := dk_54 4 (dk_at dksX3_betters_5 14 rfl rfl)
theorem dX3_betters_135 : decode cX3_betters 135 = .ok (.iconst 0, 1) := dk_3 (dk_at dksX3_betters_5 16 rfl rfl)
theorem dX3_betters_136 : decode cX3_betters 136 = .ok (.istore 10, 2) := dk_54 10 (dk_at dksX3_betters_5 17 rfl rfl)
theorem dX3_betters_138 : decode cX3_betters 138 = .ok (.iload 10, 2) := dk_21 10 (dk_at dksX3_betters_5 19 rfl rfl)
theorem dX3_betters_140 : decode cX3_betters 140 = .ok (.iconst 3, 1) := dk_6 (dk_at dksX3_betters_5 21 rfl rfl)
theorem dX3_betters_141 : decode cX3_betters 141 = .ok (.if_icmp .ge 23, 3) := dk_162 0 23 (dk_at dksX3_betters_6 0 rfl rfl)
theorem dX3_betters_144 : decode cX3_betters 144 = .ok (.aload_n 0, 1) := dk_42 (dk_at dksX3_betters_6 3 rfl rfl)
theorem dX3_betters_145 : decode cX3_betters 145 = .ok (.getfield 76, 3) := dk_180 0 76 (dk_at dksX3_betters_6 4 rfl rfl)
theorem dX3_betters_148 : decode cX3_betters 148 = .ok (.iload 10, 2) := dk_21 10 (dk_at dksX3_betters_6 7 rfl rfl)
theorem dX3_betters_150 : decode cX3_betters 150 = .ok (.aload_n 0, 1) := dk_42 (dk_at dksX3_betters_6 9 rfl rfl)
theorem dX3_betters_151 : decode cX3_betters 151 = .ok (.getfield 73, 3) := dk_180 0 73 (dk_at dksX3_betters_6 10 rfl rfl)
theorem dX3_betters_154 : decode cX3_betters 154 = .ok (.iload 10, 2) := dk_21 10 (dk_at dksX3_betters_6 13 rfl rfl)
theorem dX3_betters_156 : decode cX3_betters 156 = .ok (.laload, 1) := dk_47 (dk_at dksX3_betters_6 15 rfl rfl)
theorem dX3_betters_157 : decode cX3_betters 157 = .ok (.lastore, 1) := dk_80 (dk_at dksX3_betters_6 16 rfl rfl)
theorem dX3_betters_158 : decode cX3_betters 158 = .ok (.iinc 10 1, 3) := dk_132 10 1 (dk_at dksX3_betters_6 17 rfl rfl)
theorem dX3_betters_161 : decode cX3_betters 161 = .ok (.goto (-23), 3) := dk_167 255 233 (dk_at dksX3_betters_6 20 rfl rfl)
theorem dX3_betters_164 : decode cX3_betters 164 = .ok (.iinc 6 1, 3) := dk_132 6 1 (dk_at dksX3_betters_7 0 rfl rfl)
theorem dX3_betters_167 : decode cX3_betters 167 = .ok (.goto (-146), 3) := dk_167 255 110 (dk_at dksX3_betters_7 3 rfl rfl)
theorem dX3_betters_170 : decode cX3_betters 170 = .ok (.iinc 5 1, 3) := dk_132 5 1 (dk_at dksX3_betters_7 6 rfl rfl)
theorem dX3_betters_173 : decode cX3_betters 173 = .ok (.goto (-161), 3) := dk_167 255 95 (dk_at dksX3_betters_7 9 rfl rfl)
theorem dX3_betters_176 : decode cX3_betters 176 = .ok (.iconst 0, 1) := dk_3 (dk_at dksX3_betters_7 12 rfl rfl)
theorem dX3_betters_177 : decode cX3_betters 177 = .ok (.istore 5, 2) := dk_54 5 (dk_at dksX3_betters_7 13 rfl rfl)
theorem dX3_betters_179 : decode cX3_betters 179 = .ok (.iload 5, 2) := dk_21 5 (dk_at dksX3_betters_7 15 rfl rfl)
theorem dX3_betters_181 : decode cX3_betters 181 = .ok (.iconst 3, 1) := dk_6 (dk_at dksX3_betters_7 17 rfl rfl)
theorem dX3_betters_182 : decode cX3_betters 182 = .ok (.if_icmp .ge 32, 3) := dk_162 0 32 (dk_at dksX3_betters_7 18 rfl rfl)
theorem dX3_betters_185 : decode cX3_betters 185 = .ok (.iload 4, 2) := dk_21 4 (dk_at dksX3_betters_7 21 rfl rfl)
theorem dX3_betters_187 : decode cX3_betters 187 = .ok (.ifCond .eq 27, 3) := dk_153 0 27 (dk_at dksX3_betters_8 0 rfl rfl)
theorem dX3_betters_190 : decode cX3_betters 190 = .ok (.aload_n 0, 1) := dk_42 (dk_at dksX3_betters_8 3 rfl rfl)
theorem dX3_betters_191 : decode cX3_betters 191 = .ok (.getfield 36, 3) := dk_180 0 36 (dk_at dksX3_betters_8 4 rfl rfl)
theorem dX3_betters_194 : decode cX3_betters 194 = .ok (.iconst 3, 1) := dk_6 (dk_at dksX3_betters_8 7 rfl rfl)
theorem dX3_betters_195 : decode cX3_betters 195 = .ok (.iload_n 1, 1) := dk_27 (dk_at dksX3_betters_8 8 rfl rfl)
theorem dX3_betters_196 : decode cX3_betters 196 = .ok (.imul, 1) := dk_104 (dk_at dksX3_betters_8 9 rfl rfl)
theorem dX3_betters_197 : decode cX3_betters 197 = .ok (.iload 5, 2) := dk_21 5 (dk_at dksX3_betters_8 10 rfl rfl)
theorem dX3_betters_199 : decode cX3_betters 199 = .ok (.iadd, 1) := dk_96 (dk_at dksX3_betters_8 12 rfl rfl)
theorem dX3_betters_200 : decode cX3_betters 200 = .ok (.aload_n 0, 1) := dk_42 (dk_at dksX3_betters_8 13 rfl rfl)
theorem dX3_betters_201 : decode cX3_betters 201 = .ok (.getfield 76, 3) := dk_180 0 76 (dk_at dksX3_betters_8 14 rfl rfl)
theorem dX3_betters_204 : decode cX3_betters 204 = .ok (.iload 5, 2) := dk_21 5 (dk_at dksX3_betters_8 17 rfl rfl)
theorem dX3_betters_206 : decode cX3_betters 206 = .ok (.laload, 1) := dk_47 (dk_at dksX3_betters_8 19 rfl rfl)
theorem dX3_betters_207 : decode cX3_betters 207 = .ok (.lastore, 1) := dk_80 (dk_at dksX3_betters_8 20 rfl rfl)
theorem dX3_betters_208 : decode cX3_betters 208 = .ok (.iinc 5 1, 3) := dk_132 5 1 (dk_at dksX3_betters_8 21 rfl rfl)
theorem dX3_betters_211 : decode cX3_betters 211 = .ok (.goto (-32), 3) := dk_167 255 224 (dk_at dksX3_betters_9 0 rfl rfl)
theorem dX3_betters_214 : decode cX3_betters 214 = .ok (.aload_n 0, 1) := dk_42 (dk_at dksX3_betters_9 3 rfl rfl)
theorem dX3_betters_215 : decode cX3_betters 215 = .ok (.dup, 1) := dk_89 (dk_at dksX3_betters_9 4 rfl rfl)
theorem dX3_betters_216 : decode cX3_betters 216 = .ok (.getfield 361, 3) := dk_180 1 105 (dk_at dksX3_betters_9 5 rfl rfl)
theorem dX3_betters_219 : decode cX3_betters 219 = .ok (.iload 4, 2) := dk_21 4 (dk_at dksX3_betters_9 8 rfl rfl)
theorem dX3_betters_221 : decode cX3_betters 221 = .ok (.ifCond .eq 7, 3) := dk_153 0 7 (dk_at dksX3_betters_9 10 rfl rfl)
theorem dX3_betters_224 : decode cX3_betters 224 = .ok (.iconst 1, 1) := dk_4 (dk_at dksX3_betters_9 13 rfl rfl)
theorem dX3_betters_225 : decode cX3_betters 225 = .ok (.goto 4, 3) := dk_167 0 4 (dk_at dksX3_betters_9 14 rfl rfl)
theorem dX3_betters_228 : decode cX3_betters 228 = .ok (.iconst 0, 1) := dk_3 (dk_at dksX3_betters_9 17 rfl rfl)
theorem dX3_betters_229 : decode cX3_betters 229 = .ok (.iadd, 1) := dk_96 (dk_at dksX3_betters_9 18 rfl rfl)
theorem dX3_betters_230 : decode cX3_betters 230 = .ok (.putfield 361, 3) := dk_181 1 105 (dk_at dksX3_betters_9 19 rfl rfl)
theorem dX3_betters_233 : decode cX3_betters 233 = .ok (.iload 4, 2) := dk_21 4 (dk_at dksX3_betters_9 22 rfl rfl)
theorem dX3_betters_235 : decode cX3_betters 235 = .ok (.ireturn, 1) := dk_172 (dk_at dksX3_betters_10 0 rfl rfl)
abbrev cX3_bettered : ByteArray := prog_20_method_90_code
def yX3_bettered : MethodName := ⟨RX3, "bettered", "(I)I"⟩
def dkwX3_bettered_0 : List UInt8 := [42, 27, 182, 0, 211, 154, 0, 6, 16, 254, 172, 42, 27, 182, 1, 117, 42, 180, 1, 105, 172]
abbrev dktX3_bettered_0 : List UInt8 := dkwX3_bettered_0 ++ []
theorem dksX3_bettered_0 : cX3_bettered.data.toList.drop 0 = dktX3_bettered_0 := by decide +kernel
theorem dX3_bettered_0 : decode cX3_bettered 0 = .ok (.aload_n 0, 1) := dk_42 (dk_at dksX3_bettered_0 0 rfl rfl)
theorem dX3_bettered_1 : decode cX3_bettered 1 = .ok (.iload_n 1, 1) := dk_27 (dk_at dksX3_bettered_0 1 rfl rfl)
theorem dX3_bettered_2 : decode cX3_bettered 2 = .ok (.invokevirtual 211, 3) := dk_182 0 211 (dk_at dksX3_bettered_0 2 rfl rfl)
theorem dX3_bettered_5 : decode cX3_bettered 5 = .ok (.ifCond .ne 6, 3) := dk_154 0 6 (dk_at dksX3_bettered_0 5 rfl rfl)
theorem dX3_bettered_8 : decode cX3_bettered 8 = .ok (.bipush (-2), 2) := dk_16 254 (dk_at dksX3_bettered_0 8 rfl rfl)
theorem dX3_bettered_10 : decode cX3_bettered 10 = .ok (.ireturn, 1) := dk_172 (dk_at dksX3_bettered_0 10 rfl rfl)
theorem dX3_bettered_11 : decode cX3_bettered 11 = .ok (.aload_n 0, 1) := dk_42 (dk_at dksX3_bettered_0 11 rfl rfl)
theorem dX3_bettered_12 : decode cX3_bettered 12 = .ok (.iload_n 1, 1) := dk_27 (dk_at dksX3_bettered_0 12 rfl rfl)
theorem dX3_bettered_13 : decode cX3_bettered 13 = .ok (.invokevirtual 373, 3) := dk_182 1 117 (dk_at dksX3_bettered_0 13 rfl rfl)
theorem dX3_bettered_16 : decode cX3_bettered 16 = .ok (.aload_n 0, 1) := dk_42 (dk_at dksX3_bettered_0 16 rfl rfl)
theorem dX3_bettered_17 : decode cX3_bettered 17 = .ok (.getfield 361, 3) := dk_180 1 105 (dk_at dksX3_bettered_0 17 rfl rfl)
theorem dX3_bettered_20 : decode cX3_bettered 20 = .ok (.ireturn, 1) := dk_172 (dk_at dksX3_bettered_0 20 rfl rfl)
abbrev cX3_length : ByteArray := prog_20_method_91_code
def yX3_length : MethodName := ⟨RX3, "length", "(III)J"⟩
def dkwX3_length_2 : List UInt8 := [42, 180, 0, 191, 105, 29, 184, 1, 2, 173]
abbrev dktX3_length_2 : List UInt8 := dkwX3_length_2 ++ []
def dkwX3_length_1 : List UInt8 := [184, 0, 88, 154, 0, 7, 20, 0, 252, 173, 42, 27, 182, 1, 117, 42, 28, 182, 1, 99, 42, 180, 0, 191]
abbrev dktX3_length_1 : List UInt8 := dkwX3_length_1 ++ dktX3_length_2
def dkwX3_length_0 : List UInt8 := [42, 27, 182, 0, 211, 153, 0, 25, 28, 133, 9, 20, 0, 202, 184, 0, 88, 153, 0, 13, 29, 133, 9, 10]
abbrev dktX3_length_0 : List UInt8 := dkwX3_length_0 ++ dktX3_length_1
theorem dksX3_length_0 : cX3_length.data.toList.drop 0 = dktX3_length_0 := by decide +kernel
theorem dksX3_length_1 : cX3_length.data.toList.drop 24 = dktX3_length_1 := dk_seg dksX3_length_0 24 rfl rfl
theorem dksX3_length_2 : cX3_length.data.toList.drop 48 = dktX3_length_2 := dk_seg dksX3_length_1 24 rfl rfl
theorem dX3_length_0 : decode cX3_length 0 = .ok (.aload_n 0, 1) := dk_42 (dk_at dksX3_length_0 0 rfl rfl)
theorem dX3_length_1 : decode cX3_length 1 = .ok (.iload_n 1, 1) := dk_27 (dk_at dksX3_length_0 1 rfl rfl)
theorem dX3_length_2 : decode cX3_length 2 = .ok (.invokevirtual 211, 3) := dk_182 0 211 (dk_at dksX3_length_0 2 rfl rfl)
theorem dX3_length_5 : decode cX3_length 5 = .ok (.ifCond .eq 25, 3) := dk_153 0 25 (dk_at dksX3_length_0 5 rfl rfl)
theorem dX3_length_8 : decode cX3_length 8 = .ok (.iload_n 2, 1) := dk_28 (dk_at dksX3_length_0 8 rfl rfl)
theorem dX3_length_9 : decode cX3_length 9 = .ok (.i2l, 1) := dk_133 (dk_at dksX3_length_0 9 rfl rfl)
theorem dX3_length_10 : decode cX3_length 10 = .ok (.lconst 0, 1) := dk_9 (dk_at dksX3_length_0 10 rfl rfl)
theorem dX3_length_11 : decode cX3_length 11 = .ok (.ldc2_w 202, 3) := dk_20 0 202 (dk_at dksX3_length_0 11 rfl rfl)
theorem dX3_length_14 : decode cX3_length 14 = .ok (.invokestatic 88, 3) := dk_184 0 88 (dk_at dksX3_length_0 14 rfl rfl)
theorem dX3_length_17 : decode cX3_length 17 = .ok (.ifCond .eq 13, 3) := dk_153 0 13 (dk_at dksX3_length_0 17 rfl rfl)
theorem dX3_length_20 : decode cX3_length 20 = .ok (.iload_n 3, 1) := dk_29 (dk_at dksX3_length_0 20 rfl rfl)
theorem dX3_length_21 : decode cX3_length 21 = .ok (.i2l, 1) := dk_133 (dk_at dksX3_length_0 21 rfl rfl)
theorem dX3_length_22 : decode cX3_length 22 = .ok (.lconst 0, 1) := dk_9 (dk_at dksX3_length_0 22 rfl rfl)
theorem dX3_length_23 : decode cX3_length 23 = .ok (.lconst 1, 1) := dk_10 (dk_at dksX3_length_0 23 rfl rfl)
theorem dX3_length_24 : decode cX3_length 24 = .ok (.invokestatic 88, 3) := dk_184 0 88 (dk_at dksX3_length_1 0 rfl rfl)
theorem dX3_length_27 : decode cX3_length 27 = .ok (.ifCond .ne 7, 3) := dk_154 0 7 (dk_at dksX3_length_1 3 rfl rfl)
theorem dX3_length_30 : decode cX3_length 30 = .ok (.ldc2_w 252, 3) := dk_20 0 252 (dk_at dksX3_length_1 6 rfl rfl)
theorem dX3_length_33 : decode cX3_length 33 = .ok (.lreturn, 1) := dk_173 (dk_at dksX3_length_1 9 rfl rfl)
theorem dX3_length_34 : decode cX3_length 34 = .ok (.aload_n 0, 1) := dk_42 (dk_at dksX3_length_1 10 rfl rfl)
theorem dX3_length_35 : decode cX3_length 35 = .ok (.iload_n 1, 1) := dk_27 (dk_at dksX3_length_1 11 rfl rfl)
theorem dX3_length_36 : decode cX3_length 36 = .ok (.invokevirtual 373, 3) := dk_182 1 117 (dk_at dksX3_length_1 12 rfl rfl)
theorem dX3_length_39 : decode cX3_length 39 = .ok (.aload_n 0, 1) := dk_42 (dk_at dksX3_length_1 15 rfl rfl)
theorem dX3_length_40 : decode cX3_length 40 = .ok (.iload_n 2, 1) := dk_28 (dk_at dksX3_length_1 16 rfl rfl)
theorem dX3_length_41 : decode cX3_length 41 = .ok (.invokevirtual 355, 3) := dk_182 1 99 (dk_at dksX3_length_1 17 rfl rfl)
theorem dX3_length_44 : decode cX3_length 44 = .ok (.aload_n 0, 1) := dk_42 (dk_at dksX3_length_1 20 rfl rfl)
theorem dX3_length_45 : decode cX3_length 45 = .ok (.getfield 191, 3) := dk_180 0 191 (dk_at dksX3_length_1 21 rfl rfl)
theorem dX3_length_48 : decode cX3_length 48 = .ok (.aload_n 0, 1) := dk_42 (dk_at dksX3_length_2 0 rfl rfl)
theorem dX3_length_49 : decode cX3_length 49 = .ok (.getfield 191, 3) := dk_180 0 191 (dk_at dksX3_length_2 1 rfl rfl)
theorem dX3_length_52 : decode cX3_length 52 = .ok (.lmul, 1) := dk_105 (dk_at dksX3_length_2 4 rfl rfl)
theorem dX3_length_53 : decode cX3_length 53 = .ok (.iload_n 3, 1) := dk_29 (dk_at dksX3_length_2 5 rfl rfl)
theorem dX3_length_54 : decode cX3_length 54 = .ok (.invokestatic 258, 3) := dk_184 1 2 (dk_at dksX3_length_2 6 rfl rfl)
theorem dX3_length_57 : decode cX3_length 57 = .ok (.lreturn, 1) := dk_173 (dk_at dksX3_length_2 9 rfl rfl)
abbrev cX3_kiss : ByteArray := prog_20_method_94_code
def yX3_kiss : MethodName := ⟨RX3, "kiss", "(I)I"⟩
def dkwX3_kiss_2 : List UInt8 := [167, 0, 4, 3, 96, 54, 4, 132, 5, 1, 167, 255, 225, 21, 4, 172]
abbrev dktX3_kiss_2 : List UInt8 := dkwX3_kiss_2 ++ []
def dkwX3_kiss_1 : List UInt8 := [3, 54, 5, 21, 5, 16, 27, 162, 0, 30, 21, 4, 42, 21, 5, 182, 1, 120, 32, 148, 154, 0, 7, 4]
abbrev dktX3_kiss_1 : List UInt8 := dkwX3_kiss_1 ++ dktX3_kiss_2
def dkwX3_kiss_0 : List UInt8 := [42, 27, 182, 0, 211, 154, 0, 6, 16, 254, 172, 42, 27, 182, 1, 117, 42, 182, 1, 123, 65, 3, 54, 4]
abbrev dktX3_kiss_0 : List UInt8 := dkwX3_kiss_0 ++ dktX3_kiss_1
theorem dksX3_kiss_0 : cX3_kiss.data.toList.drop 0 = dktX3_kiss_0 := by decide +kernel
theorem dksX3_kiss_1 : cX3_kiss.data.toList.drop 24 = dktX3_kiss_1 := dk_seg dksX3_kiss_0 24 rfl rfl
theorem dksX3_kiss_2 : cX3_kiss.data.toList.drop 48 = dktX3_kiss_2 := dk_seg dksX3_kiss_1 24 rfl rfl
theorem dX3_kiss_0 : decode cX3_kiss 0 = .ok (.aload_n 0, 1) := dk_42 (dk_at dksX3_kiss_0 0 rfl rfl)
theorem dX3_kiss_1 : decode cX3_kiss 1 = .ok (.iload_n 1, 1) := dk_27 (dk_at dksX3_kiss_0 1 rfl rfl)
theorem dX3_kiss_2 : decode cX3_kiss 2 = .ok (.invokevirtual 211, 3) := dk_182 0 211 (dk_at dksX3_kiss_0 2 rfl rfl)
theorem dX3_kiss_5 : decode cX3_kiss 5 = .ok (.ifCond .ne 6, 3) := dk_154 0 6 (dk_at dksX3_kiss_0 5 rfl rfl)
theorem dX3_kiss_8 : decode cX3_kiss 8 = .ok (.bipush (-2), 2) := dk_16 254 (dk_at dksX3_kiss_0 8 rfl rfl)
theorem dX3_kiss_10 : decode cX3_kiss 10 = .ok (.ireturn, 1) := dk_172 (dk_at dksX3_kiss_0 10 rfl rfl)
theorem dX3_kiss_11 : decode cX3_kiss 11 = .ok (.aload_n 0, 1) := dk_42 (dk_at dksX3_kiss_0 11 rfl rfl)
theorem dX3_kiss_12 : decode cX3_kiss 12 = .ok (.iload_n 1, 1) := dk_27 (dk_at dksX3_kiss_0 12 rfl rfl)
theorem dX3_kiss_13 : decode cX3_kiss 13 = .ok (.invokevirtual 373, 3) := dk_182 1 117 (dk_at dksX3_kiss_0 13 rfl rfl)
theorem dX3_kiss_16 : decode cX3_kiss 16 = .ok (.aload_n 0, 1) := dk_42 (dk_at dksX3_kiss_0 16 rfl rfl)
theorem dX3_kiss_17 : decode cX3_kiss 17 = .ok (.invokevirtual 379, 3) := dk_182 1 123 (dk_at dksX3_kiss_0 17 rfl rfl)
theorem dX3_kiss_20 : decode cX3_kiss 20 = .ok (.lstore_n 2, 1) := dk_65 (dk_at dksX3_kiss_0 20 rfl rfl)
theorem dX3_kiss_21 : decode cX3_kiss 21 = .ok (.iconst 0, 1) := dk_3 (dk_at dksX3_kiss_0 21 rfl rfl)
theorem dX3_kiss_22 : decode cX3_kiss 22 = .ok (.istore 4, 2) := dk_54 4 (dk_at dksX3_kiss_0 22 rfl rfl)
theorem dX3_kiss_24 : decode cX3_kiss 24 = .ok (.iconst 0, 1) := dk_3 (dk_at dksX3_kiss_1 0 rfl rfl)
theorem dX3_kiss_25 : decode cX3_kiss 25 = .ok (.istore 5, 2) := dk_54 5 (dk_at dksX3_kiss_1 1 rfl rfl)
theorem dX3_kiss_27 : decode cX3_kiss 27 = .ok (.iload 5, 2) := dk_21 5 (dk_at dksX3_kiss_1 3 rfl rfl)
theorem dX3_kiss_29 : decode cX3_kiss 29 = .ok (.bipush 27, 2) := dk_16 27 (dk_at dksX3_kiss_1 5 rfl rfl)
theorem dX3_kiss_31 : decode cX3_kiss 31 = .ok (.if_icmp .ge 30, 3) := dk_162 0 30 (dk_at dksX3_kiss_1 7 rfl rfl)
theorem dX3_kiss_34 : decode cX3_kiss 34 = .ok (.iload 4, 2) := dk_21 4 (dk_at dksX3_kiss_1 10 rfl rfl)
theorem dX3_kiss_36 : decode cX3_kiss 36 = .ok (.aload_n 0, 1) := dk_42 (dk_at dksX3_kiss_1 12 rfl rfl)
theorem dX3_kiss_37 : decode cX3_kiss 37 = .ok (.iload 5, 2) := dk_21 5 (dk_at dksX3_kiss_1 13 rfl rfl)
theorem dX3_kiss_39 : decode cX3_kiss 39 = .ok (.invokevirtual 376, 3) := dk_182 1 120 (dk_at dksX3_kiss_1 15 rfl rfl)
theorem dX3_kiss_42 : decode cX3_kiss 42 = .ok (.lload_n 2, 1) := dk_32 (dk_at dksX3_kiss_1 18 rfl rfl)
theorem dX3_kiss_43 : decode cX3_kiss 43 = .ok (.lcmp, 1) := dk_148 (dk_at dksX3_kiss_1 19 rfl rfl)
theorem dX3_kiss_44 : decode cX3_kiss 44 = .ok (.ifCond .ne 7, 3) := dk_154 0 7 (dk_at dksX3_kiss_1 20 rfl rfl)
theorem dX3_kiss_47 : decode cX3_kiss 47 = .ok (.iconst 1, 1) := dk_4 (dk_at dksX3_kiss_1 23 rfl rfl)
theorem dX3_kiss_48 : decode cX3_kiss 48 = .ok (.goto 4, 3) := dk_167 0 4 (dk_at dksX3_kiss_2 0 rfl rfl)
theorem dX3_kiss_51 : decode cX3_kiss 51 = .ok (.iconst 0, 1) := dk_3 (dk_at dksX3_kiss_2 3 rfl rfl)
theorem dX3_kiss_52 : decode cX3_kiss 52 = .ok (.iadd, 1) := dk_96 (dk_at dksX3_kiss_2 4 rfl rfl)
theorem dX3_kiss_53 : decode cX3_kiss 53 = .ok (.istore 4, 2) := dk_54 4 (dk_at dksX3_kiss_2 5 rfl rfl)
theorem dX3_kiss_55 : decode cX3_kiss 55 = .ok (.iinc 5 1, 3) := dk_132 5 1 (dk_at dksX3_kiss_2 7 rfl rfl)
theorem dX3_kiss_58 : decode cX3_kiss 58 = .ok (.goto (-31), 3) := dk_167 255 225 (dk_at dksX3_kiss_2 10 rfl rfl)
theorem dX3_kiss_61 : decode cX3_kiss 61 = .ok (.iload 4, 2) := dk_21 4 (dk_at dksX3_kiss_2 13 rfl rfl)
theorem dX3_kiss_63 : decode cX3_kiss 63 = .ok (.ireturn, 1) := dk_172 (dk_at dksX3_kiss_2 15 rfl rfl)
abbrev cX3_leastLength : ByteArray := prog_20_method_93_code
def yX3_leastLength : MethodName := ⟨RX3, "leastLength", "()J"⟩
def dkwX3_leastLength_2 : List UInt8 := [167, 255, 213, 31, 173]
abbrev dktX3_leastLength_2 : List UInt8 := dkwX3_leastLength_2 ++ []
def dkwX3_leastLength_1 : List UInt8 := [31, 9, 148, 153, 0, 10, 22, 4, 31, 148, 156, 0, 8, 22, 4, 167, 0, 4, 31, 64, 132, 3, 1]
abbrev dktX3_leastLength_1 : List UInt8 := dkwX3_leastLength_1 ++ dktX3_leastLength_2
def dkwX3_leastLength_0 : List UInt8 := [9, 64, 3, 62, 29, 16, 27, 162, 0, 43, 42, 29, 182, 1, 120, 55, 4, 22, 4, 9, 148, 158, 0, 21]
abbrev dktX3_leastLength_0 : List UInt8 := dkwX3_leastLength_0 ++ dktX3_leastLength_1
theorem dksX3_leastLength_0 : cX3_leastLength.data.toList.drop 0 = dktX3_leastLength_0 := by decide +kernel
theorem dksX3_leastLength_1 : cX3_leastLength.data.toList.drop 24 = dktX3_leastLength_1 := dk_seg dksX3_leastLength_0 24 rfl rfl
theorem dksX3_leastLength_2 : cX3_leastLength.data.toList.drop 47 = dktX3_leastLength_2 := dk_seg dksX3_leastLength_1 23 rfl rfl
theorem dX3_leastLength_0 : decode cX3_leastLength 0 = .ok (.lconst 0, 1) := dk_9 (dk_at dksX3_leastLength_0 0 rfl rfl)
theorem dX3_leastLength_1 : decode cX3_leastLength 1 = .ok (.lstore_n 1, 1) := dk_64 (dk_at dksX3_leastLength_0 1 rfl rfl)
theorem dX3_leastLength_2 : decode cX3_leastLength 2 = .ok (.iconst 0, 1) := dk_3 (dk_at dksX3_leastLength_0 2 rfl rfl)
theorem dX3_leastLength_3 : decode cX3_leastLength 3 = .ok (.istore_n 3, 1) := dk_62 (dk_at dksX3_leastLength_0 3 rfl rfl)
theorem dX3_leastLength_4 : decode cX3_leastLength 4 = .ok (.iload_n 3, 1) := dk_29 (dk_at dksX3_leastLength_0 4 rfl rfl)
theorem dX3_leastLength_5 : decode cX3_leastLength 5 = .ok (.bipush 27, 2) := dk_16 27 (dk_at dksX3_leastLength_0 5 rfl rfl)
theorem dX3_leastLength_7 : decode cX3_leastLength 7 = .ok (.if_icmp .ge 43, 3) := dk_162 0 43 (dk_at dksX3_leastLength_0 7 rfl rfl)
theorem dX3_leastLength_10 : decode cX3_leastLength 10 = .ok (.aload_n 0, 1) := dk_42 (dk_at dksX3_leastLength_0 10 rfl rfl)
theorem dX3_leastLength_11 : decode cX3_leastLength 11 = .ok (.iload_n 3, 1) := dk_29 (dk_at dksX3_leastLength_0 11 rfl rfl)
theorem dX3_leastLength_12 : decode cX3_leastLength 12 = .ok (.invokevirtual 376, 3) := dk_182 1 120 (dk_at dksX3_leastLength_0 12 rfl rfl)
theorem dX3_leastLength_15 : decode cX3_leastLength 15 = .ok (.lstore 4, 2) := dk_55 4 (dk_at dksX3_leastLength_0 15 rfl rfl)
theorem dX3_leastLength_17 : decode cX3_leastLength 17 = .ok (.lload 4, 2) := dk_22 4 (dk_at dksX3_leastLength_0 17 rfl rfl)
theorem dX3_leastLength_19 : decode cX3_leastLength 19 = .ok (.lconst 0, 1) := dk_9 (dk_at dksX3_leastLength_0 19 rfl rfl)
theorem dX3_leastLength_20 : decode cX3_leastLength 20 = .ok (.lcmp, 1) := dk_148 (dk_at dksX3_leastLength_0 20 rfl rfl)
theorem dX3_leastLength_21 : decode cX3_leastLength 21 = .ok (.ifCond .le 21, 3) := dk_158 0 21 (dk_at dksX3_leastLength_0 21 rfl rfl)
theorem dX3_leastLength_24 : decode cX3_leastLength 24 = .ok (.lload_n 1, 1) := dk_31 (dk_at dksX3_leastLength_1 0 rfl rfl)
theorem dX3_leastLength_25 : decode cX3_leastLength 25 = .ok (.lconst 0, 1) := dk_9 (dk_at dksX3_leastLength_1 1 rfl rfl)
theorem dX3_leastLength_26 : decode cX3_leastLength 26 = .ok (.lcmp, 1) := dk_148 (dk_at dksX3_leastLength_1 2 rfl rfl)
theorem dX3_leastLength_27 : decode cX3_leastLength 27 = .ok (.ifCond .eq 10, 3) := dk_153 0 10 (dk_at dksX3_leastLength_1 3 rfl rfl)
theorem dX3_leastLength_30 : decode cX3_leastLength 30 = .ok (.lload 4, 2) := dk_22 4 (dk_at dksX3_leastLength_1 6 rfl rfl)
theorem dX3_leastLength_32 : decode cX3_leastLength 32 = .ok (.lload_n 1, 1) := dk_31 (dk_at dksX3_leastLength_1 8 rfl rfl)
theorem dX3_leastLength_33 : decode cX3_leastLength 33 = .ok (.lcmp, 1) := dk_148 (dk_at dksX3_leastLength_1 9 rfl rfl)
theorem dX3_leastLength_34 : decode cX3_leastLength 34 = .ok (.ifCond .ge 8, 3) := dk_156 0 8 (dk_at dksX3_leastLength_1 10 rfl rfl)
theorem dX3_leastLength_37 : decode cX3_leastLength 37 = .ok (.lload 4, 2) := dk_22 4 (dk_at dksX3_leastLength_1 13 rfl rfl)
theorem dX3_leastLength_39 : decode cX3_leastLength 39 = .ok (.goto 4, 3) := dk_167 0 4 (dk_at dksX3_leastLength_1 15 rfl rfl)
theorem dX3_leastLength_42 : decode cX3_leastLength 42 = .ok (.lload_n 1, 1) := dk_31 (dk_at dksX3_leastLength_1 18 rfl rfl)
theorem dX3_leastLength_43 : decode cX3_leastLength 43 = .ok (.lstore_n 1, 1) := dk_64 (dk_at dksX3_leastLength_1 19 rfl rfl)
theorem dX3_leastLength_44 : decode cX3_leastLength 44 = .ok (.iinc 3 1, 3) := dk_132 3 1 (dk_at dksX3_leastLength_1 20 rfl rfl)
theorem dX3_leastLength_47 : decode cX3_leastLength 47 = .ok (.goto (-43), 3) := dk_167 255 213 (dk_at dksX3_leastLength_2 0 rfl rfl)
theorem dX3_leastLength_50 : decode cX3_leastLength 50 = .ok (.lload_n 1, 1) := dk_31 (dk_at dksX3_leastLength_2 3 rfl rfl)
theorem dX3_leastLength_51 : decode cX3_leastLength 51 = .ok (.lreturn, 1) := dk_173 (dk_at dksX3_leastLength_2 4 rfl rfl)
abbrev cX3_sumLength : ByteArray := prog_20_method_92_code
def yX3_sumLength : MethodName := ⟨RX3, "sumLength", "(I)J"⟩
def dkwX3_sumLength_3 : List UInt8 := [65, 132, 4, 1, 167, 255, 185, 32, 173]
abbrev dktX3_sumLength_3 : List UInt8 := dkwX3_sumLength_3 ++ []
def dkwX3_sumLength_2 : List UInt8 := [4, 100, 133, 42, 180, 0, 36, 16, 6, 21, 4, 96, 47, 105, 97, 55, 5, 32, 22, 5, 22, 5, 105, 97]
abbrev dktX3_sumLength_2 : List UInt8 := dkwX3_sumLength_2 ++ dktX3_sumLength_3
def dkwX3_sumLength_1 : List UInt8 := [47, 105, 27, 6, 108, 6, 112, 4, 100, 133, 42, 180, 0, 36, 6, 21, 4, 96, 47, 105, 97, 27, 6, 112]
abbrev dktX3_sumLength_1 : List UInt8 := dkwX3_sumLength_1 ++ dktX3_sumLength_2
def dkwX3_sumLength_0 : List UInt8 := [9, 65, 3, 54, 4, 21, 4, 6, 162, 0, 71, 27, 16, 9, 108, 4, 100, 133, 42, 180, 0, 36, 21, 4]
abbrev dktX3_sumLength_0 : List UInt8 := dkwX3_sumLength_0 ++ dktX3_sumLength_1
theorem dksX3_sumLength_0 : cX3_sumLength.data.toList.drop 0 = dktX3_sumLength_0 := by decide +kernel
theorem dksX3_sumLength_1 : cX3_sumLength.data.toList.drop 24 = dktX3_sumLength_1 := dk_seg dksX3_sumLength_0 24 rfl rfl
theorem dksX3_sumLength_2 : cX3_sumLength.data.toList.drop 48 = dktX3_sumLength_2 := dk_seg dksX3_sumLength_1 24 rfl rfl
theorem dksX3_sumLength_3 : cX3_sumLength.data.toList.drop 72 = dktX3_sumLength_3 := dk_seg dksX3_sumLength_2 24 rfl rfl
theorem dX3_sumLength_0 : decode cX3_sumLength 0 = .ok (.lconst 0, 1) := dk_9 (dk_at dksX3_sumLength_0 0 rfl rfl)
theorem dX3_sumLength_1 : decode cX3_sumLength 1 = .ok (.lstore_n 2, 1) := dk_65 (dk_at dksX3_sumLength_0 1 rfl rfl)
theorem dX3_sumLength_2 : decode cX3_sumLength 2 = .ok (.iconst 0, 1) := dk_3 (dk_at dksX3_sumLength_0 2 rfl rfl)
theorem dX3_sumLength_3 : decode cX3_sumLength 3 = .ok (.istore 4, 2) := dk_54 4 (dk_at dksX3_sumLength_0 3 rfl rfl)
theorem dX3_sumLength_5 : decode cX3_sumLength 5 = .ok (.iload 4, 2) := dk_21 4 (dk_at dksX3_sumLength_0 5 rfl rfl)
theorem dX3_sumLength_7 : decode cX3_sumLength 7 = .ok (.iconst 3, 1) := dk_6 (dk_at dksX3_sumLength_0 7 rfl rfl)
theorem dX3_sumLength_8 : decode cX3_sumLength 8 = .ok (.if_icmp .ge 71, 3) := dk_162 0 71 (dk_at dksX3_sumLength_0 8 rfl rfl)
theorem dX3_sumLength_11 : decode cX3_sumLength 11 = .ok (.iload_n 1, 1) := dk_27 (dk_at dksX3_sumLength_0 11 rfl rfl)
theorem dX3_sumLength_12 : decode cX3_sumLength 12 = .ok (.bipush 9, 2) := dk_16 9 (dk_at dksX3_sumLength_0 12 rfl rfl)
theorem dX3_sumLength_14 : decode cX3_sumLength 14 = .ok (.idiv, 1) := dk_108 (dk_at dksX3_sumLength_0 14 rfl rfl)
theorem dX3_sumLength_15 : decode cX3_sumLength 15 = .ok (.iconst 1, 1) := dk_4 (dk_at dksX3_sumLength_0 15 rfl rfl)
theorem dX3_sumLength_16 : decode cX3_sumLength 16 = .ok (.isub, 1) := dk_100 (dk_at dksX3_sumLength_0 16 rfl rfl)
theorem dX3_sumLength_17 : decode cX3_sumLength 17 = .ok (.i2l, 1) := dk_133 (dk_at dksX3_sumLength_0 17 rfl rfl)
theorem dX3_sumLength_18 : decode cX3_sumLength 18 = .ok (.aload_n 0, 1) := dk_42 (dk_at dksX3_sumLength_0 18 rfl rfl)
theorem dX3_sumLength_19 : decode cX3_sumLength 19 = .ok (.getfield 36, 3) := dk_180 0 36 (dk_at dksX3_sumLength_0 19 rfl rfl)
theorem dX3_sumLength_22 : decode cX3_sumLength 22 = .ok (.iload 4, 2) := dk_21 4 (dk_at dksX3_sumLength_0 22 rfl rfl)
theorem dX3_sumLength_24 : decode cX3_sumLength 24 = .ok (.laload, 1) := dk_47 (dk_at dksX3_sumLength_1 0 rfl rfl)
theorem dX3_sumLength_25 : decode cX3_sumLength 25 = .ok (.lmul, 1) := dk_105 (dk_at dksX3_sumLength_1 1 rfl rfl)
theorem dX3_sumLength_26 : decode cX3_sumLength 26 = .ok (.iload_n 1, 1) := dk_27 (dk_at dksX3_sumLength_1 2 rfl rfl)
theorem dX3_sumLength_27 : decode cX3_sumLength 27 = .ok (.iconst 3, 1) := dk_6 (dk_at dksX3_sumLength_1 3 rfl rfl)
theorem dX3_sumLength_28 : decode cX3_sumLength 28 = .ok (.idiv, 1) := dk_108 (dk_at dksX3_sumLength_1 4 rfl rfl)
theorem dX3_sumLength_29 : decode cX3_sumLength 29 = .ok (.iconst 3, 1) := dk_6 (dk_at dksX3_sumLength_1 5 rfl rfl)
theorem dX3_sumLength_30 : decode cX3_sumLength 30 = .ok (.irem, 1) := dk_112 (dk_at dksX3_sumLength_1 6 rfl rfl)
theorem dX3_sumLength_31 : decode cX3_sumLength 31 = .ok (.iconst 1, 1) := dk_4 (dk_at dksX3_sumLength_1 7 rfl rfl)
theorem dX3_sumLength_32 : decode cX3_sumLength 32 = .ok (.isub, 1) := dk_100 (dk_at dksX3_sumLength_1 8 rfl rfl)
theorem dX3_sumLength_33 : decode cX3_sumLength 33 = .ok (.i2l, 1) := dk_133 (dk_at dksX3_sumLength_1 9 rfl rfl)
theorem dX3_sumLength_34 : decode cX3_sumLength 34 = .ok (.aload_n 0, 1) := dk_42 (dk_at dksX3_sumLength_1 10 rfl rfl)
theorem dX3_sumLength_35 : decode cX3_sumLength 35 = .ok (.getfield 36, 3) := dk_180 0 36 (dk_at dksX3_sumLength_1 11 rfl rfl)
theorem dX3_sumLength_38 : decode cX3_sumLength 38 = .ok (.iconst 3, 1) := dk_6 (dk_at dksX3_sumLength_1 14 rfl rfl)
theorem dX3_sumLength_39 : decode cX3_sumLength 39 = .ok (.iload 4, 2) := dk_21 4 (dk_at dksX3_sumLength_1 15 rfl rfl)
theorem dX3_sumLength_41 : decode cX3_sumLength 41 = .ok (.iadd, 1) := dk_96 (dk_at dksX3_sumLength_1 17 rfl rfl)
theorem dX3_sumLength_42 : decode cX3_sumLength 42 = .ok (.laload, 1) := dk_47 (dk_at dksX3_sumLength_1 18 rfl rfl)
theorem dX3_sumLength_43 : decode cX3_sumLength 43 = .ok (.lmul, 1) := dk_105 (dk_at dksX3_sumLength_1 19 rfl rfl)
theorem dX3_sumLength_44 : decode cX3_sumLength 44 = .ok (.ladd, 1) := dk_97 (dk_at dksX3_sumLength_1 20 rfl rfl)
theorem dX3_sumLength_45 : decode cX3_sumLength 45 = .ok (.iload_n 1, 1) := dk_27 (dk_at dksX3_sumLength_1 21 rfl rfl)
theorem dX3_sumLength_46 : decode cX3_sumLength 46 = .ok (.iconst 3, 1) := dk_6 (dk_at dksX3_sumLength_1 22 rfl rfl)
theorem dX3_sumLength_47 : decode cX3_sumLength 47 = .ok (.irem, 1) := dk_112 (dk_at dksX3_sumLength_1 23 rfl rfl)
theorem dX3_sumLength_48 : decode cX3_sumLength 48 = .ok (.iconst 1, 1) := dk_4 (dk_at dksX3_sumLength_2 0 rfl rfl)
theorem dX3_sumLength_49 : decode cX3_sumLength 49 = .ok (.isub, 1) := dk_100 (dk_at dksX3_sumLength_2 1 rfl rfl)
theorem dX3_sumLength_50 : decode cX3_sumLength 50 = .ok (.i2l, 1) := dk_133 (dk_at dksX3_sumLength_2 2 rfl rfl)
theorem dX3_sumLength_51 : decode cX3_sumLength 51 = .ok (.aload_n 0, 1) := dk_42 (dk_at dksX3_sumLength_2 3 rfl rfl)
theorem dX3_sumLength_52 : decode cX3_sumLength 52 = .ok (.getfield 36, 3) := dk_180 0 36 (dk_at dksX3_sumLength_2 4 rfl rfl)
theorem dX3_sumLength_55 : decode cX3_sumLength 55 = .ok (.bipush 6, 2) := dk_16 6 (dk_at dksX3_sumLength_2 7 rfl rfl)
theorem dX3_sumLength_57 : decode cX3_sumLength 57 = .ok (.iload 4, 2) := dk_21 4 (dk_at dksX3_sumLength_2 9 rfl rfl)
theorem dX3_sumLength_59 : decode cX3_sumLength 59 = .ok (.iadd, 1) := dk_96 (dk_at dksX3_sumLength_2 11 rfl rfl)
theorem dX3_sumLength_60 : decode cX3_sumLength 60 = .ok (.laload, 1) := dk_47 (dk_at dksX3_sumLength_2 12 rfl rfl)
theorem dX3_sumLength_61 : decode cX3_sumLength 61 = .ok (.lmul, 1) := dk_105 (dk_at dksX3_sumLength_2 13 rfl rfl)
theorem dX3_sumLength_62 : decode cX3_sumLength 62 = .ok (.ladd, 1) := dk_97 (dk_at dksX3_sumLength_2 14 rfl rfl)
theorem dX3_sumLength_63 : decode cX3_sumLength 63 = .ok (.lstore 5, 2) := dk_55 5 (dk_at dksX3_sumLength_2 15 rfl rfl)
theorem dX3_sumLength_65 : decode cX3_sumLength 65 = .ok (.lload_n 2, 1) := dk_32 (dk_at dksX3_sumLength_2 17 rfl rfl)
theorem dX3_sumLength_66 : decode cX3_sumLength 66 = .ok (.lload 5, 2) := dk_22 5 (dk_at dksX3_sumLength_2 18 rfl rfl)
theorem dX3_sumLength_68 : decode cX3_sumLength 68 = .ok (.lload 5, 2) := dk_22 5 (dk_at dksX3_sumLength_2 20 rfl rfl)
theorem dX3_sumLength_70 : decode cX3_sumLength 70 = .ok (.lmul, 1) := dk_105 (dk_at dksX3_sumLength_2 22 rfl rfl)
theorem dX3_sumLength_71 : decode cX3_sumLength 71 = .ok (.ladd, 1) := dk_97 (dk_at dksX3_sumLength_2 23 rfl rfl)
theorem dX3_sumLength_72 : decode cX3_sumLength 72 = .ok (.lstore_n 2, 1) := dk_65 (dk_at dksX3_sumLength_3 0 rfl rfl)
theorem dX3_sumLength_73 : decode cX3_sumLength 73 = .ok (.iinc 4 1, 3) := dk_132 4 1 (dk_at dksX3_sumLength_3 1 rfl rfl)
theorem dX3_sumLength_76 : decode cX3_sumLength 76 = .ok (.goto (-71), 3) := dk_167 255 185 (dk_at dksX3_sumLength_3 4 rfl rfl)
theorem dX3_sumLength_79 : decode cX3_sumLength 79 = .ok (.lload_n 2, 1) := dk_32 (dk_at dksX3_sumLength_3 7 rfl rfl)
theorem dX3_sumLength_80 : decode cX3_sumLength 80 = .ok (.lreturn, 1) := dk_173 (dk_at dksX3_sumLength_3 8 rfl rfl)
abbrev cX3_meetLength : ByteArray := prog_20_method_95_code
def yX3_meetLength : MethodName := ⟨RX3, "meetLength", "(III)J"⟩
def dkwX3_meetLength_2 : List UInt8 := [182, 1, 114, 42, 182, 1, 123, 42, 180, 0, 191, 42, 180, 0, 191, 105, 29, 184, 1, 2, 173]
abbrev dktX3_meetLength_2 : List UInt8 := dkwX3_meetLength_2 ++ []
def dkwX3_meetLength_1 : List UInt8 := [154, 0, 7, 20, 0, 252, 173, 21, 4, 156, 0, 7, 21, 4, 133, 173, 42, 27, 28, 182, 1, 70, 42]
abbrev dktX3_meetLength_1 : List UInt8 := dkwX3_meetLength_1 ++ dktX3_meetLength_2
def dkwX3_meetLength_0 : List UInt8 := [42, 27, 28, 182, 1, 67, 54, 4, 21, 4, 16, 254, 159, 0, 13, 29, 133, 9, 10, 184, 0, 88]
abbrev dktX3_meetLength_0 : List UInt8 := dkwX3_meetLength_0 ++ dktX3_meetLength_1
theorem dksX3_meetLength_0 : cX3_meetLength.data.toList.drop 0 = dktX3_meetLength_0 := by decide +kernel
theorem dksX3_meetLength_1 : cX3_meetLength.data.toList.drop 22 = dktX3_meetLength_1 := dk_seg dksX3_meetLength_0 22 rfl rfl
theorem dksX3_meetLength_2 : cX3_meetLength.data.toList.drop 45 = dktX3_meetLength_2 := dk_seg dksX3_meetLength_1 23 rfl rfl
theorem dX3_meetLength_0 : decode cX3_meetLength 0 = .ok (.aload_n 0, 1) := dk_42 (dk_at dksX3_meetLength_0 0 rfl rfl)
theorem dX3_meetLength_1 : decode cX3_meetLength 1 = .ok (.iload_n 1, 1) := dk_27 (dk_at dksX3_meetLength_0 1 rfl rfl)
theorem dX3_meetLength_2 : decode cX3_meetLength 2 = .ok (.iload_n 2, 1) := dk_28 (dk_at dksX3_meetLength_0 2 rfl rfl)
theorem dX3_meetLength_3 : decode cX3_meetLength 3 = .ok (.invokevirtual 323, 3) := dk_182 1 67 (dk_at dksX3_meetLength_0 3 rfl rfl)
theorem dX3_meetLength_6 : decode cX3_meetLength 6 = .ok (.istore 4, 2) := dk_54 4 (dk_at dksX3_meetLength_0 6 rfl rfl)
theorem dX3_meetLength_8 : decode cX3_meetLength 8 = .ok (.iload 4, 2) := dk_21 4 (dk_at dksX3_meetLength_0 8 rfl rfl)
theorem dX3_meetLength_10 : decode cX3_meetLength 10 = .ok (.bipush (-2), 2) := dk_16 254 (dk_at dksX3_meetLength_0 10 rfl rfl)
theorem dX3_meetLength_12 : decode cX3_meetLength 12 = .ok (.if_icmp .eq 13, 3) := dk_159 0 13 (dk_at dksX3_meetLength_0 12 rfl rfl)
theorem dX3_meetLength_15 : decode cX3_meetLength 15 = .ok (.iload_n 3, 1) := dk_29 (dk_at dksX3_meetLength_0 15 rfl rfl)
theorem dX3_meetLength_16 : decode cX3_meetLength 16 = .ok (.i2l, 1) := dk_133 (dk_at dksX3_meetLength_0 16 rfl rfl)
theorem dX3_meetLength_17 : decode cX3_meetLength 17 = .ok (.lconst 0, 1) := dk_9 (dk_at dksX3_meetLength_0 17 rfl rfl)
theorem dX3_meetLength_18 : decode cX3_meetLength 18 = .ok (.lconst 1, 1) := dk_10 (dk_at dksX3_meetLength_0 18 rfl rfl)
theorem dX3_meetLength_19 : decode cX3_meetLength 19 = .ok (.invokestatic 88, 3) := dk_184 0 88 (dk_at dksX3_meetLength_0 19 rfl rfl)
theorem dX3_meetLength_22 : decode cX3_meetLength 22 = .ok (.ifCond .ne 7, 3) := dk_154 0 7 (dk_at dksX3_meetLength_1 0 rfl rfl)
theorem dX3_meetLength_25 : decode cX3_meetLength 25 = .ok (.ldc2_w 252, 3) := dk_20 0 252 (dk_at dksX3_meetLength_1 3 rfl rfl)
theorem dX3_meetLength_28 : decode cX3_meetLength 28 = .ok (.lreturn, 1) := dk_173 (dk_at dksX3_meetLength_1 6 rfl rfl)
theorem dX3_meetLength_29 : decode cX3_meetLength 29 = .ok (.iload 4, 2) := dk_21 4 (dk_at dksX3_meetLength_1 7 rfl rfl)
theorem dX3_meetLength_31 : decode cX3_meetLength 31 = .ok (.ifCond .ge 7, 3) := dk_156 0 7 (dk_at dksX3_meetLength_1 9 rfl rfl)
theorem dX3_meetLength_34 : decode cX3_meetLength 34 = .ok (.iload 4, 2) := dk_21 4 (dk_at dksX3_meetLength_1 12 rfl rfl)
theorem dX3_meetLength_36 : decode cX3_meetLength 36 = .ok (.i2l, 1) := dk_133 (dk_at dksX3_meetLength_1 14 rfl rfl)
theorem dX3_meetLength_37 : decode cX3_meetLength 37 = .ok (.lreturn, 1) := dk_173 (dk_at dksX3_meetLength_1 15 rfl rfl)
theorem dX3_meetLength_38 : decode cX3_meetLength 38 = .ok (.aload_n 0, 1) := dk_42 (dk_at dksX3_meetLength_1 16 rfl rfl)
theorem dX3_meetLength_39 : decode cX3_meetLength 39 = .ok (.iload_n 1, 1) := dk_27 (dk_at dksX3_meetLength_1 17 rfl rfl)
theorem dX3_meetLength_40 : decode cX3_meetLength 40 = .ok (.iload_n 2, 1) := dk_28 (dk_at dksX3_meetLength_1 18 rfl rfl)
theorem dX3_meetLength_41 : decode cX3_meetLength 41 = .ok (.invokevirtual 326, 3) := dk_182 1 70 (dk_at dksX3_meetLength_1 19 rfl rfl)
theorem dX3_meetLength_44 : decode cX3_meetLength 44 = .ok (.aload_n 0, 1) := dk_42 (dk_at dksX3_meetLength_1 22 rfl rfl)
theorem dX3_meetLength_45 : decode cX3_meetLength 45 = .ok (.invokevirtual 370, 3) := dk_182 1 114 (dk_at dksX3_meetLength_2 0 rfl rfl)
theorem dX3_meetLength_48 : decode cX3_meetLength 48 = .ok (.aload_n 0, 1) := dk_42 (dk_at dksX3_meetLength_2 3 rfl rfl)
theorem dX3_meetLength_49 : decode cX3_meetLength 49 = .ok (.invokevirtual 379, 3) := dk_182 1 123 (dk_at dksX3_meetLength_2 4 rfl rfl)
theorem dX3_meetLength_52 : decode cX3_meetLength 52 = .ok (.aload_n 0, 1) := dk_42 (dk_at dksX3_meetLength_2 7 rfl rfl)
theorem dX3_meetLength_53 : decode cX3_meetLength 53 = .ok (.getfield 191, 3) := dk_180 0 191 (dk_at dksX3_meetLength_2 8 rfl rfl)
theorem dX3_meetLength_56 : decode cX3_meetLength 56 = .ok (.aload_n 0, 1) := dk_42 (dk_at dksX3_meetLength_2 11 rfl rfl)
theorem dX3_meetLength_57 : decode cX3_meetLength 57 = .ok (.getfield 191, 3) := dk_180 0 191 (dk_at dksX3_meetLength_2 12 rfl rfl)
theorem dX3_meetLength_60 : decode cX3_meetLength 60 = .ok (.lmul, 1) := dk_105 (dk_at dksX3_meetLength_2 15 rfl rfl)
theorem dX3_meetLength_61 : decode cX3_meetLength 61 = .ok (.iload_n 3, 1) := dk_29 (dk_at dksX3_meetLength_2 16 rfl rfl)
theorem dX3_meetLength_62 : decode cX3_meetLength 62 = .ok (.invokestatic 258, 3) := dk_184 1 2 (dk_at dksX3_meetLength_2 17 rfl rfl)
theorem dX3_meetLength_65 : decode cX3_meetLength 65 = .ok (.lreturn, 1) := dk_173 (dk_at dksX3_meetLength_2 20 rfl rfl)
abbrev cX3_area : ByteArray := prog_20_method_98_code
def yX3_area : MethodName := ⟨RX3, "area", "(IIIII)J"⟩
def dkwX3_area_4 : List UInt8 := [47, 105, 97, 55, 8, 22, 8, 22, 6, 22, 6, 105, 21, 5, 184, 1, 2, 173]
abbrev dktX3_area_4 : List UInt8 := dkwX3_area_4 ++ []
def dkwX3_area_3 : List UInt8 := [180, 0, 79, 4, 47, 42, 180, 0, 79, 4, 47, 105, 97, 42, 180, 0, 79, 5, 47, 42, 180, 0, 79, 5]
abbrev dktX3_area_3 : List UInt8 := dkwX3_area_3 ++ dktX3_area_4
def dkwX3_area_2 : List UInt8 := [55, 6, 42, 28, 29, 21, 4, 182, 1, 133, 42, 180, 0, 79, 3, 47, 42, 180, 0, 79, 3, 47, 105, 42]
abbrev dktX3_area_2 : List UInt8 := dkwX3_area_2 ++ dktX3_area_3
def dkwX3_area_1 : List UInt8 := [184, 0, 88, 154, 0, 7, 20, 0, 252, 173, 42, 27, 182, 1, 117, 42, 180, 0, 191, 42, 180, 0, 191, 105]
abbrev dktX3_area_1 : List UInt8 := dkwX3_area_1 ++ dktX3_area_2
def dkwX3_area_0 : List UInt8 := [42, 27, 182, 0, 211, 153, 0, 24, 28, 29, 21, 4, 184, 1, 130, 153, 0, 14, 21, 5, 133, 9, 10]
abbrev dktX3_area_0 : List UInt8 := dkwX3_area_0 ++ dktX3_area_1
theorem dksX3_area_0 : cX3_area.data.toList.drop 0 = dktX3_area_0 := by decide +kernel
theorem dksX3_area_1 : cX3_area.data.toList.drop 23 = dktX3_area_1 := dk_seg dksX3_area_0 23 rfl rfl
theorem dksX3_area_2 : cX3_area.data.toList.drop 47 = dktX3_area_2 := dk_seg dksX3_area_1 24 rfl rfl
theorem dksX3_area_3 : cX3_area.data.toList.drop 71 = dktX3_area_3 := dk_seg dksX3_area_2 24 rfl rfl
theorem dksX3_area_4 : cX3_area.data.toList.drop 95 = dktX3_area_4 := dk_seg dksX3_area_3 24 rfl rfl
theorem dX3_area_0 : decode cX3_area 0 = .ok (.aload_n 0, 1) := dk_42 (dk_at dksX3_area_0 0 rfl rfl)
theorem dX3_area_1 : decode cX3_area 1 = .ok (.iload_n 1, 1) := dk_27 (dk_at dksX3_area_0 1 rfl rfl)
theorem dX3_area_2 : decode cX3_area 2 = .ok (.invokevirtual 211, 3) := dk_182 0 211 (dk_at dksX3_area_0 2 rfl rfl)
theorem dX3_area_5 : decode cX3_area 5 = .ok (.ifCond .eq 24, 3) := dk_153 0 24 (dk_at dksX3_area_0 5 rfl rfl)
theorem dX3_area_8 : decode cX3_area 8 = .ok (.iload_n 2, 1) := dk_28 (dk_at dksX3_area_0 8 rfl rfl)
theorem dX3_area_9 : decode cX3_area 9 = .ok (.iload_n 3, 1) := dk_29 (dk_at dksX3_area_0 9 rfl rfl)
theorem dX3_area_10 : decode cX3_area 10 = .ok (.iload 4, 2) := dk_21 4 (dk_at dksX3_area_0 10 rfl rfl)
theorem dX3_area_12 : decode cX3_area 12 = .ok (.invokestatic 386, 3) := dk_184 1 130 (dk_at dksX3_area_0 12 rfl rfl)
theorem dX3_area_15 : decode cX3_area 15 = .ok (.ifCond .eq 14, 3) := dk_153 0 14 (dk_at dksX3_area_0 15 rfl rfl)
theorem dX3_area_18 : decode cX3_area 18 = .ok (.iload 5, 2) := dk_21 5 (dk_at dksX3_area_0 18 rfl rfl)
theorem dX3_area_20 : decode cX3_area 20 = .ok (.i2l, 1) := dk_133 (dk_at dksX3_area_0 20 rfl rfl)
theorem dX3_area_21 : decode cX3_area 21 = .ok (.lconst 0, 1) := dk_9 (dk_at dksX3_area_0 21 rfl rfl)
theorem dX3_area_22 : decode cX3_area 22 = .ok (.lconst 1, 1) := dk_10 (dk_at dksX3_area_0 22 rfl rfl)
theorem dX3_area_23 : decode cX3_area 23 = .ok (.invokestatic 88, 3) := dk_184 0 88 (dk_at dksX3_area_1 0 rfl rfl)
theorem dX3_area_26 : decode cX3_area 26 = .ok (.ifCond .ne 7, 3) := dk_154 0 7 (dk_at dksX3_area_1 3 rfl rfl)
theorem dX3_area_29 : decode cX3_area 29 = .ok (.ldc2_w 252, 3) := dk_20 0 252 (dk_at dksX3_area_1 6 rfl rfl)
theorem dX3_area_32 : decode cX3_area 32 = .ok (.lreturn, 1) := dk_173 (dk_at dksX3_area_1 9 rfl rfl)
theorem dX3_area_33 : decode cX3_area 33 = .ok (.aload_n 0, 1) := dk_42 (dk_at dksX3_area_1 10 rfl rfl)
theorem dX3_area_34 : decode cX3_area 34 = .ok (.iload_n 1, 1) := dk_27 (dk_at dksX3_area_1 11 rfl rfl)
theorem dX3_area_35 : decode cX3_area 35 = .ok (.invokevirtual 373, 3) := dk_182 1 117 (dk_at dksX3_area_1 12 rfl rfl)
theorem dX3_area_38 : decode cX3_area 38 = .ok (.aload_n 0, 1) := dk_42 (dk_at dksX3_area_1 15 rfl rfl)
theorem dX3_area_39 : decode cX3_area 39 = .ok (.getfield 191, 3) := dk_180 0 191 (dk_at dksX3_area_1 16 rfl rfl)
theorem dX3_area_42 : decode cX3_area 42 = .ok (.aload_n 0, 1) := dk_42 (dk_at dksX3_area_1 19 rfl rfl)
theorem dX3_area_43 : decode cX3_area 43 = .ok (.getfield 191, 3) := dk_180 0 191 (dk_at dksX3_area_1 20 rfl rfl)
theorem dX3_area_46 : decode cX3_area 46 = .ok (.lmul, 1) := dk_105 (dk_at dksX3_area_1 23 rfl rfl)
theorem dX3_area_47 : decode cX3_area 47 = .ok (.lstore 6, 2) := dk_55 6 (dk_at dksX3_area_2 0 rfl rfl)
theorem dX3_area_49 : decode cX3_area 49 = .ok (.aload_n 0, 1) := dk_42 (dk_at dksX3_area_2 2 rfl rfl)
theorem dX3_area_50 : decode cX3_area 50 = .ok (.iload_n 2, 1) := dk_28 (dk_at dksX3_area_2 3 rfl rfl)
theorem dX3_area_51 : decode cX3_area 51 = .ok (.iload_n 3, 1) := dk_29 (dk_at dksX3_area_2 4 rfl rfl)
theorem dX3_area_52 : decode cX3_area 52 = .ok (.iload 4, 2) := dk_21 4 (dk_at dksX3_area_2 5 rfl rfl)
theorem dX3_area_54 : decode cX3_area 54 = .ok (.invokevirtual 389, 3) := dk_182 1 133 (dk_at dksX3_area_2 7 rfl rfl)
theorem dX3_area_57 : decode cX3_area 57 = .ok (.aload_n 0, 1) := dk_42 (dk_at dksX3_area_2 10 rfl rfl)
theorem dX3_area_58 : decode cX3_area 58 = .ok (.getfield 79, 3) := dk_180 0 79 (dk_at dksX3_area_2 11 rfl rfl)
theorem dX3_area_61 : decode cX3_area 61 = .ok (.iconst 0, 1) := dk_3 (dk_at dksX3_area_2 14 rfl rfl)
theorem dX3_area_62 : decode cX3_area 62 = .ok (.laload, 1) := dk_47 (dk_at dksX3_area_2 15 rfl rfl)
theorem dX3_area_63 : decode cX3_area 63 = .ok (.aload_n 0, 1) := dk_42 (dk_at dksX3_area_2 16 rfl rfl)
theorem dX3_area_64 : decode cX3_area 64 = .ok (.getfield 79, 3) := dk_180 0 79 (dk_at dksX3_area_2 17 rfl rfl)
theorem dX3_area_67 : decode cX3_area 67 = .ok (.iconst 0, 1) := dk_3 (dk_at dksX3_area_2 20 rfl rfl)
theorem dX3_area_68 : decode cX3_area 68 = .ok (.laload, 1) := dk_47 (dk_at dksX3_area_2 21 rfl rfl)
theorem dX3_area_69 : decode cX3_area 69 = .ok (.lmul, 1) := dk_105 (dk_at dksX3_area_2 22 rfl rfl)
theorem dX3_area_70 : decode cX3_area 70 = .ok (.aload_n 0, 1) := dk_42 (dk_at dksX3_area_2 23 rfl rfl)
theorem dX3_area_71 : decode cX3_area 71 = .ok (.getfield 79, 3) := dk_180 0 79 (dk_at dksX3_area_3 0 rfl rfl)
theorem dX3_area_74 : decode cX3_area 74 = .ok (.iconst 1, 1) := dk_4 (dk_at dksX3_area_3 3 rfl rfl)
theorem dX3_area_75 : decode cX3_area 75 = .ok (.laload, 1) := dk_47 (dk_at dksX3_area_3 4 rfl rfl)
theorem dX3_area_76 : decode cX3_area 76 = .ok (.aload_n 0, 1) := dk_42 (dk_at dksX3_area_3 5 rfl rfl)
theorem dX3_area_77 : decode cX3_area 77 = .ok (.getfield 79, 3) := dk_180 0 79 (dk_at dksX3_area_3 6 rfl rfl)
theorem dX3_area_80 : decode cX3_area 80 = .ok (.iconst 1, 1) := dk_4 (dk_at dksX3_area_3 9 rfl rfl)
theorem dX3_area_81 : decode cX3_area 81 = .ok (.laload, 1) := dk_47 (dk_at dksX3_area_3 10 rfl rfl)
theorem dX3_area_82 : decode cX3_area 82 = .ok (.lmul, 1) := dk_105 (dk_at dksX3_area_3 11 rfl rfl)
theorem dX3_area_83 : decode cX3_area 83 = .ok (.ladd, 1) := dk_97 (dk_at dksX3_area_3 12 rfl rfl)
theorem dX3_area_84 : decode cX3_area 84 = .ok (.aload_n 0, 1) := dk_42 (dk_at dksX3_area_3 13 rfl rfl)
theorem dX3_area_85 : decode cX3_area 85 = .ok (.getfield 79, 3) := dk_180 0 79 (dk_at dksX3_area_3 14 rfl rfl)
theorem dX3_area_88 : decode cX3_area 88 = .ok (.iconst 2, 1) := dk_5 (dk_at dksX3_area_3 17 rfl rfl)
theorem dX3_area_89 : decode cX3_area 89 = .ok (.laload, 1) := dk_47 (dk_at dksX3_area_3 18 rfl rfl)
theorem dX3_area_90 : decode cX3_area 90 = .ok (.aload_n 0, 1) := dk_42 (dk_at dksX3_area_3 19 rfl rfl)
theorem dX3_area_91 : decode cX3_area 91 = .ok (.getfield 79, 3) := dk_180 0 79 (dk_at dksX3_area_3 20 rfl rfl)
theorem dX3_area_94 : decode cX3_area 94 = .ok (.iconst 2, 1) := dk_5 (dk_at dksX3_area_3 23 rfl rfl)
theorem dX3_area_95 : decode cX3_area 95 = .ok (.laload, 1) := dk_47 (dk_at dksX3_area_4 0 rfl rfl)
theorem dX3_area_96 : decode cX3_area 96 = .ok (.lmul, 1) := dk_105 (dk_at dksX3_area_4 1 rfl rfl)
theorem dX3_area_97 : decode cX3_area 97 = .ok (.ladd, 1) := dk_97 (dk_at dksX3_area_4 2 rfl rfl)
theorem dX3_area_98 : decode cX3_area 98 = .ok (.lstore 8, 2) := dk_55 8 (dk_at dksX3_area_4 3 rfl rfl)
theorem dX3_area_100 : decode cX3_area 100 = .ok (.lload 8, 2) := dk_22 8 (dk_at dksX3_area_4 5 rfl rfl)
theorem dX3_area_102 : decode cX3_area 102 = .ok (.lload 6, 2) := dk_22 6 (dk_at dksX3_area_4 7 rfl rfl)
theorem dX3_area_104 : decode cX3_area 104 = .ok (.lload 6, 2) := dk_22 6 (dk_at dksX3_area_4 9 rfl rfl)
theorem dX3_area_106 : decode cX3_area 106 = .ok (.lmul, 1) := dk_105 (dk_at dksX3_area_4 11 rfl rfl)
theorem dX3_area_107 : decode cX3_area 107 = .ok (.iload 5, 2) := dk_21 5 (dk_at dksX3_area_4 12 rfl rfl)
theorem dX3_area_109 : decode cX3_area 109 = .ok (.invokestatic 258, 3) := dk_184 1 2 (dk_at dksX3_area_4 14 rfl rfl)
theorem dX3_area_112 : decode cX3_area 112 = .ok (.lreturn, 1) := dk_173 (dk_at dksX3_area_4 17 rfl rfl)
abbrev cX3_isPlane : ByteArray := prog_20_method_97_code
def yX3_isPlane : MethodName := ⟨RX3, "isPlane", "(III)Z"⟩
def dkwX3_isPlane_2 : List UInt8 := [27, 154, 0, 7, 28, 153, 0, 7, 4, 167, 0, 4, 3, 172]
abbrev dktX3_isPlane_2 : List UInt8 := dkwX3_isPlane_2 ++ []
def dkwX3_isPlane_1 : List UInt8 := [184, 0, 88, 153, 0, 33, 28, 133, 20, 1, 126, 20, 1, 128, 184, 0, 88, 153, 0, 19, 26, 154, 0, 11]
abbrev dktX3_isPlane_1 : List UInt8 := dkwX3_isPlane_1 ++ dktX3_isPlane_2
def dkwX3_isPlane_0 : List UInt8 := [26, 133, 20, 1, 126, 20, 1, 128, 184, 0, 88, 153, 0, 47, 27, 133, 20, 1, 126, 20, 1, 128]
abbrev dktX3_isPlane_0 : List UInt8 := dkwX3_isPlane_0 ++ dktX3_isPlane_1
theorem dksX3_isPlane_0 : cX3_isPlane.data.toList.drop 0 = dktX3_isPlane_0 := by decide +kernel
theorem dksX3_isPlane_1 : cX3_isPlane.data.toList.drop 22 = dktX3_isPlane_1 := dk_seg dksX3_isPlane_0 22 rfl rfl
theorem dksX3_isPlane_2 : cX3_isPlane.data.toList.drop 46 = dktX3_isPlane_2 := dk_seg dksX3_isPlane_1 24 rfl rfl
theorem dX3_isPlane_0 : decode cX3_isPlane 0 = .ok (.iload_n 0, 1) := dk_26 (dk_at dksX3_isPlane_0 0 rfl rfl)
theorem dX3_isPlane_1 : decode cX3_isPlane 1 = .ok (.i2l, 1) := dk_133 (dk_at dksX3_isPlane_0 1 rfl rfl)
theorem dX3_isPlane_2 : decode cX3_isPlane 2 = .ok (.ldc2_w 382, 3) := dk_20 1 126 (dk_at dksX3_isPlane_0 2 rfl rfl)
theorem dX3_isPlane_5 : decode cX3_isPlane 5 = .ok (.ldc2_w 384, 3) := dk_20 1 128 (dk_at dksX3_isPlane_0 5 rfl rfl)
theorem dX3_isPlane_8 : decode cX3_isPlane 8 = .ok (.invokestatic 88, 3) := dk_184 0 88 (dk_at dksX3_isPlane_0 8 rfl rfl)
theorem dX3_isPlane_11 : decode cX3_isPlane 11 = .ok (.ifCond .eq 47, 3) := dk_153 0 47 (dk_at dksX3_isPlane_0 11 rfl rfl)
theorem dX3_isPlane_14 : decode cX3_isPlane 14 = .ok (.iload_n 1, 1) := dk_27 (dk_at dksX3_isPlane_0 14 rfl rfl)
theorem dX3_isPlane_15 : decode cX3_isPlane 15 = .ok (.i2l, 1) := dk_133 (dk_at dksX3_isPlane_0 15 rfl rfl)
theorem dX3_isPlane_16 : decode cX3_isPlane 16 = .ok (.ldc2_w 382, 3) := dk_20 1 126 (dk_at dksX3_isPlane_0 16 rfl rfl)
theorem dX3_isPlane_19 : decode cX3_isPlane 19 = .ok (.ldc2_w 384, 3) := dk_20 1 128 (dk_at dksX3_isPlane_0 19 rfl rfl)
theorem dX3_isPlane_22 : decode cX3_isPlane 22 = .ok (.invokestatic 88, 3) := dk_184 0 88 (dk_at dksX3_isPlane_1 0 rfl rfl)
theorem dX3_isPlane_25 : decode cX3_isPlane 25 = .ok (.ifCond .eq 33, 3) := dk_153 0 33 (dk_at dksX3_isPlane_1 3 rfl rfl)
theorem dX3_isPlane_28 : decode cX3_isPlane 28 = .ok (.iload_n 2, 1) := dk_28 (dk_at dksX3_isPlane_1 6 rfl rfl)
theorem dX3_isPlane_29 : decode cX3_isPlane 29 = .ok (.i2l, 1) := dk_133 (dk_at dksX3_isPlane_1 7 rfl rfl)
theorem dX3_isPlane_30 : decode cX3_isPlane 30 = .ok (.ldc2_w 382, 3) := dk_20 1 126 (dk_at dksX3_isPlane_1 8 rfl rfl)
theorem dX3_isPlane_33 : decode cX3_isPlane 33 = .ok (.ldc2_w 384, 3) := dk_20 1 128 (dk_at dksX3_isPlane_1 11 rfl rfl)
theorem dX3_isPlane_36 : decode cX3_isPlane 36 = .ok (.invokestatic 88, 3) := dk_184 0 88 (dk_at dksX3_isPlane_1 14 rfl rfl)
theorem dX3_isPlane_39 : decode cX3_isPlane 39 = .ok (.ifCond .eq 19, 3) := dk_153 0 19 (dk_at dksX3_isPlane_1 17 rfl rfl)
theorem dX3_isPlane_42 : decode cX3_isPlane 42 = .ok (.iload_n 0, 1) := dk_26 (dk_at dksX3_isPlane_1 20 rfl rfl)
theorem dX3_isPlane_43 : decode cX3_isPlane 43 = .ok (.ifCond .ne 11, 3) := dk_154 0 11 (dk_at dksX3_isPlane_1 21 rfl rfl)
theorem dX3_isPlane_46 : decode cX3_isPlane 46 = .ok (.iload_n 1, 1) := dk_27 (dk_at dksX3_isPlane_2 0 rfl rfl)
theorem dX3_isPlane_47 : decode cX3_isPlane 47 = .ok (.ifCond .ne 7, 3) := dk_154 0 7 (dk_at dksX3_isPlane_2 1 rfl rfl)
theorem dX3_isPlane_50 : decode cX3_isPlane 50 = .ok (.iload_n 2, 1) := dk_28 (dk_at dksX3_isPlane_2 4 rfl rfl)
theorem dX3_isPlane_51 : decode cX3_isPlane 51 = .ok (.ifCond .eq 7, 3) := dk_153 0 7 (dk_at dksX3_isPlane_2 5 rfl rfl)
theorem dX3_isPlane_54 : decode cX3_isPlane 54 = .ok (.iconst 1, 1) := dk_4 (dk_at dksX3_isPlane_2 8 rfl rfl)
theorem dX3_isPlane_55 : decode cX3_isPlane 55 = .ok (.goto 4, 3) := dk_167 0 4 (dk_at dksX3_isPlane_2 9 rfl rfl)
theorem dX3_isPlane_58 : decode cX3_isPlane 58 = .ok (.iconst 0, 1) := dk_3 (dk_at dksX3_isPlane_2 12 rfl rfl)
theorem dX3_isPlane_59 : decode cX3_isPlane 59 = .ok (.ireturn, 1) := dk_172 (dk_at dksX3_isPlane_2 13 rfl rfl)
abbrev cX3_crosses : ByteArray := prog_20_method_96_code
def yX3_crosses : MethodName := ⟨RX3, "crosses", "(III)V"⟩
def dkwX3_crosses_17 : List UInt8 := [177]
abbrev dktX3_crosses_17 : List UInt8 := dkwX3_crosses_17 ++ []
def dkwX3_crosses_16 : List UInt8 := [47, 42, 180, 0, 36, 21, 7, 21, 8, 4, 96, 6, 112, 96, 47, 105, 101, 80, 132, 8, 1, 167, 255, 181]
abbrev dktX3_crosses_16 : List UInt8 := dkwX3_crosses_16 ++ dktX3_crosses_17
def dkwX3_crosses_15 : List UInt8 := [21, 7, 21, 8, 5, 96, 6, 112, 96, 47, 105, 42, 180, 0, 36, 21, 6, 21, 8, 5, 96, 6, 112, 96]
abbrev dktX3_crosses_15 : List UInt8 := dkwX3_crosses_15 ++ dktX3_crosses_16
def dkwX3_crosses_14 : List UInt8 := [180, 0, 79, 21, 8, 42, 180, 0, 36, 21, 6, 21, 8, 4, 96, 6, 112, 96, 47, 42, 180, 0, 36]
abbrev dktX3_crosses_14 : List UInt8 := dkwX3_crosses_14 ++ dktX3_crosses_15
def dkwX3_crosses_13 : List UInt8 := [54, 6, 6, 21, 5, 5, 96, 6, 112, 104, 54, 7, 3, 54, 8, 21, 8, 6, 162, 0, 75, 42]
abbrev dktX3_crosses_13 : List UInt8 := dkwX3_crosses_13 ++ dktX3_crosses_14
def dkwX3_crosses_12 : List UInt8 := [167, 0, 4, 3, 54, 4, 132, 6, 1, 167, 255, 119, 167, 255, 36, 6, 21, 5, 4, 96, 6, 112, 104]
abbrev dktX3_crosses_12 : List UInt8 := dkwX3_crosses_12 ++ dktX3_crosses_13
def dkwX3_crosses_11 : List UInt8 := [132, 9, 1, 167, 255, 217, 21, 4, 154, 0, 15, 42, 180, 0, 82, 21, 6, 47, 9, 148, 153, 0, 7, 4]
abbrev dktX3_crosses_11 : List UInt8 := dkwX3_crosses_11 ++ dktX3_crosses_12
def dkwX3_crosses_10 : List UInt8 := [21, 9, 96, 92, 47, 22, 7, 42, 180, 0, 36, 6, 21, 5, 104, 21, 9, 96, 47, 105, 101, 80]
abbrev dktX3_crosses_10 : List UInt8 := dkwX3_crosses_10 ++ dktX3_crosses_11
def dkwX3_crosses_9 : List UInt8 := [21, 5, 47, 105, 101, 80, 3, 54, 9, 21, 9, 6, 162, 0, 39, 42, 180, 0, 36, 6, 21, 6, 104]
abbrev dktX3_crosses_9 : List UInt8 := dkwX3_crosses_9 ++ dktX3_crosses_10
def dkwX3_crosses_8 : List UInt8 := [180, 0, 82, 21, 5, 47, 109, 55, 7, 42, 180, 0, 82, 21, 6, 92, 47, 22, 7, 42, 180, 0, 82]
abbrev dktX3_crosses_8 : List UInt8 := dkwX3_crosses_8 ++ dktX3_crosses_9
def dkwX3_crosses_7 : List UInt8 := [180, 0, 82, 21, 6, 47, 9, 148, 154, 0, 6, 167, 0, 109, 42, 180, 0, 82, 21, 6, 47, 42]
abbrev dktX3_crosses_7 : List UInt8 := dkwX3_crosses_7 ++ dktX3_crosses_8
def dkwX3_crosses_6 : List UInt8 := [167, 255, 196, 3, 54, 4, 3, 54, 6, 21, 6, 6, 162, 0, 137, 21, 6, 21, 5, 159, 0, 124, 42]
abbrev dktX3_crosses_6 : List UInt8 := dkwX3_crosses_6 ++ dktX3_crosses_7
def dkwX3_crosses_5 : List UInt8 := [21, 5, 47, 184, 0, 1, 148, 156, 0, 8, 21, 6, 167, 0, 5, 21, 5, 54, 5, 132, 6, 1]
abbrev dktX3_crosses_5 : List UInt8 := dkwX3_crosses_5 ++ dktX3_crosses_6
def dkwX3_crosses_4 : List UInt8 := [153, 0, 38, 21, 5, 2, 159, 0, 27, 42, 180, 0, 82, 21, 6, 47, 184, 0, 1, 42, 180, 0, 82]
abbrev dktX3_crosses_4 : List UInt8 := dkwX3_crosses_4 ++ dktX3_crosses_5
def dkwX3_crosses_3 : List UInt8 := [153, 0, 221, 2, 54, 5, 3, 54, 6, 21, 6, 6, 162, 0, 60, 42, 180, 0, 82, 21, 6, 47, 9, 148]
abbrev dktX3_crosses_3 : List UInt8 := dkwX3_crosses_3 ++ dktX3_crosses_4
def dkwX3_crosses_2 : List UInt8 := [6, 21, 4, 104, 5, 96, 47, 105, 97, 80, 132, 4, 1, 167, 255, 198, 4, 54, 4, 2, 54, 5, 21, 4]
abbrev dktX3_crosses_2 : List UInt8 := dkwX3_crosses_2 ++ dktX3_crosses_3
def dkwX3_crosses_1 : List UInt8 := [104, 47, 105, 28, 133, 42, 180, 0, 36, 6, 21, 4, 104, 4, 96, 47, 105, 97, 29, 133, 42, 180, 0, 36]
abbrev dktX3_crosses_1 : List UInt8 := dkwX3_crosses_1 ++ dktX3_crosses_2
def dkwX3_crosses_0 : List UInt8 := [3, 54, 4, 21, 4, 6, 162, 0, 58, 42, 180, 0, 82, 21, 4, 27, 133, 42, 180, 0, 36, 6, 21, 4]
abbrev dktX3_crosses_0 : List UInt8 := dkwX3_crosses_0 ++ dktX3_crosses_1
theorem dksX3_crosses_0 : cX3_crosses.data.toList.drop 0 = dktX3_crosses_0 := by decide +kernel
theorem dksX3_crosses_1 : cX3_crosses.data.toList.drop 24 = dktX3_crosses_1 := dk_seg dksX3_crosses_0 24 rfl rfl
theorem dksX3_crosses_2 : cX3_crosses.data.toList.drop 48 = dktX3_crosses_2 := dk_seg dksX3_crosses_1 24 rfl rfl
theorem dksX3_crosses_3 : cX3_crosses.data.toList.drop 72 = dktX3_crosses_3 := dk_seg dksX3_crosses_2 24 rfl rfl
theorem dksX3_crosses_4 : cX3_crosses.data.toList.drop 96 = dktX3_crosses_4 := dk_seg dksX3_crosses_3 24 rfl rfl
theorem dksX3_crosses_5 : cX3_crosses.data.toList.drop 119 = dktX3_crosses_5 := dk_seg dksX3_crosses_4 23 rfl rfl
theorem dksX3_crosses_6 : cX3_crosses.data.toList.drop 141 = dktX3_crosses_6 := dk_seg dksX3_crosses_5 22 rfl rfl
theorem dksX3_crosses_7 : cX3_crosses.data.toList.drop 164 = dktX3_crosses_7 := dk_seg dksX3_crosses_6 23 rfl rfl
theorem dksX3_crosses_8 : cX3_crosses.data.toList.drop 186 = dktX3_crosses_8 := dk_seg dksX3_crosses_7 22 rfl rfl
theorem dksX3_crosses_9 : cX3_crosses.data.toList.drop 209 = dktX3_crosses_9 := dk_seg dksX3_crosses_8 23 rfl rfl
theorem dksX3_crosses_10 : cX3_crosses.data.toList.drop 232 = dktX3_crosses_10 := dk_seg dksX3_crosses_9 23 rfl rfl
theorem dksX3_crosses_11 : cX3_crosses.data.toList.drop 254 = dktX3_crosses_11 := dk_seg dksX3_crosses_10 22 rfl rfl
theorem dksX3_crosses_12 : cX3_crosses.data.toList.drop 278 = dktX3_crosses_12 := dk_seg dksX3_crosses_11 24 rfl rfl
theorem dksX3_crosses_13 : cX3_crosses.data.toList.drop 301 = dktX3_crosses_13 := dk_seg dksX3_crosses_12 23 rfl rfl
theorem dksX3_crosses_14 : cX3_crosses.data.toList.drop 323 = dktX3_crosses_14 := dk_seg dksX3_crosses_13 22 rfl rfl
theorem dksX3_crosses_15 : cX3_crosses.data.toList.drop 346 = dktX3_crosses_15 := dk_seg dksX3_crosses_14 23 rfl rfl
theorem dksX3_crosses_16 : cX3_crosses.data.toList.drop 370 = dktX3_crosses_16 := dk_seg dksX3_crosses_15 24 rfl rfl
theorem dksX3_crosses_17 : cX3_crosses.data.toList.drop 394 = dktX3_crosses_17 := dk_seg dksX3_crosses_16 24 rfl rfl
theorem dX3_crosses_0 : decode cX3_crosses 0 = .ok (.iconst 0, 1) := dk_3 (dk_at dksX3_crosses_0 0 rfl rfl)
theorem dX3_crosses_1 : decode cX3_crosses 1 = .ok (.istore 4, 2) := dk_54 4 (dk_at dksX3_crosses_0 1 rfl rfl)
theorem dX3_crosses_3 : decode cX3_crosses 3 = .ok (.iload 4, 2) := dk_21 4 (dk_at dksX3_crosses_0 3 rfl rfl)
theorem dX3_crosses_5 : decode cX3_crosses 5 = .ok (.iconst 3, 1) := dk_6 (dk_at dksX3_crosses_0 5 rfl rfl)
theorem dX3_crosses_6 : decode cX3_crosses 6 = .ok (.if_icmp .ge 58, 3) := dk_162 0 58 (dk_at dksX3_crosses_0 6 rfl rfl)
theorem dX3_crosses_9 : decode cX3_crosses 9 = .ok (.aload_n 0, 1) := dk_42 (dk_at dksX3_crosses_0 9 rfl rfl)
theorem dX3_crosses_10 : decode cX3_crosses 10 = .ok (.getfield 82, 3) := dk_180 0 82 (dk_at dksX3_crosses_0 10 rfl rfl)
theorem dX3_crosses_13 : decode cX3_crosses 13 = .ok (.iload 4, 2) := dk_21 4 (dk_at dksX3_crosses_0 13 rfl rfl)
theorem dX3_crosses_15 : decode cX3_crosses 15 = .ok (.iload_n 1, 1) := dk_27 (dk_at dksX3_crosses_0 15 rfl rfl)
theorem dX3_crosses_16 : decode cX3_crosses 16 = .ok (.i2l, 1) := dk_133 (dk_at dksX3_crosses_0 16 rfl rfl)
theorem dX3_crosses_17 : decode cX3_crosses 17 = .ok (.aload_n 0, 1) := dk_42 (dk_at dksX3_crosses_0 17 rfl rfl)
theorem dX3_crosses_18 : decode cX3_crosses 18 = .ok (.getfield 36, 3) := dk_180 0 36 (dk_at dksX3_crosses_0 18 rfl rfl)
theorem dX3_crosses_21 : decode cX3_crosses 21 = .ok (.iconst 3, 1) := dk_6 (dk_at dksX3_crosses_0 21 rfl rfl)
theorem dX3_crosses_22 : decode cX3_crosses 22 = .ok (.iload 4, 2) := dk_21 4 (dk_at dksX3_crosses_0 22 rfl rfl)
theorem dX3_crosses_24 : decode cX3_crosses 24 = .ok (.imul, 1) := dk_104 (dk_at dksX3_crosses_1 0 rfl rfl)
theorem dX3_crosses_25 : decode cX3_crosses 25 = .ok (.laload, 1) := dk_47 (dk_at dksX3_crosses_1 1 rfl rfl)
theorem dX3_crosses_26 : decode cX3_crosses 26 = .ok (.lmul, 1) := dk_105 (dk_at dksX3_crosses_1 2 rfl rfl)
theorem dX3_crosses_27 : decode cX3_crosses 27 = .ok (.iload_n 2, 1) := dk_28 (dk_at dksX3_crosses_1 3 rfl rfl)
theorem dX3_crosses_28 : decode cX3_crosses 28 = .ok (.i2l, 1) := dk_133 (dk_at dksX3_crosses_1 4 rfl rfl)
theorem dX3_crosses_29 : decode cX3_crosses 29 = .ok (.aload_n 0, 1) := dk_42 (dk_at dksX3_crosses_1 5 rfl rfl)
theorem dX3_crosses_30 : decode cX3_crosses 30 = .ok (.getfield 36, 3) := dk_180 0 36 (dk_at dksX3_crosses_1 6 rfl rfl)
theorem dX3_crosses_33 : decode cX3_crosses 33 = .ok (.iconst 3, 1) := dk_6 (dk_at dksX3_crosses_1 9 rfl rfl)
theorem dX3_crosses_34 : decode cX3_crosses 34 = .ok (.iload 4, 2) := dk_21 4 (dk_at dksX3_crosses_1 10 rfl rfl)
theorem dX3_crosses_36 : decode cX3_crosses 36 = .ok (.imul, 1) := dk_104 (dk_at dksX3_crosses_1 12 rfl rfl)
theorem dX3_crosses_37 : decode cX3_crosses 37 = .ok (.iconst 1, 1) := dk_4 (dk_at dksX3_crosses_1 13 rfl rfl)
theorem dX3_crosses_38 : decode cX3_crosses 38 = .ok (.iadd, 1) := dk_96 (dk_at dksX3_crosses_1 14 rfl rfl)
theorem dX3_crosses_39 : decode cX3_crosses 39 = .ok (.laload, 1) := dk_47 (dk_at dksX3_crosses_1 15 rfl rfl)
theorem dX3_crosses_40 : decode cX3_crosses 40 = .ok (.lmul, 1) := dk_105 (dk_at dksX3_crosses_1 16 rfl rfl)
theorem dX3_crosses_41 : decode cX3_crosses 41 = .ok (.ladd, 1) := dk_97 (dk_at dksX3_crosses_1 17 rfl rfl)
theorem dX3_crosses_42 : decode cX3_crosses 42 = .ok (.iload_n 3, 1) := dk_29 (dk_at dksX3_crosses_1 18 rfl rfl)
theorem dX3_crosses_43 : decode cX3_crosses 43 = .ok (.i2l, 1) := dk_133 (dk_at dksX3_crosses_1 19 rfl rfl)
theorem dX3_crosses_44 : decode cX3_crosses 44 = .ok (.aload_n 0, 1) := dk_42 (dk_at dksX3_crosses_1 20 rfl rfl)
theorem dX3_crosses_45 : decode cX3_crosses 45 = .ok (.getfield 36, 3) := dk_180 0 36 (dk_at dksX3_crosses_1 21 rfl rfl)
theorem dX3_crosses_48 : decode cX3_crosses 48 = .ok (.iconst 3, 1) := dk_6 (dk_at dksX3_crosses_2 0 rfl rfl)
theorem dX3_crosses_49 : decode cX3_crosses 49 = .ok (.iload 4, 2) := dk_21 4 (dk_at dksX3_crosses_2 1 rfl rfl)
theorem dX3_crosses_51 : decode cX3_crosses 51 = .ok (.imul, 1) := dk_104 (dk_at dksX3_crosses_2 3 rfl rfl)
theorem dX3_crosses_52 : decode cX3_crosses 52 = .ok (.iconst 2, 1) := dk_5 (dk_at dksX3_crosses_2 4 rfl rfl)
theorem dX3_crosses_53 : decode cX3_crosses 53 = .ok (.iadd, 1) := dk_96 (dk_at dksX3_crosses_2 5 rfl rfl)
theorem dX3_crosses_54 : decode cX3_crosses 54 = .ok (.laload, 1) := dk_47 (dk_at dksX3_crosses_2 6 rfl rfl)
theorem dX3_crosses_55 : decode cX3_crosses 55 = .ok (.lmul, 1) := dk_105 (dk_at dksX3_crosses_2 7 rfl rfl)
theorem dX3_crosses_56 : decode cX3_crosses 56 = .ok (.ladd, 1) := dk_97 (dk_at dksX3_crosses_2 8 rfl rfl)
theorem dX3_crosses_57 : decode cX3_crosses 57 = .ok (.lastore, 1) := dk_80 (dk_at dksX3_crosses_2 9 rfl rfl)
theorem dX3_crosses_58 : decode cX3_crosses 58 = .ok (.iinc 4 1, 3) := dk_132 4 1 (dk_at dksX3_crosses_2 10 rfl rfl)
theorem dX3_crosses_61 : decode cX3_crosses 61 = .ok (.goto (-58), 3) := dk_167 255 198 (dk_at dksX3_crosses_2 13 rfl rfl)
theorem dX3_crosses_64 : decode cX3_crosses 64 = .ok (.iconst 1, 1) := dk_4 (dk_at dksX3_crosses_2 16 rfl rfl)
theorem dX3_crosses_65 : decode cX3_crosses 65 = .ok (.istore 4, 2) := dk_54 4 (dk_at dksX3_crosses_2 17 rfl rfl)
theorem dX3_crosses_67 : decode cX3_crosses 67 = .ok (.iconst (-1), 1) := dk_2 (dk_at dksX3_crosses_2 19 rfl rfl)
theorem dX3_crosses_68 : decode cX3_crosses 68 = .ok (.istore 5, 2) := dk_54 5 (dk_at dksX3_crosses_2 20 rfl rfl)
theorem dX3_crosses_70 : decode cX3_crosses 70 = .ok (.iload 4, 2) := dk_21 4 (dk_at dksX3_crosses_2 22 rfl rfl)
theorem dX3_crosses_72 : decode cX3_crosses 72 = .ok (.ifCond .eq 221, 3) := dk_153 0 221 (dk_at dksX3_crosses_3 0 rfl rfl)
theorem dX3_crosses_75 : decode cX3_crosses 75 = .ok (.iconst (-1), 1) := dk_2 (dk_at dksX3_crosses_3 3 rfl rfl)
theorem dX3_crosses_76 : decode cX3_crosses 76 = .ok (.istore 5, 2) := dk_54 5 (dk_at dksX3_crosses_3 4 rfl rfl)
theorem dX3_crosses_78 : decode cX3_crosses 78 = .ok (.iconst 0, 1) := dk_3 (dk_at dksX3_crosses_3 6 rfl rfl)
theorem dX3_crosses_79 : decode cX3_crosses 79 = .ok (.istore 6, 2) := dk_54 6 (dk_at dksX3_crosses_3 7 rfl rfl)
theorem dX3_crosses_81 : decode cX3_crosses 81 = .ok (.iload 6, 2) := dk_21 6 (dk_at dksX3_crosses_3 9 rfl rfl)
theorem dX3_crosses_83 : decode cX3_crosses 83 = .ok (.iconst 3, 1) := dk_6 (dk_at dksX3_crosses_3 11 rfl rfl)
theorem dX3_crosses_84 : decode cX3_crosses 84 = .ok (.if_icmp .ge 60, 3) := dk_162 0 60 (dk_at dksX3_crosses_3 12 rfl rfl)
theorem dX3_crosses_87 : decode cX3_crosses 87 = .ok (.aload_n 0, 1) := dk_42 (dk_at dksX3_crosses_3 15 rfl rfl)
theorem dX3_crosses_88 : decode cX3_crosses 88 = .ok (.getfield 82, 3) := dk_180 0 82 (dk_at dksX3_crosses_3 16 rfl rfl)
theorem dX3_crosses_91 : decode cX3_crosses 91 = .ok (.iload 6, 2) := dk_21 6 (dk_at dksX3_crosses_3 19 rfl rfl)
theorem dX3_crosses_93 : decode cX3_crosses 93 = .ok (.laload, 1) := dk_47 (dk_at dksX3_crosses_3 21 rfl rfl)
theorem dX3_crosses_94 : decode cX3_crosses 94 = .ok (.lconst 0, 1) := dk_9 (dk_at dksX3_crosses_3 22 rfl rfl)
theorem dX3_crosses_95 : decode cX3_crosses 95 = .ok (.lcmp, 1) := dk_148 (dk_at dksX3_crosses_3 23 rfl rfl)
theorem dX3_crosses_96 : decode cX3_crosses 96 = .ok (.ifCond .eq 38, 3) := dk_153 0 38 (dk_at dksX3_crosses_4 0 rfl rfl)
theorem dX3_crosses_99 : decode cX3_crosses 99 = .ok (.iload 5, 2) := dk_21 5 (dk_at dksX3_crosses_4 3 rfl rfl)
theorem dX3_crosses_101 : decode cX3_crosses 101 = .ok (.iconst (-1), 1) := dk_2 (dk_at dksX3_crosses_4 5 rfl rfl)
theorem dX3_crosses_102 : decode cX3_crosses 102 = .ok (.if_icmp .eq 27, 3) := dk_159 0 27 (dk_at dksX3_crosses_4 6 rfl rfl)
theorem dX3_crosses_105 : decode cX3_crosses 105 = .ok (.aload_n 0, 1) := dk_42 (dk_at dksX3_crosses_4 9 rfl rfl)
theorem dX3_crosses_106 : decode cX3_crosses 106 = .ok (.getfield 82, 3) := dk_180 0 82 (dk_at dksX3_crosses_4 10 rfl rfl)
theorem dX3_crosses_109 : decode cX3_crosses 109 = .ok (.iload 6, 2) := dk_21 6 (dk_at dksX3_crosses_4 13 rfl rfl)
theorem dX3_crosses_111 : decode cX3_crosses 111 = .ok (.laload, 1) := dk_47 (dk_at dksX3_crosses_4 15 rfl rfl)
theorem dX3_crosses_112 : decode cX3_crosses 112 = .ok (.invokestatic 1, 3) := dk_184 0 1 (dk_at dksX3_crosses_4 16 rfl rfl)
theorem dX3_crosses_115 : decode cX3_crosses 115 = .ok (.aload_n 0, 1) := dk_42 (dk_at dksX3_crosses_4 19 rfl rfl)
theorem dX3_crosses_116 : decode cX3_crosses 116 = .ok (.getfield 82, 3) := dk_180 0 82 (dk_at dksX3_crosses_4 20 rfl rfl)
theorem dX3_crosses_119 : decode cX3_crosses 119 = .ok (.iload 5, 2) := dk_21 5 (dk_at dksX3_crosses_5 0 rfl rfl)
theorem dX3_crosses_121 : decode cX3_crosses 121 = .ok (.laload, 1) := dk_47 (dk_at dksX3_crosses_5 2 rfl rfl)
theorem dX3_crosses_122 : decode cX3_crosses 122 = .ok (.invokestatic 1, 3) := dk_184 0 1 (dk_at dksX3_crosses_5 3 rfl rfl)
theorem dX3_crosses_125 : decode cX3_crosses 125 = .ok (.lcmp, 1) := dk_148 (dk_at dksX3_crosses_5 6 rfl rfl)
theorem dX3_crosses_126 : decode cX3_crosses 126 = .ok (.ifCond .ge 8, 3) := dk_156 0 8 (dk_at dksX3_crosses_5 7 rfl rfl)
theorem dX3_crosses_129 : decode cX3_crosses 129 = .ok (.iload 6, 2) := dk_21 6 (dk_at dksX3_crosses_5 10 rfl rfl)
theorem dX3_crosses_131 : decode cX3_crosses 131 = .ok (.goto 5, 3) := dk_167 0 5 (dk_at dksX3_crosses_5 12 rfl rfl)
theorem dX3_crosses_134 : decode cX3_crosses 134 = .ok (.iload 5, 2) := dk_21 5 (dk_at dksX3_crosses_5 15 rfl rfl)
theorem dX3_crosses_136 : decode cX3_crosses 136 = .ok (.istore 5, 2) := dk_54 5 (dk_at dksX3_crosses_5 17 rfl rfl)
theorem dX3_crosses_138 : decode cX3_crosses 138 = .ok (.iinc 6 1, 3) := dk_132 6 1 (dk_at dksX3_crosses_5 19 rfl rfl)
theorem dX3_crosses_141 : decode cX3_crosses 141 = .ok (.goto (-60), 3) := dk_167 255 196 (dk_at dksX3_crosses_6 0 rfl rfl)
theorem dX3_crosses_144 : decode cX3_crosses 144 = .ok (.iconst 0, 1) := dk_3 (dk_at dksX3_crosses_6 3 rfl rfl)
theorem dX3_crosses_145 : decode cX3_crosses 145 = .ok (.istore 4, 2) := dk_54 4 (dk_at dksX3_crosses_6 4 rfl rfl)
theorem dX3_crosses_147 : decode cX3_crosses 147 = .ok (.iconst 0, 1) := dk_3 (dk_at dksX3_crosses_6 6 rfl rfl)
theorem dX3_crosses_148 : decode cX3_crosses 148 = .ok (.istore 6, 2) := dk_54 6 (dk_at dksX3_crosses_6 7 rfl rfl)
theorem dX3_crosses_150 : decode cX3_crosses 150 = .ok (.iload 6, 2) := dk_21 6 (dk_at dksX3_crosses_6 9 rfl rfl)
theorem dX3_crosses_152 : decode cX3_crosses 152 = .ok (.iconst 3, 1) := dk_6 (dk_at dksX3_crosses_6 11 rfl rfl)
theorem dX3_crosses_153 : decode cX3_crosses 153 = .ok (.if_icmp .ge 137, 3) := dk_162 0 137 (dk_at dksX3_crosses_6 12 rfl rfl)
theorem dX3_crosses_156 : decode cX3_crosses 156 = .ok (.iload 6, 2) := dk_21 6 (dk_at dksX3_crosses_6 15 rfl rfl)
theorem dX3_crosses_158 : decode cX3_crosses 158 = .ok (.iload 5, 2) := dk_21 5 (dk_at dksX3_crosses_6 17 rfl rfl)
theorem dX3_crosses_160 : decode cX3_crosses 160 = .ok (.if_icmp .eq 124, 3) := dk_159 0 124 (dk_at dksX3_crosses_6 19 rfl rfl)
theorem dX3_crosses_163 : decode cX3_crosses 163 = .ok (.aload_n 0, 1) := dk_42 (dk_at dksX3_crosses_6 22 rfl rfl)
theorem dX3_crosses_164 : decode cX3_crosses 164 = .ok (.getfield 82, 3) := dk_180 0 82 (dk_at dksX3_crosses_7 0 rfl rfl)
theorem dX3_crosses_167 : decode cX3_crosses 167 = .ok (.iload 6, 2) := dk_21 6 (dk_at dksX3_crosses_7 3 rfl rfl)
theorem dX3_crosses_169 : decode cX3_crosses 169 = .ok (.laload, 1) := dk_47 (dk_at dksX3_crosses_7 5 rfl rfl)
theorem dX3_crosses_170 : decode cX3_crosses 170 = .ok (.lconst 0, 1) := dk_9 (dk_at dksX3_crosses_7 6 rfl rfl)
theorem dX3_crosses_171 : decode cX3_crosses 171 = .ok (.lcmp, 1) := dk_148 (dk_at dksX3_crosses_7 7 rfl rfl)
theorem dX3_crosses_172 : decode cX3_crosses 172 = .ok (.ifCond .ne 6, 3) := dk_154 0 6 (dk_at dksX3_crosses_7 8 rfl rfl)
theorem dX3_crosses_175 : decode cX3_crosses 175 = .ok (.goto 109, 3) := dk_167 0 109 (dk_at dksX3_crosses_7 11 rfl rfl)
theorem dX3_crosses_178 : decode cX3_crosses 178 = .ok (.aload_n 0, 1) := dk_42 (dk_at dksX3_crosses_7 14 rfl rfl)
theorem dX3_crosses_179 : decode cX3_crosses 179 = .ok (.getfield 82, 3) := dk_180 0 82 (dk_at dksX3_crosses_7 15 rfl rfl)
theorem dX3_crosses_182 : decode cX3_crosses 182 = .ok (.iload 6, 2) := dk_21 6 (dk_at dksX3_crosses_7 18 rfl rfl)
theorem dX3_crosses_184 : decode cX3_crosses 184 = .ok (.laload, 1) := dk_47 (dk_at dksX3_crosses_7 20 rfl rfl)
theorem dX3_crosses_185 : decode cX3_crosses 185 = .ok (.aload_n 0, 1) := dk_42 (dk_at dksX3_crosses_7 21 rfl rfl)
theorem dX3_crosses_186 : decode cX3_crosses 186 = .ok (.getfield 82, 3) := dk_180 0 82 (dk_at dksX3_crosses_8 0 rfl rfl)
theorem dX3_crosses_189 : decode cX3_crosses 189 = .ok (.iload 5, 2) := dk_21 5 (dk_at dksX3_crosses_8 3 rfl rfl)
theorem dX3_crosses_191 : decode cX3_crosses 191 = .ok (.laload, 1) := dk_47 (dk_at dksX3_crosses_8 5 rfl rfl)
theorem dX3_crosses_192 : decode cX3_crosses 192 = .ok (.ldiv, 1) := dk_109 (dk_at dksX3_crosses_8 6 rfl rfl)
theorem dX3_crosses_193 : decode cX3_crosses 193 = .ok (.lstore 7, 2) := dk_55 7 (dk_at dksX3_crosses_8 7 rfl rfl)
theorem dX3_crosses_195 : decode cX3_crosses 195 = .ok (.aload_n 0, 1) := dk_42 (dk_at dksX3_crosses_8 9 rfl rfl)
theorem dX3_crosses_196 : decode cX3_crosses 196 = .ok (.getfield 82, 3) := dk_180 0 82 (dk_at dksX3_crosses_8 10 rfl rfl)
theorem dX3_crosses_199 : decode cX3_crosses 199 = .ok (.iload 6, 2) := dk_21 6 (dk_at dksX3_crosses_8 13 rfl rfl)
theorem dX3_crosses_201 : decode cX3_crosses 201 = .ok (.dup2, 1) := dk_92 (dk_at dksX3_crosses_8 15 rfl rfl)
theorem dX3_crosses_202 : decode cX3_crosses 202 = .ok (.laload, 1) := dk_47 (dk_at dksX3_crosses_8 16 rfl rfl)
theorem dX3_crosses_203 : decode cX3_crosses 203 = .ok (.lload 7, 2) := dk_22 7 (dk_at dksX3_crosses_8 17 rfl rfl)
theorem dX3_crosses_205 : decode cX3_crosses 205 = .ok (.aload_n 0, 1) := dk_42 (dk_at dksX3_crosses_8 19 rfl rfl)
theorem dX3_crosses_206 : decode cX3_crosses 206 = .ok (.getfield 82, 3) := dk_180 0 82 (dk_at dksX3_crosses_8 20 rfl rfl)
theorem dX3_crosses_209 : decode cX3_crosses 209 = .ok (.iload 5, 2) := dk_21 5 (dk_at dksX3_crosses_9 0 rfl rfl)
theorem dX3_crosses_211 : decode cX3_crosses 211 = .ok (.laload, 1) := dk_47 (dk_at dksX3_crosses_9 2 rfl rfl)
theorem dX3_crosses_212 : decode cX3_crosses 212 = .ok (.lmul, 1) := dk_105 (dk_at dksX3_crosses_9 3 rfl rfl)
theorem dX3_crosses_213 : decode cX3_crosses 213 = .ok (.lsub, 1) := dk_101 (dk_at dksX3_crosses_9 4 rfl rfl)
theorem dX3_crosses_214 : decode cX3_crosses 214 = .ok (.lastore, 1) := dk_80 (dk_at dksX3_crosses_9 5 rfl rfl)
theorem dX3_crosses_215 : decode cX3_crosses 215 = .ok (.iconst 0, 1) := dk_3 (dk_at dksX3_crosses_9 6 rfl rfl)
theorem dX3_crosses_216 : decode cX3_crosses 216 = .ok (.istore 9, 2) := dk_54 9 (dk_at dksX3_crosses_9 7 rfl rfl)
theorem dX3_crosses_218 : decode cX3_crosses 218 = .ok (.iload 9, 2) := dk_21 9 (dk_at dksX3_crosses_9 9 rfl rfl)
theorem dX3_crosses_220 : decode cX3_crosses 220 = .ok (.iconst 3, 1) := dk_6 (dk_at dksX3_crosses_9 11 rfl rfl)
theorem dX3_crosses_221 : decode cX3_crosses 221 = .ok (.if_icmp .ge 39, 3) := dk_162 0 39 (dk_at dksX3_crosses_9 12 rfl rfl)
theorem dX3_crosses_224 : decode cX3_crosses 224 = .ok (.aload_n 0, 1) := dk_42 (dk_at dksX3_crosses_9 15 rfl rfl)
theorem dX3_crosses_225 : decode cX3_crosses 225 = .ok (.getfield 36, 3) := dk_180 0 36 (dk_at dksX3_crosses_9 16 rfl rfl)
theorem dX3_crosses_228 : decode cX3_crosses 228 = .ok (.iconst 3, 1) := dk_6 (dk_at dksX3_crosses_9 19 rfl rfl)
theorem dX3_crosses_229 : decode cX3_crosses 229 = .ok (.iload 6, 2) := dk_21 6 (dk_at dksX3_crosses_9 20 rfl rfl)
theorem dX3_crosses_231 : decode cX3_crosses 231 = .ok (.imul, 1) := dk_104 (dk_at dksX3_crosses_9 22 rfl rfl)
theorem dX3_crosses_232 : decode cX3_crosses 232 = .ok (.iload 9, 2) := dk_21 9 (dk_at dksX3_crosses_10 0 rfl rfl)
theorem dX3_crosses_234 : decode cX3_crosses 234 = .ok (.iadd, 1) := dk_96 (dk_at dksX3_crosses_10 2 rfl rfl)
theorem dX3_crosses_235 : decode cX3_crosses 235 = .ok (.dup2, 1) := dk_92 (dk_at dksX3_crosses_10 3 rfl rfl)
theorem dX3_crosses_236 : decode cX3_crosses 236 = .ok (.laload, 1) := dk_47 (dk_at dksX3_crosses_10 4 rfl rfl)
theorem dX3_crosses_237 : decode cX3_crosses 237 = .ok (.lload 7, 2) := dk_22 7 (dk_at dksX3_crosses_10 5 rfl rfl)
theorem dX3_crosses_239 : decode cX3_crosses 239 = .ok (.aload_n 0, 1) := dk_42 (dk_at dksX3_crosses_10 7 rfl rfl)
theorem dX3_crosses_240 : decode cX3_crosses 240 = .ok (.getfield 36, 3) := dk_180 0 36 (dk_at dksX3_crosses_10 8 rfl rfl)
theorem dX3_crosses_243 : decode cX3_crosses 243 = .ok (.iconst 3, 1) := dk_6 (dk_at dksX3_crosses_10 11 rfl rfl)
theorem dX3_crosses_244 : decode cX3_crosses 244 = .ok (.iload 5, 2) := dk_21 5 (dk_at dksX3_crosses_10 12 rfl rfl)
theorem dX3_crosses_246 : decode cX3_crosses 246 = .ok (.imul, 1) := dk_104 (dk_at dksX3_crosses_10 14 rfl rfl)
theorem dX3_crosses_247 : decode cX3_crosses 247 = .ok (.iload 9, 2) := dk_21 9 (dk_at dksX3_crosses_10 15 rfl rfl)
theorem dX3_crosses_249 : decode cX3_crosses 249 = .ok (.iadd, 1) := dk_96 (dk_at dksX3_crosses_10 17 rfl rfl)
theorem dX3_crosses_250 : decode cX3_crosses 250 = .ok (.laload, 1) := dk_47 (dk_at dksX3_crosses_10 18 rfl rfl)
theorem dX3_crosses_251 : decode cX3_crosses 251 = .ok (.lmul, 1) := dk_105 (dk_at dksX3_crosses_10 19 rfl rfl)
theorem dX3_crosses_252 : decode cX3_crosses 252 = .ok (.lsub, 1) := dk_101 (dk_at dksX3_crosses_10 20 rfl rfl)
theorem dX3_crosses_253 : decode cX3_crosses 253 = .ok (.lastore, 1) := dk_80 (dk_at dksX3_crosses_10 21 rfl rfl)
theorem dX3_crosses_254 : decode cX3_crosses 254 = .ok (.iinc 9 1, 3) := dk_132 9 1 (dk_at dksX3_crosses_11 0 rfl rfl)
theorem dX3_crosses_257 : decode cX3_crosses 257 = .ok (.goto (-39), 3) := dk_167 255 217 (dk_at dksX3_crosses_11 3 rfl rfl)
theorem dX3_crosses_260 : decode cX3_crosses 260 = .ok (.iload 4, 2) := dk_21 4 (dk_at dksX3_crosses_11 6 rfl rfl)
theorem dX3_crosses_262 : decode cX3_crosses 262 = .ok (.ifCond .ne 15, 3) := dk_154 0 15 (dk_at dksX3_crosses_11 8 rfl rfl)
theorem dX3_crosses_265 : decode cX3_crosses 265 = .ok (.aload_n 0, 1) := dk_42 (dk_at dksX3_crosses_11 11 rfl rfl)
theorem dX3_crosses_266 : decode cX3_crosses 266 = .ok (.getfield 82, 3) := dk_180 0 82 (dk_at dksX3_crosses_11 12 rfl rfl)
theorem dX3_crosses_269 : decode cX3_crosses 269 = .ok (.iload 6, 2) := dk_21 6 (dk_at dksX3_crosses_11 15 rfl rfl)
theorem dX3_crosses_271 : decode cX3_crosses 271 = .ok (.laload, 1) := dk_47 (dk_at dksX3_crosses_11 17 rfl rfl)
theorem dX3_crosses_272 : decode cX3_crosses 272 = .ok (.lconst 0, 1) := dk_9 (dk_at dksX3_crosses_11 18 rfl rfl)
theorem dX3_crosses_273 : decode cX3_crosses 273 = .ok (.lcmp, 1) := dk_148 (dk_at dksX3_crosses_11 19 rfl rfl)
theorem dX3_crosses_274 : decode cX3_crosses 274 = .ok (.ifCond .eq 7, 3) := dk_153 0 7 (dk_at dksX3_crosses_11 20 rfl rfl)
theorem dX3_crosses_277 : decode cX3_crosses 277 = .ok (.iconst 1, 1) := dk_4 (dk_at dksX3_crosses_11 23 rfl rfl)
theorem dX3_crosses_278 : decode cX3_crosses 278 = .ok (.goto 4, 3) := dk_167 0 4 (dk_at dksX3_crosses_12 0 rfl rfl)
theorem dX3_crosses_281 : decode cX3_crosses 281 = .ok (.iconst 0, 1) := dk_3 (dk_at dksX3_crosses_12 3 rfl rfl)
theorem dX3_crosses_282 : decode cX3_crosses 282 = .ok (.istore 4, 2) := dk_54 4 (dk_at dksX3_crosses_12 4 rfl rfl)
theorem dX3_crosses_284 : decode cX3_crosses 284 = .ok (.iinc 6 1, 3) := dk_132 6 1 (dk_at dksX3_crosses_12 6 rfl rfl)
theorem dX3_crosses_287 : decode cX3_crosses 287 = .ok (.goto (-137), 3) := dk_167 255 119 (dk_at dksX3_crosses_12 9 rfl rfl)
theorem dX3_crosses_290 : decode cX3_crosses 290 = .ok (.goto (-220), 3) := dk_167 255 36 (dk_at dksX3_crosses_12 12 rfl rfl)
theorem dX3_crosses_293 : decode cX3_crosses 293 = .ok (.iconst 3, 1) := dk_6 (dk_at dksX3_crosses_12 15 rfl rfl)
theorem dX3_crosses_294 : decode cX3_crosses 294 = .ok (.iload 5, 2) := dk_21 5 (dk_at dksX3_crosses_12 16 rfl rfl)
theorem dX3_crosses_296 : decode cX3_crosses 296 = .ok (.iconst 1, 1) := dk_4 (dk_at dksX3_crosses_12 18 rfl rfl)
theorem dX3_crosses_297 : decode cX3_crosses 297 = .ok (.iadd, 1) := dk_96 (dk_at dksX3_crosses_12 19 rfl rfl)
theorem dX3_crosses_298 : decode cX3_crosses 298 = .ok (.iconst 3, 1) := dk_6 (dk_at dksX3_crosses_12 20 rfl rfl)
theorem dX3_crosses_299 : decode cX3_crosses 299 = .ok (.irem, 1) := dk_112 (dk_at dksX3_crosses_12 21 rfl rfl)
theorem dX3_crosses_300 : decode cX3_crosses 300 = .ok (.imul, 1) := dk_104 (dk_at dksX3_crosses_12 22 rfl rfl)
theorem dX3_crosses_301 : decode cX3_crosses 301 = .ok (.istore 6, 2) := dk_54 6 (dk_at dksX3_crosses_13 0 rfl rfl)
theorem dX3_crosses_303 : decode cX3_crosses 303 = .ok (.iconst 3, 1) := dk_6 (dk_at dksX3_crosses_13 2 rfl rfl)
theorem dX3_crosses_304 : decode cX3_crosses 304 = .ok (.iload 5, 2) := dk_21 5 (dk_at dksX3_crosses_13 3 rfl rfl)
theorem dX3_crosses_306 : decode cX3_crosses 306 = .ok (.iconst 2, 1) := dk_5 (dk_at dksX3_crosses_13 5 rfl rfl)
theorem dX3_crosses_307 : decode cX3_crosses 307 = .ok (.iadd, 1) := dk_96 (dk_at dksX3_crosses_13 6 rfl rfl)
theorem dX3_crosses_308 : decode cX3_crosses 308 = .ok (.iconst 3, 1) := dk_6 (dk_at dksX3_crosses_13 7 rfl rfl)
theorem dX3_crosses_309 : decode cX3_crosses 309 = .ok (.irem, 1) := dk_112 (dk_at dksX3_crosses_13 8 rfl rfl)
theorem dX3_crosses_310 : decode cX3_crosses 310 = .ok (.imul, 1) := dk_104 (dk_at dksX3_crosses_13 9 rfl rfl)
theorem dX3_crosses_311 : decode cX3_crosses 311 = .ok (.istore 7, 2) := dk_54 7 (dk_at dksX3_crosses_13 10 rfl rfl)
theorem dX3_crosses_313 : decode cX3_crosses 313 = .ok (.iconst 0, 1) := dk_3 (dk_at dksX3_crosses_13 12 rfl rfl)
theorem dX3_crosses_314 : decode cX3_crosses 314 = .ok (.istore 8, 2) := dk_54 8 (dk_at dksX3_crosses_13 13 rfl rfl)
theorem dX3_crosses_316 : decode cX3_crosses 316 = .ok (.iload 8, 2) := dk_21 8 (dk_at dksX3_crosses_13 15 rfl rfl)
theorem dX3_crosses_318 : decode cX3_crosses 318 = .ok (.iconst 3, 1) := dk_6 (dk_at dksX3_crosses_13 17 rfl rfl)
theorem dX3_crosses_319 : decode cX3_crosses 319 = .ok (.if_icmp .ge 75, 3) := dk_162 0 75 (dk_at dksX3_crosses_13 18 rfl rfl)
theorem dX3_crosses_322 : decode cX3_crosses 322 = .ok (.aload_n 0, 1) := dk_42 (dk_at dksX3_crosses_13 21 rfl rfl)
theorem dX3_crosses_323 : decode cX3_crosses 323 = .ok (.getfield 79, 3) := dk_180 0 79 (dk_at dksX3_crosses_14 0 rfl rfl)
theorem dX3_crosses_326 : decode cX3_crosses 326 = .ok (.iload 8, 2) := dk_21 8 (dk_at dksX3_crosses_14 3 rfl rfl)
theorem dX3_crosses_328 : decode cX3_crosses 328 = .ok (.aload_n 0, 1) := dk_42 (dk_at dksX3_crosses_14 5 rfl rfl)
theorem dX3_crosses_329 : decode cX3_crosses 329 = .ok (.getfield 36, 3) := dk_180 0 36 (dk_at dksX3_crosses_14 6 rfl rfl)
theorem dX3_crosses_332 : decode cX3_crosses 332 = .ok (.iload 6, 2) := dk_21 6 (dk_at dksX3_crosses_14 9 rfl rfl)
theorem dX3_crosses_334 : decode cX3_crosses 334 = .ok (.iload 8, 2) := dk_21 8 (dk_at dksX3_crosses_14 11 rfl rfl)
theorem dX3_crosses_336 : decode cX3_crosses 336 = .ok (.iconst 1, 1) := dk_4 (dk_at dksX3_crosses_14 13 rfl rfl)
theorem dX3_crosses_337 : decode cX3_crosses 337 = .ok (.iadd, 1) := dk_96 (dk_at dksX3_crosses_14 14 rfl rfl)
theorem dX3_crosses_338 : decode cX3_crosses 338 = .ok (.iconst 3, 1) := dk_6 (dk_at dksX3_crosses_14 15 rfl rfl)
theorem dX3_crosses_339 : decode cX3_crosses 339 = .ok (.irem, 1) := dk_112 (dk_at dksX3_crosses_14 16 rfl rfl)
theorem dX3_crosses_340 : decode cX3_crosses 340 = .ok (.iadd, 1) := dk_96 (dk_at dksX3_crosses_14 17 rfl rfl)
theorem dX3_crosses_341 : decode cX3_crosses 341 = .ok (.laload, 1) := dk_47 (dk_at dksX3_crosses_14 18 rfl rfl)
theorem dX3_crosses_342 : decode cX3_crosses 342 = .ok (.aload_n 0, 1) := dk_42 (dk_at dksX3_crosses_14 19 rfl rfl)
theorem dX3_crosses_343 : decode cX3_crosses 343 = .ok (.getfield 36, 3) := dk_180 0 36 (dk_at dksX3_crosses_14 20 rfl rfl)
theorem dX3_crosses_346 : decode cX3_crosses 346 = .ok (.iload 7, 2) := dk_21 7 (dk_at dksX3_crosses_15 0 rfl rfl)
theorem dX3_crosses_348 : decode cX3_crosses 348 = .ok (.iload 8, 2) := dk_21 8 (dk_at dksX3_crosses_15 2 rfl rfl)
theorem dX3_crosses_350 : decode cX3_crosses 350 = .ok (.iconst 2, 1) := dk_5 (dk_at dksX3_crosses_15 4 rfl rfl)
theorem dX3_crosses_351 : decode cX3_crosses 351 = .ok (.iadd, 1) := dk_96 (dk_at dksX3_crosses_15 5 rfl rfl)
theorem dX3_crosses_352 : decode cX3_crosses 352 = .ok (.iconst 3, 1) := dk_6 (dk_at dksX3_crosses_15 6 rfl rfl)
theorem dX3_crosses_353 : decode cX3_crosses 353 = .ok (.irem, 1) := dk_112 (dk_at dksX3_crosses_15 7 rfl rfl)
theorem dX3_crosses_354 : decode cX3_crosses 354 = .ok (.iadd, 1) := dk_96 (dk_at dksX3_crosses_15 8 rfl rfl)
theorem dX3_crosses_355 : decode cX3_crosses 355 = .ok (.laload, 1) := dk_47 (dk_at dksX3_crosses_15 9 rfl rfl)
theorem dX3_crosses_356 : decode cX3_crosses 356 = .ok (.lmul, 1) := dk_105 (dk_at dksX3_crosses_15 10 rfl rfl)
theorem dX3_crosses_357 : decode cX3_crosses 357 = .ok (.aload_n 0, 1) := dk_42 (dk_at dksX3_crosses_15 11 rfl rfl)
theorem dX3_crosses_358 : decode cX3_crosses 358 = .ok (.getfield 36, 3) := dk_180 0 36 (dk_at dksX3_crosses_15 12 rfl rfl)
theorem dX3_crosses_361 : decode cX3_crosses 361 = .ok (.iload 6, 2) := dk_21 6 (dk_at dksX3_crosses_15 15 rfl rfl)
theorem dX3_crosses_363 : decode cX3_crosses 363 = .ok (.iload 8, 2) := dk_21 8 (dk_at dksX3_crosses_15 17 rfl rfl)
theorem dX3_crosses_365 : decode cX3_crosses 365 = .ok (.iconst 2, 1) := dk_5 (dk_at dksX3_crosses_15 19 rfl rfl)
theorem dX3_crosses_366 : decode cX3_crosses 366 = .ok (.iadd, 1) := dk_96 (dk_at dksX3_crosses_15 20 rfl rfl)
theorem dX3_crosses_367 : decode cX3_crosses 367 = .ok (.iconst 3, 1) := dk_6 (dk_at dksX3_crosses_15 21 rfl rfl)
theorem dX3_crosses_368 : decode cX3_crosses 368 = .ok (.irem, 1) := dk_112 (dk_at dksX3_crosses_15 22 rfl rfl)
theorem dX3_crosses_369 : decode cX3_crosses 369 = .ok (.iadd, 1) := dk_96 (dk_at dksX3_crosses_15 23 rfl rfl)
theorem dX3_crosses_370 : decode cX3_crosses 370 = .ok (.laload, 1) := dk_47 (dk_at dksX3_crosses_16 0 rfl rfl)
theorem dX3_crosses_371 : decode cX3_crosses 371 = .ok (.aload_n 0, 1) := dk_42 (dk_at dksX3_crosses_16 1 rfl rfl)
theorem dX3_crosses_372 : decode cX3_crosses 372 = .ok (.getfield 36, 3) := dk_180 0 36 (dk_at dksX3_crosses_16 2 rfl rfl)
theorem dX3_crosses_375 : decode cX3_crosses 375 = .ok (.iload 7, 2) := dk_21 7 (dk_at dksX3_crosses_16 5 rfl rfl)
theorem dX3_crosses_377 : decode cX3_crosses 377 = .ok (.iload 8, 2) := dk_21 8 (dk_at dksX3_crosses_16 7 rfl rfl)
theorem dX3_crosses_379 : decode cX3_crosses 379 = .ok (.iconst 1, 1) := dk_4 (dk_at dksX3_crosses_16 9 rfl rfl)
theorem dX3_crosses_380 : decode cX3_crosses 380 = .ok (.iadd, 1) := dk_96 (dk_at dksX3_crosses_16 10 rfl rfl)
theorem dX3_crosses_381 : decode cX3_crosses 381 = .ok (.iconst 3, 1) := dk_6 (dk_at dksX3_crosses_16 11 rfl rfl)
theorem dX3_crosses_382 : decode cX3_crosses 382 = .ok (.irem, 1) := dk_112 (dk_at dksX3_crosses_16 12 rfl rfl)
theorem dX3_crosses_383 : decode cX3_crosses 383 = .ok (.iadd, 1) := dk_96 (dk_at dksX3_crosses_16 13 rfl rfl)
theorem dX3_crosses_384 : decode cX3_crosses 384 = .ok (.laload, 1) := dk_47 (dk_at dksX3_crosses_16 14 rfl rfl)
theorem dX3_crosses_385 : decode cX3_crosses 385 = .ok (.lmul, 1) := dk_105 (dk_at dksX3_crosses_16 15 rfl rfl)
theorem dX3_crosses_386 : decode cX3_crosses 386 = .ok (.lsub, 1) := dk_101 (dk_at dksX3_crosses_16 16 rfl rfl)
theorem dX3_crosses_387 : decode cX3_crosses 387 = .ok (.lastore, 1) := dk_80 (dk_at dksX3_crosses_16 17 rfl rfl)
theorem dX3_crosses_388 : decode cX3_crosses 388 = .ok (.iinc 8 1, 3) := dk_132 8 1 (dk_at dksX3_crosses_16 18 rfl rfl)
theorem dX3_crosses_391 : decode cX3_crosses 391 = .ok (.goto (-75), 3) := dk_167 255 181 (dk_at dksX3_crosses_16 21 rfl rfl)
theorem dX3_crosses_394 : decode cX3_crosses 394 = .ok (.return_, 1) := dk_177 (dk_at dksX3_crosses_17 0 rfl rfl)
abbrev cX3_layers : ByteArray := prog_20_method_102_code
def yX3_layers : MethodName := ⟨RX3, "layers", "(IIIII)J"⟩
def dkwX3_layers_1 : List UInt8 := [28, 29, 21, 4, 21, 5, 182, 1, 144, 55, 7, 42, 27, 28, 182, 1, 148, 22, 7, 109, 173]
abbrev dktX3_layers_1 : List UInt8 := dkwX3_layers_1 ++ []
def dkwX3_layers_0 : List UInt8 := [42, 27, 28, 29, 21, 4, 21, 5, 182, 1, 140, 54, 6, 21, 6, 156, 0, 7, 21, 6, 133, 173, 42, 27]
abbrev dktX3_layers_0 : List UInt8 := dkwX3_layers_0 ++ dktX3_layers_1
theorem dksX3_layers_0 : cX3_layers.data.toList.drop 0 = dktX3_layers_0 := by decide +kernel
theorem dksX3_layers_1 : cX3_layers.data.toList.drop 24 = dktX3_layers_1 := dk_seg dksX3_layers_0 24 rfl rfl
theorem dX3_layers_0 : decode cX3_layers 0 = .ok (.aload_n 0, 1) := dk_42 (dk_at dksX3_layers_0 0 rfl rfl)
theorem dX3_layers_1 : decode cX3_layers 1 = .ok (.iload_n 1, 1) := dk_27 (dk_at dksX3_layers_0 1 rfl rfl)
theorem dX3_layers_2 : decode cX3_layers 2 = .ok (.iload_n 2, 1) := dk_28 (dk_at dksX3_layers_0 2 rfl rfl)
theorem dX3_layers_3 : decode cX3_layers 3 = .ok (.iload_n 3, 1) := dk_29 (dk_at dksX3_layers_0 3 rfl rfl)
theorem dX3_layers_4 : decode cX3_layers 4 = .ok (.iload 4, 2) := dk_21 4 (dk_at dksX3_layers_0 4 rfl rfl)
theorem dX3_layers_6 : decode cX3_layers 6 = .ok (.iload 5, 2) := dk_21 5 (dk_at dksX3_layers_0 6 rfl rfl)
theorem dX3_layers_8 : decode cX3_layers 8 = .ok (.invokevirtual 396, 3) := dk_182 1 140 (dk_at dksX3_layers_0 8 rfl rfl)
theorem dX3_layers_11 : decode cX3_layers 11 = .ok (.istore 6, 2) := dk_54 6 (dk_at dksX3_layers_0 11 rfl rfl)
theorem dX3_layers_13 : decode cX3_layers 13 = .ok (.iload 6, 2) := dk_21 6 (dk_at dksX3_layers_0 13 rfl rfl)
theorem dX3_layers_15 : decode cX3_layers 15 = .ok (.ifCond .ge 7, 3) := dk_156 0 7 (dk_at dksX3_layers_0 15 rfl rfl)
theorem dX3_layers_18 : decode cX3_layers 18 = .ok (.iload 6, 2) := dk_21 6 (dk_at dksX3_layers_0 18 rfl rfl)
theorem dX3_layers_20 : decode cX3_layers 20 = .ok (.i2l, 1) := dk_133 (dk_at dksX3_layers_0 20 rfl rfl)
theorem dX3_layers_21 : decode cX3_layers 21 = .ok (.lreturn, 1) := dk_173 (dk_at dksX3_layers_0 21 rfl rfl)
theorem dX3_layers_22 : decode cX3_layers 22 = .ok (.aload_n 0, 1) := dk_42 (dk_at dksX3_layers_0 22 rfl rfl)
theorem dX3_layers_23 : decode cX3_layers 23 = .ok (.iload_n 1, 1) := dk_27 (dk_at dksX3_layers_0 23 rfl rfl)
theorem dX3_layers_24 : decode cX3_layers 24 = .ok (.iload_n 2, 1) := dk_28 (dk_at dksX3_layers_1 0 rfl rfl)
theorem dX3_layers_25 : decode cX3_layers 25 = .ok (.iload_n 3, 1) := dk_29 (dk_at dksX3_layers_1 1 rfl rfl)
theorem dX3_layers_26 : decode cX3_layers 26 = .ok (.iload 4, 2) := dk_21 4 (dk_at dksX3_layers_1 2 rfl rfl)
theorem dX3_layers_28 : decode cX3_layers 28 = .ok (.iload 5, 2) := dk_21 5 (dk_at dksX3_layers_1 4 rfl rfl)
theorem dX3_layers_30 : decode cX3_layers 30 = .ok (.invokevirtual 400, 3) := dk_182 1 144 (dk_at dksX3_layers_1 6 rfl rfl)
theorem dX3_layers_33 : decode cX3_layers 33 = .ok (.lstore 7, 2) := dk_55 7 (dk_at dksX3_layers_1 9 rfl rfl)
theorem dX3_layers_35 : decode cX3_layers 35 = .ok (.aload_n 0, 1) := dk_42 (dk_at dksX3_layers_1 11 rfl rfl)
theorem dX3_layers_36 : decode cX3_layers 36 = .ok (.iload_n 1, 1) := dk_27 (dk_at dksX3_layers_1 12 rfl rfl)
theorem dX3_layers_37 : decode cX3_layers 37 = .ok (.iload_n 2, 1) := dk_28 (dk_at dksX3_layers_1 13 rfl rfl)
theorem dX3_layers_38 : decode cX3_layers 38 = .ok (.invokevirtual 404, 3) := dk_182 1 148 (dk_at dksX3_layers_1 14 rfl rfl)
theorem dX3_layers_41 : decode cX3_layers 41 = .ok (.lload 7, 2) := dk_22 7 (dk_at dksX3_layers_1 17 rfl rfl)
theorem dX3_layers_43 : decode cX3_layers 43 = .ok (.ldiv, 1) := dk_109 (dk_at dksX3_layers_1 19 rfl rfl)
theorem dX3_layers_44 : decode cX3_layers 44 = .ok (.lreturn, 1) := dk_173 (dk_at dksX3_layers_1 20 rfl rfl)
abbrev cX3_whyNoPlane : ByteArray := prog_20_method_101_code
def yX3_whyNoPlane : MethodName := ⟨RX3, "whyNoPlane", "(IIIII)I"⟩
def dkwX3_whyNoPlane_1 : List UInt8 := [154, 0, 8, 16, 254, 167, 0, 5, 21, 6, 172]
abbrev dktX3_whyNoPlane_1 : List UInt8 := dkwX3_whyNoPlane_1 ++ []
def dkwX3_whyNoPlane_0 : List UInt8 := [42, 27, 28, 182, 1, 67, 54, 6, 21, 6, 16, 254, 159, 0, 14, 29, 21, 4, 21, 5, 184, 1, 130]
abbrev dktX3_whyNoPlane_0 : List UInt8 := dkwX3_whyNoPlane_0 ++ dktX3_whyNoPlane_1
theorem dksX3_whyNoPlane_0 : cX3_whyNoPlane.data.toList.drop 0 = dktX3_whyNoPlane_0 := by decide +kernel
theorem dksX3_whyNoPlane_1 : cX3_whyNoPlane.data.toList.drop 23 = dktX3_whyNoPlane_1 := dk_seg dksX3_whyNoPlane_0 23 rfl rfl
theorem dX3_whyNoPlane_0 : decode cX3_whyNoPlane 0 = .ok (.aload_n 0, 1) := dk_42 (dk_at dksX3_whyNoPlane_0 0 rfl rfl)
theorem dX3_whyNoPlane_1 : decode cX3_whyNoPlane 1 = .ok (.iload_n 1, 1) := dk_27 (dk_at dksX3_whyNoPlane_0 1 rfl rfl)
theorem dX3_whyNoPlane_2 : decode cX3_whyNoPlane 2 = .ok (.iload_n 2, 1) := dk_28 (dk_at dksX3_whyNoPlane_0 2 rfl rfl)
theorem dX3_whyNoPlane_3 : decode cX3_whyNoPlane 3 = .ok (.invokevirtual 323, 3) := dk_182 1 67 (dk_at dksX3_whyNoPlane_0 3 rfl rfl)
theorem dX3_whyNoPlane_6 : decode cX3_whyNoPlane 6 = .ok (.istore 6, 2) := dk_54 6 (dk_at dksX3_whyNoPlane_0 6 rfl rfl)
theorem dX3_whyNoPlane_8 : decode cX3_whyNoPlane 8 = .ok (.iload 6, 2) := dk_21 6 (dk_at dksX3_whyNoPlane_0 8 rfl rfl)
theorem dX3_whyNoPlane_10 : decode cX3_whyNoPlane 10 = .ok (.bipush (-2), 2) := dk_16 254 (dk_at dksX3_whyNoPlane_0 10 rfl rfl)
theorem dX3_whyNoPlane_12 : decode cX3_whyNoPlane 12 = .ok (.if_icmp .eq 14, 3) := dk_159 0 14 (dk_at dksX3_whyNoPlane_0 12 rfl rfl)
theorem dX3_whyNoPlane_15 : decode cX3_whyNoPlane 15 = .ok (.iload_n 3, 1) := dk_29 (dk_at dksX3_whyNoPlane_0 15 rfl rfl)
theorem dX3_whyNoPlane_16 : decode cX3_whyNoPlane 16 = .ok (.iload 4, 2) := dk_21 4 (dk_at dksX3_whyNoPlane_0 16 rfl rfl)
theorem dX3_whyNoPlane_18 : decode cX3_whyNoPlane 18 = .ok (.iload 5, 2) := dk_21 5 (dk_at dksX3_whyNoPlane_0 18 rfl rfl)
theorem dX3_whyNoPlane_20 : decode cX3_whyNoPlane 20 = .ok (.invokestatic 386, 3) := dk_184 1 130 (dk_at dksX3_whyNoPlane_0 20 rfl rfl)
theorem dX3_whyNoPlane_23 : decode cX3_whyNoPlane 23 = .ok (.ifCond .ne 8, 3) := dk_154 0 8 (dk_at dksX3_whyNoPlane_1 0 rfl rfl)
theorem dX3_whyNoPlane_26 : decode cX3_whyNoPlane 26 = .ok (.bipush (-2), 2) := dk_16 254 (dk_at dksX3_whyNoPlane_1 3 rfl rfl)
theorem dX3_whyNoPlane_28 : decode cX3_whyNoPlane 28 = .ok (.goto 5, 3) := dk_167 0 5 (dk_at dksX3_whyNoPlane_1 5 rfl rfl)
theorem dX3_whyNoPlane_31 : decode cX3_whyNoPlane 31 = .ok (.iload 6, 2) := dk_21 6 (dk_at dksX3_whyNoPlane_1 8 rfl rfl)
theorem dX3_whyNoPlane_33 : decode cX3_whyNoPlane 33 = .ok (.ireturn, 1) := dk_172 (dk_at dksX3_whyNoPlane_1 10 rfl rfl)
abbrev cX3_planarOf : ByteArray := prog_20_method_100_code
def yX3_planarOf : MethodName := ⟨RX3, "planarOf", "(IIIII)J"⟩
def dkwX3_planarOf_4 : List UInt8 := [180, 0, 191, 105, 55, 13, 22, 11, 22, 13, 109, 173]
abbrev dktX3_planarOf_4 : List UInt8 := dkwX3_planarOf_4 ++ []
def dkwX3_planarOf_3 : List UInt8 := [182, 1, 133, 42, 21, 6, 182, 1, 137, 22, 9, 105, 55, 11, 22, 7, 42, 180, 0, 191, 105, 42]
abbrev dktX3_planarOf_3 : List UInt8 := dkwX3_planarOf_3 ++ dktX3_planarOf_4
def dkwX3_planarOf_2 : List UInt8 := [180, 0, 191, 105, 55, 9, 42, 27, 28, 182, 1, 70, 42, 182, 1, 114, 42, 29, 21, 4, 21, 5]
abbrev dktX3_planarOf_2 : List UInt8 := dkwX3_planarOf_2 ++ dktX3_planarOf_3
def dkwX3_planarOf_1 : List UInt8 := [9, 148, 154, 0, 9, 132, 6, 1, 167, 255, 241, 42, 21, 6, 182, 1, 137, 55, 7, 42, 180, 0, 191, 42]
abbrev dktX3_planarOf_1 : List UInt8 := dkwX3_planarOf_1 ++ dktX3_planarOf_2
def dkwX3_planarOf_0 : List UInt8 := [42, 27, 182, 1, 117, 42, 29, 21, 4, 21, 5, 182, 1, 133, 3, 54, 6, 42, 180, 0, 79, 21, 6, 47]
abbrev dktX3_planarOf_0 : List UInt8 := dkwX3_planarOf_0 ++ dktX3_planarOf_1
theorem dksX3_planarOf_0 : cX3_planarOf.data.toList.drop 0 = dktX3_planarOf_0 := by decide +kernel
theorem dksX3_planarOf_1 : cX3_planarOf.data.toList.drop 24 = dktX3_planarOf_1 := dk_seg dksX3_planarOf_0 24 rfl rfl
theorem dksX3_planarOf_2 : cX3_planarOf.data.toList.drop 48 = dktX3_planarOf_2 := dk_seg dksX3_planarOf_1 24 rfl rfl
theorem dksX3_planarOf_3 : cX3_planarOf.data.toList.drop 70 = dktX3_planarOf_3 := dk_seg dksX3_planarOf_2 22 rfl rfl
theorem dksX3_planarOf_4 : cX3_planarOf.data.toList.drop 92 = dktX3_planarOf_4 := dk_seg dksX3_planarOf_3 22 rfl rfl
theorem dX3_planarOf_0 : decode cX3_planarOf 0 = .ok (.aload_n 0, 1) := dk_42 (dk_at dksX3_planarOf_0 0 rfl rfl)
theorem dX3_planarOf_1 : decode cX3_planarOf 1 = .ok (.iload_n 1, 1) := dk_27 (dk_at dksX3_planarOf_0 1 rfl rfl)
theorem dX3_planarOf_2 : decode cX3_planarOf 2 = .ok (.invokevirtual 373, 3) := dk_182 1 117 (dk_at dksX3_planarOf_0 2 rfl rfl)
theorem dX3_planarOf_5 : decode cX3_planarOf 5 = .ok (.aload_n 0, 1) := dk_42 (dk_at dksX3_planarOf_0 5 rfl rfl)
theorem dX3_planarOf_6 : decode cX3_planarOf 6 = .ok (.iload_n 3, 1) := dk_29 (dk_at dksX3_planarOf_0 6 rfl rfl)
theorem dX3_planarOf_7 : decode cX3_planarOf 7 = .ok (.iload 4, 2) := dk_21 4 (dk_at dksX3_planarOf_0 7 rfl rfl)
theorem dX3_planarOf_9 : decode cX3_planarOf 9 = .ok (.iload 5, 2) := dk_21 5 (dk_at dksX3_planarOf_0 9 rfl rfl)
theorem dX3_planarOf_11 : decode cX3_planarOf 11 = .ok (.invokevirtual 389, 3) := dk_182 1 133 (dk_at dksX3_planarOf_0 11 rfl rfl)
theorem dX3_planarOf_14 : decode cX3_planarOf 14 = .ok (.iconst 0, 1) := dk_3 (dk_at dksX3_planarOf_0 14 rfl rfl)
theorem dX3_planarOf_15 : decode cX3_planarOf 15 = .ok (.istore 6, 2) := dk_54 6 (dk_at dksX3_planarOf_0 15 rfl rfl)
theorem dX3_planarOf_17 : decode cX3_planarOf 17 = .ok (.aload_n 0, 1) := dk_42 (dk_at dksX3_planarOf_0 17 rfl rfl)
theorem dX3_planarOf_18 : decode cX3_planarOf 18 = .ok (.getfield 79, 3) := dk_180 0 79 (dk_at dksX3_planarOf_0 18 rfl rfl)
theorem dX3_planarOf_21 : decode cX3_planarOf 21 = .ok (.iload 6, 2) := dk_21 6 (dk_at dksX3_planarOf_0 21 rfl rfl)
theorem dX3_planarOf_23 : decode cX3_planarOf 23 = .ok (.laload, 1) := dk_47 (dk_at dksX3_planarOf_0 23 rfl rfl)
theorem dX3_planarOf_24 : decode cX3_planarOf 24 = .ok (.lconst 0, 1) := dk_9 (dk_at dksX3_planarOf_1 0 rfl rfl)
theorem dX3_planarOf_25 : decode cX3_planarOf 25 = .ok (.lcmp, 1) := dk_148 (dk_at dksX3_planarOf_1 1 rfl rfl)
theorem dX3_planarOf_26 : decode cX3_planarOf 26 = .ok (.ifCond .ne 9, 3) := dk_154 0 9 (dk_at dksX3_planarOf_1 2 rfl rfl)
theorem dX3_planarOf_29 : decode cX3_planarOf 29 = .ok (.iinc 6 1, 3) := dk_132 6 1 (dk_at dksX3_planarOf_1 5 rfl rfl)
theorem dX3_planarOf_32 : decode cX3_planarOf 32 = .ok (.goto (-15), 3) := dk_167 255 241 (dk_at dksX3_planarOf_1 8 rfl rfl)
theorem dX3_planarOf_35 : decode cX3_planarOf 35 = .ok (.aload_n 0, 1) := dk_42 (dk_at dksX3_planarOf_1 11 rfl rfl)
theorem dX3_planarOf_36 : decode cX3_planarOf 36 = .ok (.iload 6, 2) := dk_21 6 (dk_at dksX3_planarOf_1 12 rfl rfl)
theorem dX3_planarOf_38 : decode cX3_planarOf 38 = .ok (.invokevirtual 393, 3) := dk_182 1 137 (dk_at dksX3_planarOf_1 14 rfl rfl)
theorem dX3_planarOf_41 : decode cX3_planarOf 41 = .ok (.lstore 7, 2) := dk_55 7 (dk_at dksX3_planarOf_1 17 rfl rfl)
theorem dX3_planarOf_43 : decode cX3_planarOf 43 = .ok (.aload_n 0, 1) := dk_42 (dk_at dksX3_planarOf_1 19 rfl rfl)
theorem dX3_planarOf_44 : decode cX3_planarOf 44 = .ok (.getfield 191, 3) := dk_180 0 191 (dk_at dksX3_planarOf_1 20 rfl rfl)
theorem dX3_planarOf_47 : decode cX3_planarOf 47 = .ok (.aload_n 0, 1) := dk_42 (dk_at dksX3_planarOf_1 23 rfl rfl)
theorem dX3_planarOf_48 : decode cX3_planarOf 48 = .ok (.getfield 191, 3) := dk_180 0 191 (dk_at dksX3_planarOf_2 0 rfl rfl)
theorem dX3_planarOf_51 : decode cX3_planarOf 51 = .ok (.lmul, 1) := dk_105 (dk_at dksX3_planarOf_2 3 rfl rfl)
theorem dX3_planarOf_52 : decode cX3_planarOf 52 = .ok (.lstore 9, 2) := dk_55 9 (dk_at dksX3_planarOf_2 4 rfl rfl)
theorem dX3_planarOf_54 : decode cX3_planarOf 54 = .ok (.aload_n 0, 1) := dk_42 (dk_at dksX3_planarOf_2 6 rfl rfl)
theorem dX3_planarOf_55 : decode cX3_planarOf 55 = .ok (.iload_n 1, 1) := dk_27 (dk_at dksX3_planarOf_2 7 rfl rfl)
theorem dX3_planarOf_56 : decode cX3_planarOf 56 = .ok (.iload_n 2, 1) := dk_28 (dk_at dksX3_planarOf_2 8 rfl rfl)
theorem dX3_planarOf_57 : decode cX3_planarOf 57 = .ok (.invokevirtual 326, 3) := dk_182 1 70 (dk_at dksX3_planarOf_2 9 rfl rfl)
theorem dX3_planarOf_60 : decode cX3_planarOf 60 = .ok (.aload_n 0, 1) := dk_42 (dk_at dksX3_planarOf_2 12 rfl rfl)
theorem dX3_planarOf_61 : decode cX3_planarOf 61 = .ok (.invokevirtual 370, 3) := dk_182 1 114 (dk_at dksX3_planarOf_2 13 rfl rfl)
theorem dX3_planarOf_64 : decode cX3_planarOf 64 = .ok (.aload_n 0, 1) := dk_42 (dk_at dksX3_planarOf_2 16 rfl rfl)
theorem dX3_planarOf_65 : decode cX3_planarOf 65 = .ok (.iload_n 3, 1) := dk_29 (dk_at dksX3_planarOf_2 17 rfl rfl)
theorem dX3_planarOf_66 : decode cX3_planarOf 66 = .ok (.iload 4, 2) := dk_21 4 (dk_at dksX3_planarOf_2 18 rfl rfl)
theorem dX3_planarOf_68 : decode cX3_planarOf 68 = .ok (.iload 5, 2) := dk_21 5 (dk_at dksX3_planarOf_2 20 rfl rfl)
theorem dX3_planarOf_70 : decode cX3_planarOf 70 = .ok (.invokevirtual 389, 3) := dk_182 1 133 (dk_at dksX3_planarOf_3 0 rfl rfl)
theorem dX3_planarOf_73 : decode cX3_planarOf 73 = .ok (.aload_n 0, 1) := dk_42 (dk_at dksX3_planarOf_3 3 rfl rfl)
theorem dX3_planarOf_74 : decode cX3_planarOf 74 = .ok (.iload 6, 2) := dk_21 6 (dk_at dksX3_planarOf_3 4 rfl rfl)
theorem dX3_planarOf_76 : decode cX3_planarOf 76 = .ok (.invokevirtual 393, 3) := dk_182 1 137 (dk_at dksX3_planarOf_3 6 rfl rfl)
theorem dX3_planarOf_79 : decode cX3_planarOf 79 = .ok (.lload 9, 2) := dk_22 9 (dk_at dksX3_planarOf_3 9 rfl rfl)
theorem dX3_planarOf_81 : decode cX3_planarOf 81 = .ok (.lmul, 1) := dk_105 (dk_at dksX3_planarOf_3 11 rfl rfl)
theorem dX3_planarOf_82 : decode cX3_planarOf 82 = .ok (.lstore 11, 2) := dk_55 11 (dk_at dksX3_planarOf_3 12 rfl rfl)
theorem dX3_planarOf_84 : decode cX3_planarOf 84 = .ok (.lload 7, 2) := dk_22 7 (dk_at dksX3_planarOf_3 14 rfl rfl)
theorem dX3_planarOf_86 : decode cX3_planarOf 86 = .ok (.aload_n 0, 1) := dk_42 (dk_at dksX3_planarOf_3 16 rfl rfl)
theorem dX3_planarOf_87 : decode cX3_planarOf 87 = .ok (.getfield 191, 3) := dk_180 0 191 (dk_at dksX3_planarOf_3 17 rfl rfl)
theorem dX3_planarOf_90 : decode cX3_planarOf 90 = .ok (.lmul, 1) := dk_105 (dk_at dksX3_planarOf_3 20 rfl rfl)
theorem dX3_planarOf_91 : decode cX3_planarOf 91 = .ok (.aload_n 0, 1) := dk_42 (dk_at dksX3_planarOf_3 21 rfl rfl)
theorem dX3_planarOf_92 : decode cX3_planarOf 92 = .ok (.getfield 191, 3) := dk_180 0 191 (dk_at dksX3_planarOf_4 0 rfl rfl)
theorem dX3_planarOf_95 : decode cX3_planarOf 95 = .ok (.lmul, 1) := dk_105 (dk_at dksX3_planarOf_4 3 rfl rfl)
theorem dX3_planarOf_96 : decode cX3_planarOf 96 = .ok (.lstore 13, 2) := dk_55 13 (dk_at dksX3_planarOf_4 4 rfl rfl)
theorem dX3_planarOf_98 : decode cX3_planarOf 98 = .ok (.lload 11, 2) := dk_22 11 (dk_at dksX3_planarOf_4 6 rfl rfl)
theorem dX3_planarOf_100 : decode cX3_planarOf 100 = .ok (.lload 13, 2) := dk_22 13 (dk_at dksX3_planarOf_4 8 rfl rfl)
theorem dX3_planarOf_102 : decode cX3_planarOf 102 = .ok (.ldiv, 1) := dk_109 (dk_at dksX3_planarOf_4 10 rfl rfl)
theorem dX3_planarOf_103 : decode cX3_planarOf 103 = .ok (.lreturn, 1) := dk_173 (dk_at dksX3_planarOf_4 11 rfl rfl)
abbrev cX3_someCrossed : ByteArray := prog_20_method_99_code
def yX3_someCrossed : MethodName := ⟨RX3, "someCrossed", "(I)J"⟩
def dkwX3_someCrossed_0 : List UInt8 := [42, 180, 0, 79, 27, 47, 184, 0, 1, 173]
abbrev dktX3_someCrossed_0 : List UInt8 := dkwX3_someCrossed_0 ++ []
theorem dksX3_someCrossed_0 : cX3_someCrossed.data.toList.drop 0 = dktX3_someCrossed_0 := by decide +kernel
theorem dX3_someCrossed_0 : decode cX3_someCrossed 0 = .ok (.aload_n 0, 1) := dk_42 (dk_at dksX3_someCrossed_0 0 rfl rfl)
theorem dX3_someCrossed_1 : decode cX3_someCrossed 1 = .ok (.getfield 79, 3) := dk_180 0 79 (dk_at dksX3_someCrossed_0 1 rfl rfl)
theorem dX3_someCrossed_4 : decode cX3_someCrossed 4 = .ok (.iload_n 1, 1) := dk_27 (dk_at dksX3_someCrossed_0 4 rfl rfl)
theorem dX3_someCrossed_5 : decode cX3_someCrossed 5 = .ok (.laload, 1) := dk_47 (dk_at dksX3_someCrossed_0 5 rfl rfl)
theorem dX3_someCrossed_6 : decode cX3_someCrossed 6 = .ok (.invokestatic 1, 3) := dk_184 0 1 (dk_at dksX3_someCrossed_0 6 rfl rfl)
theorem dX3_someCrossed_9 : decode cX3_someCrossed 9 = .ok (.lreturn, 1) := dk_173 (dk_at dksX3_someCrossed_0 9 rfl rfl)
abbrev cX3_planar : ByteArray := prog_20_method_103_code
def yX3_planar : MethodName := ⟨RX3, "planar", "(IIIII)J"⟩
def dkwX3_planar_1 : List UInt8 := [42, 27, 28, 29, 21, 4, 21, 5, 182, 1, 144, 173]
abbrev dktX3_planar_1 : List UInt8 := dkwX3_planar_1 ++ []
def dkwX3_planar_0 : List UInt8 := [42, 27, 28, 29, 21, 4, 21, 5, 182, 1, 140, 54, 6, 21, 6, 156, 0, 9, 21, 6, 133, 167, 0, 14]
abbrev dktX3_planar_0 : List UInt8 := dkwX3_planar_0 ++ dktX3_planar_1
theorem dksX3_planar_0 : cX3_planar.data.toList.drop 0 = dktX3_planar_0 := by decide +kernel
theorem dksX3_planar_1 : cX3_planar.data.toList.drop 24 = dktX3_planar_1 := dk_seg dksX3_planar_0 24 rfl rfl
theorem dX3_planar_0 : decode cX3_planar 0 = .ok (.aload_n 0, 1) := dk_42 (dk_at dksX3_planar_0 0 rfl rfl)
theorem dX3_planar_1 : decode cX3_planar 1 = .ok (.iload_n 1, 1) := dk_27 (dk_at dksX3_planar_0 1 rfl rfl)
theorem dX3_planar_2 : decode cX3_planar 2 = .ok (.iload_n 2, 1) := dk_28 (dk_at dksX3_planar_0 2 rfl rfl)
theorem dX3_planar_3 : decode cX3_planar 3 = .ok (.iload_n 3, 1) := dk_29 (dk_at dksX3_planar_0 3 rfl rfl)
theorem dX3_planar_4 : decode cX3_planar 4 = .ok (.iload 4, 2) := dk_21 4 (dk_at dksX3_planar_0 4 rfl rfl)
theorem dX3_planar_6 : decode cX3_planar 6 = .ok (.iload 5, 2) := dk_21 5 (dk_at dksX3_planar_0 6 rfl rfl)
theorem dX3_planar_8 : decode cX3_planar 8 = .ok (.invokevirtual 396, 3) := dk_182 1 140 (dk_at dksX3_planar_0 8 rfl rfl)
theorem dX3_planar_11 : decode cX3_planar 11 = .ok (.istore 6, 2) := dk_54 6 (dk_at dksX3_planar_0 11 rfl rfl)
theorem dX3_planar_13 : decode cX3_planar 13 = .ok (.iload 6, 2) := dk_21 6 (dk_at dksX3_planar_0 13 rfl rfl)
theorem dX3_planar_15 : decode cX3_planar 15 = .ok (.ifCond .ge 9, 3) := dk_156 0 9 (dk_at dksX3_planar_0 15 rfl rfl)
theorem dX3_planar_18 : decode cX3_planar 18 = .ok (.iload 6, 2) := dk_21 6 (dk_at dksX3_planar_0 18 rfl rfl)
theorem dX3_planar_20 : decode cX3_planar 20 = .ok (.i2l, 1) := dk_133 (dk_at dksX3_planar_0 20 rfl rfl)
theorem dX3_planar_21 : decode cX3_planar 21 = .ok (.goto 14, 3) := dk_167 0 14 (dk_at dksX3_planar_0 21 rfl rfl)
theorem dX3_planar_24 : decode cX3_planar 24 = .ok (.aload_n 0, 1) := dk_42 (dk_at dksX3_planar_1 0 rfl rfl)
theorem dX3_planar_25 : decode cX3_planar 25 = .ok (.iload_n 1, 1) := dk_27 (dk_at dksX3_planar_1 1 rfl rfl)
theorem dX3_planar_26 : decode cX3_planar 26 = .ok (.iload_n 2, 1) := dk_28 (dk_at dksX3_planar_1 2 rfl rfl)
theorem dX3_planar_27 : decode cX3_planar 27 = .ok (.iload_n 3, 1) := dk_29 (dk_at dksX3_planar_1 3 rfl rfl)
theorem dX3_planar_28 : decode cX3_planar 28 = .ok (.iload 4, 2) := dk_21 4 (dk_at dksX3_planar_1 4 rfl rfl)
theorem dX3_planar_30 : decode cX3_planar 30 = .ok (.iload 5, 2) := dk_21 5 (dk_at dksX3_planar_1 6 rfl rfl)
theorem dX3_planar_32 : decode cX3_planar 32 = .ok (.invokevirtual 400, 3) := dk_182 1 144 (dk_at dksX3_planar_1 8 rfl rfl)
theorem dX3_planar_35 : decode cX3_planar 35 = .ok (.lreturn, 1) := dk_173 (dk_at dksX3_planar_1 11 rfl rfl)
abbrev cX3_best : ByteArray := prog_20_method_104_code
def yX3_best : MethodName := ⟨RX3, "best", "(II)I"⟩
def dkwX3_best_7 : List UInt8 := [21, 10, 96, 6, 96, 54, 4, 22, 12, 55, 5, 132, 7, 1, 167, 255, 101, 21, 4, 172]
abbrev dktX3_best_7 : List UInt8 := dkwX3_best_7 ++ []
def dkwX3_best_6 : List UInt8 := [22, 12, 22, 5, 148, 156, 0, 29, 16, 100, 21, 8, 6, 96, 104, 16, 10, 21, 9, 6, 96, 104, 96]
abbrev dktX3_best_6 : List UInt8 := dkwX3_best_6 ++ dktX3_best_7
def dkwX3_best_5 : List UInt8 := [167, 0, 57, 42, 27, 28, 21, 8, 21, 9, 21, 10, 182, 1, 144, 55, 12, 21, 4, 2, 159, 0, 11]
abbrev dktX3_best_5 : List UInt8 := dkwX3_best_5 ++ dktX3_best_6
def dkwX3_best_4 : List UInt8 := [153, 0, 80, 21, 8, 133, 21, 9, 133, 184, 0, 207, 21, 10, 133, 184, 0, 207, 10, 148, 153, 0, 6]
abbrev dktX3_best_4 : List UInt8 := dkwX3_best_4 ++ dktX3_best_5
def dkwX3_best_3 : List UInt8 := [157, 0, 13, 21, 9, 154, 0, 12, 21, 10, 158, 0, 7, 4, 167, 0, 4, 3, 54, 11, 21, 11]
abbrev dktX3_best_3 : List UInt8 := dkwX3_best_3 ++ dktX3_best_4
def dkwX3_best_2 : List UInt8 := [100, 54, 9, 21, 7, 16, 7, 112, 6, 100, 54, 10, 21, 8, 157, 0, 23, 21, 8, 154, 0, 22, 21, 9]
abbrev dktX3_best_2 : List UInt8 := dkwX3_best_2 ++ dktX3_best_3
def dkwX3_best_1 : List UInt8 := [17, 1, 87, 162, 0, 153, 21, 7, 16, 49, 108, 6, 100, 54, 8, 21, 7, 16, 7, 108, 16, 7, 112, 6]
abbrev dktX3_best_1 : List UInt8 := dkwX3_best_1 ++ dktX3_best_2
def dkwX3_best_0 : List UInt8 := [42, 27, 28, 182, 1, 67, 62, 29, 156, 0, 5, 29, 172, 2, 54, 4, 9, 55, 5, 3, 54, 7, 21, 7]
abbrev dktX3_best_0 : List UInt8 := dkwX3_best_0 ++ dktX3_best_1
theorem dksX3_best_0 : cX3_best.data.toList.drop 0 = dktX3_best_0 := by decide +kernel
theorem dksX3_best_1 : cX3_best.data.toList.drop 24 = dktX3_best_1 := dk_seg dksX3_best_0 24 rfl rfl
theorem dksX3_best_2 : cX3_best.data.toList.drop 48 = dktX3_best_2 := dk_seg dksX3_best_1 24 rfl rfl
theorem dksX3_best_3 : cX3_best.data.toList.drop 72 = dktX3_best_3 := dk_seg dksX3_best_2 24 rfl rfl
theorem dksX3_best_4 : cX3_best.data.toList.drop 94 = dktX3_best_4 := dk_seg dksX3_best_3 22 rfl rfl
theorem dksX3_best_5 : cX3_best.data.toList.drop 117 = dktX3_best_5 := dk_seg dksX3_best_4 23 rfl rfl
theorem dksX3_best_6 : cX3_best.data.toList.drop 140 = dktX3_best_6 := dk_seg dksX3_best_5 23 rfl rfl
theorem dksX3_best_7 : cX3_best.data.toList.drop 163 = dktX3_best_7 := dk_seg dksX3_best_6 23 rfl rfl
theorem dX3_best_0 : decode cX3_best 0 = .ok (.aload_n 0, 1) := dk_42 (dk_at dksX3_best_0 0 rfl rfl)
theorem dX3_best_1 : decode cX3_best 1 = .ok (.iload_n 1, 1) := dk_27 (dk_at dksX3_best_0 1 rfl rfl)
theorem dX3_best_2 : decode cX3_best 2 = .ok (.iload_n 2, 1) := dk_28 (dk_at dksX3_best_0 2 rfl rfl)
theorem dX3_best_3 : decode cX3_best 3 = .ok (.invokevirtual 323, 3) := dk_182 1 67 (dk_at dksX3_best_0 3 rfl rfl)
theorem dX3_best_6 : decode cX3_best 6 = .ok (.istore_n 3, 1) := dk_62 (dk_at dksX3_best_0 6 rfl rfl)
theorem dX3_best_7 : decode cX3_best 7 = .ok (.iload_n 3, 1) := dk_29 (dk_at dksX3_best_0 7 rfl rfl)
theorem dX3_best_8 : decode cX3_best 8 = .ok (.ifCond .ge 5, 3) := dk_156 0 5 (dk_at dksX3_best_0 8 rfl rfl)
theorem dX3_best_11 : decode cX3_best 11 = .ok (.iload_n 3, 1) := dk_29 (dk_at dksX3_best_0 11 rfl rfl)
theorem dX3_best_12 : decode cX3_best 12 = .ok (.ireturn, 1) := dk_172 (dk_at dksX3_best_0 12 rfl rfl)
theorem dX3_best_13 : decode cX3_best 13 = .ok (.iconst (-1), 1) := dk_2 (dk_at dksX3_best_0 13 rfl rfl)
theorem dX3_best_14 : decode cX3_best 14 = .ok (.istore 4, 2) := dk_54 4 (dk_at dksX3_best_0 14 rfl rfl)
theorem dX3_best_16 : decode cX3_best 16 = .ok (.lconst 0, 1) := dk_9 (dk_at dksX3_best_0 16 rfl rfl)
theorem dX3_best_17 : decode cX3_best 17 = .ok (.lstore 5, 2) := dk_55 5 (dk_at dksX3_best_0 17 rfl rfl)
theorem dX3_best_19 : decode cX3_best 19 = .ok (.iconst 0, 1) := dk_3 (dk_at dksX3_best_0 19 rfl rfl)
theorem dX3_best_20 : decode cX3_best 20 = .ok (.istore 7, 2) := dk_54 7 (dk_at dksX3_best_0 20 rfl rfl)
theorem dX3_best_22 : decode cX3_best 22 = .ok (.iload 7, 2) := dk_21 7 (dk_at dksX3_best_0 22 rfl rfl)
theorem dX3_best_24 : decode cX3_best 24 = .ok (.sipush 343, 3) := dk_17 1 87 (dk_at dksX3_best_1 0 rfl rfl)
theorem dX3_best_27 : decode cX3_best 27 = .ok (.if_icmp .ge 153, 3) := dk_162 0 153 (dk_at dksX3_best_1 3 rfl rfl)
theorem dX3_best_30 : decode cX3_best 30 = .ok (.iload 7, 2) := dk_21 7 (dk_at dksX3_best_1 6 rfl rfl)
theorem dX3_best_32 : decode cX3_best 32 = .ok (.bipush 49, 2) := dk_16 49 (dk_at dksX3_best_1 8 rfl rfl)
theorem dX3_best_34 : decode cX3_best 34 = .ok (.idiv, 1) := dk_108 (dk_at dksX3_best_1 10 rfl rfl)
theorem dX3_best_35 : decode cX3_best 35 = .ok (.iconst 3, 1) := dk_6 (dk_at dksX3_best_1 11 rfl rfl)
theorem dX3_best_36 : decode cX3_best 36 = .ok (.isub, 1) := dk_100 (dk_at dksX3_best_1 12 rfl rfl)
theorem dX3_best_37 : decode cX3_best 37 = .ok (.istore 8, 2) := dk_54 8 (dk_at dksX3_best_1 13 rfl rfl)
theorem dX3_best_39 : decode cX3_best 39 = .ok (.iload 7, 2) := dk_21 7 (dk_at dksX3_best_1 15 rfl rfl)
theorem dX3_best_41 : decode cX3_best 41 = .ok (.bipush 7, 2) := dk_16 7 (dk_at dksX3_best_1 17 rfl rfl)
theorem dX3_best_43 : decode cX3_best 43 = .ok (.idiv, 1) := dk_108 (dk_at dksX3_best_1 19 rfl rfl)
theorem dX3_best_44 : decode cX3_best 44 = .ok (.bipush 7, 2) := dk_16 7 (dk_at dksX3_best_1 20 rfl rfl)
theorem dX3_best_46 : decode cX3_best 46 = .ok (.irem, 1) := dk_112 (dk_at dksX3_best_1 22 rfl rfl)
theorem dX3_best_47 : decode cX3_best 47 = .ok (.iconst 3, 1) := dk_6 (dk_at dksX3_best_1 23 rfl rfl)
theorem dX3_best_48 : decode cX3_best 48 = .ok (.isub, 1) := dk_100 (dk_at dksX3_best_2 0 rfl rfl)
theorem dX3_best_49 : decode cX3_best 49 = .ok (.istore 9, 2) := dk_54 9 (dk_at dksX3_best_2 1 rfl rfl)
theorem dX3_best_51 : decode cX3_best 51 = .ok (.iload 7, 2) := dk_21 7 (dk_at dksX3_best_2 3 rfl rfl)
theorem dX3_best_53 : decode cX3_best 53 = .ok (.bipush 7, 2) := dk_16 7 (dk_at dksX3_best_2 5 rfl rfl)
theorem dX3_best_55 : decode cX3_best 55 = .ok (.irem, 1) := dk_112 (dk_at dksX3_best_2 7 rfl rfl)
theorem dX3_best_56 : decode cX3_best 56 = .ok (.iconst 3, 1) := dk_6 (dk_at dksX3_best_2 8 rfl rfl)
theorem dX3_best_57 : decode cX3_best 57 = .ok (.isub, 1) := dk_100 (dk_at dksX3_best_2 9 rfl rfl)
theorem dX3_best_58 : decode cX3_best 58 = .ok (.istore 10, 2) := dk_54 10 (dk_at dksX3_best_2 10 rfl rfl)
theorem dX3_best_60 : decode cX3_best 60 = .ok (.iload 8, 2) := dk_21 8 (dk_at dksX3_best_2 12 rfl rfl)
theorem dX3_best_62 : decode cX3_best 62 = .ok (.ifCond .gt 23, 3) := dk_157 0 23 (dk_at dksX3_best_2 14 rfl rfl)
theorem dX3_best_65 : decode cX3_best 65 = .ok (.iload 8, 2) := dk_21 8 (dk_at dksX3_best_2 17 rfl rfl)
theorem dX3_best_67 : decode cX3_best 67 = .ok (.ifCond .ne 22, 3) := dk_154 0 22 (dk_at dksX3_best_2 19 rfl rfl)
theorem dX3_best_70 : decode cX3_best 70 = .ok (.iload 9, 2) := dk_21 9 (dk_at dksX3_best_2 22 rfl rfl)
theorem dX3_best_72 : decode cX3_best 72 = .ok (.ifCond .gt 13, 3) := dk_157 0 13 (dk_at dksX3_best_3 0 rfl rfl)
theorem dX3_best_75 : decode cX3_best 75 = .ok (.iload 9, 2) := dk_21 9 (dk_at dksX3_best_3 3 rfl rfl)
theorem dX3_best_77 : decode cX3_best 77 = .ok (.ifCond .ne 12, 3) := dk_154 0 12 (dk_at dksX3_best_3 5 rfl rfl)
theorem dX3_best_80 : decode cX3_best 80 = .ok (.iload 10, 2) := dk_21 10 (dk_at dksX3_best_3 8 rfl rfl)
theorem dX3_best_82 : decode cX3_best 82 = .ok (.ifCond .le 7, 3) := dk_158 0 7 (dk_at dksX3_best_3 10 rfl rfl)
theorem dX3_best_85 : decode cX3_best 85 = .ok (.iconst 1, 1) := dk_4 (dk_at dksX3_best_3 13 rfl rfl)
theorem dX3_best_86 : decode cX3_best 86 = .ok (.goto 4, 3) := dk_167 0 4 (dk_at dksX3_best_3 14 rfl rfl)
theorem dX3_best_89 : decode cX3_best 89 = .ok (.iconst 0, 1) := dk_3 (dk_at dksX3_best_3 17 rfl rfl)
theorem dX3_best_90 : decode cX3_best 90 = .ok (.istore 11, 2) := dk_54 11 (dk_at dksX3_best_3 18 rfl rfl)
theorem dX3_best_92 : decode cX3_best 92 = .ok (.iload 11, 2) := dk_21 11 (dk_at dksX3_best_3 20 rfl rfl)
theorem dX3_best_94 : decode cX3_best 94 = .ok (.ifCond .eq 80, 3) := dk_153 0 80 (dk_at dksX3_best_4 0 rfl rfl)
theorem dX3_best_97 : decode cX3_best 97 = .ok (.iload 8, 2) := dk_21 8 (dk_at dksX3_best_4 3 rfl rfl)
theorem dX3_best_99 : decode cX3_best 99 = .ok (.i2l, 1) := dk_133 (dk_at dksX3_best_4 5 rfl rfl)
theorem dX3_best_100 : decode cX3_best 100 = .ok (.iload 9, 2) := dk_21 9 (dk_at dksX3_best_4 6 rfl rfl)
theorem dX3_best_102 : decode cX3_best 102 = .ok (.i2l, 1) := dk_133 (dk_at dksX3_best_4 8 rfl rfl)
theorem dX3_best_103 : decode cX3_best 103 = .ok (.invokestatic 207, 3) := dk_184 0 207 (dk_at dksX3_best_4 9 rfl rfl)
theorem dX3_best_106 : decode cX3_best 106 = .ok (.iload 10, 2) := dk_21 10 (dk_at dksX3_best_4 12 rfl rfl)
theorem dX3_best_108 : decode cX3_best 108 = .ok (.i2l, 1) := dk_133 (dk_at dksX3_best_4 14 rfl rfl)
theorem dX3_best_109 : decode cX3_best 109 = .ok (.invokestatic 207, 3) := dk_184 0 207 (dk_at dksX3_best_4 15 rfl rfl)
theorem dX3_best_112 : decode cX3_best 112 = .ok (.lconst 1, 1) := dk_10 (dk_at dksX3_best_4 18 rfl rfl)
theorem dX3_best_113 : decode cX3_best 113 = .ok (.lcmp, 1) := dk_148 (dk_at dksX3_best_4 19 rfl rfl)
theorem dX3_best_114 : decode cX3_best 114 = .ok (.ifCond .eq 6, 3) := dk_153 0 6 (dk_at dksX3_best_4 20 rfl rfl)
theorem dX3_best_117 : decode cX3_best 117 = .ok (.goto 57, 3) := dk_167 0 57 (dk_at dksX3_best_5 0 rfl rfl)
theorem dX3_best_120 : decode cX3_best 120 = .ok (.aload_n 0, 1) := dk_42 (dk_at dksX3_best_5 3 rfl rfl)
theorem dX3_best_121 : decode cX3_best 121 = .ok (.iload_n 1, 1) := dk_27 (dk_at dksX3_best_5 4 rfl rfl)
theorem dX3_best_122 : decode cX3_best 122 = .ok (.iload_n 2, 1) := dk_28 (dk_at dksX3_best_5 5 rfl rfl)
theorem dX3_best_123 : decode cX3_best 123 = .ok (.iload 8, 2) := dk_21 8 (dk_at dksX3_best_5 6 rfl rfl)
theorem dX3_best_125 : decode cX3_best 125 = .ok (.iload 9, 2) := dk_21 9 (dk_at dksX3_best_5 8 rfl rfl)
theorem dX3_best_127 : decode cX3_best 127 = .ok (.iload 10, 2) := dk_21 10 (dk_at dksX3_best_5 10 rfl rfl)
theorem dX3_best_129 : decode cX3_best 129 = .ok (.invokevirtual 400, 3) := dk_182 1 144 (dk_at dksX3_best_5 12 rfl rfl)
theorem dX3_best_132 : decode cX3_best 132 = .ok (.lstore 12, 2) := dk_55 12 (dk_at dksX3_best_5 15 rfl rfl)
theorem dX3_best_134 : decode cX3_best 134 = .ok (.iload 4, 2) := dk_21 4 (dk_at dksX3_best_5 17 rfl rfl)
theorem dX3_best_136 : decode cX3_best 136 = .ok (.iconst (-1), 1) := dk_2 (dk_at dksX3_best_5 19 rfl rfl)
theorem dX3_best_137 : decode cX3_best 137 = .ok (.if_icmp .eq 11, 3) := dk_159 0 11 (dk_at dksX3_best_5 20 rfl rfl)
theorem dX3_best_140 : decode cX3_best 140 = .ok (.lload 12, 2) := dk_22 12 (dk_at dksX3_best_6 0 rfl rfl)
theorem dX3_best_142 : decode cX3_best 142 = .ok (.lload 5, 2) := dk_22 5 (dk_at dksX3_best_6 2 rfl rfl)
theorem dX3_best_144 : decode cX3_best 144 = .ok (.lcmp, 1) := dk_148 (dk_at dksX3_best_6 4 rfl rfl)
theorem dX3_best_145 : decode cX3_best 145 = .ok (.ifCond .ge 29, 3) := dk_156 0 29 (dk_at dksX3_best_6 5 rfl rfl)
theorem dX3_best_148 : decode cX3_best 148 = .ok (.bipush 100, 2) := dk_16 100 (dk_at dksX3_best_6 8 rfl rfl)
theorem dX3_best_150 : decode cX3_best 150 = .ok (.iload 8, 2) := dk_21 8 (dk_at dksX3_best_6 10 rfl rfl)
theorem dX3_best_152 : decode cX3_best 152 = .ok (.iconst 3, 1) := dk_6 (dk_at dksX3_best_6 12 rfl rfl)
theorem dX3_best_153 : decode cX3_best 153 = .ok (.iadd, 1) := dk_96 (dk_at dksX3_best_6 13 rfl rfl)
theorem dX3_best_154 : decode cX3_best 154 = .ok (.imul, 1) := dk_104 (dk_at dksX3_best_6 14 rfl rfl)
theorem dX3_best_155 : decode cX3_best 155 = .ok (.bipush 10, 2) := dk_16 10 (dk_at dksX3_best_6 15 rfl rfl)
theorem dX3_best_157 : decode cX3_best 157 = .ok (.iload 9, 2) := dk_21 9 (dk_at dksX3_best_6 17 rfl rfl)
theorem dX3_best_159 : decode cX3_best 159 = .ok (.iconst 3, 1) := dk_6 (dk_at dksX3_best_6 19 rfl rfl)
theorem dX3_best_160 : decode cX3_best 160 = .ok (.iadd, 1) := dk_96 (dk_at dksX3_best_6 20 rfl rfl)
theorem dX3_best_161 : decode cX3_best 161 = .ok (.imul, 1) := dk_104 (dk_at dksX3_best_6 21 rfl rfl)
theorem dX3_best_162 : decode cX3_best 162 = .ok (.iadd, 1) := dk_96 (dk_at dksX3_best_6 22 rfl rfl)
theorem dX3_best_163 : decode cX3_best 163 = .ok (.iload 10, 2) := dk_21 10 (dk_at dksX3_best_7 0 rfl rfl)
theorem dX3_best_165 : decode cX3_best 165 = .ok (.iadd, 1) := dk_96 (dk_at dksX3_best_7 2 rfl rfl)
theorem dX3_best_166 : decode cX3_best 166 = .ok (.iconst 3, 1) := dk_6 (dk_at dksX3_best_7 3 rfl rfl)
theorem dX3_best_167 : decode cX3_best 167 = .ok (.iadd, 1) := dk_96 (dk_at dksX3_best_7 4 rfl rfl)
theorem dX3_best_168 : decode cX3_best 168 = .ok (.istore 4, 2) := dk_54 4 (dk_at dksX3_best_7 5 rfl rfl)
theorem dX3_best_170 : decode cX3_best 170 = .ok (.lload 12, 2) := dk_22 12 (dk_at dksX3_best_7 7 rfl rfl)
theorem dX3_best_172 : decode cX3_best 172 = .ok (.lstore 5, 2) := dk_55 5 (dk_at dksX3_best_7 9 rfl rfl)
theorem dX3_best_174 : decode cX3_best 174 = .ok (.iinc 7 1, 3) := dk_132 7 1 (dk_at dksX3_best_7 11 rfl rfl)
theorem dX3_best_177 : decode cX3_best 177 = .ok (.goto (-155), 3) := dk_167 255 101 (dk_at dksX3_best_7 14 rfl rfl)
theorem dX3_best_180 : decode cX3_best 180 = .ok (.iload 4, 2) := dk_21 4 (dk_at dksX3_best_7 17 rfl rfl)
theorem dX3_best_182 : decode cX3_best 182 = .ok (.ireturn, 1) := dk_172 (dk_at dksX3_best_7 19 rfl rfl)
abbrev cX3_add : ByteArray := prog_20_method_111_code
def yX3_add : MethodName := ⟨RX3, "add", "(IIII)I"⟩
def dkwX3_add_5 : List UInt8 := [96, 46, 104, 96, 79, 132, 5, 1, 167, 255, 203, 42, 4, 27, 28, 182, 1, 184, 172]
abbrev dktX3_add_5 : List UInt8 := dkwX3_add_5 ++ []
def dkwX3_add_4 : List UInt8 := [21, 5, 96, 92, 46, 21, 4, 42, 180, 0, 13, 16, 28, 16, 9, 27, 104, 96, 6, 29, 104, 96, 21, 5]
abbrev dktX3_add_4 : List UInt8 := dkwX3_add_4 ++ dktX3_add_5
def dkwX3_add_3 : List UInt8 := [54, 5, 21, 5, 6, 162, 0, 53, 42, 180, 0, 13, 16, 28, 16, 9, 27, 104, 96, 6, 28, 104, 96]
abbrev dktX3_add_3 : List UInt8 := dkwX3_add_3 ++ dktX3_add_4
def dkwX3_add_2 : List UInt8 := [180, 0, 13, 5, 46, 16, 20, 160, 0, 12, 42, 4, 6, 27, 28, 182, 1, 167, 172, 42, 182, 1, 181, 3]
abbrev dktX3_add_2 : List UInt8 := dkwX3_add_2 ++ dktX3_add_3
def dkwX3_add_1 : List UInt8 := [159, 0, 18, 21, 4, 133, 20, 1, 177, 20, 1, 179, 184, 0, 88, 154, 0, 6, 16, 254, 172, 42]
abbrev dktX3_add_1 : List UInt8 := dkwX3_add_1 ++ dktX3_add_2
def dkwX3_add_0 : List UInt8 := [42, 27, 182, 1, 171, 153, 0, 37, 28, 184, 1, 174, 153, 0, 30, 29, 184, 1, 174, 153, 0, 23, 28, 29]
abbrev dktX3_add_0 : List UInt8 := dkwX3_add_0 ++ dktX3_add_1
theorem dksX3_add_0 : cX3_add.data.toList.drop 0 = dktX3_add_0 := by decide +kernel
theorem dksX3_add_1 : cX3_add.data.toList.drop 24 = dktX3_add_1 := dk_seg dksX3_add_0 24 rfl rfl
theorem dksX3_add_2 : cX3_add.data.toList.drop 46 = dktX3_add_2 := dk_seg dksX3_add_1 22 rfl rfl
theorem dksX3_add_3 : cX3_add.data.toList.drop 70 = dktX3_add_3 := dk_seg dksX3_add_2 24 rfl rfl
theorem dksX3_add_4 : cX3_add.data.toList.drop 93 = dktX3_add_4 := dk_seg dksX3_add_3 23 rfl rfl
theorem dksX3_add_5 : cX3_add.data.toList.drop 117 = dktX3_add_5 := dk_seg dksX3_add_4 24 rfl rfl
theorem dX3_add_0 : decode cX3_add 0 = .ok (.aload_n 0, 1) := dk_42 (dk_at dksX3_add_0 0 rfl rfl)
theorem dX3_add_1 : decode cX3_add 1 = .ok (.iload_n 1, 1) := dk_27 (dk_at dksX3_add_0 1 rfl rfl)
theorem dX3_add_2 : decode cX3_add 2 = .ok (.invokevirtual 427, 3) := dk_182 1 171 (dk_at dksX3_add_0 2 rfl rfl)
theorem dX3_add_5 : decode cX3_add 5 = .ok (.ifCond .eq 37, 3) := dk_153 0 37 (dk_at dksX3_add_0 5 rfl rfl)
theorem dX3_add_8 : decode cX3_add 8 = .ok (.iload_n 2, 1) := dk_28 (dk_at dksX3_add_0 8 rfl rfl)
theorem dX3_add_9 : decode cX3_add 9 = .ok (.invokestatic 430, 3) := dk_184 1 174 (dk_at dksX3_add_0 9 rfl rfl)
theorem dX3_add_12 : decode cX3_add 12 = .ok (.ifCond .eq 30, 3) := dk_153 0 30 (dk_at dksX3_add_0 12 rfl rfl)
theorem dX3_add_15 : decode cX3_add 15 = .ok (.iload_n 3, 1) := dk_29 (dk_at dksX3_add_0 15 rfl rfl)
theorem dX3_add_16 : decode cX3_add 16 = .ok (.invokestatic 430, 3) := dk_184 1 174 (dk_at dksX3_add_0 16 rfl rfl)
theorem dX3_add_19 : decode cX3_add 19 = .ok (.ifCond .eq 23, 3) := dk_153 0 23 (dk_at dksX3_add_0 19 rfl rfl)
theorem dX3_add_22 : decode cX3_add 22 = .ok (.iload_n 2, 1) := dk_28 (dk_at dksX3_add_0 22 rfl rfl)
theorem dX3_add_23 : decode cX3_add 23 = .ok (.iload_n 3, 1) := dk_29 (dk_at dksX3_add_0 23 rfl rfl)
theorem dX3_add_24 : decode cX3_add 24 = .ok (.if_icmp .eq 18, 3) := dk_159 0 18 (dk_at dksX3_add_1 0 rfl rfl)
theorem dX3_add_27 : decode cX3_add 27 = .ok (.iload 4, 2) := dk_21 4 (dk_at dksX3_add_1 3 rfl rfl)
theorem dX3_add_29 : decode cX3_add 29 = .ok (.i2l, 1) := dk_133 (dk_at dksX3_add_1 5 rfl rfl)
theorem dX3_add_30 : decode cX3_add 30 = .ok (.ldc2_w 433, 3) := dk_20 1 177 (dk_at dksX3_add_1 6 rfl rfl)
theorem dX3_add_33 : decode cX3_add 33 = .ok (.ldc2_w 435, 3) := dk_20 1 179 (dk_at dksX3_add_1 9 rfl rfl)
theorem dX3_add_36 : decode cX3_add 36 = .ok (.invokestatic 88, 3) := dk_184 0 88 (dk_at dksX3_add_1 12 rfl rfl)
theorem dX3_add_39 : decode cX3_add 39 = .ok (.ifCond .ne 6, 3) := dk_154 0 6 (dk_at dksX3_add_1 15 rfl rfl)
theorem dX3_add_42 : decode cX3_add 42 = .ok (.bipush (-2), 2) := dk_16 254 (dk_at dksX3_add_1 18 rfl rfl)
theorem dX3_add_44 : decode cX3_add 44 = .ok (.ireturn, 1) := dk_172 (dk_at dksX3_add_1 20 rfl rfl)
theorem dX3_add_45 : decode cX3_add 45 = .ok (.aload_n 0, 1) := dk_42 (dk_at dksX3_add_1 21 rfl rfl)
theorem dX3_add_46 : decode cX3_add 46 = .ok (.getfield 13, 3) := dk_180 0 13 (dk_at dksX3_add_2 0 rfl rfl)
theorem dX3_add_49 : decode cX3_add 49 = .ok (.iconst 2, 1) := dk_5 (dk_at dksX3_add_2 3 rfl rfl)
theorem dX3_add_50 : decode cX3_add 50 = .ok (.iaload, 1) := dk_46 (dk_at dksX3_add_2 4 rfl rfl)
theorem dX3_add_51 : decode cX3_add 51 = .ok (.bipush 20, 2) := dk_16 20 (dk_at dksX3_add_2 5 rfl rfl)
theorem dX3_add_53 : decode cX3_add 53 = .ok (.if_icmp .ne 12, 3) := dk_160 0 12 (dk_at dksX3_add_2 7 rfl rfl)
theorem dX3_add_56 : decode cX3_add 56 = .ok (.aload_n 0, 1) := dk_42 (dk_at dksX3_add_2 10 rfl rfl)
theorem dX3_add_57 : decode cX3_add 57 = .ok (.iconst 1, 1) := dk_4 (dk_at dksX3_add_2 11 rfl rfl)
theorem dX3_add_58 : decode cX3_add 58 = .ok (.iconst 3, 1) := dk_6 (dk_at dksX3_add_2 12 rfl rfl)
theorem dX3_add_59 : decode cX3_add 59 = .ok (.iload_n 1, 1) := dk_27 (dk_at dksX3_add_2 13 rfl rfl)
theorem dX3_add_60 : decode cX3_add 60 = .ok (.iload_n 2, 1) := dk_28 (dk_at dksX3_add_2 14 rfl rfl)
theorem dX3_add_61 : decode cX3_add 61 = .ok (.invokevirtual 423, 3) := dk_182 1 167 (dk_at dksX3_add_2 15 rfl rfl)
theorem dX3_add_64 : decode cX3_add 64 = .ok (.ireturn, 1) := dk_172 (dk_at dksX3_add_2 18 rfl rfl)
theorem dX3_add_65 : decode cX3_add 65 = .ok (.aload_n 0, 1) := dk_42 (dk_at dksX3_add_2 19 rfl rfl)
theorem dX3_add_66 : decode cX3_add 66 = .ok (.invokevirtual 437, 3) := dk_182 1 181 (dk_at dksX3_add_2 20 rfl rfl)
theorem dX3_add_69 : decode cX3_add 69 = .ok (.iconst 0, 1) := dk_3 (dk_at dksX3_add_2 23 rfl rfl)
theorem dX3_add_70 : decode cX3_add 70 = .ok (.istore 5, 2) := dk_54 5 (dk_at dksX3_add_3 0 rfl rfl)
theorem dX3_add_72 : decode cX3_add 72 = .ok (.iload 5, 2) := dk_21 5 (dk_at dksX3_add_3 2 rfl rfl)
theorem dX3_add_74 : decode cX3_add 74 = .ok (.iconst 3, 1) := dk_6 (dk_at dksX3_add_3 4 rfl rfl)
theorem dX3_add_75 : decode cX3_add 75 = .ok (.if_icmp .ge 53, 3) := dk_162 0 53 (dk_at dksX3_add_3 5 rfl rfl)
theorem dX3_add_78 : decode cX3_add 78 = .ok (.aload_n 0, 1) := dk_42 (dk_at dksX3_add_3 8 rfl rfl)
theorem dX3_add_79 : decode cX3_add 79 = .ok (.getfield 13, 3) := dk_180 0 13 (dk_at dksX3_add_3 9 rfl rfl)
theorem dX3_add_82 : decode cX3_add 82 = .ok (.bipush 28, 2) := dk_16 28 (dk_at dksX3_add_3 12 rfl rfl)
theorem dX3_add_84 : decode cX3_add 84 = .ok (.bipush 9, 2) := dk_16 9 (dk_at dksX3_add_3 14 rfl rfl)
theorem dX3_add_86 : decode cX3_add 86 = .ok (.iload_n 1, 1) := dk_27 (dk_at dksX3_add_3 16 rfl rfl)
theorem dX3_add_87 : decode cX3_add 87 = .ok (.imul, 1) := dk_104 (dk_at dksX3_add_3 17 rfl rfl)
theorem dX3_add_88 : decode cX3_add 88 = .ok (.iadd, 1) := dk_96 (dk_at dksX3_add_3 18 rfl rfl)
theorem dX3_add_89 : decode cX3_add 89 = .ok (.iconst 3, 1) := dk_6 (dk_at dksX3_add_3 19 rfl rfl)
theorem dX3_add_90 : decode cX3_add 90 = .ok (.iload_n 2, 1) := dk_28 (dk_at dksX3_add_3 20 rfl rfl)
theorem dX3_add_91 : decode cX3_add 91 = .ok (.imul, 1) := dk_104 (dk_at dksX3_add_3 21 rfl rfl)
theorem dX3_add_92 : decode cX3_add 92 = .ok (.iadd, 1) := dk_96 (dk_at dksX3_add_3 22 rfl rfl)
theorem dX3_add_93 : decode cX3_add 93 = .ok (.iload 5, 2) := dk_21 5 (dk_at dksX3_add_4 0 rfl rfl)
theorem dX3_add_95 : decode cX3_add 95 = .ok (.iadd, 1) := dk_96 (dk_at dksX3_add_4 2 rfl rfl)
theorem dX3_add_96 : decode cX3_add 96 = .ok (.dup2, 1) := dk_92 (dk_at dksX3_add_4 3 rfl rfl)
theorem dX3_add_97 : decode cX3_add 97 = .ok (.iaload, 1) := dk_46 (dk_at dksX3_add_4 4 rfl rfl)
theorem dX3_add_98 : decode cX3_add 98 = .ok (.iload 4, 2) := dk_21 4 (dk_at dksX3_add_4 5 rfl rfl)
theorem dX3_add_100 : decode cX3_add 100 = .ok (.aload_n 0, 1) := dk_42 (dk_at dksX3_add_4 7 rfl rfl)
theorem dX3_add_101 : decode cX3_add 101 = .ok (.getfield 13, 3) := dk_180 0 13 (dk_at dksX3_add_4 8 rfl rfl)
theorem dX3_add_104 : decode cX3_add 104 = .ok (.bipush 28, 2) := dk_16 28 (dk_at dksX3_add_4 11 rfl rfl)
theorem dX3_add_106 : decode cX3_add 106 = .ok (.bipush 9, 2) := dk_16 9 (dk_at dksX3_add_4 13 rfl rfl)
theorem dX3_add_108 : decode cX3_add 108 = .ok (.iload_n 1, 1) := dk_27 (dk_at dksX3_add_4 15 rfl rfl)
theorem dX3_add_109 : decode cX3_add 109 = .ok (.imul, 1) := dk_104 (dk_at dksX3_add_4 16 rfl rfl)
theorem dX3_add_110 : decode cX3_add 110 = .ok (.iadd, 1) := dk_96 (dk_at dksX3_add_4 17 rfl rfl)
theorem dX3_add_111 : decode cX3_add 111 = .ok (.iconst 3, 1) := dk_6 (dk_at dksX3_add_4 18 rfl rfl)
theorem dX3_add_112 : decode cX3_add 112 = .ok (.iload_n 3, 1) := dk_29 (dk_at dksX3_add_4 19 rfl rfl)
theorem dX3_add_113 : decode cX3_add 113 = .ok (.imul, 1) := dk_104 (dk_at dksX3_add_4 20 rfl rfl)
theorem dX3_add_114 : decode cX3_add 114 = .ok (.iadd, 1) := dk_96 (dk_at dksX3_add_4 21 rfl rfl)
theorem dX3_add_115 : decode cX3_add 115 = .ok (.iload 5, 2) := dk_21 5 (dk_at dksX3_add_4 22 rfl rfl)
theorem dX3_add_117 : decode cX3_add 117 = .ok (.iadd, 1) := dk_96 (dk_at dksX3_add_5 0 rfl rfl)
theorem dX3_add_118 : decode cX3_add 118 = .ok (.iaload, 1) := dk_46 (dk_at dksX3_add_5 1 rfl rfl)
theorem dX3_add_119 : decode cX3_add 119 = .ok (.imul, 1) := dk_104 (dk_at dksX3_add_5 2 rfl rfl)
theorem dX3_add_120 : decode cX3_add 120 = .ok (.iadd, 1) := dk_96 (dk_at dksX3_add_5 3 rfl rfl)
theorem dX3_add_121 : decode cX3_add 121 = .ok (.iastore, 1) := dk_79 (dk_at dksX3_add_5 4 rfl rfl)
theorem dX3_add_122 : decode cX3_add 122 = .ok (.iinc 5 1, 3) := dk_132 5 1 (dk_at dksX3_add_5 5 rfl rfl)
theorem dX3_add_125 : decode cX3_add 125 = .ok (.goto (-53), 3) := dk_167 255 203 (dk_at dksX3_add_5 8 rfl rfl)
theorem dX3_add_128 : decode cX3_add 128 = .ok (.aload_n 0, 1) := dk_42 (dk_at dksX3_add_5 11 rfl rfl)
theorem dX3_add_129 : decode cX3_add 129 = .ok (.iconst 1, 1) := dk_4 (dk_at dksX3_add_5 12 rfl rfl)
theorem dX3_add_130 : decode cX3_add 130 = .ok (.iload_n 1, 1) := dk_27 (dk_at dksX3_add_5 13 rfl rfl)
theorem dX3_add_131 : decode cX3_add 131 = .ok (.iload_n 2, 1) := dk_28 (dk_at dksX3_add_5 14 rfl rfl)
theorem dX3_add_132 : decode cX3_add 132 = .ok (.invokevirtual 440, 3) := dk_182 1 184 (dk_at dksX3_add_5 15 rfl rfl)
theorem dX3_add_135 : decode cX3_add 135 = .ok (.ireturn, 1) := dk_172 (dk_at dksX3_add_5 18 rfl rfl)
abbrev cX3_isOwn : ByteArray := prog_20_method_105_code
def yX3_isOwn : MethodName := ⟨RX3, "isOwn", "(I)Z"⟩
def dkwX3_isOwn_0 : List UInt8 := [42, 27, 182, 0, 211, 153, 0, 15, 42, 27, 182, 0, 187, 154, 0, 7, 4, 167, 0, 4, 3, 172]
abbrev dktX3_isOwn_0 : List UInt8 := dkwX3_isOwn_0 ++ []
theorem dksX3_isOwn_0 : cX3_isOwn.data.toList.drop 0 = dktX3_isOwn_0 := by decide +kernel
theorem dX3_isOwn_0 : decode cX3_isOwn 0 = .ok (.aload_n 0, 1) := dk_42 (dk_at dksX3_isOwn_0 0 rfl rfl)
theorem dX3_isOwn_1 : decode cX3_isOwn 1 = .ok (.iload_n 1, 1) := dk_27 (dk_at dksX3_isOwn_0 1 rfl rfl)
theorem dX3_isOwn_2 : decode cX3_isOwn 2 = .ok (.invokevirtual 211, 3) := dk_182 0 211 (dk_at dksX3_isOwn_0 2 rfl rfl)
theorem dX3_isOwn_5 : decode cX3_isOwn 5 = .ok (.ifCond .eq 15, 3) := dk_153 0 15 (dk_at dksX3_isOwn_0 5 rfl rfl)
theorem dX3_isOwn_8 : decode cX3_isOwn 8 = .ok (.aload_n 0, 1) := dk_42 (dk_at dksX3_isOwn_0 8 rfl rfl)
theorem dX3_isOwn_9 : decode cX3_isOwn 9 = .ok (.iload_n 1, 1) := dk_27 (dk_at dksX3_isOwn_0 9 rfl rfl)
theorem dX3_isOwn_10 : decode cX3_isOwn 10 = .ok (.invokevirtual 187, 3) := dk_182 0 187 (dk_at dksX3_isOwn_0 10 rfl rfl)
theorem dX3_isOwn_13 : decode cX3_isOwn 13 = .ok (.ifCond .ne 7, 3) := dk_154 0 7 (dk_at dksX3_isOwn_0 13 rfl rfl)
theorem dX3_isOwn_16 : decode cX3_isOwn 16 = .ok (.iconst 1, 1) := dk_4 (dk_at dksX3_isOwn_0 16 rfl rfl)
theorem dX3_isOwn_17 : decode cX3_isOwn 17 = .ok (.goto 4, 3) := dk_167 0 4 (dk_at dksX3_isOwn_0 17 rfl rfl)
theorem dX3_isOwn_20 : decode cX3_isOwn 20 = .ok (.iconst 0, 1) := dk_3 (dk_at dksX3_isOwn_0 20 rfl rfl)
theorem dX3_isOwn_21 : decode cX3_isOwn 21 = .ok (.ireturn, 1) := dk_172 (dk_at dksX3_isOwn_0 21 rfl rfl)
abbrev cX3_isRow : ByteArray := prog_20_method_106_code
def yX3_isRow : MethodName := ⟨RX3, "isRow", "(I)Z"⟩
def dkwX3_isRow_0 : List UInt8 := [26, 133, 9, 20, 0, 202, 184, 0, 88, 172]
abbrev dktX3_isRow_0 : List UInt8 := dkwX3_isRow_0 ++ []
theorem dksX3_isRow_0 : cX3_isRow.data.toList.drop 0 = dktX3_isRow_0 := by decide +kernel
theorem dX3_isRow_0 : decode cX3_isRow 0 = .ok (.iload_n 0, 1) := dk_26 (dk_at dksX3_isRow_0 0 rfl rfl)
theorem dX3_isRow_1 : decode cX3_isRow 1 = .ok (.i2l, 1) := dk_133 (dk_at dksX3_isRow_0 1 rfl rfl)
theorem dX3_isRow_2 : decode cX3_isRow 2 = .ok (.lconst 0, 1) := dk_9 (dk_at dksX3_isRow_0 2 rfl rfl)
theorem dX3_isRow_3 : decode cX3_isRow 3 = .ok (.ldc2_w 202, 3) := dk_20 0 202 (dk_at dksX3_isRow_0 3 rfl rfl)
theorem dX3_isRow_6 : decode cX3_isRow 6 = .ok (.invokestatic 88, 3) := dk_184 0 88 (dk_at dksX3_isRow_0 6 rfl rfl)
theorem dX3_isRow_9 : decode cX3_isRow 9 = .ok (.ireturn, 1) := dk_172 (dk_at dksX3_isRow_0 9 rfl rfl)
abbrev cX3_refuses : ByteArray := prog_20_method_107_code
def yX3_refuses : MethodName := ⟨RX3, "refuses", "(IIII)I"⟩
def dkwX3_refuses_1 : List UInt8 := [167, 0, 5, 21, 4, 181, 1, 157, 16, 251, 172]
abbrev dktX3_refuses_1 : List UInt8 := dkwX3_refuses_1 ++ []
def dkwX3_refuses_0 : List UInt8 := [42, 27, 181, 0, 184, 42, 28, 181, 1, 151, 42, 29, 181, 1, 154, 42, 28, 6, 160, 0, 7, 2]
abbrev dktX3_refuses_0 : List UInt8 := dkwX3_refuses_0 ++ dktX3_refuses_1
theorem dksX3_refuses_0 : cX3_refuses.data.toList.drop 0 = dktX3_refuses_0 := by decide +kernel
theorem dksX3_refuses_1 : cX3_refuses.data.toList.drop 22 = dktX3_refuses_1 := dk_seg dksX3_refuses_0 22 rfl rfl
theorem dX3_refuses_0 : decode cX3_refuses 0 = .ok (.aload_n 0, 1) := dk_42 (dk_at dksX3_refuses_0 0 rfl rfl)
theorem dX3_refuses_1 : decode cX3_refuses 1 = .ok (.iload_n 1, 1) := dk_27 (dk_at dksX3_refuses_0 1 rfl rfl)
theorem dX3_refuses_2 : decode cX3_refuses 2 = .ok (.putfield 184, 3) := dk_181 0 184 (dk_at dksX3_refuses_0 2 rfl rfl)
theorem dX3_refuses_5 : decode cX3_refuses 5 = .ok (.aload_n 0, 1) := dk_42 (dk_at dksX3_refuses_0 5 rfl rfl)
theorem dX3_refuses_6 : decode cX3_refuses 6 = .ok (.iload_n 2, 1) := dk_28 (dk_at dksX3_refuses_0 6 rfl rfl)
theorem dX3_refuses_7 : decode cX3_refuses 7 = .ok (.putfield 407, 3) := dk_181 1 151 (dk_at dksX3_refuses_0 7 rfl rfl)
theorem dX3_refuses_10 : decode cX3_refuses 10 = .ok (.aload_n 0, 1) := dk_42 (dk_at dksX3_refuses_0 10 rfl rfl)
theorem dX3_refuses_11 : decode cX3_refuses 11 = .ok (.iload_n 3, 1) := dk_29 (dk_at dksX3_refuses_0 11 rfl rfl)
theorem dX3_refuses_12 : decode cX3_refuses 12 = .ok (.putfield 410, 3) := dk_181 1 154 (dk_at dksX3_refuses_0 12 rfl rfl)
theorem dX3_refuses_15 : decode cX3_refuses 15 = .ok (.aload_n 0, 1) := dk_42 (dk_at dksX3_refuses_0 15 rfl rfl)
theorem dX3_refuses_16 : decode cX3_refuses 16 = .ok (.iload_n 2, 1) := dk_28 (dk_at dksX3_refuses_0 16 rfl rfl)
theorem dX3_refuses_17 : decode cX3_refuses 17 = .ok (.iconst 3, 1) := dk_6 (dk_at dksX3_refuses_0 17 rfl rfl)
theorem dX3_refuses_18 : decode cX3_refuses 18 = .ok (.if_icmp .ne 7, 3) := dk_160 0 7 (dk_at dksX3_refuses_0 18 rfl rfl)
theorem dX3_refuses_21 : decode cX3_refuses 21 = .ok (.iconst (-1), 1) := dk_2 (dk_at dksX3_refuses_0 21 rfl rfl)
theorem dX3_refuses_22 : decode cX3_refuses 22 = .ok (.goto 5, 3) := dk_167 0 5 (dk_at dksX3_refuses_1 0 rfl rfl)
theorem dX3_refuses_25 : decode cX3_refuses 25 = .ok (.iload 4, 2) := dk_21 4 (dk_at dksX3_refuses_1 3 rfl rfl)
theorem dX3_refuses_27 : decode cX3_refuses 27 = .ok (.putfield 413, 3) := dk_181 1 157 (dk_at dksX3_refuses_1 5 rfl rfl)
theorem dX3_refuses_30 : decode cX3_refuses 30 = .ok (.bipush (-5), 2) := dk_16 251 (dk_at dksX3_refuses_1 8 rfl rfl)
theorem dX3_refuses_32 : decode cX3_refuses 32 = .ok (.ireturn, 1) := dk_172 (dk_at dksX3_refuses_1 10 rfl rfl)
abbrev cX3_keeps : ByteArray := prog_20_method_108_code
def yX3_keeps : MethodName := ⟨RX3, "keeps", "()V"⟩
def dkwX3_keeps_2 : List UInt8 := [79, 177]
abbrev dktX3_keeps_2 : List UInt8 := dkwX3_keeps_2 ++ []
def dkwX3_keeps_1 : List UInt8 := [180, 0, 13, 16, 28, 27, 96, 46, 79, 132, 1, 1, 167, 255, 222, 42, 180, 0, 13, 5, 92, 46, 4, 96]
abbrev dktX3_keeps_1 : List UInt8 := dkwX3_keeps_1 ++ dktX3_keeps_2
def dkwX3_keeps_0 : List UInt8 := [3, 60, 27, 16, 45, 162, 0, 34, 42, 180, 0, 20, 16, 45, 42, 180, 0, 13, 5, 46, 104, 27, 96, 42]
abbrev dktX3_keeps_0 : List UInt8 := dkwX3_keeps_0 ++ dktX3_keeps_1
theorem dksX3_keeps_0 : cX3_keeps.data.toList.drop 0 = dktX3_keeps_0 := by decide +kernel
theorem dksX3_keeps_1 : cX3_keeps.data.toList.drop 24 = dktX3_keeps_1 := dk_seg dksX3_keeps_0 24 rfl rfl
theorem dksX3_keeps_2 : cX3_keeps.data.toList.drop 48 = dktX3_keeps_2 := dk_seg dksX3_keeps_1 24 rfl rfl
theorem dX3_keeps_0 : decode cX3_keeps 0 = .ok (.iconst 0, 1) := dk_3 (dk_at dksX3_keeps_0 0 rfl rfl)
theorem dX3_keeps_1 : decode cX3_keeps 1 = .ok (.istore_n 1, 1) := dk_60 (dk_at dksX3_keeps_0 1 rfl rfl)
theorem dX3_keeps_2 : decode cX3_keeps 2 = .ok (.iload_n 1, 1) := dk_27 (dk_at dksX3_keeps_0 2 rfl rfl)
theorem dX3_keeps_3 : decode cX3_keeps 3 = .ok (.bipush 45, 2) := dk_16 45 (dk_at dksX3_keeps_0 3 rfl rfl)
theorem dX3_keeps_5 : decode cX3_keeps 5 = .ok (.if_icmp .ge 34, 3) := dk_162 0 34 (dk_at dksX3_keeps_0 5 rfl rfl)
theorem dX3_keeps_8 : decode cX3_keeps 8 = .ok (.aload_n 0, 1) := dk_42 (dk_at dksX3_keeps_0 8 rfl rfl)
theorem dX3_keeps_9 : decode cX3_keeps 9 = .ok (.getfield 20, 3) := dk_180 0 20 (dk_at dksX3_keeps_0 9 rfl rfl)
theorem dX3_keeps_12 : decode cX3_keeps 12 = .ok (.bipush 45, 2) := dk_16 45 (dk_at dksX3_keeps_0 12 rfl rfl)
theorem dX3_keeps_14 : decode cX3_keeps 14 = .ok (.aload_n 0, 1) := dk_42 (dk_at dksX3_keeps_0 14 rfl rfl)
theorem dX3_keeps_15 : decode cX3_keeps 15 = .ok (.getfield 13, 3) := dk_180 0 13 (dk_at dksX3_keeps_0 15 rfl rfl)
theorem dX3_keeps_18 : decode cX3_keeps 18 = .ok (.iconst 2, 1) := dk_5 (dk_at dksX3_keeps_0 18 rfl rfl)
theorem dX3_keeps_19 : decode cX3_keeps 19 = .ok (.iaload, 1) := dk_46 (dk_at dksX3_keeps_0 19 rfl rfl)
theorem dX3_keeps_20 : decode cX3_keeps 20 = .ok (.imul, 1) := dk_104 (dk_at dksX3_keeps_0 20 rfl rfl)
theorem dX3_keeps_21 : decode cX3_keeps 21 = .ok (.iload_n 1, 1) := dk_27 (dk_at dksX3_keeps_0 21 rfl rfl)
theorem dX3_keeps_22 : decode cX3_keeps 22 = .ok (.iadd, 1) := dk_96 (dk_at dksX3_keeps_0 22 rfl rfl)
theorem dX3_keeps_23 : decode cX3_keeps 23 = .ok (.aload_n 0, 1) := dk_42 (dk_at dksX3_keeps_0 23 rfl rfl)
theorem dX3_keeps_24 : decode cX3_keeps 24 = .ok (.getfield 13, 3) := dk_180 0 13 (dk_at dksX3_keeps_1 0 rfl rfl)
theorem dX3_keeps_27 : decode cX3_keeps 27 = .ok (.bipush 28, 2) := dk_16 28 (dk_at dksX3_keeps_1 3 rfl rfl)
theorem dX3_keeps_29 : decode cX3_keeps 29 = .ok (.iload_n 1, 1) := dk_27 (dk_at dksX3_keeps_1 5 rfl rfl)
theorem dX3_keeps_30 : decode cX3_keeps 30 = .ok (.iadd, 1) := dk_96 (dk_at dksX3_keeps_1 6 rfl rfl)
theorem dX3_keeps_31 : decode cX3_keeps 31 = .ok (.iaload, 1) := dk_46 (dk_at dksX3_keeps_1 7 rfl rfl)
theorem dX3_keeps_32 : decode cX3_keeps 32 = .ok (.iastore, 1) := dk_79 (dk_at dksX3_keeps_1 8 rfl rfl)
theorem dX3_keeps_33 : decode cX3_keeps 33 = .ok (.iinc 1 1, 3) := dk_132 1 1 (dk_at dksX3_keeps_1 9 rfl rfl)
theorem dX3_keeps_36 : decode cX3_keeps 36 = .ok (.goto (-34), 3) := dk_167 255 222 (dk_at dksX3_keeps_1 12 rfl rfl)
theorem dX3_keeps_39 : decode cX3_keeps 39 = .ok (.aload_n 0, 1) := dk_42 (dk_at dksX3_keeps_1 15 rfl rfl)
theorem dX3_keeps_40 : decode cX3_keeps 40 = .ok (.getfield 13, 3) := dk_180 0 13 (dk_at dksX3_keeps_1 16 rfl rfl)
theorem dX3_keeps_43 : decode cX3_keeps 43 = .ok (.iconst 2, 1) := dk_5 (dk_at dksX3_keeps_1 19 rfl rfl)
theorem dX3_keeps_44 : decode cX3_keeps 44 = .ok (.dup2, 1) := dk_92 (dk_at dksX3_keeps_1 20 rfl rfl)
theorem dX3_keeps_45 : decode cX3_keeps 45 = .ok (.iaload, 1) := dk_46 (dk_at dksX3_keeps_1 21 rfl rfl)
theorem dX3_keeps_46 : decode cX3_keeps 46 = .ok (.iconst 1, 1) := dk_4 (dk_at dksX3_keeps_1 22 rfl rfl)
theorem dX3_keeps_47 : decode cX3_keeps 47 = .ok (.iadd, 1) := dk_96 (dk_at dksX3_keeps_1 23 rfl rfl)
theorem dX3_keeps_48 : decode cX3_keeps 48 = .ok (.iastore, 1) := dk_79 (dk_at dksX3_keeps_2 0 rfl rfl)
theorem dX3_keeps_49 : decode cX3_keeps 49 = .ok (.return_, 1) := dk_177 (dk_at dksX3_keeps_2 1 rfl rfl)
abbrev cX3_stays : ByteArray := prog_20_method_110_code
def yX3_stays : MethodName := ⟨RX3, "stays", "(III)I"⟩
def dkwX3_stays_5 : List UInt8 := [182, 1, 164, 42, 27, 21, 5, 28, 29, 182, 1, 167, 172]
abbrev dktX3_stays_5 : List UInt8 := dkwX3_stays_5 ++ []
def dkwX3_stays_4 : List UInt8 := [167, 0, 4, 3, 54, 5, 21, 5, 154, 0, 5, 3, 172, 42, 42, 180, 0, 13, 5, 46, 4, 100]
abbrev dktX3_stays_4 : List UInt8 := dkwX3_stays_4 ++ dktX3_stays_5
def dkwX3_stays_3 : List UInt8 := [16, 9, 28, 104, 96, 182, 0, 172, 184, 0, 1, 10, 20, 0, 176, 184, 0, 88, 154, 0, 7, 5]
abbrev dktX3_stays_3 : List UInt8 := dkwX3_stays_3 ++ dktX3_stays_4
def dkwX3_stays_2 : List UInt8 := [167, 0, 4, 3, 54, 4, 132, 5, 1, 167, 255, 206, 21, 4, 153, 0, 7, 4, 167, 0, 32, 42, 16, 28]
abbrev dktX3_stays_2 : List UInt8 := dkwX3_stays_2 ++ dktX3_stays_3
def dkwX3_stays_1 : List UInt8 := [16, 9, 28, 104, 96, 21, 5, 96, 46, 133, 20, 1, 160, 20, 1, 162, 184, 0, 88, 154, 0, 7, 4]
abbrev dktX3_stays_1 : List UInt8 := dkwX3_stays_1 ++ dktX3_stays_2
def dkwX3_stays_0 : List UInt8 := [3, 54, 4, 3, 54, 5, 21, 5, 16, 9, 162, 0, 49, 21, 4, 154, 0, 31, 42, 180, 0, 13, 16, 28]
abbrev dktX3_stays_0 : List UInt8 := dkwX3_stays_0 ++ dktX3_stays_1
theorem dksX3_stays_0 : cX3_stays.data.toList.drop 0 = dktX3_stays_0 := by decide +kernel
theorem dksX3_stays_1 : cX3_stays.data.toList.drop 24 = dktX3_stays_1 := dk_seg dksX3_stays_0 24 rfl rfl
theorem dksX3_stays_2 : cX3_stays.data.toList.drop 47 = dktX3_stays_2 := dk_seg dksX3_stays_1 23 rfl rfl
theorem dksX3_stays_3 : cX3_stays.data.toList.drop 71 = dktX3_stays_3 := dk_seg dksX3_stays_2 24 rfl rfl
theorem dksX3_stays_4 : cX3_stays.data.toList.drop 93 = dktX3_stays_4 := dk_seg dksX3_stays_3 22 rfl rfl
theorem dksX3_stays_5 : cX3_stays.data.toList.drop 115 = dktX3_stays_5 := dk_seg dksX3_stays_4 22 rfl rfl
theorem dX3_stays_0 : decode cX3_stays 0 = .ok (.iconst 0, 1) := dk_3 (dk_at dksX3_stays_0 0 rfl rfl)
theorem dX3_stays_1 : decode cX3_stays 1 = .ok (.istore 4, 2) := dk_54 4 (dk_at dksX3_stays_0 1 rfl rfl)
theorem dX3_stays_3 : decode cX3_stays 3 = .ok (.iconst 0, 1) := dk_3 (dk_at dksX3_stays_0 3 rfl rfl)
theorem dX3_stays_4 : decode cX3_stays 4 = .ok (.istore 5, 2) := dk_54 5 (dk_at dksX3_stays_0 4 rfl rfl)
theorem dX3_stays_6 : decode cX3_stays 6 = .ok (.iload 5, 2) := dk_21 5 (dk_at dksX3_stays_0 6 rfl rfl)
theorem dX3_stays_8 : decode cX3_stays 8 = .ok (.bipush 9, 2) := dk_16 9 (dk_at dksX3_stays_0 8 rfl rfl)
theorem dX3_stays_10 : decode cX3_stays 10 = .ok (.if_icmp .ge 49, 3) := dk_162 0 49 (dk_at dksX3_stays_0 10 rfl rfl)
theorem dX3_stays_13 : decode cX3_stays 13 = .ok (.iload 4, 2) := dk_21 4 (dk_at dksX3_stays_0 13 rfl rfl)
theorem dX3_stays_15 : decode cX3_stays 15 = .ok (.ifCond .ne 31, 3) := dk_154 0 31 (dk_at dksX3_stays_0 15 rfl rfl)
theorem dX3_stays_18 : decode cX3_stays 18 = .ok (.aload_n 0, 1) := dk_42 (dk_at dksX3_stays_0 18 rfl rfl)
theorem dX3_stays_19 : decode cX3_stays 19 = .ok (.getfield 13, 3) := dk_180 0 13 (dk_at dksX3_stays_0 19 rfl rfl)
theorem dX3_stays_22 : decode cX3_stays 22 = .ok (.bipush 28, 2) := dk_16 28 (dk_at dksX3_stays_0 22 rfl rfl)
theorem dX3_stays_24 : decode cX3_stays 24 = .ok (.bipush 9, 2) := dk_16 9 (dk_at dksX3_stays_1 0 rfl rfl)
theorem dX3_stays_26 : decode cX3_stays 26 = .ok (.iload_n 2, 1) := dk_28 (dk_at dksX3_stays_1 2 rfl rfl)
theorem dX3_stays_27 : decode cX3_stays 27 = .ok (.imul, 1) := dk_104 (dk_at dksX3_stays_1 3 rfl rfl)
theorem dX3_stays_28 : decode cX3_stays 28 = .ok (.iadd, 1) := dk_96 (dk_at dksX3_stays_1 4 rfl rfl)
theorem dX3_stays_29 : decode cX3_stays 29 = .ok (.iload 5, 2) := dk_21 5 (dk_at dksX3_stays_1 5 rfl rfl)
theorem dX3_stays_31 : decode cX3_stays 31 = .ok (.iadd, 1) := dk_96 (dk_at dksX3_stays_1 7 rfl rfl)
theorem dX3_stays_32 : decode cX3_stays 32 = .ok (.iaload, 1) := dk_46 (dk_at dksX3_stays_1 8 rfl rfl)
theorem dX3_stays_33 : decode cX3_stays 33 = .ok (.i2l, 1) := dk_133 (dk_at dksX3_stays_1 9 rfl rfl)
theorem dX3_stays_34 : decode cX3_stays 34 = .ok (.ldc2_w 416, 3) := dk_20 1 160 (dk_at dksX3_stays_1 10 rfl rfl)
theorem dX3_stays_37 : decode cX3_stays 37 = .ok (.ldc2_w 418, 3) := dk_20 1 162 (dk_at dksX3_stays_1 13 rfl rfl)
theorem dX3_stays_40 : decode cX3_stays 40 = .ok (.invokestatic 88, 3) := dk_184 0 88 (dk_at dksX3_stays_1 16 rfl rfl)
theorem dX3_stays_43 : decode cX3_stays 43 = .ok (.ifCond .ne 7, 3) := dk_154 0 7 (dk_at dksX3_stays_1 19 rfl rfl)
theorem dX3_stays_46 : decode cX3_stays 46 = .ok (.iconst 1, 1) := dk_4 (dk_at dksX3_stays_1 22 rfl rfl)
theorem dX3_stays_47 : decode cX3_stays 47 = .ok (.goto 4, 3) := dk_167 0 4 (dk_at dksX3_stays_2 0 rfl rfl)
theorem dX3_stays_50 : decode cX3_stays 50 = .ok (.iconst 0, 1) := dk_3 (dk_at dksX3_stays_2 3 rfl rfl)
theorem dX3_stays_51 : decode cX3_stays 51 = .ok (.istore 4, 2) := dk_54 4 (dk_at dksX3_stays_2 4 rfl rfl)
theorem dX3_stays_53 : decode cX3_stays 53 = .ok (.iinc 5 1, 3) := dk_132 5 1 (dk_at dksX3_stays_2 6 rfl rfl)
theorem dX3_stays_56 : decode cX3_stays 56 = .ok (.goto (-50), 3) := dk_167 255 206 (dk_at dksX3_stays_2 9 rfl rfl)
theorem dX3_stays_59 : decode cX3_stays 59 = .ok (.iload 4, 2) := dk_21 4 (dk_at dksX3_stays_2 12 rfl rfl)
theorem dX3_stays_61 : decode cX3_stays 61 = .ok (.ifCond .eq 7, 3) := dk_153 0 7 (dk_at dksX3_stays_2 14 rfl rfl)
theorem dX3_stays_64 : decode cX3_stays 64 = .ok (.iconst 1, 1) := dk_4 (dk_at dksX3_stays_2 17 rfl rfl)
theorem dX3_stays_65 : decode cX3_stays 65 = .ok (.goto 32, 3) := dk_167 0 32 (dk_at dksX3_stays_2 18 rfl rfl)
theorem dX3_stays_68 : decode cX3_stays 68 = .ok (.aload_n 0, 1) := dk_42 (dk_at dksX3_stays_2 21 rfl rfl)
theorem dX3_stays_69 : decode cX3_stays 69 = .ok (.bipush 28, 2) := dk_16 28 (dk_at dksX3_stays_2 22 rfl rfl)
theorem dX3_stays_71 : decode cX3_stays 71 = .ok (.bipush 9, 2) := dk_16 9 (dk_at dksX3_stays_3 0 rfl rfl)
theorem dX3_stays_73 : decode cX3_stays 73 = .ok (.iload_n 2, 1) := dk_28 (dk_at dksX3_stays_3 2 rfl rfl)
theorem dX3_stays_74 : decode cX3_stays 74 = .ok (.imul, 1) := dk_104 (dk_at dksX3_stays_3 3 rfl rfl)
theorem dX3_stays_75 : decode cX3_stays 75 = .ok (.iadd, 1) := dk_96 (dk_at dksX3_stays_3 4 rfl rfl)
theorem dX3_stays_76 : decode cX3_stays 76 = .ok (.invokevirtual 172, 3) := dk_182 0 172 (dk_at dksX3_stays_3 5 rfl rfl)
theorem dX3_stays_79 : decode cX3_stays 79 = .ok (.invokestatic 1, 3) := dk_184 0 1 (dk_at dksX3_stays_3 8 rfl rfl)
theorem dX3_stays_82 : decode cX3_stays 82 = .ok (.lconst 1, 1) := dk_10 (dk_at dksX3_stays_3 11 rfl rfl)
theorem dX3_stays_83 : decode cX3_stays 83 = .ok (.ldc2_w 176, 3) := dk_20 0 176 (dk_at dksX3_stays_3 12 rfl rfl)
theorem dX3_stays_86 : decode cX3_stays 86 = .ok (.invokestatic 88, 3) := dk_184 0 88 (dk_at dksX3_stays_3 15 rfl rfl)
theorem dX3_stays_89 : decode cX3_stays 89 = .ok (.ifCond .ne 7, 3) := dk_154 0 7 (dk_at dksX3_stays_3 18 rfl rfl)
theorem dX3_stays_92 : decode cX3_stays 92 = .ok (.iconst 2, 1) := dk_5 (dk_at dksX3_stays_3 21 rfl rfl)
theorem dX3_stays_93 : decode cX3_stays 93 = .ok (.goto 4, 3) := dk_167 0 4 (dk_at dksX3_stays_4 0 rfl rfl)
theorem dX3_stays_96 : decode cX3_stays 96 = .ok (.iconst 0, 1) := dk_3 (dk_at dksX3_stays_4 3 rfl rfl)
theorem dX3_stays_97 : decode cX3_stays 97 = .ok (.istore 5, 2) := dk_54 5 (dk_at dksX3_stays_4 4 rfl rfl)
theorem dX3_stays_99 : decode cX3_stays 99 = .ok (.iload 5, 2) := dk_21 5 (dk_at dksX3_stays_4 6 rfl rfl)
theorem dX3_stays_101 : decode cX3_stays 101 = .ok (.ifCond .ne 5, 3) := dk_154 0 5 (dk_at dksX3_stays_4 8 rfl rfl)
theorem dX3_stays_104 : decode cX3_stays 104 = .ok (.iconst 0, 1) := dk_3 (dk_at dksX3_stays_4 11 rfl rfl)
theorem dX3_stays_105 : decode cX3_stays 105 = .ok (.ireturn, 1) := dk_172 (dk_at dksX3_stays_4 12 rfl rfl)
theorem dX3_stays_106 : decode cX3_stays 106 = .ok (.aload_n 0, 1) := dk_42 (dk_at dksX3_stays_4 13 rfl rfl)
theorem dX3_stays_107 : decode cX3_stays 107 = .ok (.aload_n 0, 1) := dk_42 (dk_at dksX3_stays_4 14 rfl rfl)
theorem dX3_stays_108 : decode cX3_stays 108 = .ok (.getfield 13, 3) := dk_180 0 13 (dk_at dksX3_stays_4 15 rfl rfl)
theorem dX3_stays_111 : decode cX3_stays 111 = .ok (.iconst 2, 1) := dk_5 (dk_at dksX3_stays_4 18 rfl rfl)
theorem dX3_stays_112 : decode cX3_stays 112 = .ok (.iaload, 1) := dk_46 (dk_at dksX3_stays_4 19 rfl rfl)
theorem dX3_stays_113 : decode cX3_stays 113 = .ok (.iconst 1, 1) := dk_4 (dk_at dksX3_stays_4 20 rfl rfl)
theorem dX3_stays_114 : decode cX3_stays 114 = .ok (.isub, 1) := dk_100 (dk_at dksX3_stays_4 21 rfl rfl)
theorem dX3_stays_115 : decode cX3_stays 115 = .ok (.invokevirtual 420, 3) := dk_182 1 164 (dk_at dksX3_stays_5 0 rfl rfl)
theorem dX3_stays_118 : decode cX3_stays 118 = .ok (.aload_n 0, 1) := dk_42 (dk_at dksX3_stays_5 3 rfl rfl)
theorem dX3_stays_119 : decode cX3_stays 119 = .ok (.iload_n 1, 1) := dk_27 (dk_at dksX3_stays_5 4 rfl rfl)
theorem dX3_stays_120 : decode cX3_stays 120 = .ok (.iload 5, 2) := dk_21 5 (dk_at dksX3_stays_5 5 rfl rfl)
theorem dX3_stays_122 : decode cX3_stays 122 = .ok (.iload_n 2, 1) := dk_28 (dk_at dksX3_stays_5 7 rfl rfl)
theorem dX3_stays_123 : decode cX3_stays 123 = .ok (.iload_n 3, 1) := dk_29 (dk_at dksX3_stays_5 8 rfl rfl)
theorem dX3_stays_124 : decode cX3_stays 124 = .ok (.invokevirtual 423, 3) := dk_182 1 167 (dk_at dksX3_stays_5 9 rfl rfl)
theorem dX3_stays_127 : decode cX3_stays 127 = .ok (.ireturn, 1) := dk_172 (dk_at dksX3_stays_5 12 rfl rfl)
abbrev cX3_goesBack : ByteArray := prog_20_method_109_code
def yX3_goesBack : MethodName := ⟨RX3, "goesBack", "(I)V"⟩
def dkwX3_goesBack_1 : List UInt8 := [180, 0, 20, 16, 45, 27, 104, 28, 96, 46, 79, 132, 2, 1, 167, 255, 227, 177]
abbrev dktX3_goesBack_1 : List UInt8 := dkwX3_goesBack_1 ++ []
def dkwX3_goesBack_0 : List UInt8 := [42, 180, 0, 13, 5, 27, 79, 3, 61, 28, 16, 45, 162, 0, 29, 42, 180, 0, 13, 16, 28, 28, 96, 42]
abbrev dktX3_goesBack_0 : List UInt8 := dkwX3_goesBack_0 ++ dktX3_goesBack_1
theorem dksX3_goesBack_0 : cX3_goesBack.data.toList.drop 0 = dktX3_goesBack_0 := by decide +kernel
theorem dksX3_goesBack_1 : cX3_goesBack.data.toList.drop 24 = dktX3_goesBack_1 := dk_seg dksX3_goesBack_0 24 rfl rfl
theorem dX3_goesBack_0 : decode cX3_goesBack 0 = .ok (.aload_n 0, 1) := dk_42 (dk_at dksX3_goesBack_0 0 rfl rfl)
theorem dX3_goesBack_1 : decode cX3_goesBack 1 = .ok (.getfield 13, 3) := dk_180 0 13 (dk_at dksX3_goesBack_0 1 rfl rfl)
theorem dX3_goesBack_4 : decode cX3_goesBack 4 = .ok (.iconst 2, 1) := dk_5 (dk_at dksX3_goesBack_0 4 rfl rfl)
theorem dX3_goesBack_5 : decode cX3_goesBack 5 = .ok (.iload_n 1, 1) := dk_27 (dk_at dksX3_goesBack_0 5 rfl rfl)
theorem dX3_goesBack_6 : decode cX3_goesBack 6 = .ok (.iastore, 1) := dk_79 (dk_at dksX3_goesBack_0 6 rfl rfl)
theorem dX3_goesBack_7 : decode cX3_goesBack 7 = .ok (.iconst 0, 1) := dk_3 (dk_at dksX3_goesBack_0 7 rfl rfl)
theorem dX3_goesBack_8 : decode cX3_goesBack 8 = .ok (.istore_n 2, 1) := dk_61 (dk_at dksX3_goesBack_0 8 rfl rfl)
theorem dX3_goesBack_9 : decode cX3_goesBack 9 = .ok (.iload_n 2, 1) := dk_28 (dk_at dksX3_goesBack_0 9 rfl rfl)
theorem dX3_goesBack_10 : decode cX3_goesBack 10 = .ok (.bipush 45, 2) := dk_16 45 (dk_at dksX3_goesBack_0 10 rfl rfl)
theorem dX3_goesBack_12 : decode cX3_goesBack 12 = .ok (.if_icmp .ge 29, 3) := dk_162 0 29 (dk_at dksX3_goesBack_0 12 rfl rfl)
theorem dX3_goesBack_15 : decode cX3_goesBack 15 = .ok (.aload_n 0, 1) := dk_42 (dk_at dksX3_goesBack_0 15 rfl rfl)
theorem dX3_goesBack_16 : decode cX3_goesBack 16 = .ok (.getfield 13, 3) := dk_180 0 13 (dk_at dksX3_goesBack_0 16 rfl rfl)
theorem dX3_goesBack_19 : decode cX3_goesBack 19 = .ok (.bipush 28, 2) := dk_16 28 (dk_at dksX3_goesBack_0 19 rfl rfl)
theorem dX3_goesBack_21 : decode cX3_goesBack 21 = .ok (.iload_n 2, 1) := dk_28 (dk_at dksX3_goesBack_0 21 rfl rfl)
theorem dX3_goesBack_22 : decode cX3_goesBack 22 = .ok (.iadd, 1) := dk_96 (dk_at dksX3_goesBack_0 22 rfl rfl)
theorem dX3_goesBack_23 : decode cX3_goesBack 23 = .ok (.aload_n 0, 1) := dk_42 (dk_at dksX3_goesBack_0 23 rfl rfl)
theorem dX3_goesBack_24 : decode cX3_goesBack 24 = .ok (.getfield 20, 3) := dk_180 0 20 (dk_at dksX3_goesBack_1 0 rfl rfl)
theorem dX3_goesBack_27 : decode cX3_goesBack 27 = .ok (.bipush 45, 2) := dk_16 45 (dk_at dksX3_goesBack_1 3 rfl rfl)
theorem dX3_goesBack_29 : decode cX3_goesBack 29 = .ok (.iload_n 1, 1) := dk_27 (dk_at dksX3_goesBack_1 5 rfl rfl)
theorem dX3_goesBack_30 : decode cX3_goesBack 30 = .ok (.imul, 1) := dk_104 (dk_at dksX3_goesBack_1 6 rfl rfl)
theorem dX3_goesBack_31 : decode cX3_goesBack 31 = .ok (.iload_n 2, 1) := dk_28 (dk_at dksX3_goesBack_1 7 rfl rfl)
theorem dX3_goesBack_32 : decode cX3_goesBack 32 = .ok (.iadd, 1) := dk_96 (dk_at dksX3_goesBack_1 8 rfl rfl)
theorem dX3_goesBack_33 : decode cX3_goesBack 33 = .ok (.iaload, 1) := dk_46 (dk_at dksX3_goesBack_1 9 rfl rfl)
theorem dX3_goesBack_34 : decode cX3_goesBack 34 = .ok (.iastore, 1) := dk_79 (dk_at dksX3_goesBack_1 10 rfl rfl)
theorem dX3_goesBack_35 : decode cX3_goesBack 35 = .ok (.iinc 2 1, 3) := dk_132 2 1 (dk_at dksX3_goesBack_1 11 rfl rfl)
theorem dX3_goesBack_38 : decode cX3_goesBack 38 = .ok (.goto (-29), 3) := dk_167 255 227 (dk_at dksX3_goesBack_1 14 rfl rfl)
theorem dX3_goesBack_41 : decode cX3_goesBack 41 = .ok (.return_, 1) := dk_177 (dk_at dksX3_goesBack_1 17 rfl rfl)
abbrev cX3_exchange : ByteArray := prog_20_method_112_code
def yX3_exchange : MethodName := ⟨RX3, "exchange", "(III)I"⟩
def dkwX3_exchange_6 : List UInt8 := [21, 5, 79, 132, 4, 1, 167, 255, 167, 3, 172]
abbrev dktX3_exchange_6 : List UInt8 := dkwX3_exchange_6 ++ []
def dkwX3_exchange_5 : List UInt8 := [21, 4, 96, 46, 79, 42, 180, 0, 13, 16, 28, 16, 9, 27, 104, 96, 6, 29, 104, 96, 21, 4, 96]
abbrev dktX3_exchange_5 : List UInt8 := dkwX3_exchange_5 ++ dktX3_exchange_6
def dkwX3_exchange_4 : List UInt8 := [104, 96, 6, 28, 104, 96, 21, 4, 96, 42, 180, 0, 13, 16, 28, 16, 9, 27, 104, 96, 6, 29, 104, 96]
abbrev dktX3_exchange_4 : List UInt8 := dkwX3_exchange_4 ++ dktX3_exchange_5
def dkwX3_exchange_3 : List UInt8 := [16, 9, 27, 104, 96, 6, 28, 104, 96, 21, 4, 96, 46, 54, 5, 42, 180, 0, 13, 16, 28, 16, 9, 27]
abbrev dktX3_exchange_3 : List UInt8 := dkwX3_exchange_3 ++ dktX3_exchange_4
def dkwX3_exchange_2 : List UInt8 := [182, 1, 167, 172, 42, 182, 1, 181, 3, 54, 4, 21, 4, 6, 162, 0, 89, 42, 180, 0, 13, 16, 28]
abbrev dktX3_exchange_2 : List UInt8 := dkwX3_exchange_2 ++ dktX3_exchange_3
def dkwX3_exchange_1 : List UInt8 := [160, 0, 6, 16, 254, 172, 42, 180, 0, 13, 5, 46, 16, 20, 160, 0, 12, 42, 5, 6, 27, 28]
abbrev dktX3_exchange_1 : List UInt8 := dkwX3_exchange_1 ++ dktX3_exchange_2
def dkwX3_exchange_0 : List UInt8 := [42, 27, 182, 1, 171, 153, 0, 22, 28, 184, 1, 174, 153, 0, 15, 29, 184, 1, 174, 153, 0, 8, 28, 29]
abbrev dktX3_exchange_0 : List UInt8 := dkwX3_exchange_0 ++ dktX3_exchange_1
theorem dksX3_exchange_0 : cX3_exchange.data.toList.drop 0 = dktX3_exchange_0 := by decide +kernel
theorem dksX3_exchange_1 : cX3_exchange.data.toList.drop 24 = dktX3_exchange_1 := dk_seg dksX3_exchange_0 24 rfl rfl
theorem dksX3_exchange_2 : cX3_exchange.data.toList.drop 46 = dktX3_exchange_2 := dk_seg dksX3_exchange_1 22 rfl rfl
theorem dksX3_exchange_3 : cX3_exchange.data.toList.drop 69 = dktX3_exchange_3 := dk_seg dksX3_exchange_2 23 rfl rfl
theorem dksX3_exchange_4 : cX3_exchange.data.toList.drop 93 = dktX3_exchange_4 := dk_seg dksX3_exchange_3 24 rfl rfl
theorem dksX3_exchange_5 : cX3_exchange.data.toList.drop 117 = dktX3_exchange_5 := dk_seg dksX3_exchange_4 24 rfl rfl
theorem dksX3_exchange_6 : cX3_exchange.data.toList.drop 140 = dktX3_exchange_6 := dk_seg dksX3_exchange_5 23 rfl rfl
theorem dX3_exchange_0 : decode cX3_exchange 0 = .ok (.aload_n 0, 1) := dk_42 (dk_at dksX3_exchange_0 0 rfl rfl)
theorem dX3_exchange_1 : decode cX3_exchange 1 = .ok (.iload_n 1, 1) := dk_27 (dk_at dksX3_exchange_0 1 rfl rfl)
theorem dX3_exchange_2 : decode cX3_exchange 2 = .ok (.invokevirtual 427, 3) := dk_182 1 171 (dk_at dksX3_exchange_0 2 rfl rfl)
theorem dX3_exchange_5 : decode cX3_exchange 5 = .ok (.ifCond .eq 22, 3) := dk_153 0 22 (dk_at dksX3_exchange_0 5 rfl rfl)
theorem dX3_exchange_8 : decode cX3_exchange 8 = .ok (.iload_n 2, 1) := dk_28 (dk_at dksX3_exchange_0 8 rfl rfl)
theorem dX3_exchange_9 : decode cX3_exchange 9 = .ok (.invokestatic 430, 3) := dk_184 1 174 (dk_at dksX3_exchange_0 9 rfl rfl)
theorem dX3_exchange_12 : decode cX3_exchange 12 = .ok (.ifCond .eq 15, 3) := dk_153 0 15 (dk_at dksX3_exchange_0 12 rfl rfl)
theorem dX3_exchange_15 : decode cX3_exchange 15 = .ok (.iload_n 3, 1) := dk_29 (dk_at dksX3_exchange_0 15 rfl rfl)
theorem dX3_exchange_16 : decode cX3_exchange 16 = .ok (.invokestatic 430, 3) := dk_184 1 174 (dk_at dksX3_exchange_0 16 rfl rfl)
theorem dX3_exchange_19 : decode cX3_exchange 19 = .ok (.ifCond .eq 8, 3) := dk_153 0 8 (dk_at dksX3_exchange_0 19 rfl rfl)
theorem dX3_exchange_22 : decode cX3_exchange 22 = .ok (.iload_n 2, 1) := dk_28 (dk_at dksX3_exchange_0 22 rfl rfl)
theorem dX3_exchange_23 : decode cX3_exchange 23 = .ok (.iload_n 3, 1) := dk_29 (dk_at dksX3_exchange_0 23 rfl rfl)
theorem dX3_exchange_24 : decode cX3_exchange 24 = .ok (.if_icmp .ne 6, 3) := dk_160 0 6 (dk_at dksX3_exchange_1 0 rfl rfl)
theorem dX3_exchange_27 : decode cX3_exchange 27 = .ok (.bipush (-2), 2) := dk_16 254 (dk_at dksX3_exchange_1 3 rfl rfl)
theorem dX3_exchange_29 : decode cX3_exchange 29 = .ok (.ireturn, 1) := dk_172 (dk_at dksX3_exchange_1 5 rfl rfl)
theorem dX3_exchange_30 : decode cX3_exchange 30 = .ok (.aload_n 0, 1) := dk_42 (dk_at dksX3_exchange_1 6 rfl rfl)
theorem dX3_exchange_31 : decode cX3_exchange 31 = .ok (.getfield 13, 3) := dk_180 0 13 (dk_at dksX3_exchange_1 7 rfl rfl)
theorem dX3_exchange_34 : decode cX3_exchange 34 = .ok (.iconst 2, 1) := dk_5 (dk_at dksX3_exchange_1 10 rfl rfl)
theorem dX3_exchange_35 : decode cX3_exchange 35 = .ok (.iaload, 1) := dk_46 (dk_at dksX3_exchange_1 11 rfl rfl)
theorem dX3_exchange_36 : decode cX3_exchange 36 = .ok (.bipush 20, 2) := dk_16 20 (dk_at dksX3_exchange_1 12 rfl rfl)
theorem dX3_exchange_38 : decode cX3_exchange 38 = .ok (.if_icmp .ne 12, 3) := dk_160 0 12 (dk_at dksX3_exchange_1 14 rfl rfl)
theorem dX3_exchange_41 : decode cX3_exchange 41 = .ok (.aload_n 0, 1) := dk_42 (dk_at dksX3_exchange_1 17 rfl rfl)
theorem dX3_exchange_42 : decode cX3_exchange 42 = .ok (.iconst 2, 1) := dk_5 (dk_at dksX3_exchange_1 18 rfl rfl)
theorem dX3_exchange_43 : decode cX3_exchange 43 = .ok (.iconst 3, 1) := dk_6 (dk_at dksX3_exchange_1 19 rfl rfl)
theorem dX3_exchange_44 : decode cX3_exchange 44 = .ok (.iload_n 1, 1) := dk_27 (dk_at dksX3_exchange_1 20 rfl rfl)
theorem dX3_exchange_45 : decode cX3_exchange 45 = .ok (.iload_n 2, 1) := dk_28 (dk_at dksX3_exchange_1 21 rfl rfl)
theorem dX3_exchange_46 : decode cX3_exchange 46 = .ok (.invokevirtual 423, 3) := dk_182 1 167 (dk_at dksX3_exchange_2 0 rfl rfl)
theorem dX3_exchange_49 : decode cX3_exchange 49 = .ok (.ireturn, 1) := dk_172 (dk_at dksX3_exchange_2 3 rfl rfl)
theorem dX3_exchange_50 : decode cX3_exchange 50 = .ok (.aload_n 0, 1) := dk_42 (dk_at dksX3_exchange_2 4 rfl rfl)
theorem dX3_exchange_51 : decode cX3_exchange 51 = .ok (.invokevirtual 437, 3) := dk_182 1 181 (dk_at dksX3_exchange_2 5 rfl rfl)
theorem dX3_exchange_54 : decode cX3_exchange 54 = .ok (.iconst 0, 1) := dk_3 (dk_at dksX3_exchange_2 8 rfl rfl)
theorem dX3_exchange_55 : decode cX3_exchange 55 = .ok (.istore 4, 2) := dk_54 4 (dk_at dksX3_exchange_2 9 rfl rfl)
theorem dX3_exchange_57 : decode cX3_exchange 57 = .ok (.iload 4, 2) := dk_21 4 (dk_at dksX3_exchange_2 11 rfl rfl)
theorem dX3_exchange_59 : decode cX3_exchange 59 = .ok (.iconst 3, 1) := dk_6 (dk_at dksX3_exchange_2 13 rfl rfl)
theorem dX3_exchange_60 : decode cX3_exchange 60 = .ok (.if_icmp .ge 89, 3) := dk_162 0 89 (dk_at dksX3_exchange_2 14 rfl rfl)
theorem dX3_exchange_63 : decode cX3_exchange 63 = .ok (.aload_n 0, 1) := dk_42 (dk_at dksX3_exchange_2 17 rfl rfl)
theorem dX3_exchange_64 : decode cX3_exchange 64 = .ok (.getfield 13, 3) := dk_180 0 13 (dk_at dksX3_exchange_2 18 rfl rfl)
theorem dX3_exchange_67 : decode cX3_exchange 67 = .ok (.bipush 28, 2) := dk_16 28 (dk_at dksX3_exchange_2 21 rfl rfl)
theorem dX3_exchange_69 : decode cX3_exchange 69 = .ok (.bipush 9, 2) := dk_16 9 (dk_at dksX3_exchange_3 0 rfl rfl)
theorem dX3_exchange_71 : decode cX3_exchange 71 = .ok (.iload_n 1, 1) := dk_27 (dk_at dksX3_exchange_3 2 rfl rfl)
theorem dX3_exchange_72 : decode cX3_exchange 72 = .ok (.imul, 1) := dk_104 (dk_at dksX3_exchange_3 3 rfl rfl)
theorem dX3_exchange_73 : decode cX3_exchange 73 = .ok (.iadd, 1) := dk_96 (dk_at dksX3_exchange_3 4 rfl rfl)
theorem dX3_exchange_74 : decode cX3_exchange 74 = .ok (.iconst 3, 1) := dk_6 (dk_at dksX3_exchange_3 5 rfl rfl)
theorem dX3_exchange_75 : decode cX3_exchange 75 = .ok (.iload_n 2, 1) := dk_28 (dk_at dksX3_exchange_3 6 rfl rfl)
theorem dX3_exchange_76 : decode cX3_exchange 76 = .ok (.imul, 1) := dk_104 (dk_at dksX3_exchange_3 7 rfl rfl)
theorem dX3_exchange_77 : decode cX3_exchange 77 = .ok (.iadd, 1) := dk_96 (dk_at dksX3_exchange_3 8 rfl rfl)
theorem dX3_exchange_78 : decode cX3_exchange 78 = .ok (.iload 4, 2) := dk_21 4 (dk_at dksX3_exchange_3 9 rfl rfl)
theorem dX3_exchange_80 : decode cX3_exchange 80 = .ok (.iadd, 1) := dk_96 (dk_at dksX3_exchange_3 11 rfl rfl)
theorem dX3_exchange_81 : decode cX3_exchange 81 = .ok (.iaload, 1) := dk_46 (dk_at dksX3_exchange_3 12 rfl rfl)
theorem dX3_exchange_82 : decode cX3_exchange 82 = .ok (.istore 5, 2) := dk_54 5 (dk_at dksX3_exchange_3 13 rfl rfl)
theorem dX3_exchange_84 : decode cX3_exchange 84 = .ok (.aload_n 0, 1) := dk_42 (dk_at dksX3_exchange_3 15 rfl rfl)
theorem dX3_exchange_85 : decode cX3_exchange 85 = .ok (.getfield 13, 3) := dk_180 0 13 (dk_at dksX3_exchange_3 16 rfl rfl)
theorem dX3_exchange_88 : decode cX3_exchange 88 = .ok (.bipush 28, 2) := dk_16 28 (dk_at dksX3_exchange_3 19 rfl rfl)
theorem dX3_exchange_90 : decode cX3_exchange 90 = .ok (.bipush 9, 2) := dk_16 9 (dk_at dksX3_exchange_3 21 rfl rfl)
theorem dX3_exchange_92 : decode cX3_exchange 92 = .ok (.iload_n 1, 1) := dk_27 (dk_at dksX3_exchange_3 23 rfl rfl)
theorem dX3_exchange_93 : decode cX3_exchange 93 = .ok (.imul, 1) := dk_104 (dk_at dksX3_exchange_4 0 rfl rfl)
theorem dX3_exchange_94 : decode cX3_exchange 94 = .ok (.iadd, 1) := dk_96 (dk_at dksX3_exchange_4 1 rfl rfl)
theorem dX3_exchange_95 : decode cX3_exchange 95 = .ok (.iconst 3, 1) := dk_6 (dk_at dksX3_exchange_4 2 rfl rfl)
theorem dX3_exchange_96 : decode cX3_exchange 96 = .ok (.iload_n 2, 1) := dk_28 (dk_at dksX3_exchange_4 3 rfl rfl)
theorem dX3_exchange_97 : decode cX3_exchange 97 = .ok (.imul, 1) := dk_104 (dk_at dksX3_exchange_4 4 rfl rfl)
theorem dX3_exchange_98 : decode cX3_exchange 98 = .ok (.iadd, 1) := dk_96 (dk_at dksX3_exchange_4 5 rfl rfl)
theorem dX3_exchange_99 : decode cX3_exchange 99 = .ok (.iload 4, 2) := dk_21 4 (dk_at dksX3_exchange_4 6 rfl rfl)
theorem dX3_exchange_101 : decode cX3_exchange 101 = .ok (.iadd, 1) := dk_96 (dk_at dksX3_exchange_4 8 rfl rfl)
theorem dX3_exchange_102 : decode cX3_exchange 102 = .ok (.aload_n 0, 1) := dk_42 (dk_at dksX3_exchange_4 9 rfl rfl)
theorem dX3_exchange_103 : decode cX3_exchange 103 = .ok (.getfield 13, 3) := dk_180 0 13 (dk_at dksX3_exchange_4 10 rfl rfl)
theorem dX3_exchange_106 : decode cX3_exchange 106 = .ok (.bipush 28, 2) := dk_16 28 (dk_at dksX3_exchange_4 13 rfl rfl)
theorem dX3_exchange_108 : decode cX3_exchange 108 = .ok (.bipush 9, 2) := dk_16 9 (dk_at dksX3_exchange_4 15 rfl rfl)
theorem dX3_exchange_110 : decode cX3_exchange 110 = .ok (.iload_n 1, 1) := dk_27 (dk_at dksX3_exchange_4 17 rfl rfl)
theorem dX3_exchange_111 : decode cX3_exchange 111 = .ok (.imul, 1) := dk_104 (dk_at dksX3_exchange_4 18 rfl rfl)
theorem dX3_exchange_112 : decode cX3_exchange 112 = .ok (.iadd, 1) := dk_96 (dk_at dksX3_exchange_4 19 rfl rfl)
theorem dX3_exchange_113 : decode cX3_exchange 113 = .ok (.iconst 3, 1) := dk_6 (dk_at dksX3_exchange_4 20 rfl rfl)
theorem dX3_exchange_114 : decode cX3_exchange 114 = .ok (.iload_n 3, 1) := dk_29 (dk_at dksX3_exchange_4 21 rfl rfl)
theorem dX3_exchange_115 : decode cX3_exchange 115 = .ok (.imul, 1) := dk_104 (dk_at dksX3_exchange_4 22 rfl rfl)
theorem dX3_exchange_116 : decode cX3_exchange 116 = .ok (.iadd, 1) := dk_96 (dk_at dksX3_exchange_4 23 rfl rfl)
theorem dX3_exchange_117 : decode cX3_exchange 117 = .ok (.iload 4, 2) := dk_21 4 (dk_at dksX3_exchange_5 0 rfl rfl)
theorem dX3_exchange_119 : decode cX3_exchange 119 = .ok (.iadd, 1) := dk_96 (dk_at dksX3_exchange_5 2 rfl rfl)
theorem dX3_exchange_120 : decode cX3_exchange 120 = .ok (.iaload, 1) := dk_46 (dk_at dksX3_exchange_5 3 rfl rfl)
theorem dX3_exchange_121 : decode cX3_exchange 121 = .ok (.iastore, 1) := dk_79 (dk_at dksX3_exchange_5 4 rfl rfl)
theorem dX3_exchange_122 : decode cX3_exchange 122 = .ok (.aload_n 0, 1) := dk_42 (dk_at dksX3_exchange_5 5 rfl rfl)
theorem dX3_exchange_123 : decode cX3_exchange 123 = .ok (.getfield 13, 3) := dk_180 0 13 (dk_at dksX3_exchange_5 6 rfl rfl)
theorem dX3_exchange_126 : decode cX3_exchange 126 = .ok (.bipush 28, 2) := dk_16 28 (dk_at dksX3_exchange_5 9 rfl rfl)
theorem dX3_exchange_128 : decode cX3_exchange 128 = .ok (.bipush 9, 2) := dk_16 9 (dk_at dksX3_exchange_5 11 rfl rfl)
theorem dX3_exchange_130 : decode cX3_exchange 130 = .ok (.iload_n 1, 1) := dk_27 (dk_at dksX3_exchange_5 13 rfl rfl)
theorem dX3_exchange_131 : decode cX3_exchange 131 = .ok (.imul, 1) := dk_104 (dk_at dksX3_exchange_5 14 rfl rfl)
theorem dX3_exchange_132 : decode cX3_exchange 132 = .ok (.iadd, 1) := dk_96 (dk_at dksX3_exchange_5 15 rfl rfl)
theorem dX3_exchange_133 : decode cX3_exchange 133 = .ok (.iconst 3, 1) := dk_6 (dk_at dksX3_exchange_5 16 rfl rfl)
theorem dX3_exchange_134 : decode cX3_exchange 134 = .ok (.iload_n 3, 1) := dk_29 (dk_at dksX3_exchange_5 17 rfl rfl)
theorem dX3_exchange_135 : decode cX3_exchange 135 = .ok (.imul, 1) := dk_104 (dk_at dksX3_exchange_5 18 rfl rfl)
theorem dX3_exchange_136 : decode cX3_exchange 136 = .ok (.iadd, 1) := dk_96 (dk_at dksX3_exchange_5 19 rfl rfl)
theorem dX3_exchange_137 : decode cX3_exchange 137 = .ok (.iload 4, 2) := dk_21 4 (dk_at dksX3_exchange_5 20 rfl rfl)
theorem dX3_exchange_139 : decode cX3_exchange 139 = .ok (.iadd, 1) := dk_96 (dk_at dksX3_exchange_5 22 rfl rfl)
theorem dX3_exchange_140 : decode cX3_exchange 140 = .ok (.iload 5, 2) := dk_21 5 (dk_at dksX3_exchange_6 0 rfl rfl)
theorem dX3_exchange_142 : decode cX3_exchange 142 = .ok (.iastore, 1) := dk_79 (dk_at dksX3_exchange_6 2 rfl rfl)
theorem dX3_exchange_143 : decode cX3_exchange 143 = .ok (.iinc 4 1, 3) := dk_132 4 1 (dk_at dksX3_exchange_6 3 rfl rfl)
theorem dX3_exchange_146 : decode cX3_exchange 146 = .ok (.goto (-89), 3) := dk_167 255 167 (dk_at dksX3_exchange_6 6 rfl rfl)
theorem dX3_exchange_149 : decode cX3_exchange 149 = .ok (.iconst 0, 1) := dk_3 (dk_at dksX3_exchange_6 9 rfl rfl)
theorem dX3_exchange_150 : decode cX3_exchange 150 = .ok (.ireturn, 1) := dk_172 (dk_at dksX3_exchange_6 10 rfl rfl)
abbrev cX3_negate : ByteArray := prog_20_method_113_code
def yX3_negate : MethodName := ⟨RX3, "negate", "(II)I"⟩
def dkwX3_negate_3 : List UInt8 := [16, 28, 16, 9, 27, 104, 96, 6, 28, 104, 96, 29, 96, 46, 116, 79, 132, 3, 1, 167, 255, 211, 3, 172]
abbrev dktX3_negate_3 : List UInt8 := dkwX3_negate_3 ++ []
def dkwX3_negate_2 : List UInt8 := [162, 0, 46, 42, 180, 0, 13, 16, 28, 16, 9, 27, 104, 96, 6, 28, 104, 96, 29, 96, 42, 180, 0, 13]
abbrev dktX3_negate_2 : List UInt8 := dkwX3_negate_2 ++ dktX3_negate_3
def dkwX3_negate_1 : List UInt8 := [16, 20, 160, 0, 12, 42, 6, 6, 27, 28, 182, 1, 167, 172, 42, 182, 1, 181, 3, 62, 29, 6]
abbrev dktX3_negate_1 : List UInt8 := dkwX3_negate_1 ++ dktX3_negate_2
def dkwX3_negate_0 : List UInt8 := [42, 27, 182, 1, 171, 153, 0, 10, 28, 184, 1, 174, 154, 0, 6, 16, 254, 172, 42, 180, 0, 13, 5, 46]
abbrev dktX3_negate_0 : List UInt8 := dkwX3_negate_0 ++ dktX3_negate_1
theorem dksX3_negate_0 : cX3_negate.data.toList.drop 0 = dktX3_negate_0 := by decide +kernel
theorem dksX3_negate_1 : cX3_negate.data.toList.drop 24 = dktX3_negate_1 := dk_seg dksX3_negate_0 24 rfl rfl
theorem dksX3_negate_2 : cX3_negate.data.toList.drop 46 = dktX3_negate_2 := dk_seg dksX3_negate_1 22 rfl rfl
theorem dksX3_negate_3 : cX3_negate.data.toList.drop 70 = dktX3_negate_3 := dk_seg dksX3_negate_2 24 rfl rfl
theorem dX3_negate_0 : decode cX3_negate 0 = .ok (.aload_n 0, 1) := dk_42 (dk_at dksX3_negate_0 0 rfl rfl)
theorem dX3_negate_1 : decode cX3_negate 1 = .ok (.iload_n 1, 1) := dk_27 (dk_at dksX3_negate_0 1 rfl rfl)
theorem dX3_negate_2 : decode cX3_negate 2 = .ok (.invokevirtual 427, 3) := dk_182 1 171 (dk_at dksX3_negate_0 2 rfl rfl)
theorem dX3_negate_5 : decode cX3_negate 5 = .ok (.ifCond .eq 10, 3) := dk_153 0 10 (dk_at dksX3_negate_0 5 rfl rfl)
theorem dX3_negate_8 : decode cX3_negate 8 = .ok (.iload_n 2, 1) := dk_28 (dk_at dksX3_negate_0 8 rfl rfl)
theorem dX3_negate_9 : decode cX3_negate 9 = .ok (.invokestatic 430, 3) := dk_184 1 174 (dk_at dksX3_negate_0 9 rfl rfl)
theorem dX3_negate_12 : decode cX3_negate 12 = .ok (.ifCond .ne 6, 3) := dk_154 0 6 (dk_at dksX3_negate_0 12 rfl rfl)
theorem dX3_negate_15 : decode cX3_negate 15 = .ok (.bipush (-2), 2) := dk_16 254 (dk_at dksX3_negate_0 15 rfl rfl)
theorem dX3_negate_17 : decode cX3_negate 17 = .ok (.ireturn, 1) := dk_172 (dk_at dksX3_negate_0 17 rfl rfl)
theorem dX3_negate_18 : decode cX3_negate 18 = .ok (.aload_n 0, 1) := dk_42 (dk_at dksX3_negate_0 18 rfl rfl)
theorem dX3_negate_19 : decode cX3_negate 19 = .ok (.getfield 13, 3) := dk_180 0 13 (dk_at dksX3_negate_0 19 rfl rfl)
theorem dX3_negate_22 : decode cX3_negate 22 = .ok (.iconst 2, 1) := dk_5 (dk_at dksX3_negate_0 22 rfl rfl)
theorem dX3_negate_23 : decode cX3_negate 23 = .ok (.iaload, 1) := dk_46 (dk_at dksX3_negate_0 23 rfl rfl)
theorem dX3_negate_24 : decode cX3_negate 24 = .ok (.bipush 20, 2) := dk_16 20 (dk_at dksX3_negate_1 0 rfl rfl)
theorem dX3_negate_26 : decode cX3_negate 26 = .ok (.if_icmp .ne 12, 3) := dk_160 0 12 (dk_at dksX3_negate_1 2 rfl rfl)
theorem dX3_negate_29 : decode cX3_negate 29 = .ok (.aload_n 0, 1) := dk_42 (dk_at dksX3_negate_1 5 rfl rfl)
theorem dX3_negate_30 : decode cX3_negate 30 = .ok (.iconst 3, 1) := dk_6 (dk_at dksX3_negate_1 6 rfl rfl)
theorem dX3_negate_31 : decode cX3_negate 31 = .ok (.iconst 3, 1) := dk_6 (dk_at dksX3_negate_1 7 rfl rfl)
theorem dX3_negate_32 : decode cX3_negate 32 = .ok (.iload_n 1, 1) := dk_27 (dk_at dksX3_negate_1 8 rfl rfl)
theorem dX3_negate_33 : decode cX3_negate 33 = .ok (.iload_n 2, 1) := dk_28 (dk_at dksX3_negate_1 9 rfl rfl)
theorem dX3_negate_34 : decode cX3_negate 34 = .ok (.invokevirtual 423, 3) := dk_182 1 167 (dk_at dksX3_negate_1 10 rfl rfl)
theorem dX3_negate_37 : decode cX3_negate 37 = .ok (.ireturn, 1) := dk_172 (dk_at dksX3_negate_1 13 rfl rfl)
theorem dX3_negate_38 : decode cX3_negate 38 = .ok (.aload_n 0, 1) := dk_42 (dk_at dksX3_negate_1 14 rfl rfl)
theorem dX3_negate_39 : decode cX3_negate 39 = .ok (.invokevirtual 437, 3) := dk_182 1 181 (dk_at dksX3_negate_1 15 rfl rfl)
theorem dX3_negate_42 : decode cX3_negate 42 = .ok (.iconst 0, 1) := dk_3 (dk_at dksX3_negate_1 18 rfl rfl)
theorem dX3_negate_43 : decode cX3_negate 43 = .ok (.istore_n 3, 1) := dk_62 (dk_at dksX3_negate_1 19 rfl rfl)
theorem dX3_negate_44 : decode cX3_negate 44 = .ok (.iload_n 3, 1) := dk_29 (dk_at dksX3_negate_1 20 rfl rfl)
theorem dX3_negate_45 : decode cX3_negate 45 = .ok (.iconst 3, 1) := dk_6 (dk_at dksX3_negate_1 21 rfl rfl)
theorem dX3_negate_46 : decode cX3_negate 46 = .ok (.if_icmp .ge 46, 3) := dk_162 0 46 (dk_at dksX3_negate_2 0 rfl rfl)
theorem dX3_negate_49 : decode cX3_negate 49 = .ok (.aload_n 0, 1) := dk_42 (dk_at dksX3_negate_2 3 rfl rfl)
theorem dX3_negate_50 : decode cX3_negate 50 = .ok (.getfield 13, 3) := dk_180 0 13 (dk_at dksX3_negate_2 4 rfl rfl)
theorem dX3_negate_53 : decode cX3_negate 53 = .ok (.bipush 28, 2) := dk_16 28 (dk_at dksX3_negate_2 7 rfl rfl)
theorem dX3_negate_55 : decode cX3_negate 55 = .ok (.bipush 9, 2) := dk_16 9 (dk_at dksX3_negate_2 9 rfl rfl)
theorem dX3_negate_57 : decode cX3_negate 57 = .ok (.iload_n 1, 1) := dk_27 (dk_at dksX3_negate_2 11 rfl rfl)
theorem dX3_negate_58 : decode cX3_negate 58 = .ok (.imul, 1) := dk_104 (dk_at dksX3_negate_2 12 rfl rfl)
theorem dX3_negate_59 : decode cX3_negate 59 = .ok (.iadd, 1) := dk_96 (dk_at dksX3_negate_2 13 rfl rfl)
theorem dX3_negate_60 : decode cX3_negate 60 = .ok (.iconst 3, 1) := dk_6 (dk_at dksX3_negate_2 14 rfl rfl)
theorem dX3_negate_61 : decode cX3_negate 61 = .ok (.iload_n 2, 1) := dk_28 (dk_at dksX3_negate_2 15 rfl rfl)
theorem dX3_negate_62 : decode cX3_negate 62 = .ok (.imul, 1) := dk_104 (dk_at dksX3_negate_2 16 rfl rfl)
theorem dX3_negate_63 : decode cX3_negate 63 = .ok (.iadd, 1) := dk_96 (dk_at dksX3_negate_2 17 rfl rfl)
theorem dX3_negate_64 : decode cX3_negate 64 = .ok (.iload_n 3, 1) := dk_29 (dk_at dksX3_negate_2 18 rfl rfl)
theorem dX3_negate_65 : decode cX3_negate 65 = .ok (.iadd, 1) := dk_96 (dk_at dksX3_negate_2 19 rfl rfl)
theorem dX3_negate_66 : decode cX3_negate 66 = .ok (.aload_n 0, 1) := dk_42 (dk_at dksX3_negate_2 20 rfl rfl)
theorem dX3_negate_67 : decode cX3_negate 67 = .ok (.getfield 13, 3) := dk_180 0 13 (dk_at dksX3_negate_2 21 rfl rfl)
theorem dX3_negate_70 : decode cX3_negate 70 = .ok (.bipush 28, 2) := dk_16 28 (dk_at dksX3_negate_3 0 rfl rfl)
theorem dX3_negate_72 : decode cX3_negate 72 = .ok (.bipush 9, 2) := dk_16 9 (dk_at dksX3_negate_3 2 rfl rfl)
theorem dX3_negate_74 : decode cX3_negate 74 = .ok (.iload_n 1, 1) := dk_27 (dk_at dksX3_negate_3 4 rfl rfl)
theorem dX3_negate_75 : decode cX3_negate 75 = .ok (.imul, 1) := dk_104 (dk_at dksX3_negate_3 5 rfl rfl)
theorem dX3_negate_76 : decode cX3_negate 76 = .ok (.iadd, 1) := dk_96 (dk_at dksX3_negate_3 6 rfl rfl)
theorem dX3_negate_77 : decode cX3_negate 77 = .ok (.iconst 3, 1) := dk_6 (dk_at dksX3_negate_3 7 rfl rfl)
theorem dX3_negate_78 : decode cX3_negate 78 = .ok (.iload_n 2, 1) := dk_28 (dk_at dksX3_negate_3 8 rfl rfl)
theorem dX3_negate_79 : decode cX3_negate 79 = .ok (.imul, 1) := dk_104 (dk_at dksX3_negate_3 9 rfl rfl)
theorem dX3_negate_80 : decode cX3_negate 80 = .ok (.iadd, 1) := dk_96 (dk_at dksX3_negate_3 10 rfl rfl)
theorem dX3_negate_81 : decode cX3_negate 81 = .ok (.iload_n 3, 1) := dk_29 (dk_at dksX3_negate_3 11 rfl rfl)
theorem dX3_negate_82 : decode cX3_negate 82 = .ok (.iadd, 1) := dk_96 (dk_at dksX3_negate_3 12 rfl rfl)
theorem dX3_negate_83 : decode cX3_negate 83 = .ok (.iaload, 1) := dk_46 (dk_at dksX3_negate_3 13 rfl rfl)
theorem dX3_negate_84 : decode cX3_negate 84 = .ok (.ineg, 1) := dk_116 (dk_at dksX3_negate_3 14 rfl rfl)
theorem dX3_negate_85 : decode cX3_negate 85 = .ok (.iastore, 1) := dk_79 (dk_at dksX3_negate_3 15 rfl rfl)
theorem dX3_negate_86 : decode cX3_negate 86 = .ok (.iinc 3 1, 3) := dk_132 3 1 (dk_at dksX3_negate_3 16 rfl rfl)
theorem dX3_negate_89 : decode cX3_negate 89 = .ok (.goto (-45), 3) := dk_167 255 211 (dk_at dksX3_negate_3 19 rfl rfl)
theorem dX3_negate_92 : decode cX3_negate 92 = .ok (.iconst 0, 1) := dk_3 (dk_at dksX3_negate_3 22 rfl rfl)
theorem dX3_negate_93 : decode cX3_negate 93 = .ok (.ireturn, 1) := dk_172 (dk_at dksX3_negate_3 23 rfl rfl)
abbrev cX3_put : ByteArray := prog_20_method_114_code
def yX3_put : MethodName := ⟨RX3, "put", "(IIII)I"⟩
def dkwX3_put_4 : List UInt8 := [21, 4, 79, 42, 7, 27, 28, 182, 1, 184, 156, 0, 9, 17, 248, 48, 167, 0, 5, 21, 6, 172]
abbrev dktX3_put_4 : List UInt8 := dkwX3_put_4 ++ []
def dkwX3_put_3 : List UInt8 := [29, 96, 54, 5, 42, 180, 0, 13, 21, 5, 46, 54, 6, 42, 182, 1, 181, 42, 180, 0, 13, 21, 5]
abbrev dktX3_put_3 : List UInt8 := dkwX3_put_3 ++ dktX3_put_4
def dkwX3_put_2 : List UInt8 := [42, 7, 6, 27, 28, 182, 1, 167, 87, 17, 248, 48, 172, 16, 28, 16, 9, 27, 104, 96, 6, 28, 104, 96]
abbrev dktX3_put_2 : List UInt8 := dkwX3_put_2 ++ dktX3_put_3
def dkwX3_put_1 : List UInt8 := [20, 1, 190, 184, 0, 88, 154, 0, 7, 17, 252, 24, 172, 42, 180, 0, 13, 5, 46, 16, 20, 160, 0, 16]
abbrev dktX3_put_1 : List UInt8 := dkwX3_put_1 ++ dktX3_put_2
def dkwX3_put_0 : List UInt8 := [42, 27, 182, 1, 171, 153, 0, 26, 28, 29, 184, 0, 214, 153, 0, 18, 21, 4, 133, 20, 1, 188]
abbrev dktX3_put_0 : List UInt8 := dkwX3_put_0 ++ dktX3_put_1
theorem dksX3_put_0 : cX3_put.data.toList.drop 0 = dktX3_put_0 := by decide +kernel
theorem dksX3_put_1 : cX3_put.data.toList.drop 22 = dktX3_put_1 := dk_seg dksX3_put_0 22 rfl rfl
theorem dksX3_put_2 : cX3_put.data.toList.drop 46 = dktX3_put_2 := dk_seg dksX3_put_1 24 rfl rfl
theorem dksX3_put_3 : cX3_put.data.toList.drop 70 = dktX3_put_3 := dk_seg dksX3_put_2 24 rfl rfl
theorem dksX3_put_4 : cX3_put.data.toList.drop 93 = dktX3_put_4 := dk_seg dksX3_put_3 23 rfl rfl
theorem dX3_put_0 : decode cX3_put 0 = .ok (.aload_n 0, 1) := dk_42 (dk_at dksX3_put_0 0 rfl rfl)
theorem dX3_put_1 : decode cX3_put 1 = .ok (.iload_n 1, 1) := dk_27 (dk_at dksX3_put_0 1 rfl rfl)
theorem dX3_put_2 : decode cX3_put 2 = .ok (.invokevirtual 427, 3) := dk_182 1 171 (dk_at dksX3_put_0 2 rfl rfl)
theorem dX3_put_5 : decode cX3_put 5 = .ok (.ifCond .eq 26, 3) := dk_153 0 26 (dk_at dksX3_put_0 5 rfl rfl)
theorem dX3_put_8 : decode cX3_put 8 = .ok (.iload_n 2, 1) := dk_28 (dk_at dksX3_put_0 8 rfl rfl)
theorem dX3_put_9 : decode cX3_put 9 = .ok (.iload_n 3, 1) := dk_29 (dk_at dksX3_put_0 9 rfl rfl)
theorem dX3_put_10 : decode cX3_put 10 = .ok (.invokestatic 214, 3) := dk_184 0 214 (dk_at dksX3_put_0 10 rfl rfl)
theorem dX3_put_13 : decode cX3_put 13 = .ok (.ifCond .eq 18, 3) := dk_153 0 18 (dk_at dksX3_put_0 13 rfl rfl)
theorem dX3_put_16 : decode cX3_put 16 = .ok (.iload 4, 2) := dk_21 4 (dk_at dksX3_put_0 16 rfl rfl)
theorem dX3_put_18 : decode cX3_put 18 = .ok (.i2l, 1) := dk_133 (dk_at dksX3_put_0 18 rfl rfl)
theorem dX3_put_19 : decode cX3_put 19 = .ok (.ldc2_w 444, 3) := dk_20 1 188 (dk_at dksX3_put_0 19 rfl rfl)
theorem dX3_put_22 : decode cX3_put 22 = .ok (.ldc2_w 446, 3) := dk_20 1 190 (dk_at dksX3_put_1 0 rfl rfl)
theorem dX3_put_25 : decode cX3_put 25 = .ok (.invokestatic 88, 3) := dk_184 0 88 (dk_at dksX3_put_1 3 rfl rfl)
theorem dX3_put_28 : decode cX3_put 28 = .ok (.ifCond .ne 7, 3) := dk_154 0 7 (dk_at dksX3_put_1 6 rfl rfl)
theorem dX3_put_31 : decode cX3_put 31 = .ok (.sipush (-1000), 3) := dk_17 252 24 (dk_at dksX3_put_1 9 rfl rfl)
theorem dX3_put_34 : decode cX3_put 34 = .ok (.ireturn, 1) := dk_172 (dk_at dksX3_put_1 12 rfl rfl)
theorem dX3_put_35 : decode cX3_put 35 = .ok (.aload_n 0, 1) := dk_42 (dk_at dksX3_put_1 13 rfl rfl)
theorem dX3_put_36 : decode cX3_put 36 = .ok (.getfield 13, 3) := dk_180 0 13 (dk_at dksX3_put_1 14 rfl rfl)
theorem dX3_put_39 : decode cX3_put 39 = .ok (.iconst 2, 1) := dk_5 (dk_at dksX3_put_1 17 rfl rfl)
theorem dX3_put_40 : decode cX3_put 40 = .ok (.iaload, 1) := dk_46 (dk_at dksX3_put_1 18 rfl rfl)
theorem dX3_put_41 : decode cX3_put 41 = .ok (.bipush 20, 2) := dk_16 20 (dk_at dksX3_put_1 19 rfl rfl)
theorem dX3_put_43 : decode cX3_put 43 = .ok (.if_icmp .ne 16, 3) := dk_160 0 16 (dk_at dksX3_put_1 21 rfl rfl)
theorem dX3_put_46 : decode cX3_put 46 = .ok (.aload_n 0, 1) := dk_42 (dk_at dksX3_put_2 0 rfl rfl)
theorem dX3_put_47 : decode cX3_put 47 = .ok (.iconst 4, 1) := dk_7 (dk_at dksX3_put_2 1 rfl rfl)
theorem dX3_put_48 : decode cX3_put 48 = .ok (.iconst 3, 1) := dk_6 (dk_at dksX3_put_2 2 rfl rfl)
theorem dX3_put_49 : decode cX3_put 49 = .ok (.iload_n 1, 1) := dk_27 (dk_at dksX3_put_2 3 rfl rfl)
theorem dX3_put_50 : decode cX3_put 50 = .ok (.iload_n 2, 1) := dk_28 (dk_at dksX3_put_2 4 rfl rfl)
theorem dX3_put_51 : decode cX3_put 51 = .ok (.invokevirtual 423, 3) := dk_182 1 167 (dk_at dksX3_put_2 5 rfl rfl)
theorem dX3_put_54 : decode cX3_put 54 = .ok (.pop, 1) := dk_87 (dk_at dksX3_put_2 8 rfl rfl)
theorem dX3_put_55 : decode cX3_put 55 = .ok (.sipush (-2000), 3) := dk_17 248 48 (dk_at dksX3_put_2 9 rfl rfl)
theorem dX3_put_58 : decode cX3_put 58 = .ok (.ireturn, 1) := dk_172 (dk_at dksX3_put_2 12 rfl rfl)
theorem dX3_put_59 : decode cX3_put 59 = .ok (.bipush 28, 2) := dk_16 28 (dk_at dksX3_put_2 13 rfl rfl)
theorem dX3_put_61 : decode cX3_put 61 = .ok (.bipush 9, 2) := dk_16 9 (dk_at dksX3_put_2 15 rfl rfl)
theorem dX3_put_63 : decode cX3_put 63 = .ok (.iload_n 1, 1) := dk_27 (dk_at dksX3_put_2 17 rfl rfl)
theorem dX3_put_64 : decode cX3_put 64 = .ok (.imul, 1) := dk_104 (dk_at dksX3_put_2 18 rfl rfl)
theorem dX3_put_65 : decode cX3_put 65 = .ok (.iadd, 1) := dk_96 (dk_at dksX3_put_2 19 rfl rfl)
theorem dX3_put_66 : decode cX3_put 66 = .ok (.iconst 3, 1) := dk_6 (dk_at dksX3_put_2 20 rfl rfl)
theorem dX3_put_67 : decode cX3_put 67 = .ok (.iload_n 2, 1) := dk_28 (dk_at dksX3_put_2 21 rfl rfl)
theorem dX3_put_68 : decode cX3_put 68 = .ok (.imul, 1) := dk_104 (dk_at dksX3_put_2 22 rfl rfl)
theorem dX3_put_69 : decode cX3_put 69 = .ok (.iadd, 1) := dk_96 (dk_at dksX3_put_2 23 rfl rfl)
theorem dX3_put_70 : decode cX3_put 70 = .ok (.iload_n 3, 1) := dk_29 (dk_at dksX3_put_3 0 rfl rfl)
theorem dX3_put_71 : decode cX3_put 71 = .ok (.iadd, 1) := dk_96 (dk_at dksX3_put_3 1 rfl rfl)
theorem dX3_put_72 : decode cX3_put 72 = .ok (.istore 5, 2) := dk_54 5 (dk_at dksX3_put_3 2 rfl rfl)
theorem dX3_put_74 : decode cX3_put 74 = .ok (.aload_n 0, 1) := dk_42 (dk_at dksX3_put_3 4 rfl rfl)
theorem dX3_put_75 : decode cX3_put 75 = .ok (.getfield 13, 3) := dk_180 0 13 (dk_at dksX3_put_3 5 rfl rfl)
theorem dX3_put_78 : decode cX3_put 78 = .ok (.iload 5, 2) := dk_21 5 (dk_at dksX3_put_3 8 rfl rfl)
theorem dX3_put_80 : decode cX3_put 80 = .ok (.iaload, 1) := dk_46 (dk_at dksX3_put_3 10 rfl rfl)
theorem dX3_put_81 : decode cX3_put 81 = .ok (.istore 6, 2) := dk_54 6 (dk_at dksX3_put_3 11 rfl rfl)
theorem dX3_put_83 : decode cX3_put 83 = .ok (.aload_n 0, 1) := dk_42 (dk_at dksX3_put_3 13 rfl rfl)
theorem dX3_put_84 : decode cX3_put 84 = .ok (.invokevirtual 437, 3) := dk_182 1 181 (dk_at dksX3_put_3 14 rfl rfl)
theorem dX3_put_87 : decode cX3_put 87 = .ok (.aload_n 0, 1) := dk_42 (dk_at dksX3_put_3 17 rfl rfl)
theorem dX3_put_88 : decode cX3_put 88 = .ok (.getfield 13, 3) := dk_180 0 13 (dk_at dksX3_put_3 18 rfl rfl)
theorem dX3_put_91 : decode cX3_put 91 = .ok (.iload 5, 2) := dk_21 5 (dk_at dksX3_put_3 21 rfl rfl)
theorem dX3_put_93 : decode cX3_put 93 = .ok (.iload 4, 2) := dk_21 4 (dk_at dksX3_put_4 0 rfl rfl)
theorem dX3_put_95 : decode cX3_put 95 = .ok (.iastore, 1) := dk_79 (dk_at dksX3_put_4 2 rfl rfl)
theorem dX3_put_96 : decode cX3_put 96 = .ok (.aload_n 0, 1) := dk_42 (dk_at dksX3_put_4 3 rfl rfl)
theorem dX3_put_97 : decode cX3_put 97 = .ok (.iconst 4, 1) := dk_7 (dk_at dksX3_put_4 4 rfl rfl)
theorem dX3_put_98 : decode cX3_put 98 = .ok (.iload_n 1, 1) := dk_27 (dk_at dksX3_put_4 5 rfl rfl)
theorem dX3_put_99 : decode cX3_put 99 = .ok (.iload_n 2, 1) := dk_28 (dk_at dksX3_put_4 6 rfl rfl)
theorem dX3_put_100 : decode cX3_put 100 = .ok (.invokevirtual 440, 3) := dk_182 1 184 (dk_at dksX3_put_4 7 rfl rfl)
theorem dX3_put_103 : decode cX3_put 103 = .ok (.ifCond .ge 9, 3) := dk_156 0 9 (dk_at dksX3_put_4 10 rfl rfl)
theorem dX3_put_106 : decode cX3_put 106 = .ok (.sipush (-2000), 3) := dk_17 248 48 (dk_at dksX3_put_4 13 rfl rfl)
theorem dX3_put_109 : decode cX3_put 109 = .ok (.goto 5, 3) := dk_167 0 5 (dk_at dksX3_put_4 16 rfl rfl)
theorem dX3_put_112 : decode cX3_put 112 = .ok (.iload 6, 2) := dk_21 6 (dk_at dksX3_put_4 19 rfl rfl)
theorem dX3_put_114 : decode cX3_put 114 = .ok (.ireturn, 1) := dk_172 (dk_at dksX3_put_4 21 rfl rfl)
abbrev cX3_why : ByteArray := prog_20_method_115_code
def yX3_why : MethodName := ⟨RX3, "why", "(I)I"⟩
def dkwX3_why_2 : List UInt8 := [5, 160, 0, 10, 42, 180, 1, 154, 167, 0, 7, 42, 180, 1, 157, 172]
abbrev dktX3_why_2 : List UInt8 := dkwX3_why_2 ++ []
def dkwX3_why_1 : List UInt8 := [27, 154, 0, 10, 42, 180, 0, 184, 167, 0, 31, 27, 4, 160, 0, 10, 42, 180, 1, 151, 167, 0, 19, 27]
abbrev dktX3_why_1 : List UInt8 := dkwX3_why_1 ++ dktX3_why_2
def dkwX3_why_0 : List UInt8 := [27, 133, 9, 20, 0, 249, 184, 0, 88, 154, 0, 6, 16, 254, 172, 42, 180, 0, 184, 154, 0, 5, 2, 172]
abbrev dktX3_why_0 : List UInt8 := dkwX3_why_0 ++ dktX3_why_1
theorem dksX3_why_0 : cX3_why.data.toList.drop 0 = dktX3_why_0 := by decide +kernel
theorem dksX3_why_1 : cX3_why.data.toList.drop 24 = dktX3_why_1 := dk_seg dksX3_why_0 24 rfl rfl
theorem dksX3_why_2 : cX3_why.data.toList.drop 48 = dktX3_why_2 := dk_seg dksX3_why_1 24 rfl rfl
theorem dX3_why_0 : decode cX3_why 0 = .ok (.iload_n 1, 1) := dk_27 (dk_at dksX3_why_0 0 rfl rfl)
theorem dX3_why_1 : decode cX3_why 1 = .ok (.i2l, 1) := dk_133 (dk_at dksX3_why_0 1 rfl rfl)
theorem dX3_why_2 : decode cX3_why 2 = .ok (.lconst 0, 1) := dk_9 (dk_at dksX3_why_0 2 rfl rfl)
theorem dX3_why_3 : decode cX3_why 3 = .ok (.ldc2_w 249, 3) := dk_20 0 249 (dk_at dksX3_why_0 3 rfl rfl)
theorem dX3_why_6 : decode cX3_why 6 = .ok (.invokestatic 88, 3) := dk_184 0 88 (dk_at dksX3_why_0 6 rfl rfl)
theorem dX3_why_9 : decode cX3_why 9 = .ok (.ifCond .ne 6, 3) := dk_154 0 6 (dk_at dksX3_why_0 9 rfl rfl)
theorem dX3_why_12 : decode cX3_why 12 = .ok (.bipush (-2), 2) := dk_16 254 (dk_at dksX3_why_0 12 rfl rfl)
theorem dX3_why_14 : decode cX3_why 14 = .ok (.ireturn, 1) := dk_172 (dk_at dksX3_why_0 14 rfl rfl)
theorem dX3_why_15 : decode cX3_why 15 = .ok (.aload_n 0, 1) := dk_42 (dk_at dksX3_why_0 15 rfl rfl)
theorem dX3_why_16 : decode cX3_why 16 = .ok (.getfield 184, 3) := dk_180 0 184 (dk_at dksX3_why_0 16 rfl rfl)
theorem dX3_why_19 : decode cX3_why 19 = .ok (.ifCond .ne 5, 3) := dk_154 0 5 (dk_at dksX3_why_0 19 rfl rfl)
theorem dX3_why_22 : decode cX3_why 22 = .ok (.iconst (-1), 1) := dk_2 (dk_at dksX3_why_0 22 rfl rfl)
theorem dX3_why_23 : decode cX3_why 23 = .ok (.ireturn, 1) := dk_172 (dk_at dksX3_why_0 23 rfl rfl)
theorem dX3_why_24 : decode cX3_why 24 = .ok (.iload_n 1, 1) := dk_27 (dk_at dksX3_why_1 0 rfl rfl)
theorem dX3_why_25 : decode cX3_why 25 = .ok (.ifCond .ne 10, 3) := dk_154 0 10 (dk_at dksX3_why_1 1 rfl rfl)
theorem dX3_why_28 : decode cX3_why 28 = .ok (.aload_n 0, 1) := dk_42 (dk_at dksX3_why_1 4 rfl rfl)
theorem dX3_why_29 : decode cX3_why 29 = .ok (.getfield 184, 3) := dk_180 0 184 (dk_at dksX3_why_1 5 rfl rfl)
theorem dX3_why_32 : decode cX3_why 32 = .ok (.goto 31, 3) := dk_167 0 31 (dk_at dksX3_why_1 8 rfl rfl)
theorem dX3_why_35 : decode cX3_why 35 = .ok (.iload_n 1, 1) := dk_27 (dk_at dksX3_why_1 11 rfl rfl)
theorem dX3_why_36 : decode cX3_why 36 = .ok (.iconst 1, 1) := dk_4 (dk_at dksX3_why_1 12 rfl rfl)
theorem dX3_why_37 : decode cX3_why 37 = .ok (.if_icmp .ne 10, 3) := dk_160 0 10 (dk_at dksX3_why_1 13 rfl rfl)
theorem dX3_why_40 : decode cX3_why 40 = .ok (.aload_n 0, 1) := dk_42 (dk_at dksX3_why_1 16 rfl rfl)
theorem dX3_why_41 : decode cX3_why 41 = .ok (.getfield 407, 3) := dk_180 1 151 (dk_at dksX3_why_1 17 rfl rfl)
theorem dX3_why_44 : decode cX3_why 44 = .ok (.goto 19, 3) := dk_167 0 19 (dk_at dksX3_why_1 20 rfl rfl)
theorem dX3_why_47 : decode cX3_why 47 = .ok (.iload_n 1, 1) := dk_27 (dk_at dksX3_why_1 23 rfl rfl)
theorem dX3_why_48 : decode cX3_why 48 = .ok (.iconst 2, 1) := dk_5 (dk_at dksX3_why_2 0 rfl rfl)
theorem dX3_why_49 : decode cX3_why 49 = .ok (.if_icmp .ne 10, 3) := dk_160 0 10 (dk_at dksX3_why_2 1 rfl rfl)
theorem dX3_why_52 : decode cX3_why 52 = .ok (.aload_n 0, 1) := dk_42 (dk_at dksX3_why_2 4 rfl rfl)
theorem dX3_why_53 : decode cX3_why 53 = .ok (.getfield 410, 3) := dk_180 1 154 (dk_at dksX3_why_2 5 rfl rfl)
theorem dX3_why_56 : decode cX3_why 56 = .ok (.goto 7, 3) := dk_167 0 7 (dk_at dksX3_why_2 8 rfl rfl)
theorem dX3_why_59 : decode cX3_why 59 = .ok (.aload_n 0, 1) := dk_42 (dk_at dksX3_why_2 11 rfl rfl)
theorem dX3_why_60 : decode cX3_why 60 = .ok (.getfield 413, 3) := dk_180 1 157 (dk_at dksX3_why_2 12 rfl rfl)
theorem dX3_why_63 : decode cX3_why 63 = .ok (.ireturn, 1) := dk_172 (dk_at dksX3_why_2 15 rfl rfl)
abbrev cX3_undo : ByteArray := prog_20_method_116_code
def yX3_undo : MethodName := ⟨RX3, "undo", "()I"⟩
def dkwX3_undo_1 : List UInt8 := [42, 42, 180, 0, 13, 5, 46, 4, 100, 182, 1, 164, 42, 180, 0, 13, 5, 46, 172]
abbrev dktX3_undo_1 : List UInt8 := dkwX3_undo_1 ++ []
def dkwX3_undo_0 : List UInt8 := [42, 180, 0, 13, 4, 46, 154, 0, 6, 16, 254, 172, 42, 180, 0, 13, 5, 46, 154, 0, 6, 16, 251, 172]
abbrev dktX3_undo_0 : List UInt8 := dkwX3_undo_0 ++ dktX3_undo_1
theorem dksX3_undo_0 : cX3_undo.data.toList.drop 0 = dktX3_undo_0 := by decide +kernel
theorem dksX3_undo_1 : cX3_undo.data.toList.drop 24 = dktX3_undo_1 := dk_seg dksX3_undo_0 24 rfl rfl
theorem dX3_undo_0 : decode cX3_undo 0 = .ok (.aload_n 0, 1) := dk_42 (dk_at dksX3_undo_0 0 rfl rfl)
theorem dX3_undo_1 : decode cX3_undo 1 = .ok (.getfield 13, 3) := dk_180 0 13 (dk_at dksX3_undo_0 1 rfl rfl)
theorem dX3_undo_4 : decode cX3_undo 4 = .ok (.iconst 1, 1) := dk_4 (dk_at dksX3_undo_0 4 rfl rfl)
theorem dX3_undo_5 : decode cX3_undo 5 = .ok (.iaload, 1) := dk_46 (dk_at dksX3_undo_0 5 rfl rfl)
theorem dX3_undo_6 : decode cX3_undo 6 = .ok (.ifCond .ne 6, 3) := dk_154 0 6 (dk_at dksX3_undo_0 6 rfl rfl)
theorem dX3_undo_9 : decode cX3_undo 9 = .ok (.bipush (-2), 2) := dk_16 254 (dk_at dksX3_undo_0 9 rfl rfl)
theorem dX3_undo_11 : decode cX3_undo 11 = .ok (.ireturn, 1) := dk_172 (dk_at dksX3_undo_0 11 rfl rfl)
theorem dX3_undo_12 : decode cX3_undo 12 = .ok (.aload_n 0, 1) := dk_42 (dk_at dksX3_undo_0 12 rfl rfl)
theorem dX3_undo_13 : decode cX3_undo 13 = .ok (.getfield 13, 3) := dk_180 0 13 (dk_at dksX3_undo_0 13 rfl rfl)
theorem dX3_undo_16 : decode cX3_undo 16 = .ok (.iconst 2, 1) := dk_5 (dk_at dksX3_undo_0 16 rfl rfl)
theorem dX3_undo_17 : decode cX3_undo 17 = .ok (.iaload, 1) := dk_46 (dk_at dksX3_undo_0 17 rfl rfl)
theorem dX3_undo_18 : decode cX3_undo 18 = .ok (.ifCond .ne 6, 3) := dk_154 0 6 (dk_at dksX3_undo_0 18 rfl rfl)
theorem dX3_undo_21 : decode cX3_undo 21 = .ok (.bipush (-5), 2) := dk_16 251 (dk_at dksX3_undo_0 21 rfl rfl)
theorem dX3_undo_23 : decode cX3_undo 23 = .ok (.ireturn, 1) := dk_172 (dk_at dksX3_undo_0 23 rfl rfl)
theorem dX3_undo_24 : decode cX3_undo 24 = .ok (.aload_n 0, 1) := dk_42 (dk_at dksX3_undo_1 0 rfl rfl)
theorem dX3_undo_25 : decode cX3_undo 25 = .ok (.aload_n 0, 1) := dk_42 (dk_at dksX3_undo_1 1 rfl rfl)
theorem dX3_undo_26 : decode cX3_undo 26 = .ok (.getfield 13, 3) := dk_180 0 13 (dk_at dksX3_undo_1 2 rfl rfl)
theorem dX3_undo_29 : decode cX3_undo 29 = .ok (.iconst 2, 1) := dk_5 (dk_at dksX3_undo_1 5 rfl rfl)
theorem dX3_undo_30 : decode cX3_undo 30 = .ok (.iaload, 1) := dk_46 (dk_at dksX3_undo_1 6 rfl rfl)
theorem dX3_undo_31 : decode cX3_undo 31 = .ok (.iconst 1, 1) := dk_4 (dk_at dksX3_undo_1 7 rfl rfl)
theorem dX3_undo_32 : decode cX3_undo 32 = .ok (.isub, 1) := dk_100 (dk_at dksX3_undo_1 8 rfl rfl)
theorem dX3_undo_33 : decode cX3_undo 33 = .ok (.invokevirtual 420, 3) := dk_182 1 164 (dk_at dksX3_undo_1 9 rfl rfl)
theorem dX3_undo_36 : decode cX3_undo 36 = .ok (.aload_n 0, 1) := dk_42 (dk_at dksX3_undo_1 12 rfl rfl)
theorem dX3_undo_37 : decode cX3_undo 37 = .ok (.getfield 13, 3) := dk_180 0 13 (dk_at dksX3_undo_1 13 rfl rfl)
theorem dX3_undo_40 : decode cX3_undo 40 = .ok (.iconst 2, 1) := dk_5 (dk_at dksX3_undo_1 16 rfl rfl)
theorem dX3_undo_41 : decode cX3_undo 41 = .ok (.iaload, 1) := dk_46 (dk_at dksX3_undo_1 17 rfl rfl)
theorem dX3_undo_42 : decode cX3_undo 42 = .ok (.ireturn, 1) := dk_172 (dk_at dksX3_undo_1 18 rfl rfl)
abbrev cX3_anew : ByteArray := prog_20_method_117_code
def yX3_anew : MethodName := ⟨RX3, "anew", "()I"⟩
def dkwX3_anew_1 : List UInt8 := [3, 182, 1, 164, 27, 172]
abbrev dktX3_anew_1 : List UInt8 := dkwX3_anew_1 ++ []
def dkwX3_anew_0 : List UInt8 := [42, 180, 0, 13, 4, 46, 154, 0, 6, 16, 254, 172, 42, 180, 0, 13, 5, 46, 60, 27, 158, 0, 8, 42]
abbrev dktX3_anew_0 : List UInt8 := dkwX3_anew_0 ++ dktX3_anew_1
theorem dksX3_anew_0 : cX3_anew.data.toList.drop 0 = dktX3_anew_0 := by decide +kernel
theorem dksX3_anew_1 : cX3_anew.data.toList.drop 24 = dktX3_anew_1 := dk_seg dksX3_anew_0 24 rfl rfl
theorem dX3_anew_0 : decode cX3_anew 0 = .ok (.aload_n 0, 1) := dk_42 (dk_at dksX3_anew_0 0 rfl rfl)
theorem dX3_anew_1 : decode cX3_anew 1 = .ok (.getfield 13, 3) := dk_180 0 13 (dk_at dksX3_anew_0 1 rfl rfl)
theorem dX3_anew_4 : decode cX3_anew 4 = .ok (.iconst 1, 1) := dk_4 (dk_at dksX3_anew_0 4 rfl rfl)
theorem dX3_anew_5 : decode cX3_anew 5 = .ok (.iaload, 1) := dk_46 (dk_at dksX3_anew_0 5 rfl rfl)
theorem dX3_anew_6 : decode cX3_anew 6 = .ok (.ifCond .ne 6, 3) := dk_154 0 6 (dk_at dksX3_anew_0 6 rfl rfl)
theorem dX3_anew_9 : decode cX3_anew 9 = .ok (.bipush (-2), 2) := dk_16 254 (dk_at dksX3_anew_0 9 rfl rfl)
theorem dX3_anew_11 : decode cX3_anew 11 = .ok (.ireturn, 1) := dk_172 (dk_at dksX3_anew_0 11 rfl rfl)
theorem dX3_anew_12 : decode cX3_anew 12 = .ok (.aload_n 0, 1) := dk_42 (dk_at dksX3_anew_0 12 rfl rfl)
theorem dX3_anew_13 : decode cX3_anew 13 = .ok (.getfield 13, 3) := dk_180 0 13 (dk_at dksX3_anew_0 13 rfl rfl)
theorem dX3_anew_16 : decode cX3_anew 16 = .ok (.iconst 2, 1) := dk_5 (dk_at dksX3_anew_0 16 rfl rfl)
theorem dX3_anew_17 : decode cX3_anew 17 = .ok (.iaload, 1) := dk_46 (dk_at dksX3_anew_0 17 rfl rfl)
theorem dX3_anew_18 : decode cX3_anew 18 = .ok (.istore_n 1, 1) := dk_60 (dk_at dksX3_anew_0 18 rfl rfl)
theorem dX3_anew_19 : decode cX3_anew 19 = .ok (.iload_n 1, 1) := dk_27 (dk_at dksX3_anew_0 19 rfl rfl)
theorem dX3_anew_20 : decode cX3_anew 20 = .ok (.ifCond .le 8, 3) := dk_158 0 8 (dk_at dksX3_anew_0 20 rfl rfl)
theorem dX3_anew_23 : decode cX3_anew 23 = .ok (.aload_n 0, 1) := dk_42 (dk_at dksX3_anew_0 23 rfl rfl)
theorem dX3_anew_24 : decode cX3_anew 24 = .ok (.iconst 0, 1) := dk_3 (dk_at dksX3_anew_1 0 rfl rfl)
theorem dX3_anew_25 : decode cX3_anew 25 = .ok (.invokevirtual 420, 3) := dk_182 1 164 (dk_at dksX3_anew_1 1 rfl rfl)
theorem dX3_anew_28 : decode cX3_anew 28 = .ok (.iload_n 1, 1) := dk_27 (dk_at dksX3_anew_1 4 rfl rfl)
theorem dX3_anew_29 : decode cX3_anew 29 = .ok (.ireturn, 1) := dk_172 (dk_at dksX3_anew_1 5 rfl rfl)
theorem q125 : (Jvm.Cond.initialized "CoincideBenchModel") ∈ lw_all := lw_g (lw_at lw_m1 7 rfl) rfl
theorem q708 : (Jvm.Cond.selects "CoincideBenchModel" ({ cls := "java/lang/Object", name := "equals", desc := "(Ljava/lang/Object;)Z" } : Jvm.MethodName) ({ cls := "java/lang/Object", name := "equals", desc := "(Ljava/lang/Object;)Z" } : Jvm.MethodName)) ∈ lw_all := lw_g (lw_at lw_m3 110 rfl) rfl
theorem q842 : (Jvm.Cond.selects "CoincideBenchModel" ({ cls := "java/lang/Object", name := "getClass", desc := "()Ljava/lang/Class;" } : Jvm.MethodName) ({ cls := "java/lang/Object", name := "getClass", desc := "()Ljava/lang/Class;" } : Jvm.MethodName)) ∈ lw_all := lw_g (lw_at lw_m4 4 rfl) rfl
theorem q1561 : (Jvm.Cond.instantiable "CoincideBenchModel" (40 : Nat)) ∈ lw_all := lw_g (lw_at lw_m7 3 rfl) rfl
theorem q1563 : (Jvm.Cond.instanceMethod ({ cls := "CoincideBenchModel", name := "<init>", desc := "()V" } : Jvm.MethodName)) ∈ lw_all := lw_g (lw_at lw_m7 5 rfl) rfl
theorem q1564 : (Jvm.Cond.code ({ cls := "CoincideBenchModel", name := "<init>", desc := "()V" } : Jvm.MethodName) prog_20_method_4_code (1 : Nat) (Option.none : Option Jvm.ClassFile.FieldType)) ∈ lw_all := lw_g (lw_at lw_m7 6 rfl) rfl
theorem q1565 : (Jvm.Cond.methodLink "CoincideBenchModel" (7 : Nat) ({ cls := "java/lang/Object", name := "<init>", desc := "()V" } : Jvm.MethodName)) ∈ lw_all := lw_g (lw_at lw_m7 7 rfl) rfl
theorem q1566 : (Jvm.Cond.fieldLink "CoincideBenchModel" (13 : Nat) "CoincideBenchModel" "mem" "[I") ∈ lw_all := lw_g (lw_at lw_m7 8 rfl) rfl
theorem q1567 : (Jvm.Cond.fieldLink "CoincideBenchModel" (17 : Nat) "CoincideBenchModel" "was" "[I") ∈ lw_all := lw_g (lw_at lw_m7 9 rfl) rfl
theorem q1568 : (Jvm.Cond.fieldLink "CoincideBenchModel" (20 : Nat) "CoincideBenchModel" "past" "[I") ∈ lw_all := lw_g (lw_at lw_m7 10 rfl) rfl
theorem q1569 : (Jvm.Cond.fieldLink "CoincideBenchModel" (23 : Nat) "CoincideBenchModel" "tape" "[I") ∈ lw_all := lw_g (lw_at lw_m7 11 rfl) rfl
theorem q1570 : (Jvm.Cond.fieldLink "CoincideBenchModel" (85 : Nat) "CoincideBenchModel" "taped" "I") ∈ lw_all := lw_g (lw_at lw_m7 12 rfl) rfl
theorem q1571 : (Jvm.Cond.fieldLink "CoincideBenchModel" (119 : Nat) "CoincideBenchModel" "faultKind" "I") ∈ lw_all := lw_g (lw_at lw_m7 13 rfl) rfl
theorem q1572 : (Jvm.Cond.fieldLink "CoincideBenchModel" (26 : Nat) "CoincideBenchModel" "faultPlace" "I") ∈ lw_all := lw_g (lw_at lw_m7 14 rfl) rfl
theorem q1573 : (Jvm.Cond.fieldLink "CoincideBenchModel" (184 : Nat) "CoincideBenchModel" "whyAct" "I") ∈ lw_all := lw_g (lw_at lw_m7 15 rfl) rfl
theorem q1574 : (Jvm.Cond.fieldLink "CoincideBenchModel" (407 : Nat) "CoincideBenchModel" "whyKind" "I") ∈ lw_all := lw_g (lw_at lw_m7 16 rfl) rfl
theorem q1575 : (Jvm.Cond.fieldLink "CoincideBenchModel" (410 : Nat) "CoincideBenchModel" "whyLattice" "I") ∈ lw_all := lw_g (lw_at lw_m7 17 rfl) rfl
theorem q1576 : (Jvm.Cond.fieldLink "CoincideBenchModel" (413 : Nat) "CoincideBenchModel" "whyRow" "I") ∈ lw_all := lw_g (lw_at lw_m7 18 rfl) rfl
theorem q1577 : (Jvm.Cond.fieldLink "CoincideBenchModel" (92 : Nat) "CoincideBenchModel" "at" "I") ∈ lw_all := lw_g (lw_at lw_m7 19 rfl) rfl
theorem q1578 : (Jvm.Cond.fieldLink "CoincideBenchModel" (99 : Nat) "CoincideBenchModel" "begin" "I") ∈ lw_all := lw_g (lw_at lw_m7 20 rfl) rfl
theorem q1579 : (Jvm.Cond.fieldLink "CoincideBenchModel" (105 : Nat) "CoincideBenchModel" "token" "I") ∈ lw_all := lw_g (lw_at lw_m7 21 rfl) rfl
theorem q1580 : (Jvm.Cond.fieldLink "CoincideBenchModel" (102 : Nat) "CoincideBenchModel" "value" "I") ∈ lw_all := lw_g (lw_at lw_m7 22 rfl) rfl
theorem q1581 : (Jvm.Cond.fieldLink "CoincideBenchModel" (115 : Nat) "CoincideBenchModel" "bad" "Z") ∈ lw_all := lw_g (lw_at lw_m7 23 rfl) rfl
theorem q1582 : (Jvm.Cond.fieldLink "CoincideBenchModel" (30 : Nat) "CoincideBenchModel" "nameAt" "[I") ∈ lw_all := lw_g (lw_at lw_m7 24 rfl) rfl
theorem q1583 : (Jvm.Cond.fieldLink "CoincideBenchModel" (33 : Nat) "CoincideBenchModel" "nameLong" "[I") ∈ lw_all := lw_g (lw_at lw_m7 25 rfl) rfl
theorem q1584 : (Jvm.Cond.fieldLink "CoincideBenchModel" (36 : Nat) "CoincideBenchModel" "rows" "[J") ∈ lw_all := lw_g (lw_at lw_m7 26 rfl) rfl
theorem q1585 : (Jvm.Cond.fieldLink "CoincideBenchModel" (191 : Nat) "CoincideBenchModel" "over" "J") ∈ lw_all := lw_g (lw_at lw_m7 27 rfl) rfl
theorem q1586 : (Jvm.Cond.fieldLink "CoincideBenchModel" (40 : Nat) "CoincideBenchModel" "turn" "[J") ∈ lw_all := lw_g (lw_at lw_m7 28 rfl) rfl
theorem q1587 : (Jvm.Cond.fieldLink "CoincideBenchModel" (43 : Nat) "CoincideBenchModel" "stepKind" "[I") ∈ lw_all := lw_g (lw_at lw_m7 29 rfl) rfl
theorem q1588 : (Jvm.Cond.fieldLink "CoincideBenchModel" (46 : Nat) "CoincideBenchModel" "stepRow" "[I") ∈ lw_all := lw_g (lw_at lw_m7 30 rfl) rfl
theorem q1589 : (Jvm.Cond.fieldLink "CoincideBenchModel" (49 : Nat) "CoincideBenchModel" "stepBy" "[I") ∈ lw_all := lw_g (lw_at lw_m7 31 rfl) rfl
theorem q1590 : (Jvm.Cond.fieldLink "CoincideBenchModel" (52 : Nat) "CoincideBenchModel" "stepTimes" "[J") ∈ lw_all := lw_g (lw_at lw_m7 32 rfl) rfl
theorem q1591 : (Jvm.Cond.fieldLink "CoincideBenchModel" (220 : Nat) "CoincideBenchModel" "stepMany" "I") ∈ lw_all := lw_g (lw_at lw_m7 33 rfl) rfl
theorem q1592 : (Jvm.Cond.fieldLink "CoincideBenchModel" (55 : Nat) "CoincideBenchModel" "point" "[J") ∈ lw_all := lw_g (lw_at lw_m7 34 rfl) rfl
theorem q1593 : (Jvm.Cond.fieldLink "CoincideBenchModel" (58 : Nat) "CoincideBenchModel" "first" "[J") ∈ lw_all := lw_g (lw_at lw_m7 35 rfl) rfl
theorem q1594 : (Jvm.Cond.fieldLink "CoincideBenchModel" (289 : Nat) "CoincideBenchModel" "firstOver" "J") ∈ lw_all := lw_g (lw_at lw_m7 36 rfl) rfl
theorem q1595 : (Jvm.Cond.fieldLink "CoincideBenchModel" (61 : Nat) "CoincideBenchModel" "other" "[J") ∈ lw_all := lw_g (lw_at lw_m7 37 rfl) rfl
theorem q1596 : (Jvm.Cond.fieldLink "CoincideBenchModel" (292 : Nat) "CoincideBenchModel" "otherOver" "J") ∈ lw_all := lw_g (lw_at lw_m7 38 rfl) rfl
theorem q1597 : (Jvm.Cond.fieldLink "CoincideBenchModel" (295 : Nat) "CoincideBenchModel" "both" "J") ∈ lw_all := lw_g (lw_at lw_m7 39 rfl) rfl
theorem q1598 : (Jvm.Cond.fieldLink "CoincideBenchModel" (64 : Nat) "CoincideBenchModel" "told" "[J") ∈ lw_all := lw_g (lw_at lw_m7 40 rfl) rfl
theorem q1599 : (Jvm.Cond.fieldLink "CoincideBenchModel" (67 : Nat) "CoincideBenchModel" "wide" "[J") ∈ lw_all := lw_g (lw_at lw_m7 41 rfl) rfl
theorem q1600 : (Jvm.Cond.fieldLink "CoincideBenchModel" (70 : Nat) "CoincideBenchModel" "six" "[J") ∈ lw_all := lw_g (lw_at lw_m7 42 rfl) rfl
theorem q1601 : (Jvm.Cond.fieldLink "CoincideBenchModel" (361 : Nat) "CoincideBenchModel" "bettered" "I") ∈ lw_all := lw_g (lw_at lw_m7 43 rfl) rfl
theorem q1602 : (Jvm.Cond.fieldLink "CoincideBenchModel" (73 : Nat) "CoincideBenchModel" "tried" "[J") ∈ lw_all := lw_g (lw_at lw_m7 44 rfl) rfl
theorem q1603 : (Jvm.Cond.fieldLink "CoincideBenchModel" (76 : Nat) "CoincideBenchModel" "best" "[J") ∈ lw_all := lw_g (lw_at lw_m7 45 rfl) rfl
theorem q1604 : (Jvm.Cond.fieldLink "CoincideBenchModel" (79 : Nat) "CoincideBenchModel" "crossed" "[J") ∈ lw_all := lw_g (lw_at lw_m7 46 rfl) rfl
theorem q1605 : (Jvm.Cond.fieldLink "CoincideBenchModel" (82 : Nat) "CoincideBenchModel" "high" "[J") ∈ lw_all := lw_g (lw_at lw_m7 47 rfl) rfl
theorem q1606 : (Jvm.Cond.laysFinal "CoincideBenchModel" "CoincideBenchModel" "mem" "[I") ∈ lw_all := lw_g (lw_at lw_m7 48 rfl) rfl
theorem q1607 : (Jvm.Cond.soleField "CoincideBenchModel" "mem") ∈ lw_all := lw_g (lw_at lw_m7 49 rfl) rfl
theorem q1608 : (Jvm.Cond.laysFinal "CoincideBenchModel" "CoincideBenchModel" "was" "[I") ∈ lw_all := lw_g (lw_at lw_m7 50 rfl) rfl
theorem q1609 : (Jvm.Cond.soleField "CoincideBenchModel" "was") ∈ lw_all := lw_g (lw_at lw_m7 51 rfl) rfl
theorem q1610 : (Jvm.Cond.laysFinal "CoincideBenchModel" "CoincideBenchModel" "past" "[I") ∈ lw_all := lw_g (lw_at lw_m7 52 rfl) rfl
theorem q1611 : (Jvm.Cond.soleField "CoincideBenchModel" "past") ∈ lw_all := lw_g (lw_at lw_m7 53 rfl) rfl
theorem q1612 : (Jvm.Cond.laysFinal "CoincideBenchModel" "CoincideBenchModel" "tape" "[I") ∈ lw_all := lw_g (lw_at lw_m7 54 rfl) rfl
theorem q1613 : (Jvm.Cond.soleField "CoincideBenchModel" "tape") ∈ lw_all := lw_g (lw_at lw_m7 55 rfl) rfl
theorem q1614 : (Jvm.Cond.lays "CoincideBenchModel" "CoincideBenchModel" "taped" "I") ∈ lw_all := lw_g (lw_at lw_m7 56 rfl) rfl
theorem q1615 : (Jvm.Cond.soleField "CoincideBenchModel" "taped") ∈ lw_all := lw_g (lw_at lw_m7 57 rfl) rfl
theorem q1616 : (Jvm.Cond.lays "CoincideBenchModel" "CoincideBenchModel" "faultKind" "I") ∈ lw_all := lw_g (lw_at lw_m7 58 rfl) rfl
theorem q1617 : (Jvm.Cond.soleField "CoincideBenchModel" "faultKind") ∈ lw_all := lw_g (lw_at lw_m7 59 rfl) rfl
theorem q1618 : (Jvm.Cond.lays "CoincideBenchModel" "CoincideBenchModel" "faultPlace" "I") ∈ lw_all := lw_g (lw_at lw_m7 60 rfl) rfl
theorem q1619 : (Jvm.Cond.soleField "CoincideBenchModel" "faultPlace") ∈ lw_all := lw_g (lw_at lw_m7 61 rfl) rfl
theorem q1620 : (Jvm.Cond.lays "CoincideBenchModel" "CoincideBenchModel" "whyAct" "I") ∈ lw_all := lw_g (lw_at lw_m7 62 rfl) rfl
theorem q1621 : (Jvm.Cond.soleField "CoincideBenchModel" "whyAct") ∈ lw_all := lw_g (lw_at lw_m7 63 rfl) rfl
theorem q1622 : (Jvm.Cond.lays "CoincideBenchModel" "CoincideBenchModel" "whyKind" "I") ∈ lw_all := lw_g (lw_at lw_m7 64 rfl) rfl
theorem q1623 : (Jvm.Cond.soleField "CoincideBenchModel" "whyKind") ∈ lw_all := lw_g (lw_at lw_m7 65 rfl) rfl
theorem q1624 : (Jvm.Cond.lays "CoincideBenchModel" "CoincideBenchModel" "whyLattice" "I") ∈ lw_all := lw_g (lw_at lw_m7 66 rfl) rfl
theorem q1625 : (Jvm.Cond.soleField "CoincideBenchModel" "whyLattice") ∈ lw_all := lw_g (lw_at lw_m7 67 rfl) rfl
theorem q1626 : (Jvm.Cond.lays "CoincideBenchModel" "CoincideBenchModel" "whyRow" "I") ∈ lw_all := lw_g (lw_at lw_m7 68 rfl) rfl
theorem q1627 : (Jvm.Cond.soleField "CoincideBenchModel" "whyRow") ∈ lw_all := lw_g (lw_at lw_m7 69 rfl) rfl
theorem q1628 : (Jvm.Cond.lays "CoincideBenchModel" "CoincideBenchModel" "at" "I") ∈ lw_all := lw_g (lw_at lw_m7 70 rfl) rfl
theorem q1629 : (Jvm.Cond.soleField "CoincideBenchModel" "at") ∈ lw_all := lw_g (lw_at lw_m7 71 rfl) rfl
theorem q1630 : (Jvm.Cond.lays "CoincideBenchModel" "CoincideBenchModel" "begin" "I") ∈ lw_all := lw_g (lw_at lw_m7 72 rfl) rfl
theorem q1631 : (Jvm.Cond.soleField "CoincideBenchModel" "begin") ∈ lw_all := lw_g (lw_at lw_m7 73 rfl) rfl
theorem q1632 : (Jvm.Cond.lays "CoincideBenchModel" "CoincideBenchModel" "token" "I") ∈ lw_all := lw_g (lw_at lw_m7 74 rfl) rfl
theorem q1633 : (Jvm.Cond.soleField "CoincideBenchModel" "token") ∈ lw_all := lw_g (lw_at lw_m7 75 rfl) rfl
theorem q1634 : (Jvm.Cond.lays "CoincideBenchModel" "CoincideBenchModel" "value" "I") ∈ lw_all := lw_g (lw_at lw_m7 76 rfl) rfl
theorem q1635 : (Jvm.Cond.soleField "CoincideBenchModel" "value") ∈ lw_all := lw_g (lw_at lw_m7 77 rfl) rfl
theorem q1636 : (Jvm.Cond.lays "CoincideBenchModel" "CoincideBenchModel" "bad" "Z") ∈ lw_all := lw_g (lw_at lw_m7 78 rfl) rfl
theorem q1637 : (Jvm.Cond.soleField "CoincideBenchModel" "bad") ∈ lw_all := lw_g (lw_at lw_m7 79 rfl) rfl
theorem q1638 : (Jvm.Cond.laysFinal "CoincideBenchModel" "CoincideBenchModel" "nameAt" "[I") ∈ lw_all := lw_g (lw_at lw_m7 80 rfl) rfl
theorem q1639 : (Jvm.Cond.soleField "CoincideBenchModel" "nameAt") ∈ lw_all := lw_g (lw_at lw_m7 81 rfl) rfl
theorem q1640 : (Jvm.Cond.laysFinal "CoincideBenchModel" "CoincideBenchModel" "nameLong" "[I") ∈ lw_all := lw_g (lw_at lw_m7 82 rfl) rfl
theorem q1641 : (Jvm.Cond.soleField "CoincideBenchModel" "nameLong") ∈ lw_all := lw_g (lw_at lw_m7 83 rfl) rfl
theorem q1642 : (Jvm.Cond.laysFinal "CoincideBenchModel" "CoincideBenchModel" "rows" "[J") ∈ lw_all := lw_g (lw_at lw_m7 84 rfl) rfl
theorem q1643 : (Jvm.Cond.soleField "CoincideBenchModel" "rows") ∈ lw_all := lw_g (lw_at lw_m7 85 rfl) rfl
theorem q1644 : (Jvm.Cond.lays "CoincideBenchModel" "CoincideBenchModel" "over" "J") ∈ lw_all := lw_g (lw_at lw_m7 86 rfl) rfl
theorem q1645 : (Jvm.Cond.soleField "CoincideBenchModel" "over") ∈ lw_all := lw_g (lw_at lw_m7 87 rfl) rfl
theorem q1646 : (Jvm.Cond.laysFinal "CoincideBenchModel" "CoincideBenchModel" "turn" "[J") ∈ lw_all := lw_g (lw_at lw_m7 88 rfl) rfl
theorem q1647 : (Jvm.Cond.soleField "CoincideBenchModel" "turn") ∈ lw_all := lw_g (lw_at lw_m7 89 rfl) rfl
theorem q1648 : (Jvm.Cond.laysFinal "CoincideBenchModel" "CoincideBenchModel" "stepKind" "[I") ∈ lw_all := lw_g (lw_at lw_m7 90 rfl) rfl
theorem q1649 : (Jvm.Cond.soleField "CoincideBenchModel" "stepKind") ∈ lw_all := lw_g (lw_at lw_m7 91 rfl) rfl
theorem q1650 : (Jvm.Cond.laysFinal "CoincideBenchModel" "CoincideBenchModel" "stepRow" "[I") ∈ lw_all := lw_g (lw_at lw_m7 92 rfl) rfl
theorem q1651 : (Jvm.Cond.soleField "CoincideBenchModel" "stepRow") ∈ lw_all := lw_g (lw_at lw_m7 93 rfl) rfl
theorem q1652 : (Jvm.Cond.laysFinal "CoincideBenchModel" "CoincideBenchModel" "stepBy" "[I") ∈ lw_all := lw_g (lw_at lw_m7 94 rfl) rfl
theorem q1653 : (Jvm.Cond.soleField "CoincideBenchModel" "stepBy") ∈ lw_all := lw_g (lw_at lw_m7 95 rfl) rfl
theorem q1654 : (Jvm.Cond.laysFinal "CoincideBenchModel" "CoincideBenchModel" "stepTimes" "[J") ∈ lw_all := lw_g (lw_at lw_m7 96 rfl) rfl
theorem q1655 : (Jvm.Cond.soleField "CoincideBenchModel" "stepTimes") ∈ lw_all := lw_g (lw_at lw_m7 97 rfl) rfl
theorem q1656 : (Jvm.Cond.lays "CoincideBenchModel" "CoincideBenchModel" "stepMany" "I") ∈ lw_all := lw_g (lw_at lw_m7 98 rfl) rfl
theorem q1657 : (Jvm.Cond.soleField "CoincideBenchModel" "stepMany") ∈ lw_all := lw_g (lw_at lw_m7 99 rfl) rfl
theorem q1658 : (Jvm.Cond.laysFinal "CoincideBenchModel" "CoincideBenchModel" "point" "[J") ∈ lw_all := lw_g (lw_at lw_m7 100 rfl) rfl
theorem q1659 : (Jvm.Cond.soleField "CoincideBenchModel" "point") ∈ lw_all := lw_g (lw_at lw_m7 101 rfl) rfl
theorem q1660 : (Jvm.Cond.laysFinal "CoincideBenchModel" "CoincideBenchModel" "first" "[J") ∈ lw_all := lw_g (lw_at lw_m7 102 rfl) rfl
theorem q1661 : (Jvm.Cond.soleField "CoincideBenchModel" "first") ∈ lw_all := lw_g (lw_at lw_m7 103 rfl) rfl
theorem q1662 : (Jvm.Cond.lays "CoincideBenchModel" "CoincideBenchModel" "firstOver" "J") ∈ lw_all := lw_g (lw_at lw_m7 104 rfl) rfl
theorem q1663 : (Jvm.Cond.soleField "CoincideBenchModel" "firstOver") ∈ lw_all := lw_g (lw_at lw_m7 105 rfl) rfl
theorem q1664 : (Jvm.Cond.laysFinal "CoincideBenchModel" "CoincideBenchModel" "other" "[J") ∈ lw_all := lw_g (lw_at lw_m7 106 rfl) rfl
theorem q1665 : (Jvm.Cond.soleField "CoincideBenchModel" "other") ∈ lw_all := lw_g (lw_at lw_m7 107 rfl) rfl
theorem q1666 : (Jvm.Cond.lays "CoincideBenchModel" "CoincideBenchModel" "otherOver" "J") ∈ lw_all := lw_g (lw_at lw_m7 108 rfl) rfl
theorem q1667 : (Jvm.Cond.soleField "CoincideBenchModel" "otherOver") ∈ lw_all := lw_g (lw_at lw_m7 109 rfl) rfl
theorem q1668 : (Jvm.Cond.lays "CoincideBenchModel" "CoincideBenchModel" "both" "J") ∈ lw_all := lw_g (lw_at lw_m7 110 rfl) rfl
theorem q1669 : (Jvm.Cond.soleField "CoincideBenchModel" "both") ∈ lw_all := lw_g (lw_at lw_m7 111 rfl) rfl
theorem q1670 : (Jvm.Cond.laysFinal "CoincideBenchModel" "CoincideBenchModel" "told" "[J") ∈ lw_all := lw_g (lw_at lw_m7 112 rfl) rfl
theorem q1671 : (Jvm.Cond.soleField "CoincideBenchModel" "told") ∈ lw_all := lw_g (lw_at lw_m7 113 rfl) rfl
theorem q1672 : (Jvm.Cond.laysFinal "CoincideBenchModel" "CoincideBenchModel" "wide" "[J") ∈ lw_all := lw_g (lw_at lw_m7 114 rfl) rfl
theorem q1673 : (Jvm.Cond.soleField "CoincideBenchModel" "wide") ∈ lw_all := lw_g (lw_at lw_m7 115 rfl) rfl
theorem q1674 : (Jvm.Cond.laysFinal "CoincideBenchModel" "CoincideBenchModel" "six" "[J") ∈ lw_all := lw_g (lw_at lw_m7 116 rfl) rfl
theorem q1675 : (Jvm.Cond.soleField "CoincideBenchModel" "six") ∈ lw_all := lw_g (lw_at lw_m7 117 rfl) rfl
theorem q1676 : (Jvm.Cond.lays "CoincideBenchModel" "CoincideBenchModel" "bettered" "I") ∈ lw_all := lw_g (lw_at lw_m7 118 rfl) rfl
theorem q1677 : (Jvm.Cond.soleField "CoincideBenchModel" "bettered") ∈ lw_all := lw_g (lw_at lw_m7 119 rfl) rfl
theorem q1678 : (Jvm.Cond.laysFinal "CoincideBenchModel" "CoincideBenchModel" "tried" "[J") ∈ lw_all := lw_g (lw_at lw_m7 120 rfl) rfl
theorem q1679 : (Jvm.Cond.soleField "CoincideBenchModel" "tried") ∈ lw_all := lw_g (lw_at lw_m7 121 rfl) rfl
theorem q1680 : (Jvm.Cond.laysFinal "CoincideBenchModel" "CoincideBenchModel" "best" "[J") ∈ lw_all := lw_g (lw_at lw_m7 122 rfl) rfl
theorem q1681 : (Jvm.Cond.soleField "CoincideBenchModel" "best") ∈ lw_all := lw_g (lw_at lw_m7 123 rfl) rfl
theorem q1682 : (Jvm.Cond.laysFinal "CoincideBenchModel" "CoincideBenchModel" "crossed" "[J") ∈ lw_all := lw_g (lw_at lw_m7 124 rfl) rfl
theorem q1683 : (Jvm.Cond.soleField "CoincideBenchModel" "crossed") ∈ lw_all := lw_g (lw_at lw_m7 125 rfl) rfl
theorem q1684 : (Jvm.Cond.laysFinal "CoincideBenchModel" "CoincideBenchModel" "high" "[J") ∈ lw_all := lw_g (lw_at lw_m7 126 rfl) rfl
theorem q1685 : (Jvm.Cond.soleField "CoincideBenchModel" "high") ∈ lw_all := lw_g (lw_at lw_m7 127 rfl) rfl
theorem q1686 : (Jvm.Cond.superclass "CoincideBenchModel" "java/lang/Object") ∈ lw_all := lw_g (lw_at lw_m7 128 rfl) rfl
theorem q1688 : (Jvm.Cond.instanceMethod ({ cls := "CoincideBenchModel", name := "feed", desc := "(IIIII)I" } : Jvm.MethodName)) ∈ lw_all := lw_g (lw_at lw_m7 130 rfl) rfl
theorem q1689 : (Jvm.Cond.selects "CoincideBenchModel" ({ cls := "CoincideBenchModel", name := "feed", desc := "(IIIII)I" } : Jvm.MethodName) ({ cls := "CoincideBenchModel", name := "feed", desc := "(IIIII)I" } : Jvm.MethodName)) ∈ lw_all := lw_g (lw_at lw_m7 131 rfl) rfl
theorem q1690 : (Jvm.Cond.code ({ cls := "CoincideBenchModel", name := "feed", desc := "(IIIII)I" } : Jvm.MethodName) prog_20_method_5_code (8 : Nat) (Option.some Jvm.ClassFile.FieldType.int)) ∈ lw_all := lw_g (lw_at lw_m7 132 rfl) rfl
theorem q1692 : (Jvm.Cond.instanceMethod ({ cls := "CoincideBenchModel", name := "end", desc := "(I)I" } : Jvm.MethodName)) ∈ lw_all := lw_g (lw_at lw_m7 134 rfl) rfl
theorem q1693 : (Jvm.Cond.selects "CoincideBenchModel" ({ cls := "CoincideBenchModel", name := "end", desc := "(I)I" } : Jvm.MethodName) ({ cls := "CoincideBenchModel", name := "end", desc := "(I)I" } : Jvm.MethodName)) ∈ lw_all := lw_g (lw_at lw_m7 135 rfl) rfl
theorem q1694 : (Jvm.Cond.code ({ cls := "CoincideBenchModel", name := "end", desc := "(I)I" } : Jvm.MethodName) prog_20_method_6_code (2 : Nat) (Option.some Jvm.ClassFile.FieldType.int)) ∈ lw_all := lw_g (lw_at lw_m7 136 rfl) rfl
theorem q1695 : (Jvm.Cond.methodLink "CoincideBenchModel" (88 : Nat) ({ cls := "CoincideBenchModel", name := "in", desc := "(JJJ)Z" } : Jvm.MethodName)) ∈ lw_all := lw_g (lw_at lw_m7 137 rfl) rfl
theorem q1696 : (Jvm.Cond.static ({ cls := "CoincideBenchModel", name := "in", desc := "(JJJ)Z" } : Jvm.MethodName)) ∈ lw_all := lw_g (lw_at lw_m7 138 rfl) rfl
theorem q1697 : (Jvm.Cond.code ({ cls := "CoincideBenchModel", name := "in", desc := "(JJJ)Z" } : Jvm.MethodName) prog_20_method_1_code (6 : Nat) (Option.some Jvm.ClassFile.FieldType.boolean)) ∈ lw_all := lw_g (lw_at lw_m7 139 rfl) rfl
theorem q1699 : (Jvm.Cond.instanceMethod ({ cls := "CoincideBenchModel", name := "lattices", desc := "()I" } : Jvm.MethodName)) ∈ lw_all := lw_g (lw_at lw_m7 141 rfl) rfl
theorem q1700 : (Jvm.Cond.selects "CoincideBenchModel" ({ cls := "CoincideBenchModel", name := "lattices", desc := "()I" } : Jvm.MethodName) ({ cls := "CoincideBenchModel", name := "lattices", desc := "()I" } : Jvm.MethodName)) ∈ lw_all := lw_g (lw_at lw_m7 142 rfl) rfl
theorem q1701 : (Jvm.Cond.code ({ cls := "CoincideBenchModel", name := "lattices", desc := "()I" } : Jvm.MethodName) prog_20_method_20_code (2 : Nat) (Option.some Jvm.ClassFile.FieldType.int)) ∈ lw_all := lw_g (lw_at lw_m7 143 rfl) rfl
theorem q1702 : (Jvm.Cond.methodLink "CoincideBenchModel" (136 : Nat) ({ cls := "CoincideBenchModel", name := "next", desc := "()V" } : Jvm.MethodName)) ∈ lw_all := lw_g (lw_at lw_m7 144 rfl) rfl
theorem q1703 : (Jvm.Cond.privateMethod ({ cls := "CoincideBenchModel", name := "next", desc := "()V" } : Jvm.MethodName)) ∈ lw_tbl := lw_at lw_m7 145 rfl
theorem q1704 : (Jvm.Cond.instanceMethod ({ cls := "CoincideBenchModel", name := "next", desc := "()V" } : Jvm.MethodName)) ∈ lw_all := lw_g (lw_at lw_m7 146 rfl) rfl
theorem q1705 : (Jvm.Cond.code ({ cls := "CoincideBenchModel", name := "next", desc := "()V" } : Jvm.MethodName) prog_20_method_8_code (1 : Nat) (Option.none : Option Jvm.ClassFile.FieldType)) ∈ lw_all := lw_g (lw_at lw_m7 147 rfl) rfl
theorem q1706 : (Jvm.Cond.methodLink "CoincideBenchModel" (95 : Nat) ({ cls := "CoincideBenchModel", name := "isAt", desc := "(II)Z" } : Jvm.MethodName)) ∈ lw_all := lw_g (lw_at lw_m7 148 rfl) rfl
theorem q1707 : (Jvm.Cond.privateMethod ({ cls := "CoincideBenchModel", name := "isAt", desc := "(II)Z" } : Jvm.MethodName)) ∈ lw_tbl := lw_at lw_m7 149 rfl
theorem q1708 : (Jvm.Cond.instanceMethod ({ cls := "CoincideBenchModel", name := "isAt", desc := "(II)Z" } : Jvm.MethodName)) ∈ lw_all := lw_g (lw_at lw_m7 150 rfl) rfl
theorem q1709 : (Jvm.Cond.code ({ cls := "CoincideBenchModel", name := "isAt", desc := "(II)Z" } : Jvm.MethodName) prog_20_method_7_code (3 : Nat) (Option.some Jvm.ClassFile.FieldType.boolean)) ∈ lw_all := lw_g (lw_at lw_m7 151 rfl) rfl
theorem q1710 : (Jvm.Cond.constant "CoincideBenchModel" (108 : Nat) (99999 : Int32)) ∈ lw_all := lw_g (lw_at lw_m7 152 rfl) rfl
theorem q1711 : (Jvm.Cond.methodLink "CoincideBenchModel" (109 : Nat) ({ cls := "java/lang/Math", name := "min", desc := "(II)I" } : Jvm.MethodName)) ∈ lw_all := lw_g (lw_at lw_m7 153 rfl) rfl
theorem q1712 : (Jvm.Cond.stringRef "CoincideBenchModel" (139 : Nat) "lattice") ∈ lw_tbl := lw_at lw_m7 154 rfl
theorem q1713 : (Jvm.Cond.methodLink "CoincideBenchModel" (141 : Nat) ({ cls := "CoincideBenchModel", name := "isWord", desc := "(Ljava/lang/String;)Z" } : Jvm.MethodName)) ∈ lw_all := lw_g (lw_at lw_m7 155 rfl) rfl
theorem q1714 : (Jvm.Cond.privateMethod ({ cls := "CoincideBenchModel", name := "isWord", desc := "(Ljava/lang/String;)Z" } : Jvm.MethodName)) ∈ lw_tbl := lw_at lw_m7 156 rfl
theorem q1715 : (Jvm.Cond.instanceMethod ({ cls := "CoincideBenchModel", name := "isWord", desc := "(Ljava/lang/String;)Z" } : Jvm.MethodName)) ∈ lw_all := lw_g (lw_at lw_m7 157 rfl) rfl
theorem q1716 : (Jvm.Cond.code ({ cls := "CoincideBenchModel", name := "isWord", desc := "(Ljava/lang/String;)Z" } : Jvm.MethodName) prog_20_method_10_code (4 : Nat) (Option.some Jvm.ClassFile.FieldType.boolean)) ∈ lw_all := lw_g (lw_at lw_m7 158 rfl) rfl
theorem q1717 : (Jvm.Cond.methodLink "CoincideBenchModel" (122 : Nat) ({ cls := "java/lang/String", name := "length", desc := "()I" } : Jvm.MethodName)) ∈ lw_all := lw_g (lw_at lw_m7 159 rfl) rfl
theorem q1718 : (Jvm.Cond.methodLink "CoincideBenchModel" (128 : Nat) ({ cls := "java/lang/String", name := "charAt", desc := "(I)C" } : Jvm.MethodName)) ∈ lw_all := lw_g (lw_at lw_m7 160 rfl) rfl
theorem q1733 : (Jvm.Cond.methodLink "CoincideBenchModel" (178 : Nat) ({ cls := "CoincideBenchModel", name := "readsLattice", desc := "()V" } : Jvm.MethodName)) ∈ lw_all := lw_g (lw_at lw_m7 175 rfl) rfl
theorem q1734 : (Jvm.Cond.privateMethod ({ cls := "CoincideBenchModel", name := "readsLattice", desc := "()V" } : Jvm.MethodName)) ∈ lw_tbl := lw_at lw_m7 176 rfl
theorem q1735 : (Jvm.Cond.instanceMethod ({ cls := "CoincideBenchModel", name := "readsLattice", desc := "()V" } : Jvm.MethodName)) ∈ lw_all := lw_g (lw_at lw_m7 177 rfl) rfl
theorem q1736 : (Jvm.Cond.code ({ cls := "CoincideBenchModel", name := "readsLattice", desc := "()V" } : Jvm.MethodName) prog_20_method_17_code (3 : Nat) (Option.none : Option Jvm.ClassFile.FieldType)) ∈ lw_all := lw_g (lw_at lw_m7 178 rfl) rfl
theorem q1737 : (Jvm.Cond.methodLink "CoincideBenchModel" (165 : Nat) ({ cls := "CoincideBenchModel", name := "readsName", desc := "()V" } : Jvm.MethodName)) ∈ lw_all := lw_g (lw_at lw_m7 179 rfl) rfl
theorem q1738 : (Jvm.Cond.privateMethod ({ cls := "CoincideBenchModel", name := "readsName", desc := "()V" } : Jvm.MethodName)) ∈ lw_tbl := lw_at lw_m7 180 rfl
theorem q1739 : (Jvm.Cond.instanceMethod ({ cls := "CoincideBenchModel", name := "readsName", desc := "()V" } : Jvm.MethodName)) ∈ lw_all := lw_g (lw_at lw_m7 181 rfl) rfl
theorem q1740 : (Jvm.Cond.code ({ cls := "CoincideBenchModel", name := "readsName", desc := "()V" } : Jvm.MethodName) prog_20_method_15_code (1 : Nat) (Option.none : Option Jvm.ClassFile.FieldType)) ∈ lw_all := lw_g (lw_at lw_m7 182 rfl) rfl
theorem q1741 : (Jvm.Cond.methodLink "CoincideBenchModel" (132 : Nat) ({ cls := "CoincideBenchModel", name := "faults", desc := "(I)V" } : Jvm.MethodName)) ∈ lw_all := lw_g (lw_at lw_m7 183 rfl) rfl
theorem q1742 : (Jvm.Cond.privateMethod ({ cls := "CoincideBenchModel", name := "faults", desc := "(I)V" } : Jvm.MethodName)) ∈ lw_tbl := lw_at lw_m7 184 rfl
theorem q1743 : (Jvm.Cond.instanceMethod ({ cls := "CoincideBenchModel", name := "faults", desc := "(I)V" } : Jvm.MethodName)) ∈ lw_all := lw_g (lw_at lw_m7 185 rfl) rfl
theorem q1744 : (Jvm.Cond.code ({ cls := "CoincideBenchModel", name := "faults", desc := "(I)V" } : Jvm.MethodName) prog_20_method_9_code (2 : Nat) (Option.none : Option Jvm.ClassFile.FieldType)) ∈ lw_all := lw_g (lw_at lw_m7 186 rfl) rfl
theorem q1745 : (Jvm.Cond.methodLink "CoincideBenchModel" (150 : Nat) ({ cls := "CoincideBenchModel", name := "passes", desc := "(Z)V" } : Jvm.MethodName)) ∈ lw_all := lw_g (lw_at lw_m7 187 rfl) rfl
theorem q1746 : (Jvm.Cond.privateMethod ({ cls := "CoincideBenchModel", name := "passes", desc := "(Z)V" } : Jvm.MethodName)) ∈ lw_tbl := lw_at lw_m7 188 rfl
theorem q1747 : (Jvm.Cond.instanceMethod ({ cls := "CoincideBenchModel", name := "passes", desc := "(Z)V" } : Jvm.MethodName)) ∈ lw_all := lw_g (lw_at lw_m7 189 rfl) rfl
theorem q1748 : (Jvm.Cond.code ({ cls := "CoincideBenchModel", name := "passes", desc := "(Z)V" } : Jvm.MethodName) prog_20_method_12_code (2 : Nat) (Option.none : Option Jvm.ClassFile.FieldType)) ∈ lw_all := lw_g (lw_at lw_m7 190 rfl) rfl
theorem q1749 : (Jvm.Cond.methodLink "CoincideBenchModel" (154 : Nat) ({ cls := "CoincideBenchModel", name := "isKept", desc := "()Z" } : Jvm.MethodName)) ∈ lw_all := lw_g (lw_at lw_m7 191 rfl) rfl
theorem q1750 : (Jvm.Cond.privateMethod ({ cls := "CoincideBenchModel", name := "isKept", desc := "()Z" } : Jvm.MethodName)) ∈ lw_tbl := lw_at lw_m7 192 rfl
theorem q1751 : (Jvm.Cond.instanceMethod ({ cls := "CoincideBenchModel", name := "isKept", desc := "()Z" } : Jvm.MethodName)) ∈ lw_all := lw_g (lw_at lw_m7 193 rfl) rfl
theorem q1752 : (Jvm.Cond.code ({ cls := "CoincideBenchModel", name := "isKept", desc := "()Z" } : Jvm.MethodName) prog_20_method_13_code (1 : Nat) (Option.some Jvm.ClassFile.FieldType.boolean)) ∈ lw_all := lw_g (lw_at lw_m7 194 rfl) rfl
theorem q1753 : (Jvm.Cond.stringRef "CoincideBenchModel" (145 : Nat) "turn") ∈ lw_tbl := lw_at lw_m7 195 rfl
theorem q1754 : (Jvm.Cond.stringRef "CoincideBenchModel" (146 : Nat) "of") ∈ lw_tbl := lw_at lw_m7 196 rfl
theorem q1755 : (Jvm.Cond.stringRef "CoincideBenchModel" (148 : Nat) "by") ∈ lw_tbl := lw_at lw_m7 197 rfl
theorem q1756 : (Jvm.Cond.methodLink "CoincideBenchModel" (158 : Nat) ({ cls := "CoincideBenchModel", name := "named", desc := "()I" } : Jvm.MethodName)) ∈ lw_all := lw_g (lw_at lw_m7 198 rfl) rfl
theorem q1757 : (Jvm.Cond.privateMethod ({ cls := "CoincideBenchModel", name := "named", desc := "()I" } : Jvm.MethodName)) ∈ lw_tbl := lw_at lw_m7 199 rfl
theorem q1758 : (Jvm.Cond.instanceMethod ({ cls := "CoincideBenchModel", name := "named", desc := "()I" } : Jvm.MethodName)) ∈ lw_all := lw_g (lw_at lw_m7 200 rfl) rfl
theorem q1759 : (Jvm.Cond.code ({ cls := "CoincideBenchModel", name := "named", desc := "()I" } : Jvm.MethodName) prog_20_method_14_code (4 : Nat) (Option.some Jvm.ClassFile.FieldType.int)) ∈ lw_all := lw_g (lw_at lw_m7 201 rfl) rfl
theorem q1760 : (Jvm.Cond.methodLink "CoincideBenchModel" (168 : Nat) ({ cls := "CoincideBenchModel", name := "sees", desc := "(I)I" } : Jvm.MethodName)) ∈ lw_all := lw_g (lw_at lw_m7 202 rfl) rfl
theorem q1761 : (Jvm.Cond.privateMethod ({ cls := "CoincideBenchModel", name := "sees", desc := "(I)I" } : Jvm.MethodName)) ∈ lw_tbl := lw_at lw_m7 203 rfl
theorem q1762 : (Jvm.Cond.instanceMethod ({ cls := "CoincideBenchModel", name := "sees", desc := "(I)I" } : Jvm.MethodName)) ∈ lw_all := lw_g (lw_at lw_m7 204 rfl) rfl
theorem q1763 : (Jvm.Cond.code ({ cls := "CoincideBenchModel", name := "sees", desc := "(I)I" } : Jvm.MethodName) prog_20_method_16_code (3 : Nat) (Option.some Jvm.ClassFile.FieldType.int)) ∈ lw_all := lw_g (lw_at lw_m7 205 rfl) rfl
theorem q1764 : (Jvm.Cond.methodLink "CoincideBenchModel" (161 : Nat) ({ cls := "CoincideBenchModel", name := "isSign", desc := "(C)Z" } : Jvm.MethodName)) ∈ lw_all := lw_g (lw_at lw_m7 206 rfl) rfl
theorem q1765 : (Jvm.Cond.privateMethod ({ cls := "CoincideBenchModel", name := "isSign", desc := "(C)Z" } : Jvm.MethodName)) ∈ lw_tbl := lw_at lw_m7 207 rfl
theorem q1766 : (Jvm.Cond.instanceMethod ({ cls := "CoincideBenchModel", name := "isSign", desc := "(C)Z" } : Jvm.MethodName)) ∈ lw_all := lw_g (lw_at lw_m7 208 rfl) rfl
theorem q1767 : (Jvm.Cond.code ({ cls := "CoincideBenchModel", name := "isSign", desc := "(C)Z" } : Jvm.MethodName) prog_20_method_11_code (2 : Nat) (Option.some Jvm.ClassFile.FieldType.boolean)) ∈ lw_all := lw_g (lw_at lw_m7 209 rfl) rfl
theorem q1768 : (Jvm.Cond.methodLink "CoincideBenchModel" (172 : Nat) ({ cls := "CoincideBenchModel", name := "detOf", desc := "(I)J" } : Jvm.MethodName)) ∈ lw_all := lw_g (lw_at lw_m7 210 rfl) rfl
theorem q1769 : (Jvm.Cond.privateMethod ({ cls := "CoincideBenchModel", name := "detOf", desc := "(I)J" } : Jvm.MethodName)) ∈ lw_tbl := lw_at lw_m7 211 rfl
theorem q1770 : (Jvm.Cond.instanceMethod ({ cls := "CoincideBenchModel", name := "detOf", desc := "(I)J" } : Jvm.MethodName)) ∈ lw_all := lw_g (lw_at lw_m7 212 rfl) rfl
theorem q1771 : (Jvm.Cond.code ({ cls := "CoincideBenchModel", name := "detOf", desc := "(I)J" } : Jvm.MethodName) prog_20_method_19_code (5 : Nat) (Option.some Jvm.ClassFile.FieldType.long)) ∈ lw_all := lw_g (lw_at lw_m7 213 rfl) rfl
theorem q1772 : (Jvm.Cond.methodLink "CoincideBenchModel" (1 : Nat) ({ cls := "CoincideBenchModel", name := "sized", desc := "(J)J" } : Jvm.MethodName)) ∈ lw_all := lw_g (lw_at lw_m7 214 rfl) rfl
theorem q1773 : (Jvm.Cond.static ({ cls := "CoincideBenchModel", name := "sized", desc := "(J)J" } : Jvm.MethodName)) ∈ lw_all := lw_g (lw_at lw_m7 215 rfl) rfl
theorem q1774 : (Jvm.Cond.code ({ cls := "CoincideBenchModel", name := "sized", desc := "(J)J" } : Jvm.MethodName) prog_20_method_2_code (2 : Nat) (Option.some Jvm.ClassFile.FieldType.long)) ∈ lw_all := lw_g (lw_at lw_m7 216 rfl) rfl
theorem q1775 : (Jvm.Cond.constantLong "CoincideBenchModel" (176 : Nat) (60 : Int64)) ∈ lw_all := lw_g (lw_at lw_m7 217 rfl) rfl
theorem q1776 : (Jvm.Cond.methodLink "CoincideBenchModel" (181 : Nat) ({ cls := "CoincideBenchModel", name := "readsTurn", desc := "()V" } : Jvm.MethodName)) ∈ lw_all := lw_g (lw_at lw_m7 218 rfl) rfl
theorem q1777 : (Jvm.Cond.privateMethod ({ cls := "CoincideBenchModel", name := "readsTurn", desc := "()V" } : Jvm.MethodName)) ∈ lw_tbl := lw_at lw_m7 219 rfl
theorem q1778 : (Jvm.Cond.instanceMethod ({ cls := "CoincideBenchModel", name := "readsTurn", desc := "()V" } : Jvm.MethodName)) ∈ lw_all := lw_g (lw_at lw_m7 220 rfl) rfl
theorem q1779 : (Jvm.Cond.code ({ cls := "CoincideBenchModel", name := "readsTurn", desc := "()V" } : Jvm.MethodName) prog_20_method_18_code (5 : Nat) (Option.none : Option Jvm.ClassFile.FieldType)) ∈ lw_all := lw_g (lw_at lw_m7 221 rfl) rfl
theorem q1781 : (Jvm.Cond.instanceMethod ({ cls := "CoincideBenchModel", name := "fault", desc := "(I)I" } : Jvm.MethodName)) ∈ lw_all := lw_g (lw_at lw_m7 223 rfl) rfl
theorem q1782 : (Jvm.Cond.selects "CoincideBenchModel" ({ cls := "CoincideBenchModel", name := "fault", desc := "(I)I" } : Jvm.MethodName) ({ cls := "CoincideBenchModel", name := "fault", desc := "(I)I" } : Jvm.MethodName)) ∈ lw_all := lw_g (lw_at lw_m7 224 rfl) rfl
theorem q1783 : (Jvm.Cond.code ({ cls := "CoincideBenchModel", name := "fault", desc := "(I)I" } : Jvm.MethodName) prog_20_method_21_code (2 : Nat) (Option.some Jvm.ClassFile.FieldType.int)) ∈ lw_all := lw_g (lw_at lw_m7 225 rfl) rfl
theorem q1785 : (Jvm.Cond.instanceMethod ({ cls := "CoincideBenchModel", name := "count", desc := "(I)I" } : Jvm.MethodName)) ∈ lw_all := lw_g (lw_at lw_m7 227 rfl) rfl
theorem q1786 : (Jvm.Cond.selects "CoincideBenchModel" ({ cls := "CoincideBenchModel", name := "count", desc := "(I)I" } : Jvm.MethodName) ({ cls := "CoincideBenchModel", name := "count", desc := "(I)I" } : Jvm.MethodName)) ∈ lw_all := lw_g (lw_at lw_m7 228 rfl) rfl
theorem q1787 : (Jvm.Cond.code ({ cls := "CoincideBenchModel", name := "count", desc := "(I)I" } : Jvm.MethodName) prog_20_method_24_code (4 : Nat) (Option.some Jvm.ClassFile.FieldType.int)) ∈ lw_all := lw_g (lw_at lw_m7 229 rfl) rfl
theorem q1788 : (Jvm.Cond.methodLink "CoincideBenchModel" (187 : Nat) ({ cls := "CoincideBenchModel", name := "isTurned", desc := "(I)Z" } : Jvm.MethodName)) ∈ lw_all := lw_g (lw_at lw_m7 230 rfl) rfl
theorem q1789 : (Jvm.Cond.privateMethod ({ cls := "CoincideBenchModel", name := "isTurned", desc := "(I)Z" } : Jvm.MethodName)) ∈ lw_tbl := lw_at lw_m7 231 rfl
theorem q1790 : (Jvm.Cond.instanceMethod ({ cls := "CoincideBenchModel", name := "isTurned", desc := "(I)Z" } : Jvm.MethodName)) ∈ lw_all := lw_g (lw_at lw_m7 232 rfl) rfl
theorem q1791 : (Jvm.Cond.code ({ cls := "CoincideBenchModel", name := "isTurned", desc := "(I)Z" } : Jvm.MethodName) prog_20_method_23_code (2 : Nat) (Option.some Jvm.ClassFile.FieldType.boolean)) ∈ lw_all := lw_g (lw_at lw_m7 233 rfl) rfl
theorem q1793 : (Jvm.Cond.instanceMethod ({ cls := "CoincideBenchModel", name := "row", desc := "(III)I" } : Jvm.MethodName)) ∈ lw_all := lw_g (lw_at lw_m7 235 rfl) rfl
theorem q1794 : (Jvm.Cond.selects "CoincideBenchModel" ({ cls := "CoincideBenchModel", name := "row", desc := "(III)I" } : Jvm.MethodName) ({ cls := "CoincideBenchModel", name := "row", desc := "(III)I" } : Jvm.MethodName)) ∈ lw_all := lw_g (lw_at lw_m7 236 rfl) rfl
theorem q1795 : (Jvm.Cond.code ({ cls := "CoincideBenchModel", name := "row", desc := "(III)I" } : Jvm.MethodName) prog_20_method_29_code (4 : Nat) (Option.some Jvm.ClassFile.FieldType.int)) ∈ lw_all := lw_g (lw_at lw_m7 237 rfl) rfl
theorem q1796 : (Jvm.Cond.methodLink "CoincideBenchModel" (211 : Nat) ({ cls := "CoincideBenchModel", name := "isLattice", desc := "(I)Z" } : Jvm.MethodName)) ∈ lw_all := lw_g (lw_at lw_m7 238 rfl) rfl
theorem q1797 : (Jvm.Cond.privateMethod ({ cls := "CoincideBenchModel", name := "isLattice", desc := "(I)Z" } : Jvm.MethodName)) ∈ lw_tbl := lw_at lw_m7 239 rfl
theorem q1798 : (Jvm.Cond.instanceMethod ({ cls := "CoincideBenchModel", name := "isLattice", desc := "(I)Z" } : Jvm.MethodName)) ∈ lw_all := lw_g (lw_at lw_m8 0 rfl) rfl
theorem q1799 : (Jvm.Cond.code ({ cls := "CoincideBenchModel", name := "isLattice", desc := "(I)Z" } : Jvm.MethodName) prog_20_method_22_code (2 : Nat) (Option.some Jvm.ClassFile.FieldType.boolean)) ∈ lw_all := lw_g (lw_at lw_m8 1 rfl) rfl
theorem q1800 : (Jvm.Cond.methodLink "CoincideBenchModel" (214 : Nat) ({ cls := "CoincideBenchModel", name := "isAt2", desc := "(II)Z" } : Jvm.MethodName)) ∈ lw_all := lw_g (lw_at lw_m8 2 rfl) rfl
theorem q1801 : (Jvm.Cond.static ({ cls := "CoincideBenchModel", name := "isAt2", desc := "(II)Z" } : Jvm.MethodName)) ∈ lw_all := lw_g (lw_at lw_m8 3 rfl) rfl
theorem q1802 : (Jvm.Cond.code ({ cls := "CoincideBenchModel", name := "isAt2", desc := "(II)Z" } : Jvm.MethodName) prog_20_method_30_code (2 : Nat) (Option.some Jvm.ClassFile.FieldType.boolean)) ∈ lw_all := lw_g (lw_at lw_m8 4 rfl) rfl
theorem q1803 : (Jvm.Cond.constantLong "CoincideBenchModel" (202 : Nat) (2 : Int64)) ∈ lw_all := lw_g (lw_at lw_m8 5 rfl) rfl
theorem q1804 : (Jvm.Cond.methodLink "CoincideBenchModel" (217 : Nat) ({ cls := "CoincideBenchModel", name := "lays", desc := "(I)V" } : Jvm.MethodName)) ∈ lw_all := lw_g (lw_at lw_m8 6 rfl) rfl
theorem q1805 : (Jvm.Cond.privateMethod ({ cls := "CoincideBenchModel", name := "lays", desc := "(I)V" } : Jvm.MethodName)) ∈ lw_tbl := lw_at lw_m8 7 rfl
theorem q1806 : (Jvm.Cond.instanceMethod ({ cls := "CoincideBenchModel", name := "lays", desc := "(I)V" } : Jvm.MethodName)) ∈ lw_all := lw_g (lw_at lw_m8 8 rfl) rfl
theorem q1807 : (Jvm.Cond.code ({ cls := "CoincideBenchModel", name := "lays", desc := "(I)V" } : Jvm.MethodName) prog_20_method_25_code (4 : Nat) (Option.none : Option Jvm.ClassFile.FieldType)) ∈ lw_all := lw_g (lw_at lw_m8 9 rfl) rfl
theorem q1808 : (Jvm.Cond.methodLink "CoincideBenchModel" (195 : Nat) ({ cls := "CoincideBenchModel", name := "laysTurn", desc := "(JJJJ)V" } : Jvm.MethodName)) ∈ lw_all := lw_g (lw_at lw_m8 10 rfl) rfl
theorem q1809 : (Jvm.Cond.privateMethod ({ cls := "CoincideBenchModel", name := "laysTurn", desc := "(JJJJ)V" } : Jvm.MethodName)) ∈ lw_tbl := lw_at lw_m8 11 rfl
theorem q1810 : (Jvm.Cond.instanceMethod ({ cls := "CoincideBenchModel", name := "laysTurn", desc := "(JJJJ)V" } : Jvm.MethodName)) ∈ lw_all := lw_g (lw_at lw_m8 12 rfl) rfl
theorem q1811 : (Jvm.Cond.code ({ cls := "CoincideBenchModel", name := "laysTurn", desc := "(JJJJ)V" } : Jvm.MethodName) prog_20_method_26_code (9 : Nat) (Option.none : Option Jvm.ClassFile.FieldType)) ∈ lw_all := lw_g (lw_at lw_m8 13 rfl) rfl
theorem q1812 : (Jvm.Cond.methodLink "CoincideBenchModel" (199 : Nat) ({ cls := "CoincideBenchModel", name := "turns", desc := "()V" } : Jvm.MethodName)) ∈ lw_all := lw_g (lw_at lw_m8 14 rfl) rfl
theorem q1813 : (Jvm.Cond.privateMethod ({ cls := "CoincideBenchModel", name := "turns", desc := "()V" } : Jvm.MethodName)) ∈ lw_tbl := lw_at lw_m8 15 rfl
theorem q1814 : (Jvm.Cond.instanceMethod ({ cls := "CoincideBenchModel", name := "turns", desc := "()V" } : Jvm.MethodName)) ∈ lw_all := lw_g (lw_at lw_m8 16 rfl) rfl
theorem q1815 : (Jvm.Cond.code ({ cls := "CoincideBenchModel", name := "turns", desc := "()V" } : Jvm.MethodName) prog_20_method_27_code (9 : Nat) (Option.none : Option Jvm.ClassFile.FieldType)) ∈ lw_all := lw_g (lw_at lw_m8 17 rfl) rfl
theorem q1816 : (Jvm.Cond.methodLink "CoincideBenchModel" (204 : Nat) ({ cls := "CoincideBenchModel", name := "lessens", desc := "()V" } : Jvm.MethodName)) ∈ lw_all := lw_g (lw_at lw_m8 18 rfl) rfl
theorem q1817 : (Jvm.Cond.privateMethod ({ cls := "CoincideBenchModel", name := "lessens", desc := "()V" } : Jvm.MethodName)) ∈ lw_tbl := lw_at lw_m8 19 rfl
theorem q1818 : (Jvm.Cond.instanceMethod ({ cls := "CoincideBenchModel", name := "lessens", desc := "()V" } : Jvm.MethodName)) ∈ lw_all := lw_g (lw_at lw_m8 20 rfl) rfl
theorem q1819 : (Jvm.Cond.code ({ cls := "CoincideBenchModel", name := "lessens", desc := "()V" } : Jvm.MethodName) prog_20_method_28_code (4 : Nat) (Option.none : Option Jvm.ClassFile.FieldType)) ∈ lw_all := lw_g (lw_at lw_m8 21 rfl) rfl
theorem q1820 : (Jvm.Cond.methodLink "CoincideBenchModel" (207 : Nat) ({ cls := "CoincideBenchModel", name := "common", desc := "(JJ)J" } : Jvm.MethodName)) ∈ lw_all := lw_g (lw_at lw_m8 22 rfl) rfl
theorem q1821 : (Jvm.Cond.static ({ cls := "CoincideBenchModel", name := "common", desc := "(JJ)J" } : Jvm.MethodName)) ∈ lw_all := lw_g (lw_at lw_m8 23 rfl) rfl
theorem q1822 : (Jvm.Cond.code ({ cls := "CoincideBenchModel", name := "common", desc := "(JJ)J" } : Jvm.MethodName) prog_20_method_3_code (10 : Nat) (Option.some Jvm.ClassFile.FieldType.long)) ∈ lw_all := lw_g (lw_at lw_m8 24 rfl) rfl
theorem q1824 : (Jvm.Cond.instanceMethod ({ cls := "CoincideBenchModel", name := "over", desc := "(I)I" } : Jvm.MethodName)) ∈ lw_all := lw_g (lw_at lw_m8 26 rfl) rfl
theorem q1825 : (Jvm.Cond.selects "CoincideBenchModel" ({ cls := "CoincideBenchModel", name := "over", desc := "(I)I" } : Jvm.MethodName) ({ cls := "CoincideBenchModel", name := "over", desc := "(I)I" } : Jvm.MethodName)) ∈ lw_all := lw_g (lw_at lw_m8 27 rfl) rfl
theorem q1826 : (Jvm.Cond.code ({ cls := "CoincideBenchModel", name := "over", desc := "(I)I" } : Jvm.MethodName) prog_20_method_31_code (2 : Nat) (Option.some Jvm.ClassFile.FieldType.int)) ∈ lw_all := lw_g (lw_at lw_m8 28 rfl) rfl
theorem q1828 : (Jvm.Cond.instanceMethod ({ cls := "CoincideBenchModel", name := "hermite", desc := "(III)J" } : Jvm.MethodName)) ∈ lw_all := lw_g (lw_at lw_m8 30 rfl) rfl
theorem q1829 : (Jvm.Cond.selects "CoincideBenchModel" ({ cls := "CoincideBenchModel", name := "hermite", desc := "(III)J" } : Jvm.MethodName) ({ cls := "CoincideBenchModel", name := "hermite", desc := "(III)J" } : Jvm.MethodName)) ∈ lw_all := lw_g (lw_at lw_m8 31 rfl) rfl
theorem q1830 : (Jvm.Cond.code ({ cls := "CoincideBenchModel", name := "hermite", desc := "(III)J" } : Jvm.MethodName) prog_20_method_38_code (4 : Nat) (Option.some Jvm.ClassFile.FieldType.long)) ∈ lw_all := lw_g (lw_at lw_m8 32 rfl) rfl
theorem q1831 : (Jvm.Cond.constantLong "CoincideBenchModel" (244 : Nat) (-1 : Int64)) ∈ lw_all := lw_g (lw_at lw_m8 33 rfl) rfl
theorem q1832 : (Jvm.Cond.methodLink "CoincideBenchModel" (246 : Nat) ({ cls := "CoincideBenchModel", name := "forms", desc := "()V" } : Jvm.MethodName)) ∈ lw_all := lw_g (lw_at lw_m8 34 rfl) rfl
theorem q1833 : (Jvm.Cond.privateMethod ({ cls := "CoincideBenchModel", name := "forms", desc := "()V" } : Jvm.MethodName)) ∈ lw_tbl := lw_at lw_m8 35 rfl
theorem q1834 : (Jvm.Cond.instanceMethod ({ cls := "CoincideBenchModel", name := "forms", desc := "()V" } : Jvm.MethodName)) ∈ lw_all := lw_g (lw_at lw_m8 36 rfl) rfl
theorem q1835 : (Jvm.Cond.code ({ cls := "CoincideBenchModel", name := "forms", desc := "()V" } : Jvm.MethodName) prog_20_method_37_code (5 : Nat) (Option.none : Option Jvm.ClassFile.FieldType)) ∈ lw_all := lw_g (lw_at lw_m8 37 rfl) rfl
theorem q1836 : (Jvm.Cond.methodLink "CoincideBenchModel" (227 : Nat) ({ cls := "CoincideBenchModel", name := "hasBelow", desc := "(I)Z" } : Jvm.MethodName)) ∈ lw_all := lw_g (lw_at lw_m8 38 rfl) rfl
theorem q1837 : (Jvm.Cond.privateMethod ({ cls := "CoincideBenchModel", name := "hasBelow", desc := "(I)Z" } : Jvm.MethodName)) ∈ lw_tbl := lw_at lw_m8 39 rfl
theorem q1838 : (Jvm.Cond.instanceMethod ({ cls := "CoincideBenchModel", name := "hasBelow", desc := "(I)Z" } : Jvm.MethodName)) ∈ lw_all := lw_g (lw_at lw_m8 40 rfl) rfl
theorem q1839 : (Jvm.Cond.code ({ cls := "CoincideBenchModel", name := "hasBelow", desc := "(I)Z" } : Jvm.MethodName) prog_20_method_35_code (3 : Nat) (Option.some Jvm.ClassFile.FieldType.boolean)) ∈ lw_all := lw_g (lw_at lw_m8 41 rfl) rfl
theorem q1840 : (Jvm.Cond.methodLink "CoincideBenchModel" (230 : Nat) ({ cls := "CoincideBenchModel", name := "leastRow", desc := "(I)I" } : Jvm.MethodName)) ∈ lw_all := lw_g (lw_at lw_m8 42 rfl) rfl
theorem q1841 : (Jvm.Cond.privateMethod ({ cls := "CoincideBenchModel", name := "leastRow", desc := "(I)I" } : Jvm.MethodName)) ∈ lw_tbl := lw_at lw_m8 43 rfl
theorem q1842 : (Jvm.Cond.instanceMethod ({ cls := "CoincideBenchModel", name := "leastRow", desc := "(I)I" } : Jvm.MethodName)) ∈ lw_all := lw_g (lw_at lw_m8 44 rfl) rfl
theorem q1843 : (Jvm.Cond.code ({ cls := "CoincideBenchModel", name := "leastRow", desc := "(I)I" } : Jvm.MethodName) prog_20_method_36_code (6 : Nat) (Option.some Jvm.ClassFile.FieldType.int)) ∈ lw_all := lw_g (lw_at lw_m8 45 rfl) rfl
theorem q1844 : (Jvm.Cond.methodLink "CoincideBenchModel" (233 : Nat) ({ cls := "CoincideBenchModel", name := "exchangesRows", desc := "(II)V" } : Jvm.MethodName)) ∈ lw_all := lw_g (lw_at lw_m8 46 rfl) rfl
theorem q1845 : (Jvm.Cond.privateMethod ({ cls := "CoincideBenchModel", name := "exchangesRows", desc := "(II)V" } : Jvm.MethodName)) ∈ lw_tbl := lw_at lw_m8 47 rfl
theorem q1846 : (Jvm.Cond.instanceMethod ({ cls := "CoincideBenchModel", name := "exchangesRows", desc := "(II)V" } : Jvm.MethodName)) ∈ lw_all := lw_g (lw_at lw_m8 48 rfl) rfl
theorem q1847 : (Jvm.Cond.code ({ cls := "CoincideBenchModel", name := "exchangesRows", desc := "(II)V" } : Jvm.MethodName) prog_20_method_34_code (6 : Nat) (Option.none : Option Jvm.ClassFile.FieldType)) ∈ lw_all := lw_g (lw_at lw_m8 49 rfl) rfl
theorem q1848 : (Jvm.Cond.methodLink "CoincideBenchModel" (223 : Nat) ({ cls := "CoincideBenchModel", name := "step", desc := "(IIIJ)V" } : Jvm.MethodName)) ∈ lw_all := lw_g (lw_at lw_m8 50 rfl) rfl
theorem q1849 : (Jvm.Cond.privateMethod ({ cls := "CoincideBenchModel", name := "step", desc := "(IIIJ)V" } : Jvm.MethodName)) ∈ lw_tbl := lw_at lw_m8 51 rfl
theorem q1850 : (Jvm.Cond.instanceMethod ({ cls := "CoincideBenchModel", name := "step", desc := "(IIIJ)V" } : Jvm.MethodName)) ∈ lw_all := lw_g (lw_at lw_m8 52 rfl) rfl
theorem q1851 : (Jvm.Cond.code ({ cls := "CoincideBenchModel", name := "step", desc := "(IIIJ)V" } : Jvm.MethodName) prog_20_method_32_code (6 : Nat) (Option.none : Option Jvm.ClassFile.FieldType)) ∈ lw_all := lw_g (lw_at lw_m8 53 rfl) rfl
theorem q1852 : (Jvm.Cond.methodLink "CoincideBenchModel" (237 : Nat) ({ cls := "CoincideBenchModel", name := "addsRow", desc := "(IIJ)V" } : Jvm.MethodName)) ∈ lw_all := lw_g (lw_at lw_m8 54 rfl) rfl
theorem q1853 : (Jvm.Cond.privateMethod ({ cls := "CoincideBenchModel", name := "addsRow", desc := "(IIJ)V" } : Jvm.MethodName)) ∈ lw_tbl := lw_at lw_m8 55 rfl
theorem q1854 : (Jvm.Cond.instanceMethod ({ cls := "CoincideBenchModel", name := "addsRow", desc := "(IIJ)V" } : Jvm.MethodName)) ∈ lw_all := lw_g (lw_at lw_m8 56 rfl) rfl
theorem q1855 : (Jvm.Cond.code ({ cls := "CoincideBenchModel", name := "addsRow", desc := "(IIJ)V" } : Jvm.MethodName) prog_20_method_33_code (6 : Nat) (Option.none : Option Jvm.ClassFile.FieldType)) ∈ lw_all := lw_g (lw_at lw_m8 57 rfl) rfl
theorem q1856 : (Jvm.Cond.methodLink "CoincideBenchModel" (241 : Nat) ({ cls := "java/lang/Math", name := "floorDiv", desc := "(JJ)J" } : Jvm.MethodName)) ∈ lw_all := lw_g (lw_at lw_m8 58 rfl) rfl
theorem q1858 : (Jvm.Cond.instanceMethod ({ cls := "CoincideBenchModel", name := "steps", desc := "(I)I" } : Jvm.MethodName)) ∈ lw_all := lw_g (lw_at lw_m8 60 rfl) rfl
theorem q1859 : (Jvm.Cond.selects "CoincideBenchModel" ({ cls := "CoincideBenchModel", name := "steps", desc := "(I)I" } : Jvm.MethodName) ({ cls := "CoincideBenchModel", name := "steps", desc := "(I)I" } : Jvm.MethodName)) ∈ lw_all := lw_g (lw_at lw_m8 61 rfl) rfl
theorem q1860 : (Jvm.Cond.code ({ cls := "CoincideBenchModel", name := "steps", desc := "(I)I" } : Jvm.MethodName) prog_20_method_39_code (2 : Nat) (Option.some Jvm.ClassFile.FieldType.int)) ∈ lw_all := lw_g (lw_at lw_m8 62 rfl) rfl
theorem q1862 : (Jvm.Cond.instanceMethod ({ cls := "CoincideBenchModel", name := "step", desc := "(III)I" } : Jvm.MethodName)) ∈ lw_all := lw_g (lw_at lw_m8 64 rfl) rfl
theorem q1863 : (Jvm.Cond.selects "CoincideBenchModel" ({ cls := "CoincideBenchModel", name := "step", desc := "(III)I" } : Jvm.MethodName) ({ cls := "CoincideBenchModel", name := "step", desc := "(III)I" } : Jvm.MethodName)) ∈ lw_all := lw_g (lw_at lw_m8 65 rfl) rfl
theorem q1864 : (Jvm.Cond.code ({ cls := "CoincideBenchModel", name := "step", desc := "(III)I" } : Jvm.MethodName) prog_20_method_40_code (4 : Nat) (Option.some Jvm.ClassFile.FieldType.int)) ∈ lw_all := lw_g (lw_at lw_m8 66 rfl) rfl
theorem q1865 : (Jvm.Cond.constantLong "CoincideBenchModel" (249 : Nat) (3 : Int64)) ∈ lw_all := lw_g (lw_at lw_m8 67 rfl) rfl
theorem q1866 : (Jvm.Cond.constant "CoincideBenchModel" (251 : Nat) (-1000000 : Int32)) ∈ lw_all := lw_g (lw_at lw_m8 68 rfl) rfl
theorem q1868 : (Jvm.Cond.instanceMethod ({ cls := "CoincideBenchModel", name := "volume", desc := "(II)J" } : Jvm.MethodName)) ∈ lw_all := lw_g (lw_at lw_m8 70 rfl) rfl
theorem q1869 : (Jvm.Cond.selects "CoincideBenchModel" ({ cls := "CoincideBenchModel", name := "volume", desc := "(II)J" } : Jvm.MethodName) ({ cls := "CoincideBenchModel", name := "volume", desc := "(II)J" } : Jvm.MethodName)) ∈ lw_all := lw_g (lw_at lw_m8 71 rfl) rfl
theorem q1870 : (Jvm.Cond.code ({ cls := "CoincideBenchModel", name := "volume", desc := "(II)J" } : Jvm.MethodName) prog_20_method_43_code (3 : Nat) (Option.some Jvm.ClassFile.FieldType.long)) ∈ lw_all := lw_g (lw_at lw_m8 72 rfl) rfl
theorem q1871 : (Jvm.Cond.constantLong "CoincideBenchModel" (252 : Nat) (-2 : Int64)) ∈ lw_all := lw_g (lw_at lw_m8 73 rfl) rfl
theorem q1872 : (Jvm.Cond.methodLink "CoincideBenchModel" (254 : Nat) ({ cls := "CoincideBenchModel", name := "det", desc := "()J" } : Jvm.MethodName)) ∈ lw_all := lw_g (lw_at lw_m8 74 rfl) rfl
theorem q1873 : (Jvm.Cond.privateMethod ({ cls := "CoincideBenchModel", name := "det", desc := "()J" } : Jvm.MethodName)) ∈ lw_tbl := lw_at lw_m8 75 rfl
theorem q1874 : (Jvm.Cond.instanceMethod ({ cls := "CoincideBenchModel", name := "det", desc := "()J" } : Jvm.MethodName)) ∈ lw_all := lw_g (lw_at lw_m8 76 rfl) rfl
theorem q1875 : (Jvm.Cond.code ({ cls := "CoincideBenchModel", name := "det", desc := "()J" } : Jvm.MethodName) prog_20_method_41_code (4 : Nat) (Option.some Jvm.ClassFile.FieldType.long)) ∈ lw_all := lw_g (lw_at lw_m8 77 rfl) rfl
theorem q1876 : (Jvm.Cond.methodLink "CoincideBenchModel" (258 : Nat) ({ cls := "CoincideBenchModel", name := "part", desc := "(JJI)J" } : Jvm.MethodName)) ∈ lw_all := lw_g (lw_at lw_m8 78 rfl) rfl
theorem q1877 : (Jvm.Cond.static ({ cls := "CoincideBenchModel", name := "part", desc := "(JJI)J" } : Jvm.MethodName)) ∈ lw_all := lw_g (lw_at lw_m8 79 rfl) rfl
theorem q1878 : (Jvm.Cond.code ({ cls := "CoincideBenchModel", name := "part", desc := "(JJI)J" } : Jvm.MethodName) prog_20_method_42_code (5 : Nat) (Option.some Jvm.ClassFile.FieldType.long)) ∈ lw_all := lw_g (lw_at lw_m8 80 rfl) rfl
theorem q1880 : (Jvm.Cond.instanceMethod ({ cls := "CoincideBenchModel", name := "smith", desc := "(II)J" } : Jvm.MethodName)) ∈ lw_all := lw_g (lw_at lw_m8 82 rfl) rfl
theorem q1881 : (Jvm.Cond.selects "CoincideBenchModel" ({ cls := "CoincideBenchModel", name := "smith", desc := "(II)J" } : Jvm.MethodName) ({ cls := "CoincideBenchModel", name := "smith", desc := "(II)J" } : Jvm.MethodName)) ∈ lw_all := lw_g (lw_at lw_m8 83 rfl) rfl
theorem q1882 : (Jvm.Cond.code ({ cls := "CoincideBenchModel", name := "smith", desc := "(II)J" } : Jvm.MethodName) prog_20_method_45_code (3 : Nat) (Option.some Jvm.ClassFile.FieldType.long)) ∈ lw_all := lw_g (lw_at lw_m8 84 rfl) rfl
theorem q1883 : (Jvm.Cond.methodLink "CoincideBenchModel" (262 : Nat) ({ cls := "CoincideBenchModel", name := "smithOf", desc := "(I)J" } : Jvm.MethodName)) ∈ lw_all := lw_g (lw_at lw_m8 85 rfl) rfl
theorem q1884 : (Jvm.Cond.privateMethod ({ cls := "CoincideBenchModel", name := "smithOf", desc := "(I)J" } : Jvm.MethodName)) ∈ lw_tbl := lw_at lw_m8 86 rfl
theorem q1885 : (Jvm.Cond.instanceMethod ({ cls := "CoincideBenchModel", name := "smithOf", desc := "(I)J" } : Jvm.MethodName)) ∈ lw_all := lw_g (lw_at lw_m8 87 rfl) rfl
theorem q1886 : (Jvm.Cond.code ({ cls := "CoincideBenchModel", name := "smithOf", desc := "(I)J" } : Jvm.MethodName) prog_20_method_44_code (11 : Nat) (Option.some Jvm.ClassFile.FieldType.long)) ∈ lw_all := lw_g (lw_at lw_m8 88 rfl) rfl
theorem q1888 : (Jvm.Cond.instanceMethod ({ cls := "CoincideBenchModel", name := "has", desc := "(IIIII)I" } : Jvm.MethodName)) ∈ lw_all := lw_g (lw_at lw_m8 90 rfl) rfl
theorem q1889 : (Jvm.Cond.selects "CoincideBenchModel" ({ cls := "CoincideBenchModel", name := "has", desc := "(IIIII)I" } : Jvm.MethodName) ({ cls := "CoincideBenchModel", name := "has", desc := "(IIIII)I" } : Jvm.MethodName)) ∈ lw_all := lw_g (lw_at lw_m8 91 rfl) rfl
theorem q1890 : (Jvm.Cond.code ({ cls := "CoincideBenchModel", name := "has", desc := "(IIIII)I" } : Jvm.MethodName) prog_20_method_49_code (6 : Nat) (Option.some Jvm.ClassFile.FieldType.int)) ∈ lw_all := lw_g (lw_at lw_m8 92 rfl) rfl
theorem q1891 : (Jvm.Cond.methodLink "CoincideBenchModel" (275 : Nat) ({ cls := "CoincideBenchModel", name := "isPoint", desc := "(IIII)Z" } : Jvm.MethodName)) ∈ lw_all := lw_g (lw_at lw_m8 93 rfl) rfl
theorem q1892 : (Jvm.Cond.static ({ cls := "CoincideBenchModel", name := "isPoint", desc := "(IIII)Z" } : Jvm.MethodName)) ∈ lw_all := lw_g (lw_at lw_m8 94 rfl) rfl
theorem q1893 : (Jvm.Cond.code ({ cls := "CoincideBenchModel", name := "isPoint", desc := "(IIII)Z" } : Jvm.MethodName) prog_20_method_48_code (4 : Nat) (Option.some Jvm.ClassFile.FieldType.boolean)) ∈ lw_all := lw_g (lw_at lw_m8 95 rfl) rfl
theorem q1894 : (Jvm.Cond.constantLong "CoincideBenchModel" (269 : Nat) (-999 : Int64)) ∈ lw_all := lw_g (lw_at lw_m8 96 rfl) rfl
theorem q1895 : (Jvm.Cond.constantLong "CoincideBenchModel" (271 : Nat) (999 : Int64)) ∈ lw_all := lw_g (lw_at lw_m8 97 rfl) rfl
theorem q1896 : (Jvm.Cond.constantLong "CoincideBenchModel" (273 : Nat) (36 : Int64)) ∈ lw_all := lw_g (lw_at lw_m8 98 rfl) rfl
theorem q1897 : (Jvm.Cond.methodLink "CoincideBenchModel" (279 : Nat) ({ cls := "CoincideBenchModel", name := "latticeHas", desc := "(IJJJJ)Z" } : Jvm.MethodName)) ∈ lw_all := lw_g (lw_at lw_m8 99 rfl) rfl
theorem q1898 : (Jvm.Cond.privateMethod ({ cls := "CoincideBenchModel", name := "latticeHas", desc := "(IJJJJ)Z" } : Jvm.MethodName)) ∈ lw_tbl := lw_at lw_m8 100 rfl
theorem q1899 : (Jvm.Cond.instanceMethod ({ cls := "CoincideBenchModel", name := "latticeHas", desc := "(IJJJJ)Z" } : Jvm.MethodName)) ∈ lw_all := lw_g (lw_at lw_m8 101 rfl) rfl
theorem q1900 : (Jvm.Cond.code ({ cls := "CoincideBenchModel", name := "latticeHas", desc := "(IJJJJ)Z" } : Jvm.MethodName) prog_20_method_47_code (10 : Nat) (Option.some Jvm.ClassFile.FieldType.boolean)) ∈ lw_all := lw_g (lw_at lw_m8 102 rfl) rfl
theorem q1901 : (Jvm.Cond.methodLink "CoincideBenchModel" (265 : Nat) ({ cls := "CoincideBenchModel", name := "hasPoint", desc := "(JJJJ)Z" } : Jvm.MethodName)) ∈ lw_all := lw_g (lw_at lw_m8 103 rfl) rfl
theorem q1902 : (Jvm.Cond.privateMethod ({ cls := "CoincideBenchModel", name := "hasPoint", desc := "(JJJJ)Z" } : Jvm.MethodName)) ∈ lw_tbl := lw_at lw_m8 104 rfl
theorem q1903 : (Jvm.Cond.instanceMethod ({ cls := "CoincideBenchModel", name := "hasPoint", desc := "(JJJJ)Z" } : Jvm.MethodName)) ∈ lw_all := lw_g (lw_at lw_m8 105 rfl) rfl
theorem q1904 : (Jvm.Cond.code ({ cls := "CoincideBenchModel", name := "hasPoint", desc := "(JJJJ)Z" } : Jvm.MethodName) prog_20_method_46_code (13 : Nat) (Option.some Jvm.ClassFile.FieldType.boolean)) ∈ lw_all := lw_g (lw_at lw_m8 106 rfl) rfl
theorem q1906 : (Jvm.Cond.instanceMethod ({ cls := "CoincideBenchModel", name := "inside", desc := "(II)I" } : Jvm.MethodName)) ∈ lw_all := lw_g (lw_at lw_m8 108 rfl) rfl
theorem q1907 : (Jvm.Cond.selects "CoincideBenchModel" ({ cls := "CoincideBenchModel", name := "inside", desc := "(II)I" } : Jvm.MethodName) ({ cls := "CoincideBenchModel", name := "inside", desc := "(II)I" } : Jvm.MethodName)) ∈ lw_all := lw_g (lw_at lw_m8 109 rfl) rfl
theorem q1908 : (Jvm.Cond.code ({ cls := "CoincideBenchModel", name := "inside", desc := "(II)I" } : Jvm.MethodName) prog_20_method_62_code (5 : Nat) (Option.some Jvm.ClassFile.FieldType.int)) ∈ lw_all := lw_g (lw_at lw_m8 110 rfl) rfl
theorem q1909 : (Jvm.Cond.methodLink "CoincideBenchModel" (323 : Nat) ({ cls := "CoincideBenchModel", name := "whyNot", desc := "(II)I" } : Jvm.MethodName)) ∈ lw_all := lw_g (lw_at lw_m8 111 rfl) rfl
theorem q1910 : (Jvm.Cond.privateMethod ({ cls := "CoincideBenchModel", name := "whyNot", desc := "(II)I" } : Jvm.MethodName)) ∈ lw_tbl := lw_at lw_m8 112 rfl
theorem q1911 : (Jvm.Cond.instanceMethod ({ cls := "CoincideBenchModel", name := "whyNot", desc := "(II)I" } : Jvm.MethodName)) ∈ lw_all := lw_g (lw_at lw_m8 113 rfl) rfl
theorem q1912 : (Jvm.Cond.code ({ cls := "CoincideBenchModel", name := "whyNot", desc := "(II)I" } : Jvm.MethodName) prog_20_method_50_code (3 : Nat) (Option.some Jvm.ClassFile.FieldType.int)) ∈ lw_all := lw_g (lw_at lw_m8 114 rfl) rfl
theorem q1913 : (Jvm.Cond.methodLink "CoincideBenchModel" (314 : Nat) ({ cls := "CoincideBenchModel", name := "laysBoth", desc := "(II)V" } : Jvm.MethodName)) ∈ lw_all := lw_g (lw_at lw_m8 115 rfl) rfl
theorem q1914 : (Jvm.Cond.privateMethod ({ cls := "CoincideBenchModel", name := "laysBoth", desc := "(II)V" } : Jvm.MethodName)) ∈ lw_tbl := lw_at lw_m8 116 rfl
theorem q1915 : (Jvm.Cond.instanceMethod ({ cls := "CoincideBenchModel", name := "laysBoth", desc := "(II)V" } : Jvm.MethodName)) ∈ lw_all := lw_g (lw_at lw_m8 117 rfl) rfl
theorem q1916 : (Jvm.Cond.code ({ cls := "CoincideBenchModel", name := "laysBoth", desc := "(II)V" } : Jvm.MethodName) prog_20_method_51_code (3 : Nat) (Option.none : Option Jvm.ClassFile.FieldType)) ∈ lw_all := lw_g (lw_at lw_m8 118 rfl) rfl
theorem q1917 : (Jvm.Cond.methodLink "CoincideBenchModel" (283 : Nat) ({ cls := "CoincideBenchModel", name := "laysFirst", desc := "(I)V" } : Jvm.MethodName)) ∈ lw_all := lw_g (lw_at lw_m8 119 rfl) rfl
theorem q1918 : (Jvm.Cond.privateMethod ({ cls := "CoincideBenchModel", name := "laysFirst", desc := "(I)V" } : Jvm.MethodName)) ∈ lw_tbl := lw_at lw_m8 120 rfl
theorem q1919 : (Jvm.Cond.instanceMethod ({ cls := "CoincideBenchModel", name := "laysFirst", desc := "(I)V" } : Jvm.MethodName)) ∈ lw_all := lw_g (lw_at lw_m8 121 rfl) rfl
theorem q1920 : (Jvm.Cond.code ({ cls := "CoincideBenchModel", name := "laysFirst", desc := "(I)V" } : Jvm.MethodName) prog_20_method_52_code (3 : Nat) (Option.none : Option Jvm.ClassFile.FieldType)) ∈ lw_all := lw_g (lw_at lw_m8 122 rfl) rfl
theorem q1921 : (Jvm.Cond.methodLink "CoincideBenchModel" (286 : Nat) ({ cls := "CoincideBenchModel", name := "laysOther", desc := "()V" } : Jvm.MethodName)) ∈ lw_all := lw_g (lw_at lw_m8 123 rfl) rfl
theorem q1922 : (Jvm.Cond.privateMethod ({ cls := "CoincideBenchModel", name := "laysOther", desc := "()V" } : Jvm.MethodName)) ∈ lw_tbl := lw_at lw_m8 124 rfl
theorem q1923 : (Jvm.Cond.instanceMethod ({ cls := "CoincideBenchModel", name := "laysOther", desc := "()V" } : Jvm.MethodName)) ∈ lw_all := lw_g (lw_at lw_m8 125 rfl) rfl
theorem q1924 : (Jvm.Cond.code ({ cls := "CoincideBenchModel", name := "laysOther", desc := "()V" } : Jvm.MethodName) prog_20_method_53_code (2 : Nat) (Option.none : Option Jvm.ClassFile.FieldType)) ∈ lw_all := lw_g (lw_at lw_m8 126 rfl) rfl
theorem q1926 : (Jvm.Cond.instanceMethod ({ cls := "CoincideBenchModel", name := "meetOver", desc := "(II)I" } : Jvm.MethodName)) ∈ lw_all := lw_g (lw_at lw_m8 128 rfl) rfl
theorem q1927 : (Jvm.Cond.selects "CoincideBenchModel" ({ cls := "CoincideBenchModel", name := "meetOver", desc := "(II)I" } : Jvm.MethodName) ({ cls := "CoincideBenchModel", name := "meetOver", desc := "(II)I" } : Jvm.MethodName)) ∈ lw_all := lw_g (lw_at lw_m8 129 rfl) rfl
theorem q1928 : (Jvm.Cond.code ({ cls := "CoincideBenchModel", name := "meetOver", desc := "(II)I" } : Jvm.MethodName) prog_20_method_63_code (4 : Nat) (Option.some Jvm.ClassFile.FieldType.int)) ∈ lw_all := lw_g (lw_at lw_m8 130 rfl) rfl
theorem q1929 : (Jvm.Cond.methodLink "CoincideBenchModel" (326 : Nat) ({ cls := "CoincideBenchModel", name := "meets", desc := "(II)V" } : Jvm.MethodName)) ∈ lw_all := lw_g (lw_at lw_m8 131 rfl) rfl
theorem q1930 : (Jvm.Cond.privateMethod ({ cls := "CoincideBenchModel", name := "meets", desc := "(II)V" } : Jvm.MethodName)) ∈ lw_tbl := lw_at lw_m8 132 rfl
theorem q1931 : (Jvm.Cond.instanceMethod ({ cls := "CoincideBenchModel", name := "meets", desc := "(II)V" } : Jvm.MethodName)) ∈ lw_all := lw_g (lw_at lw_m8 133 rfl) rfl
theorem q1932 : (Jvm.Cond.code ({ cls := "CoincideBenchModel", name := "meets", desc := "(II)V" } : Jvm.MethodName) prog_20_method_59_code (8 : Nat) (Option.none : Option Jvm.ClassFile.FieldType)) ∈ lw_all := lw_g (lw_at lw_m8 134 rfl) rfl
theorem q1933 : (Jvm.Cond.methodLink "CoincideBenchModel" (317 : Nat) ({ cls := "CoincideBenchModel", name := "tells", desc := "()V" } : Jvm.MethodName)) ∈ lw_all := lw_g (lw_at lw_m8 135 rfl) rfl
theorem q1934 : (Jvm.Cond.privateMethod ({ cls := "CoincideBenchModel", name := "tells", desc := "()V" } : Jvm.MethodName)) ∈ lw_tbl := lw_at lw_m8 136 rfl
theorem q1935 : (Jvm.Cond.instanceMethod ({ cls := "CoincideBenchModel", name := "tells", desc := "()V" } : Jvm.MethodName)) ∈ lw_all := lw_g (lw_at lw_m8 137 rfl) rfl
theorem q1936 : (Jvm.Cond.code ({ cls := "CoincideBenchModel", name := "tells", desc := "()V" } : Jvm.MethodName) prog_20_method_56_code (11 : Nat) (Option.none : Option Jvm.ClassFile.FieldType)) ∈ lw_all := lw_g (lw_at lw_m8 138 rfl) rfl
theorem q1937 : (Jvm.Cond.methodLink "CoincideBenchModel" (298 : Nat) ({ cls := "CoincideBenchModel", name := "otherDet", desc := "()J" } : Jvm.MethodName)) ∈ lw_all := lw_g (lw_at lw_m8 139 rfl) rfl
theorem q1938 : (Jvm.Cond.privateMethod ({ cls := "CoincideBenchModel", name := "otherDet", desc := "()J" } : Jvm.MethodName)) ∈ lw_tbl := lw_at lw_m8 140 rfl
theorem q1939 : (Jvm.Cond.instanceMethod ({ cls := "CoincideBenchModel", name := "otherDet", desc := "()J" } : Jvm.MethodName)) ∈ lw_all := lw_g (lw_at lw_m8 141 rfl) rfl
theorem q1940 : (Jvm.Cond.code ({ cls := "CoincideBenchModel", name := "otherDet", desc := "()J" } : Jvm.MethodName) prog_20_method_54_code (4 : Nat) (Option.some Jvm.ClassFile.FieldType.long)) ∈ lw_all := lw_g (lw_at lw_m8 142 rfl) rfl
theorem q1941 : (Jvm.Cond.methodLink "CoincideBenchModel" (301 : Nat) ({ cls := "CoincideBenchModel", name := "adjugate", desc := "(II)J" } : Jvm.MethodName)) ∈ lw_all := lw_g (lw_at lw_m8 143 rfl) rfl
theorem q1942 : (Jvm.Cond.privateMethod ({ cls := "CoincideBenchModel", name := "adjugate", desc := "(II)J" } : Jvm.MethodName)) ∈ lw_tbl := lw_at lw_m8 144 rfl
theorem q1943 : (Jvm.Cond.instanceMethod ({ cls := "CoincideBenchModel", name := "adjugate", desc := "(II)J" } : Jvm.MethodName)) ∈ lw_all := lw_g (lw_at lw_m8 145 rfl) rfl
theorem q1944 : (Jvm.Cond.code ({ cls := "CoincideBenchModel", name := "adjugate", desc := "(II)J" } : Jvm.MethodName) prog_20_method_55_code (7 : Nat) (Option.some Jvm.ClassFile.FieldType.long)) ∈ lw_all := lw_g (lw_at lw_m8 146 rfl) rfl
theorem q1945 : (Jvm.Cond.methodLink "CoincideBenchModel" (305 : Nat) ({ cls := "java/lang/Math", name := "floorMod", desc := "(JJ)J" } : Jvm.MethodName)) ∈ lw_all := lw_g (lw_at lw_m8 147 rfl) rfl
theorem q1946 : (Jvm.Cond.methodLink "CoincideBenchModel" (308 : Nat) ({ cls := "CoincideBenchModel", name := "leavesNone", desc := "()V" } : Jvm.MethodName)) ∈ lw_all := lw_g (lw_at lw_m8 148 rfl) rfl
theorem q1947 : (Jvm.Cond.privateMethod ({ cls := "CoincideBenchModel", name := "leavesNone", desc := "()V" } : Jvm.MethodName)) ∈ lw_tbl := lw_at lw_m8 149 rfl
theorem q1948 : (Jvm.Cond.instanceMethod ({ cls := "CoincideBenchModel", name := "leavesNone", desc := "()V" } : Jvm.MethodName)) ∈ lw_all := lw_g (lw_at lw_m8 150 rfl) rfl
theorem q1949 : (Jvm.Cond.code ({ cls := "CoincideBenchModel", name := "leavesNone", desc := "()V" } : Jvm.MethodName) prog_20_method_57_code (7 : Nat) (Option.none : Option Jvm.ClassFile.FieldType)) ∈ lw_all := lw_g (lw_at lw_m8 151 rfl) rfl
theorem q1950 : (Jvm.Cond.methodLink "CoincideBenchModel" (311 : Nat) ({ cls := "CoincideBenchModel", name := "smallens", desc := "()V" } : Jvm.MethodName)) ∈ lw_all := lw_g (lw_at lw_m8 152 rfl) rfl
theorem q1951 : (Jvm.Cond.privateMethod ({ cls := "CoincideBenchModel", name := "smallens", desc := "()V" } : Jvm.MethodName)) ∈ lw_tbl := lw_at lw_m8 153 rfl
theorem q1952 : (Jvm.Cond.instanceMethod ({ cls := "CoincideBenchModel", name := "smallens", desc := "()V" } : Jvm.MethodName)) ∈ lw_all := lw_g (lw_at lw_m8 154 rfl) rfl
theorem q1953 : (Jvm.Cond.code ({ cls := "CoincideBenchModel", name := "smallens", desc := "()V" } : Jvm.MethodName) prog_20_method_58_code (2 : Nat) (Option.none : Option Jvm.ClassFile.FieldType)) ∈ lw_all := lw_g (lw_at lw_m8 155 rfl) rfl
theorem q1955 : (Jvm.Cond.instanceMethod ({ cls := "CoincideBenchModel", name := "meet", desc := "(IIII)J" } : Jvm.MethodName)) ∈ lw_all := lw_g (lw_at lw_m8 157 rfl) rfl
theorem q1956 : (Jvm.Cond.selects "CoincideBenchModel" ({ cls := "CoincideBenchModel", name := "meet", desc := "(IIII)J" } : Jvm.MethodName) ({ cls := "CoincideBenchModel", name := "meet", desc := "(IIII)J" } : Jvm.MethodName)) ∈ lw_all := lw_g (lw_at lw_m8 158 rfl) rfl
theorem q1957 : (Jvm.Cond.code ({ cls := "CoincideBenchModel", name := "meet", desc := "(IIII)J" } : Jvm.MethodName) prog_20_method_64_code (6 : Nat) (Option.some Jvm.ClassFile.FieldType.long)) ∈ lw_all := lw_g (lw_at lw_m8 159 rfl) rfl
theorem q1959 : (Jvm.Cond.instanceMethod ({ cls := "CoincideBenchModel", name := "joinOver", desc := "(II)I" } : Jvm.MethodName)) ∈ lw_all := lw_g (lw_at lw_m8 161 rfl) rfl
theorem q1960 : (Jvm.Cond.selects "CoincideBenchModel" ({ cls := "CoincideBenchModel", name := "joinOver", desc := "(II)I" } : Jvm.MethodName) ({ cls := "CoincideBenchModel", name := "joinOver", desc := "(II)I" } : Jvm.MethodName)) ∈ lw_all := lw_g (lw_at lw_m8 162 rfl) rfl
theorem q1961 : (Jvm.Cond.code ({ cls := "CoincideBenchModel", name := "joinOver", desc := "(II)I" } : Jvm.MethodName) prog_20_method_65_code (4 : Nat) (Option.some Jvm.ClassFile.FieldType.int)) ∈ lw_all := lw_g (lw_at lw_m8 163 rfl) rfl
theorem q1962 : (Jvm.Cond.methodLink "CoincideBenchModel" (329 : Nat) ({ cls := "CoincideBenchModel", name := "joins", desc := "(II)V" } : Jvm.MethodName)) ∈ lw_all := lw_g (lw_at lw_m8 164 rfl) rfl
theorem q1963 : (Jvm.Cond.privateMethod ({ cls := "CoincideBenchModel", name := "joins", desc := "(II)V" } : Jvm.MethodName)) ∈ lw_tbl := lw_at lw_m8 165 rfl
theorem q1964 : (Jvm.Cond.instanceMethod ({ cls := "CoincideBenchModel", name := "joins", desc := "(II)V" } : Jvm.MethodName)) ∈ lw_all := lw_g (lw_at lw_m8 166 rfl) rfl
theorem q1965 : (Jvm.Cond.code ({ cls := "CoincideBenchModel", name := "joins", desc := "(II)V" } : Jvm.MethodName) prog_20_method_60_code (4 : Nat) (Option.none : Option Jvm.ClassFile.FieldType)) ∈ lw_all := lw_g (lw_at lw_m8 167 rfl) rfl
theorem q1966 : (Jvm.Cond.methodLink "CoincideBenchModel" (320 : Nat) ({ cls := "CoincideBenchModel", name := "gathers", desc := "(I)V" } : Jvm.MethodName)) ∈ lw_all := lw_g (lw_at lw_m8 168 rfl) rfl
theorem q1967 : (Jvm.Cond.privateMethod ({ cls := "CoincideBenchModel", name := "gathers", desc := "(I)V" } : Jvm.MethodName)) ∈ lw_tbl := lw_at lw_m8 169 rfl
theorem q1968 : (Jvm.Cond.instanceMethod ({ cls := "CoincideBenchModel", name := "gathers", desc := "(I)V" } : Jvm.MethodName)) ∈ lw_all := lw_g (lw_at lw_m8 170 rfl) rfl
theorem q1969 : (Jvm.Cond.code ({ cls := "CoincideBenchModel", name := "gathers", desc := "(I)V" } : Jvm.MethodName) prog_20_method_61_code (8 : Nat) (Option.none : Option Jvm.ClassFile.FieldType)) ∈ lw_all := lw_g (lw_at lw_m8 171 rfl) rfl
theorem q1971 : (Jvm.Cond.instanceMethod ({ cls := "CoincideBenchModel", name := "join", desc := "(IIII)J" } : Jvm.MethodName)) ∈ lw_all := lw_g (lw_at lw_m8 173 rfl) rfl
theorem q1972 : (Jvm.Cond.selects "CoincideBenchModel" ({ cls := "CoincideBenchModel", name := "join", desc := "(IIII)J" } : Jvm.MethodName) ({ cls := "CoincideBenchModel", name := "join", desc := "(IIII)J" } : Jvm.MethodName)) ∈ lw_all := lw_g (lw_at lw_m8 174 rfl) rfl
theorem q1973 : (Jvm.Cond.code ({ cls := "CoincideBenchModel", name := "join", desc := "(IIII)J" } : Jvm.MethodName) prog_20_method_66_code (6 : Nat) (Option.some Jvm.ClassFile.FieldType.long)) ∈ lw_all := lw_g (lw_at lw_m8 175 rfl) rfl
theorem q1975 : (Jvm.Cond.instanceMethod ({ cls := "CoincideBenchModel", name := "index", desc := "(II)J" } : Jvm.MethodName)) ∈ lw_all := lw_g (lw_at lw_m8 177 rfl) rfl
theorem q1976 : (Jvm.Cond.selects "CoincideBenchModel" ({ cls := "CoincideBenchModel", name := "index", desc := "(II)J" } : Jvm.MethodName) ({ cls := "CoincideBenchModel", name := "index", desc := "(II)J" } : Jvm.MethodName)) ∈ lw_all := lw_g (lw_at lw_m8 178 rfl) rfl
theorem q1977 : (Jvm.Cond.code ({ cls := "CoincideBenchModel", name := "index", desc := "(II)J" } : Jvm.MethodName) prog_20_method_68_code (4 : Nat) (Option.some Jvm.ClassFile.FieldType.long)) ∈ lw_all := lw_g (lw_at lw_m8 179 rfl) rfl
theorem q1978 : (Jvm.Cond.methodLink "CoincideBenchModel" (332 : Nat) ({ cls := "CoincideBenchModel", name := "laysTold", desc := "(II)V" } : Jvm.MethodName)) ∈ lw_all := lw_g (lw_at lw_m8 180 rfl) rfl
theorem q1979 : (Jvm.Cond.privateMethod ({ cls := "CoincideBenchModel", name := "laysTold", desc := "(II)V" } : Jvm.MethodName)) ∈ lw_tbl := lw_at lw_m8 181 rfl
theorem q1980 : (Jvm.Cond.instanceMethod ({ cls := "CoincideBenchModel", name := "laysTold", desc := "(II)V" } : Jvm.MethodName)) ∈ lw_all := lw_g (lw_at lw_m8 182 rfl) rfl
theorem q1981 : (Jvm.Cond.code ({ cls := "CoincideBenchModel", name := "laysTold", desc := "(II)V" } : Jvm.MethodName) prog_20_method_67_code (4 : Nat) (Option.none : Option Jvm.ClassFile.FieldType)) ∈ lw_all := lw_g (lw_at lw_m8 183 rfl) rfl
theorem q1983 : (Jvm.Cond.instanceMethod ({ cls := "CoincideBenchModel", name := "group", desc := "(III)J" } : Jvm.MethodName)) ∈ lw_all := lw_g (lw_at lw_m8 185 rfl) rfl
theorem q1984 : (Jvm.Cond.selects "CoincideBenchModel" ({ cls := "CoincideBenchModel", name := "group", desc := "(III)J" } : Jvm.MethodName) ({ cls := "CoincideBenchModel", name := "group", desc := "(III)J" } : Jvm.MethodName)) ∈ lw_all := lw_g (lw_at lw_m8 186 rfl) rfl
theorem q1985 : (Jvm.Cond.code ({ cls := "CoincideBenchModel", name := "group", desc := "(III)J" } : Jvm.MethodName) prog_20_method_69_code (5 : Nat) (Option.some Jvm.ClassFile.FieldType.long)) ∈ lw_all := lw_g (lw_at lw_m8 187 rfl) rfl
theorem q1987 : (Jvm.Cond.instanceMethod ({ cls := "CoincideBenchModel", name := "met", desc := "(IIIIII)I" } : Jvm.MethodName)) ∈ lw_all := lw_g (lw_at lw_m8 189 rfl) rfl
theorem q1988 : (Jvm.Cond.selects "CoincideBenchModel" ({ cls := "CoincideBenchModel", name := "met", desc := "(IIIIII)I" } : Jvm.MethodName) ({ cls := "CoincideBenchModel", name := "met", desc := "(IIIIII)I" } : Jvm.MethodName)) ∈ lw_all := lw_g (lw_at lw_m8 190 rfl) rfl
theorem q1989 : (Jvm.Cond.code ({ cls := "CoincideBenchModel", name := "met", desc := "(IIIIII)I" } : Jvm.MethodName) prog_20_method_71_code (8 : Nat) (Option.some Jvm.ClassFile.FieldType.int)) ∈ lw_all := lw_g (lw_at lw_m8 191 rfl) rfl
theorem q1990 : (Jvm.Cond.methodLink "CoincideBenchModel" (335 : Nat) ({ cls := "CoincideBenchModel", name := "whyNoPoint", desc := "(IIIIII)I" } : Jvm.MethodName)) ∈ lw_all := lw_g (lw_at lw_m8 192 rfl) rfl
theorem q1991 : (Jvm.Cond.privateMethod ({ cls := "CoincideBenchModel", name := "whyNoPoint", desc := "(IIIIII)I" } : Jvm.MethodName)) ∈ lw_tbl := lw_at lw_m8 193 rfl
theorem q1992 : (Jvm.Cond.instanceMethod ({ cls := "CoincideBenchModel", name := "whyNoPoint", desc := "(IIIIII)I" } : Jvm.MethodName)) ∈ lw_all := lw_g (lw_at lw_m8 194 rfl) rfl
theorem q1993 : (Jvm.Cond.code ({ cls := "CoincideBenchModel", name := "whyNoPoint", desc := "(IIIIII)I" } : Jvm.MethodName) prog_20_method_70_code (8 : Nat) (Option.some Jvm.ClassFile.FieldType.int)) ∈ lw_all := lw_g (lw_at lw_m8 195 rfl) rfl
theorem q1995 : (Jvm.Cond.instanceMethod ({ cls := "CoincideBenchModel", name := "order", desc := "(IIIIII)I" } : Jvm.MethodName)) ∈ lw_all := lw_g (lw_at lw_m8 197 rfl) rfl
theorem q1996 : (Jvm.Cond.selects "CoincideBenchModel" ({ cls := "CoincideBenchModel", name := "order", desc := "(IIIIII)I" } : Jvm.MethodName) ({ cls := "CoincideBenchModel", name := "order", desc := "(IIIIII)I" } : Jvm.MethodName)) ∈ lw_all := lw_g (lw_at lw_m8 198 rfl) rfl
theorem q1997 : (Jvm.Cond.code ({ cls := "CoincideBenchModel", name := "order", desc := "(IIIIII)I" } : Jvm.MethodName) prog_20_method_72_code (9 : Nat) (Option.some Jvm.ClassFile.FieldType.int)) ∈ lw_all := lw_g (lw_at lw_m8 199 rfl) rfl
theorem q1999 : (Jvm.Cond.instanceMethod ({ cls := "CoincideBenchModel", name := "cosine", desc := "(II)I" } : Jvm.MethodName)) ∈ lw_all := lw_g (lw_at lw_m8 201 rfl) rfl
theorem q2000 : (Jvm.Cond.selects "CoincideBenchModel" ({ cls := "CoincideBenchModel", name := "cosine", desc := "(II)I" } : Jvm.MethodName) ({ cls := "CoincideBenchModel", name := "cosine", desc := "(II)I" } : Jvm.MethodName)) ∈ lw_all := lw_g (lw_at lw_m8 202 rfl) rfl
theorem q2001 : (Jvm.Cond.code ({ cls := "CoincideBenchModel", name := "cosine", desc := "(II)I" } : Jvm.MethodName) prog_20_method_73_code (6 : Nat) (Option.some Jvm.ClassFile.FieldType.int)) ∈ lw_all := lw_g (lw_at lw_m8 203 rfl) rfl
theorem q2003 : (Jvm.Cond.instanceMethod ({ cls := "CoincideBenchModel", name := "coset", desc := "(IIIIII)J" } : Jvm.MethodName)) ∈ lw_all := lw_g (lw_at lw_m8 205 rfl) rfl
theorem q2004 : (Jvm.Cond.selects "CoincideBenchModel" ({ cls := "CoincideBenchModel", name := "coset", desc := "(IIIIII)J" } : Jvm.MethodName) ({ cls := "CoincideBenchModel", name := "coset", desc := "(IIIIII)J" } : Jvm.MethodName)) ∈ lw_all := lw_g (lw_at lw_m8 206 rfl) rfl
theorem q2005 : (Jvm.Cond.code ({ cls := "CoincideBenchModel", name := "coset", desc := "(IIIIII)J" } : Jvm.MethodName) prog_20_method_75_code (15 : Nat) (Option.some Jvm.ClassFile.FieldType.long)) ∈ lw_all := lw_g (lw_at lw_m8 207 rfl) rfl
theorem q2006 : (Jvm.Cond.methodLink "CoincideBenchModel" (339 : Nat) ({ cls := "CoincideBenchModel", name := "timesOf", desc := "(IJJJJ)J" } : Jvm.MethodName)) ∈ lw_all := lw_g (lw_at lw_m8 208 rfl) rfl
theorem q2007 : (Jvm.Cond.privateMethod ({ cls := "CoincideBenchModel", name := "timesOf", desc := "(IJJJJ)J" } : Jvm.MethodName)) ∈ lw_tbl := lw_at lw_m8 209 rfl
theorem q2008 : (Jvm.Cond.instanceMethod ({ cls := "CoincideBenchModel", name := "timesOf", desc := "(IJJJJ)J" } : Jvm.MethodName)) ∈ lw_all := lw_g (lw_at lw_m8 210 rfl) rfl
theorem q2009 : (Jvm.Cond.code ({ cls := "CoincideBenchModel", name := "timesOf", desc := "(IJJJJ)J" } : Jvm.MethodName) prog_20_method_74_code (19 : Nat) (Option.some Jvm.ClassFile.FieldType.long)) ∈ lw_all := lw_g (lw_at lw_m8 211 rfl) rfl
theorem q2011 : (Jvm.Cond.instanceMethod ({ cls := "CoincideBenchModel", name := "turned", desc := "(II)I" } : Jvm.MethodName)) ∈ lw_all := lw_g (lw_at lw_m8 213 rfl) rfl
theorem q2012 : (Jvm.Cond.selects "CoincideBenchModel" ({ cls := "CoincideBenchModel", name := "turned", desc := "(II)I" } : Jvm.MethodName) ({ cls := "CoincideBenchModel", name := "turned", desc := "(II)I" } : Jvm.MethodName)) ∈ lw_all := lw_g (lw_at lw_m8 214 rfl) rfl
theorem q2013 : (Jvm.Cond.code ({ cls := "CoincideBenchModel", name := "turned", desc := "(II)I" } : Jvm.MethodName) prog_20_method_78_code (5 : Nat) (Option.some Jvm.ClassFile.FieldType.int)) ∈ lw_all := lw_g (lw_at lw_m8 215 rfl) rfl
theorem q2014 : (Jvm.Cond.methodLink "CoincideBenchModel" (343 : Nat) ({ cls := "CoincideBenchModel", name := "canTurn", desc := "(II)Z" } : Jvm.MethodName)) ∈ lw_all := lw_g (lw_at lw_m8 216 rfl) rfl
theorem q2015 : (Jvm.Cond.privateMethod ({ cls := "CoincideBenchModel", name := "canTurn", desc := "(II)Z" } : Jvm.MethodName)) ∈ lw_tbl := lw_at lw_m8 217 rfl
theorem q2016 : (Jvm.Cond.instanceMethod ({ cls := "CoincideBenchModel", name := "canTurn", desc := "(II)Z" } : Jvm.MethodName)) ∈ lw_all := lw_g (lw_at lw_m8 218 rfl) rfl
theorem q2017 : (Jvm.Cond.code ({ cls := "CoincideBenchModel", name := "canTurn", desc := "(II)Z" } : Jvm.MethodName) prog_20_method_77_code (3 : Nat) (Option.some Jvm.ClassFile.FieldType.boolean)) ∈ lw_all := lw_g (lw_at lw_m8 219 rfl) rfl
theorem q2018 : (Jvm.Cond.methodLink "CoincideBenchModel" (346 : Nat) ({ cls := "CoincideBenchModel", name := "indexOf", desc := "(II)J" } : Jvm.MethodName)) ∈ lw_all := lw_g (lw_at lw_m8 220 rfl) rfl
theorem q2019 : (Jvm.Cond.privateMethod ({ cls := "CoincideBenchModel", name := "indexOf", desc := "(II)J" } : Jvm.MethodName)) ∈ lw_tbl := lw_at lw_m8 221 rfl
theorem q2020 : (Jvm.Cond.instanceMethod ({ cls := "CoincideBenchModel", name := "indexOf", desc := "(II)J" } : Jvm.MethodName)) ∈ lw_all := lw_g (lw_at lw_m8 222 rfl) rfl
theorem q2021 : (Jvm.Cond.code ({ cls := "CoincideBenchModel", name := "indexOf", desc := "(II)J" } : Jvm.MethodName) prog_20_method_76_code (4 : Nat) (Option.some Jvm.ClassFile.FieldType.long)) ∈ lw_all := lw_g (lw_at lw_m8 223 rfl) rfl
theorem q2023 : (Jvm.Cond.instanceMethod ({ cls := "CoincideBenchModel", name := "turnOf", desc := "(II)I" } : Jvm.MethodName)) ∈ lw_all := lw_g (lw_at lw_m8 225 rfl) rfl
theorem q2024 : (Jvm.Cond.selects "CoincideBenchModel" ({ cls := "CoincideBenchModel", name := "turnOf", desc := "(II)I" } : Jvm.MethodName) ({ cls := "CoincideBenchModel", name := "turnOf", desc := "(II)I" } : Jvm.MethodName)) ∈ lw_all := lw_g (lw_at lw_m8 226 rfl) rfl
theorem q2025 : (Jvm.Cond.code ({ cls := "CoincideBenchModel", name := "turnOf", desc := "(II)I" } : Jvm.MethodName) prog_20_method_79_code (4 : Nat) (Option.some Jvm.ClassFile.FieldType.int)) ∈ lw_all := lw_g (lw_at lw_m8 227 rfl) rfl
theorem q2027 : (Jvm.Cond.instanceMethod ({ cls := "CoincideBenchModel", name := "symmetries", desc := "(I)I" } : Jvm.MethodName)) ∈ lw_all := lw_g (lw_at lw_m8 229 rfl) rfl
theorem q2028 : (Jvm.Cond.selects "CoincideBenchModel" ({ cls := "CoincideBenchModel", name := "symmetries", desc := "(I)I" } : Jvm.MethodName) ({ cls := "CoincideBenchModel", name := "symmetries", desc := "(I)I" } : Jvm.MethodName)) ∈ lw_all := lw_g (lw_at lw_m8 230 rfl) rfl
theorem q2029 : (Jvm.Cond.code ({ cls := "CoincideBenchModel", name := "symmetries", desc := "(I)I" } : Jvm.MethodName) prog_20_method_81_code (4 : Nat) (Option.some Jvm.ClassFile.FieldType.int)) ∈ lw_all := lw_g (lw_at lw_m8 231 rfl) rfl
theorem q2030 : (Jvm.Cond.methodLink "CoincideBenchModel" (351 : Nat) ({ cls := "CoincideBenchModel", name := "goesBy", desc := "(III)Z" } : Jvm.MethodName)) ∈ lw_all := lw_g (lw_at lw_m8 232 rfl) rfl
theorem q2031 : (Jvm.Cond.privateMethod ({ cls := "CoincideBenchModel", name := "goesBy", desc := "(III)Z" } : Jvm.MethodName)) ∈ lw_tbl := lw_at lw_m8 233 rfl
theorem q2032 : (Jvm.Cond.instanceMethod ({ cls := "CoincideBenchModel", name := "goesBy", desc := "(III)Z" } : Jvm.MethodName)) ∈ lw_all := lw_g (lw_at lw_m8 234 rfl) rfl
theorem q2033 : (Jvm.Cond.code ({ cls := "CoincideBenchModel", name := "goesBy", desc := "(III)Z" } : Jvm.MethodName) prog_20_method_80_code (13 : Nat) (Option.some Jvm.ClassFile.FieldType.boolean)) ∈ lw_all := lw_g (lw_at lw_m8 235 rfl) rfl
theorem q2034 : (Jvm.Cond.stringRef "CoincideBenchModel" (349 : Nat) "012021102120201210") ∈ lw_tbl := lw_at lw_m8 236 rfl
theorem q2036 : (Jvm.Cond.instanceMethod ({ cls := "CoincideBenchModel", name := "takes", desc := "(II)I" } : Jvm.MethodName)) ∈ lw_all := lw_g (lw_at lw_m8 238 rfl) rfl
theorem q2037 : (Jvm.Cond.selects "CoincideBenchModel" ({ cls := "CoincideBenchModel", name := "takes", desc := "(II)I" } : Jvm.MethodName) ({ cls := "CoincideBenchModel", name := "takes", desc := "(II)I" } : Jvm.MethodName)) ∈ lw_all := lw_g (lw_at lw_m8 239 rfl) rfl
theorem q2038 : (Jvm.Cond.code ({ cls := "CoincideBenchModel", name := "takes", desc := "(II)I" } : Jvm.MethodName) prog_20_method_82_code (4 : Nat) (Option.some Jvm.ClassFile.FieldType.int)) ∈ lw_all := lw_g (lw_at lw_m9 0 rfl) rfl
theorem q2040 : (Jvm.Cond.instanceMethod ({ cls := "CoincideBenchModel", name := "reduced", desc := "(III)I" } : Jvm.MethodName)) ∈ lw_all := lw_g (lw_at lw_m9 2 rfl) rfl
theorem q2041 : (Jvm.Cond.selects "CoincideBenchModel" ({ cls := "CoincideBenchModel", name := "reduced", desc := "(III)I" } : Jvm.MethodName) ({ cls := "CoincideBenchModel", name := "reduced", desc := "(III)I" } : Jvm.MethodName)) ∈ lw_all := lw_g (lw_at lw_m9 3 rfl) rfl
theorem q2042 : (Jvm.Cond.code ({ cls := "CoincideBenchModel", name := "reduced", desc := "(III)I" } : Jvm.MethodName) prog_20_method_89_code (4 : Nat) (Option.some Jvm.ClassFile.FieldType.int)) ∈ lw_all := lw_g (lw_at lw_m9 4 rfl) rfl
theorem q2043 : (Jvm.Cond.methodLink "CoincideBenchModel" (373 : Nat) ({ cls := "CoincideBenchModel", name := "laysShort", desc := "(I)V" } : Jvm.MethodName)) ∈ lw_all := lw_g (lw_at lw_m9 5 rfl) rfl
theorem q2044 : (Jvm.Cond.privateMethod ({ cls := "CoincideBenchModel", name := "laysShort", desc := "(I)V" } : Jvm.MethodName)) ∈ lw_tbl := lw_at lw_m9 6 rfl
theorem q2045 : (Jvm.Cond.instanceMethod ({ cls := "CoincideBenchModel", name := "laysShort", desc := "(I)V" } : Jvm.MethodName)) ∈ lw_all := lw_g (lw_at lw_m9 7 rfl) rfl
theorem q2046 : (Jvm.Cond.code ({ cls := "CoincideBenchModel", name := "laysShort", desc := "(I)V" } : Jvm.MethodName) prog_20_method_88_code (2 : Nat) (Option.none : Option Jvm.ClassFile.FieldType)) ∈ lw_all := lw_g (lw_at lw_m9 8 rfl) rfl
theorem q2047 : (Jvm.Cond.methodLink "CoincideBenchModel" (370 : Nat) ({ cls := "CoincideBenchModel", name := "shortens", desc := "()V" } : Jvm.MethodName)) ∈ lw_all := lw_g (lw_at lw_m9 9 rfl) rfl
theorem q2048 : (Jvm.Cond.privateMethod ({ cls := "CoincideBenchModel", name := "shortens", desc := "()V" } : Jvm.MethodName)) ∈ lw_tbl := lw_at lw_m9 10 rfl
theorem q2049 : (Jvm.Cond.instanceMethod ({ cls := "CoincideBenchModel", name := "shortens", desc := "()V" } : Jvm.MethodName)) ∈ lw_all := lw_g (lw_at lw_m9 11 rfl) rfl
theorem q2050 : (Jvm.Cond.code ({ cls := "CoincideBenchModel", name := "shortens", desc := "()V" } : Jvm.MethodName) prog_20_method_87_code (6 : Nat) (Option.none : Option Jvm.ClassFile.FieldType)) ∈ lw_all := lw_g (lw_at lw_m9 12 rfl) rfl
theorem q2051 : (Jvm.Cond.methodLink "CoincideBenchModel" (364 : Nat) ({ cls := "CoincideBenchModel", name := "orders", desc := "()V" } : Jvm.MethodName)) ∈ lw_all := lw_g (lw_at lw_m9 13 rfl) rfl
theorem q2052 : (Jvm.Cond.privateMethod ({ cls := "CoincideBenchModel", name := "orders", desc := "()V" } : Jvm.MethodName)) ∈ lw_tbl := lw_at lw_m9 14 rfl
theorem q2053 : (Jvm.Cond.instanceMethod ({ cls := "CoincideBenchModel", name := "orders", desc := "()V" } : Jvm.MethodName)) ∈ lw_all := lw_g (lw_at lw_m9 15 rfl) rfl
theorem q2054 : (Jvm.Cond.code ({ cls := "CoincideBenchModel", name := "orders", desc := "()V" } : Jvm.MethodName) prog_20_method_85_code (3 : Nat) (Option.none : Option Jvm.ClassFile.FieldType)) ∈ lw_all := lw_g (lw_at lw_m9 16 rfl) rfl
theorem q2055 : (Jvm.Cond.methodLink "CoincideBenchModel" (358 : Nat) ({ cls := "CoincideBenchModel", name := "isAhead", desc := "(II)Z" } : Jvm.MethodName)) ∈ lw_all := lw_g (lw_at lw_m9 17 rfl) rfl
theorem q2056 : (Jvm.Cond.privateMethod ({ cls := "CoincideBenchModel", name := "isAhead", desc := "(II)Z" } : Jvm.MethodName)) ∈ lw_tbl := lw_at lw_m9 18 rfl
theorem q2057 : (Jvm.Cond.instanceMethod ({ cls := "CoincideBenchModel", name := "isAhead", desc := "(II)Z" } : Jvm.MethodName)) ∈ lw_all := lw_g (lw_at lw_m9 19 rfl) rfl
theorem q2058 : (Jvm.Cond.code ({ cls := "CoincideBenchModel", name := "isAhead", desc := "(II)Z" } : Jvm.MethodName) prog_20_method_84_code (4 : Nat) (Option.some Jvm.ClassFile.FieldType.boolean)) ∈ lw_all := lw_g (lw_at lw_m9 20 rfl) rfl
theorem q2059 : (Jvm.Cond.methodLink "CoincideBenchModel" (355 : Nat) ({ cls := "CoincideBenchModel", name := "lengthOf", desc := "(I)J" } : Jvm.MethodName)) ∈ lw_all := lw_g (lw_at lw_m9 21 rfl) rfl
theorem q2060 : (Jvm.Cond.privateMethod ({ cls := "CoincideBenchModel", name := "lengthOf", desc := "(I)J" } : Jvm.MethodName)) ∈ lw_tbl := lw_at lw_m9 22 rfl
theorem q2061 : (Jvm.Cond.instanceMethod ({ cls := "CoincideBenchModel", name := "lengthOf", desc := "(I)J" } : Jvm.MethodName)) ∈ lw_all := lw_g (lw_at lw_m9 23 rfl) rfl
theorem q2062 : (Jvm.Cond.code ({ cls := "CoincideBenchModel", name := "lengthOf", desc := "(I)J" } : Jvm.MethodName) prog_20_method_83_code (2 : Nat) (Option.some Jvm.ClassFile.FieldType.long)) ∈ lw_all := lw_g (lw_at lw_m9 24 rfl) rfl
theorem q2063 : (Jvm.Cond.methodLink "CoincideBenchModel" (367 : Nat) ({ cls := "CoincideBenchModel", name := "betters", desc := "(I)Z" } : Jvm.MethodName)) ∈ lw_all := lw_g (lw_at lw_m9 25 rfl) rfl
theorem q2064 : (Jvm.Cond.privateMethod ({ cls := "CoincideBenchModel", name := "betters", desc := "(I)Z" } : Jvm.MethodName)) ∈ lw_tbl := lw_at lw_m9 26 rfl
theorem q2065 : (Jvm.Cond.instanceMethod ({ cls := "CoincideBenchModel", name := "betters", desc := "(I)Z" } : Jvm.MethodName)) ∈ lw_all := lw_g (lw_at lw_m9 27 rfl) rfl
theorem q2066 : (Jvm.Cond.code ({ cls := "CoincideBenchModel", name := "betters", desc := "(I)Z" } : Jvm.MethodName) prog_20_method_86_code (11 : Nat) (Option.some Jvm.ClassFile.FieldType.boolean)) ∈ lw_all := lw_g (lw_at lw_m9 28 rfl) rfl
theorem q2068 : (Jvm.Cond.instanceMethod ({ cls := "CoincideBenchModel", name := "bettered", desc := "(I)I" } : Jvm.MethodName)) ∈ lw_all := lw_g (lw_at lw_m9 30 rfl) rfl
theorem q2069 : (Jvm.Cond.selects "CoincideBenchModel" ({ cls := "CoincideBenchModel", name := "bettered", desc := "(I)I" } : Jvm.MethodName) ({ cls := "CoincideBenchModel", name := "bettered", desc := "(I)I" } : Jvm.MethodName)) ∈ lw_all := lw_g (lw_at lw_m9 31 rfl) rfl
theorem q2070 : (Jvm.Cond.code ({ cls := "CoincideBenchModel", name := "bettered", desc := "(I)I" } : Jvm.MethodName) prog_20_method_90_code (2 : Nat) (Option.some Jvm.ClassFile.FieldType.int)) ∈ lw_all := lw_g (lw_at lw_m9 32 rfl) rfl
theorem q2072 : (Jvm.Cond.instanceMethod ({ cls := "CoincideBenchModel", name := "length", desc := "(III)J" } : Jvm.MethodName)) ∈ lw_all := lw_g (lw_at lw_m9 34 rfl) rfl
theorem q2073 : (Jvm.Cond.selects "CoincideBenchModel" ({ cls := "CoincideBenchModel", name := "length", desc := "(III)J" } : Jvm.MethodName) ({ cls := "CoincideBenchModel", name := "length", desc := "(III)J" } : Jvm.MethodName)) ∈ lw_all := lw_g (lw_at lw_m9 35 rfl) rfl
theorem q2074 : (Jvm.Cond.code ({ cls := "CoincideBenchModel", name := "length", desc := "(III)J" } : Jvm.MethodName) prog_20_method_91_code (4 : Nat) (Option.some Jvm.ClassFile.FieldType.long)) ∈ lw_all := lw_g (lw_at lw_m9 36 rfl) rfl
theorem q2076 : (Jvm.Cond.instanceMethod ({ cls := "CoincideBenchModel", name := "kiss", desc := "(I)I" } : Jvm.MethodName)) ∈ lw_all := lw_g (lw_at lw_m9 38 rfl) rfl
theorem q2077 : (Jvm.Cond.selects "CoincideBenchModel" ({ cls := "CoincideBenchModel", name := "kiss", desc := "(I)I" } : Jvm.MethodName) ({ cls := "CoincideBenchModel", name := "kiss", desc := "(I)I" } : Jvm.MethodName)) ∈ lw_all := lw_g (lw_at lw_m9 39 rfl) rfl
theorem q2078 : (Jvm.Cond.code ({ cls := "CoincideBenchModel", name := "kiss", desc := "(I)I" } : Jvm.MethodName) prog_20_method_94_code (6 : Nat) (Option.some Jvm.ClassFile.FieldType.int)) ∈ lw_all := lw_g (lw_at lw_m9 40 rfl) rfl
theorem q2079 : (Jvm.Cond.methodLink "CoincideBenchModel" (379 : Nat) ({ cls := "CoincideBenchModel", name := "leastLength", desc := "()J" } : Jvm.MethodName)) ∈ lw_all := lw_g (lw_at lw_m9 41 rfl) rfl
theorem q2080 : (Jvm.Cond.privateMethod ({ cls := "CoincideBenchModel", name := "leastLength", desc := "()J" } : Jvm.MethodName)) ∈ lw_tbl := lw_at lw_m9 42 rfl
theorem q2081 : (Jvm.Cond.instanceMethod ({ cls := "CoincideBenchModel", name := "leastLength", desc := "()J" } : Jvm.MethodName)) ∈ lw_all := lw_g (lw_at lw_m9 43 rfl) rfl
theorem q2082 : (Jvm.Cond.code ({ cls := "CoincideBenchModel", name := "leastLength", desc := "()J" } : Jvm.MethodName) prog_20_method_93_code (6 : Nat) (Option.some Jvm.ClassFile.FieldType.long)) ∈ lw_all := lw_g (lw_at lw_m9 44 rfl) rfl
theorem q2083 : (Jvm.Cond.methodLink "CoincideBenchModel" (376 : Nat) ({ cls := "CoincideBenchModel", name := "sumLength", desc := "(I)J" } : Jvm.MethodName)) ∈ lw_all := lw_g (lw_at lw_m9 45 rfl) rfl
theorem q2084 : (Jvm.Cond.privateMethod ({ cls := "CoincideBenchModel", name := "sumLength", desc := "(I)J" } : Jvm.MethodName)) ∈ lw_tbl := lw_at lw_m9 46 rfl
theorem q2085 : (Jvm.Cond.instanceMethod ({ cls := "CoincideBenchModel", name := "sumLength", desc := "(I)J" } : Jvm.MethodName)) ∈ lw_all := lw_g (lw_at lw_m9 47 rfl) rfl
theorem q2086 : (Jvm.Cond.code ({ cls := "CoincideBenchModel", name := "sumLength", desc := "(I)J" } : Jvm.MethodName) prog_20_method_92_code (7 : Nat) (Option.some Jvm.ClassFile.FieldType.long)) ∈ lw_all := lw_g (lw_at lw_m9 48 rfl) rfl
theorem q2088 : (Jvm.Cond.instanceMethod ({ cls := "CoincideBenchModel", name := "meetLength", desc := "(III)J" } : Jvm.MethodName)) ∈ lw_all := lw_g (lw_at lw_m9 50 rfl) rfl
theorem q2089 : (Jvm.Cond.selects "CoincideBenchModel" ({ cls := "CoincideBenchModel", name := "meetLength", desc := "(III)J" } : Jvm.MethodName) ({ cls := "CoincideBenchModel", name := "meetLength", desc := "(III)J" } : Jvm.MethodName)) ∈ lw_all := lw_g (lw_at lw_m9 51 rfl) rfl
theorem q2090 : (Jvm.Cond.code ({ cls := "CoincideBenchModel", name := "meetLength", desc := "(III)J" } : Jvm.MethodName) prog_20_method_95_code (5 : Nat) (Option.some Jvm.ClassFile.FieldType.long)) ∈ lw_all := lw_g (lw_at lw_m9 52 rfl) rfl
theorem q2092 : (Jvm.Cond.instanceMethod ({ cls := "CoincideBenchModel", name := "area", desc := "(IIIII)J" } : Jvm.MethodName)) ∈ lw_all := lw_g (lw_at lw_m9 54 rfl) rfl
theorem q2093 : (Jvm.Cond.selects "CoincideBenchModel" ({ cls := "CoincideBenchModel", name := "area", desc := "(IIIII)J" } : Jvm.MethodName) ({ cls := "CoincideBenchModel", name := "area", desc := "(IIIII)J" } : Jvm.MethodName)) ∈ lw_all := lw_g (lw_at lw_m9 55 rfl) rfl
theorem q2094 : (Jvm.Cond.code ({ cls := "CoincideBenchModel", name := "area", desc := "(IIIII)J" } : Jvm.MethodName) prog_20_method_98_code (10 : Nat) (Option.some Jvm.ClassFile.FieldType.long)) ∈ lw_all := lw_g (lw_at lw_m9 56 rfl) rfl
theorem q2095 : (Jvm.Cond.methodLink "CoincideBenchModel" (386 : Nat) ({ cls := "CoincideBenchModel", name := "isPlane", desc := "(III)Z" } : Jvm.MethodName)) ∈ lw_all := lw_g (lw_at lw_m9 57 rfl) rfl
theorem q2096 : (Jvm.Cond.static ({ cls := "CoincideBenchModel", name := "isPlane", desc := "(III)Z" } : Jvm.MethodName)) ∈ lw_all := lw_g (lw_at lw_m9 58 rfl) rfl
theorem q2097 : (Jvm.Cond.code ({ cls := "CoincideBenchModel", name := "isPlane", desc := "(III)Z" } : Jvm.MethodName) prog_20_method_97_code (3 : Nat) (Option.some Jvm.ClassFile.FieldType.boolean)) ∈ lw_all := lw_g (lw_at lw_m9 59 rfl) rfl
theorem q2098 : (Jvm.Cond.constantLong "CoincideBenchModel" (382 : Nat) (-9 : Int64)) ∈ lw_all := lw_g (lw_at lw_m9 60 rfl) rfl
theorem q2099 : (Jvm.Cond.constantLong "CoincideBenchModel" (384 : Nat) (9 : Int64)) ∈ lw_all := lw_g (lw_at lw_m9 61 rfl) rfl
theorem q2100 : (Jvm.Cond.methodLink "CoincideBenchModel" (389 : Nat) ({ cls := "CoincideBenchModel", name := "crosses", desc := "(III)V" } : Jvm.MethodName)) ∈ lw_all := lw_g (lw_at lw_m9 62 rfl) rfl
theorem q2101 : (Jvm.Cond.privateMethod ({ cls := "CoincideBenchModel", name := "crosses", desc := "(III)V" } : Jvm.MethodName)) ∈ lw_tbl := lw_at lw_m9 63 rfl
theorem q2102 : (Jvm.Cond.instanceMethod ({ cls := "CoincideBenchModel", name := "crosses", desc := "(III)V" } : Jvm.MethodName)) ∈ lw_all := lw_g (lw_at lw_m9 64 rfl) rfl
theorem q2103 : (Jvm.Cond.code ({ cls := "CoincideBenchModel", name := "crosses", desc := "(III)V" } : Jvm.MethodName) prog_20_method_96_code (10 : Nat) (Option.none : Option Jvm.ClassFile.FieldType)) ∈ lw_all := lw_g (lw_at lw_m9 65 rfl) rfl
theorem q2105 : (Jvm.Cond.instanceMethod ({ cls := "CoincideBenchModel", name := "layers", desc := "(IIIII)J" } : Jvm.MethodName)) ∈ lw_all := lw_g (lw_at lw_m9 67 rfl) rfl
theorem q2106 : (Jvm.Cond.selects "CoincideBenchModel" ({ cls := "CoincideBenchModel", name := "layers", desc := "(IIIII)J" } : Jvm.MethodName) ({ cls := "CoincideBenchModel", name := "layers", desc := "(IIIII)J" } : Jvm.MethodName)) ∈ lw_all := lw_g (lw_at lw_m9 68 rfl) rfl
theorem q2107 : (Jvm.Cond.code ({ cls := "CoincideBenchModel", name := "layers", desc := "(IIIII)J" } : Jvm.MethodName) prog_20_method_102_code (9 : Nat) (Option.some Jvm.ClassFile.FieldType.long)) ∈ lw_all := lw_g (lw_at lw_m9 69 rfl) rfl
theorem q2108 : (Jvm.Cond.methodLink "CoincideBenchModel" (396 : Nat) ({ cls := "CoincideBenchModel", name := "whyNoPlane", desc := "(IIIII)I" } : Jvm.MethodName)) ∈ lw_all := lw_g (lw_at lw_m9 70 rfl) rfl
theorem q2109 : (Jvm.Cond.privateMethod ({ cls := "CoincideBenchModel", name := "whyNoPlane", desc := "(IIIII)I" } : Jvm.MethodName)) ∈ lw_tbl := lw_at lw_m9 71 rfl
theorem q2110 : (Jvm.Cond.instanceMethod ({ cls := "CoincideBenchModel", name := "whyNoPlane", desc := "(IIIII)I" } : Jvm.MethodName)) ∈ lw_all := lw_g (lw_at lw_m9 72 rfl) rfl
theorem q2111 : (Jvm.Cond.code ({ cls := "CoincideBenchModel", name := "whyNoPlane", desc := "(IIIII)I" } : Jvm.MethodName) prog_20_method_101_code (7 : Nat) (Option.some Jvm.ClassFile.FieldType.int)) ∈ lw_all := lw_g (lw_at lw_m9 73 rfl) rfl
theorem q2112 : (Jvm.Cond.methodLink "CoincideBenchModel" (400 : Nat) ({ cls := "CoincideBenchModel", name := "planarOf", desc := "(IIIII)J" } : Jvm.MethodName)) ∈ lw_all := lw_g (lw_at lw_m9 74 rfl) rfl
theorem q2113 : (Jvm.Cond.privateMethod ({ cls := "CoincideBenchModel", name := "planarOf", desc := "(IIIII)J" } : Jvm.MethodName)) ∈ lw_tbl := lw_at lw_m9 75 rfl
theorem q2114 : (Jvm.Cond.instanceMethod ({ cls := "CoincideBenchModel", name := "planarOf", desc := "(IIIII)J" } : Jvm.MethodName)) ∈ lw_all := lw_g (lw_at lw_m9 76 rfl) rfl
theorem q2115 : (Jvm.Cond.code ({ cls := "CoincideBenchModel", name := "planarOf", desc := "(IIIII)J" } : Jvm.MethodName) prog_20_method_100_code (15 : Nat) (Option.some Jvm.ClassFile.FieldType.long)) ∈ lw_all := lw_g (lw_at lw_m9 77 rfl) rfl
theorem q2116 : (Jvm.Cond.methodLink "CoincideBenchModel" (393 : Nat) ({ cls := "CoincideBenchModel", name := "someCrossed", desc := "(I)J" } : Jvm.MethodName)) ∈ lw_all := lw_g (lw_at lw_m9 78 rfl) rfl
theorem q2117 : (Jvm.Cond.privateMethod ({ cls := "CoincideBenchModel", name := "someCrossed", desc := "(I)J" } : Jvm.MethodName)) ∈ lw_tbl := lw_at lw_m9 79 rfl
theorem q2118 : (Jvm.Cond.instanceMethod ({ cls := "CoincideBenchModel", name := "someCrossed", desc := "(I)J" } : Jvm.MethodName)) ∈ lw_all := lw_g (lw_at lw_m9 80 rfl) rfl
theorem q2119 : (Jvm.Cond.code ({ cls := "CoincideBenchModel", name := "someCrossed", desc := "(I)J" } : Jvm.MethodName) prog_20_method_99_code (2 : Nat) (Option.some Jvm.ClassFile.FieldType.long)) ∈ lw_all := lw_g (lw_at lw_m9 81 rfl) rfl
theorem q2120 : (Jvm.Cond.methodLink "CoincideBenchModel" (404 : Nat) ({ cls := "CoincideBenchModel", name := "index", desc := "(II)J" } : Jvm.MethodName)) ∈ lw_all := lw_g (lw_at lw_m9 82 rfl) rfl
theorem q2122 : (Jvm.Cond.instanceMethod ({ cls := "CoincideBenchModel", name := "planar", desc := "(IIIII)J" } : Jvm.MethodName)) ∈ lw_all := lw_g (lw_at lw_m9 84 rfl) rfl
theorem q2123 : (Jvm.Cond.selects "CoincideBenchModel" ({ cls := "CoincideBenchModel", name := "planar", desc := "(IIIII)J" } : Jvm.MethodName) ({ cls := "CoincideBenchModel", name := "planar", desc := "(IIIII)J" } : Jvm.MethodName)) ∈ lw_all := lw_g (lw_at lw_m9 85 rfl) rfl
theorem q2124 : (Jvm.Cond.code ({ cls := "CoincideBenchModel", name := "planar", desc := "(IIIII)J" } : Jvm.MethodName) prog_20_method_103_code (7 : Nat) (Option.some Jvm.ClassFile.FieldType.long)) ∈ lw_all := lw_g (lw_at lw_m9 86 rfl) rfl
theorem q2126 : (Jvm.Cond.instanceMethod ({ cls := "CoincideBenchModel", name := "best", desc := "(II)I" } : Jvm.MethodName)) ∈ lw_all := lw_g (lw_at lw_m9 88 rfl) rfl
theorem q2127 : (Jvm.Cond.selects "CoincideBenchModel" ({ cls := "CoincideBenchModel", name := "best", desc := "(II)I" } : Jvm.MethodName) ({ cls := "CoincideBenchModel", name := "best", desc := "(II)I" } : Jvm.MethodName)) ∈ lw_all := lw_g (lw_at lw_m9 89 rfl) rfl
theorem q2128 : (Jvm.Cond.code ({ cls := "CoincideBenchModel", name := "best", desc := "(II)I" } : Jvm.MethodName) prog_20_method_104_code (14 : Nat) (Option.some Jvm.ClassFile.FieldType.int)) ∈ lw_all := lw_g (lw_at lw_m9 90 rfl) rfl
theorem q2130 : (Jvm.Cond.instanceMethod ({ cls := "CoincideBenchModel", name := "add", desc := "(IIII)I" } : Jvm.MethodName)) ∈ lw_all := lw_g (lw_at lw_m9 92 rfl) rfl
theorem q2131 : (Jvm.Cond.selects "CoincideBenchModel" ({ cls := "CoincideBenchModel", name := "add", desc := "(IIII)I" } : Jvm.MethodName) ({ cls := "CoincideBenchModel", name := "add", desc := "(IIII)I" } : Jvm.MethodName)) ∈ lw_all := lw_g (lw_at lw_m9 93 rfl) rfl
theorem q2132 : (Jvm.Cond.code ({ cls := "CoincideBenchModel", name := "add", desc := "(IIII)I" } : Jvm.MethodName) prog_20_method_111_code (6 : Nat) (Option.some Jvm.ClassFile.FieldType.int)) ∈ lw_all := lw_g (lw_at lw_m9 94 rfl) rfl
theorem q2133 : (Jvm.Cond.methodLink "CoincideBenchModel" (427 : Nat) ({ cls := "CoincideBenchModel", name := "isOwn", desc := "(I)Z" } : Jvm.MethodName)) ∈ lw_all := lw_g (lw_at lw_m9 95 rfl) rfl
theorem q2134 : (Jvm.Cond.privateMethod ({ cls := "CoincideBenchModel", name := "isOwn", desc := "(I)Z" } : Jvm.MethodName)) ∈ lw_tbl := lw_at lw_m9 96 rfl
theorem q2135 : (Jvm.Cond.instanceMethod ({ cls := "CoincideBenchModel", name := "isOwn", desc := "(I)Z" } : Jvm.MethodName)) ∈ lw_all := lw_g (lw_at lw_m9 97 rfl) rfl
theorem q2136 : (Jvm.Cond.code ({ cls := "CoincideBenchModel", name := "isOwn", desc := "(I)Z" } : Jvm.MethodName) prog_20_method_105_code (2 : Nat) (Option.some Jvm.ClassFile.FieldType.boolean)) ∈ lw_all := lw_g (lw_at lw_m9 98 rfl) rfl
theorem q2137 : (Jvm.Cond.methodLink "CoincideBenchModel" (430 : Nat) ({ cls := "CoincideBenchModel", name := "isRow", desc := "(I)Z" } : Jvm.MethodName)) ∈ lw_all := lw_g (lw_at lw_m9 99 rfl) rfl
theorem q2138 : (Jvm.Cond.static ({ cls := "CoincideBenchModel", name := "isRow", desc := "(I)Z" } : Jvm.MethodName)) ∈ lw_all := lw_g (lw_at lw_m9 100 rfl) rfl
theorem q2139 : (Jvm.Cond.code ({ cls := "CoincideBenchModel", name := "isRow", desc := "(I)Z" } : Jvm.MethodName) prog_20_method_106_code (1 : Nat) (Option.some Jvm.ClassFile.FieldType.boolean)) ∈ lw_all := lw_g (lw_at lw_m9 101 rfl) rfl
theorem q2140 : (Jvm.Cond.constantLong "CoincideBenchModel" (433 : Nat) (-99 : Int64)) ∈ lw_all := lw_g (lw_at lw_m9 102 rfl) rfl
theorem q2141 : (Jvm.Cond.constantLong "CoincideBenchModel" (435 : Nat) (99 : Int64)) ∈ lw_all := lw_g (lw_at lw_m9 103 rfl) rfl
theorem q2142 : (Jvm.Cond.methodLink "CoincideBenchModel" (423 : Nat) ({ cls := "CoincideBenchModel", name := "refuses", desc := "(IIII)I" } : Jvm.MethodName)) ∈ lw_all := lw_g (lw_at lw_m9 104 rfl) rfl
theorem q2143 : (Jvm.Cond.privateMethod ({ cls := "CoincideBenchModel", name := "refuses", desc := "(IIII)I" } : Jvm.MethodName)) ∈ lw_tbl := lw_at lw_m9 105 rfl
theorem q2144 : (Jvm.Cond.instanceMethod ({ cls := "CoincideBenchModel", name := "refuses", desc := "(IIII)I" } : Jvm.MethodName)) ∈ lw_all := lw_g (lw_at lw_m9 106 rfl) rfl
theorem q2145 : (Jvm.Cond.code ({ cls := "CoincideBenchModel", name := "refuses", desc := "(IIII)I" } : Jvm.MethodName) prog_20_method_107_code (5 : Nat) (Option.some Jvm.ClassFile.FieldType.int)) ∈ lw_all := lw_g (lw_at lw_m9 107 rfl) rfl
theorem q2146 : (Jvm.Cond.methodLink "CoincideBenchModel" (437 : Nat) ({ cls := "CoincideBenchModel", name := "keeps", desc := "()V" } : Jvm.MethodName)) ∈ lw_all := lw_g (lw_at lw_m9 108 rfl) rfl
theorem q2147 : (Jvm.Cond.privateMethod ({ cls := "CoincideBenchModel", name := "keeps", desc := "()V" } : Jvm.MethodName)) ∈ lw_tbl := lw_at lw_m9 109 rfl
theorem q2148 : (Jvm.Cond.instanceMethod ({ cls := "CoincideBenchModel", name := "keeps", desc := "()V" } : Jvm.MethodName)) ∈ lw_all := lw_g (lw_at lw_m9 110 rfl) rfl
theorem q2149 : (Jvm.Cond.code ({ cls := "CoincideBenchModel", name := "keeps", desc := "()V" } : Jvm.MethodName) prog_20_method_108_code (2 : Nat) (Option.none : Option Jvm.ClassFile.FieldType)) ∈ lw_all := lw_g (lw_at lw_m9 111 rfl) rfl
theorem q2150 : (Jvm.Cond.methodLink "CoincideBenchModel" (440 : Nat) ({ cls := "CoincideBenchModel", name := "stays", desc := "(III)I" } : Jvm.MethodName)) ∈ lw_all := lw_g (lw_at lw_m9 112 rfl) rfl
theorem q2151 : (Jvm.Cond.privateMethod ({ cls := "CoincideBenchModel", name := "stays", desc := "(III)I" } : Jvm.MethodName)) ∈ lw_tbl := lw_at lw_m9 113 rfl
theorem q2152 : (Jvm.Cond.instanceMethod ({ cls := "CoincideBenchModel", name := "stays", desc := "(III)I" } : Jvm.MethodName)) ∈ lw_all := lw_g (lw_at lw_m9 114 rfl) rfl
theorem q2153 : (Jvm.Cond.code ({ cls := "CoincideBenchModel", name := "stays", desc := "(III)I" } : Jvm.MethodName) prog_20_method_110_code (6 : Nat) (Option.some Jvm.ClassFile.FieldType.int)) ∈ lw_all := lw_g (lw_at lw_m9 115 rfl) rfl
theorem q2154 : (Jvm.Cond.constantLong "CoincideBenchModel" (416 : Nat) (-20 : Int64)) ∈ lw_all := lw_g (lw_at lw_m9 116 rfl) rfl
theorem q2155 : (Jvm.Cond.constantLong "CoincideBenchModel" (418 : Nat) (20 : Int64)) ∈ lw_all := lw_g (lw_at lw_m9 117 rfl) rfl
theorem q2156 : (Jvm.Cond.methodLink "CoincideBenchModel" (420 : Nat) ({ cls := "CoincideBenchModel", name := "goesBack", desc := "(I)V" } : Jvm.MethodName)) ∈ lw_all := lw_g (lw_at lw_m9 118 rfl) rfl
theorem q2157 : (Jvm.Cond.privateMethod ({ cls := "CoincideBenchModel", name := "goesBack", desc := "(I)V" } : Jvm.MethodName)) ∈ lw_tbl := lw_at lw_m9 119 rfl
theorem q2158 : (Jvm.Cond.instanceMethod ({ cls := "CoincideBenchModel", name := "goesBack", desc := "(I)V" } : Jvm.MethodName)) ∈ lw_all := lw_g (lw_at lw_m9 120 rfl) rfl
theorem q2159 : (Jvm.Cond.code ({ cls := "CoincideBenchModel", name := "goesBack", desc := "(I)V" } : Jvm.MethodName) prog_20_method_109_code (3 : Nat) (Option.none : Option Jvm.ClassFile.FieldType)) ∈ lw_all := lw_g (lw_at lw_m9 121 rfl) rfl
theorem q2161 : (Jvm.Cond.instanceMethod ({ cls := "CoincideBenchModel", name := "exchange", desc := "(III)I" } : Jvm.MethodName)) ∈ lw_all := lw_g (lw_at lw_m9 123 rfl) rfl
theorem q2162 : (Jvm.Cond.selects "CoincideBenchModel" ({ cls := "CoincideBenchModel", name := "exchange", desc := "(III)I" } : Jvm.MethodName) ({ cls := "CoincideBenchModel", name := "exchange", desc := "(III)I" } : Jvm.MethodName)) ∈ lw_all := lw_g (lw_at lw_m9 124 rfl) rfl
theorem q2163 : (Jvm.Cond.code ({ cls := "CoincideBenchModel", name := "exchange", desc := "(III)I" } : Jvm.MethodName) prog_20_method_112_code (6 : Nat) (Option.some Jvm.ClassFile.FieldType.int)) ∈ lw_all := lw_g (lw_at lw_m9 125 rfl) rfl
theorem q2165 : (Jvm.Cond.instanceMethod ({ cls := "CoincideBenchModel", name := "negate", desc := "(II)I" } : Jvm.MethodName)) ∈ lw_all := lw_g (lw_at lw_m9 127 rfl) rfl
theorem q2166 : (Jvm.Cond.selects "CoincideBenchModel" ({ cls := "CoincideBenchModel", name := "negate", desc := "(II)I" } : Jvm.MethodName) ({ cls := "CoincideBenchModel", name := "negate", desc := "(II)I" } : Jvm.MethodName)) ∈ lw_all := lw_g (lw_at lw_m9 128 rfl) rfl
theorem q2167 : (Jvm.Cond.code ({ cls := "CoincideBenchModel", name := "negate", desc := "(II)I" } : Jvm.MethodName) prog_20_method_113_code (4 : Nat) (Option.some Jvm.ClassFile.FieldType.int)) ∈ lw_all := lw_g (lw_at lw_m9 129 rfl) rfl
theorem q2169 : (Jvm.Cond.instanceMethod ({ cls := "CoincideBenchModel", name := "put", desc := "(IIII)I" } : Jvm.MethodName)) ∈ lw_all := lw_g (lw_at lw_m9 131 rfl) rfl
theorem q2170 : (Jvm.Cond.selects "CoincideBenchModel" ({ cls := "CoincideBenchModel", name := "put", desc := "(IIII)I" } : Jvm.MethodName) ({ cls := "CoincideBenchModel", name := "put", desc := "(IIII)I" } : Jvm.MethodName)) ∈ lw_all := lw_g (lw_at lw_m9 132 rfl) rfl
theorem q2171 : (Jvm.Cond.code ({ cls := "CoincideBenchModel", name := "put", desc := "(IIII)I" } : Jvm.MethodName) prog_20_method_114_code (7 : Nat) (Option.some Jvm.ClassFile.FieldType.int)) ∈ lw_all := lw_g (lw_at lw_m9 133 rfl) rfl
theorem q2172 : (Jvm.Cond.constantLong "CoincideBenchModel" (444 : Nat) (-6 : Int64)) ∈ lw_all := lw_g (lw_at lw_m9 134 rfl) rfl
theorem q2173 : (Jvm.Cond.constantLong "CoincideBenchModel" (446 : Nat) (6 : Int64)) ∈ lw_all := lw_g (lw_at lw_m9 135 rfl) rfl
theorem q2175 : (Jvm.Cond.instanceMethod ({ cls := "CoincideBenchModel", name := "why", desc := "(I)I" } : Jvm.MethodName)) ∈ lw_all := lw_g (lw_at lw_m9 137 rfl) rfl
theorem q2176 : (Jvm.Cond.selects "CoincideBenchModel" ({ cls := "CoincideBenchModel", name := "why", desc := "(I)I" } : Jvm.MethodName) ({ cls := "CoincideBenchModel", name := "why", desc := "(I)I" } : Jvm.MethodName)) ∈ lw_all := lw_g (lw_at lw_m9 138 rfl) rfl
theorem q2177 : (Jvm.Cond.code ({ cls := "CoincideBenchModel", name := "why", desc := "(I)I" } : Jvm.MethodName) prog_20_method_115_code (2 : Nat) (Option.some Jvm.ClassFile.FieldType.int)) ∈ lw_all := lw_g (lw_at lw_m9 139 rfl) rfl
theorem q2179 : (Jvm.Cond.instanceMethod ({ cls := "CoincideBenchModel", name := "undo", desc := "()I" } : Jvm.MethodName)) ∈ lw_all := lw_g (lw_at lw_m9 141 rfl) rfl
theorem q2180 : (Jvm.Cond.selects "CoincideBenchModel" ({ cls := "CoincideBenchModel", name := "undo", desc := "()I" } : Jvm.MethodName) ({ cls := "CoincideBenchModel", name := "undo", desc := "()I" } : Jvm.MethodName)) ∈ lw_all := lw_g (lw_at lw_m9 142 rfl) rfl
theorem q2181 : (Jvm.Cond.code ({ cls := "CoincideBenchModel", name := "undo", desc := "()I" } : Jvm.MethodName) prog_20_method_116_code (1 : Nat) (Option.some Jvm.ClassFile.FieldType.int)) ∈ lw_all := lw_g (lw_at lw_m9 143 rfl) rfl
theorem q2183 : (Jvm.Cond.instanceMethod ({ cls := "CoincideBenchModel", name := "anew", desc := "()I" } : Jvm.MethodName)) ∈ lw_all := lw_g (lw_at lw_m9 145 rfl) rfl
theorem q2184 : (Jvm.Cond.selects "CoincideBenchModel" ({ cls := "CoincideBenchModel", name := "anew", desc := "()I" } : Jvm.MethodName) ({ cls := "CoincideBenchModel", name := "anew", desc := "()I" } : Jvm.MethodName)) ∈ lw_all := lw_g (lw_at lw_m9 146 rfl) rfl
theorem q2185 : (Jvm.Cond.code ({ cls := "CoincideBenchModel", name := "anew", desc := "()I" } : Jvm.MethodName) prog_20_method_117_code (2 : Nat) (Option.some Jvm.ClassFile.FieldType.int)) ∈ lw_all := lw_g (lw_at lw_m9 147 rfl) rfl
theorem q2199 : (Jvm.Cond.castable "CoincideBenchModel" "java/lang/Object") ∈ lw_tbl := lw_at lw_m9 161 rfl
theorem in_X3 : ∀ w ∈ wsX30, w ∈ lw_all := lw_in wsX30 [1606, 1608, 1610, 1612, 1614, 1616, 1618, 1620, 1622, 1624, 1626, 1628, 1630, 1632, 1634, 1636, 1638, 1640, 1642, 1644, 1646, 1648, 1650, 1652, 1654, 1656, 1658, 1660, 1662, 1664, 1666, 1668, 1670, 1672, 1674, 1676, 1678, 1680, 1682, 1684] (by decide +kernel) (by decide +kernel)
