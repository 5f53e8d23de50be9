/-! CoincideBench$Turned -/
set_option maxRecDepth 100000
def RX7 : String := "CoincideBench$Turned"
def TX7 : u_T := fun k => match k with
  | 0 => ("CoincideBench$Lattice", "rows", "LCoincideBench$Rows;", false)
  | 1 => ("CoincideBench$Turned", "of", "LCoincideBench$Lattice;", true)
  | 2 => ("CoincideBench$Turned", "turn", "LCoincideBench$Rows;", true)
  | 3 => ("CoincideBench$Turned", "over", "J", true)
  | _ => ("CoincideBench$Turned", "upon", "J", true)
def tyX7 : Nat → FieldType := fun k => match k with
  | 0 => .object "CoincideBench$Rows"
  | 1 => .object "CoincideBench$Lattice"
  | 2 => .object "CoincideBench$Rows"
  | 3 => .long
  | _ => .long
abbrev wsX70 : List Cond := u_ws RX7 TX7 5
theorem nmX7 : ∀ a, a < 5 → ∀ b, b < 5 → a ≠ b → (TX7 a).2.1 ≠ (TX7 b).2.1 := by decide +kernel
theorem tyX7_ok : ∀ k, k < 5 → parseFieldDescriptor (TX7 k).2.2.1 = some (tyX7 k) := by decide +kernel
abbrev cX7_isTurned : ByteArray := prog_18_method_6_code
def yX7_isTurned : MethodName := ⟨RX7, "isTurned", "()Z"⟩
theorem dX7_isTurned_0 : decode cX7_isTurned 0 = .ok (.iconst 1, 1) := by decide +kernel
theorem dX7_isTurned_1 : decode cX7_isTurned 1 = .ok (.ireturn, 1) := by decide +kernel
abbrev cX7_init : ByteArray := prog_18_method_1_code
def yX7_init : MethodName := ⟨RX7, "<init>", "(LCoincideBench$Lattice;[I)V"⟩
def dkwX7_init_13 : List UInt8 := [21, 4, 21, 4, 104, 100, 21, 5, 21, 5, 104, 100, 21, 6, 21, 6, 104, 100, 133, 181, 0, 32, 177]
abbrev dktX7_init_13 : List UInt8 := dkwX7_init_13 ++ []
def dkwX7_init_12 : List UInt8 := [21, 4, 104, 96, 21, 5, 21, 5, 104, 96, 21, 6, 21, 6, 104, 96, 133, 181, 0, 28, 42, 29, 29, 104]
abbrev dktX7_init_12 : List UInt8 := dkwX7_init_12 ++ dktX7_init_13
def dkwX7_init_11 : List UInt8 := [21, 9, 46, 133, 80, 132, 9, 1, 167, 255, 225, 132, 8, 1, 167, 255, 210, 42, 29, 29, 104, 21, 4]
abbrev dktX7_init_11 : List UInt8 := dkwX7_init_11 ++ dktX7_init_12
def dkwX7_init_10 : List UInt8 := [21, 9, 6, 162, 0, 31, 42, 180, 0, 20, 180, 0, 24, 21, 9, 50, 21, 8, 25, 7, 21, 8, 50]
abbrev dktX7_init_10 : List UInt8 := dkwX7_init_10 ++ dktX7_init_11
def dkwX7_init_9 : List UInt8 := [42, 187, 0, 17, 89, 183, 0, 19, 181, 0, 20, 3, 54, 8, 21, 8, 6, 162, 0, 46, 3, 54, 9]
abbrev dktX7_init_9 : List UInt8 := dkwX7_init_9 ++ dktX7_init_10
def dkwX7_init_8 : List UInt8 := [29, 104, 21, 4, 21, 4, 104, 100, 21, 5, 21, 5, 104, 100, 21, 6, 21, 6, 104, 96, 79, 83, 58, 7]
abbrev dktX7_init_8 : List UInt8 := dkwX7_init_8 ++ dktX7_init_9
def dkwX7_init_7 : List UInt8 := [21, 5, 104, 100, 104, 79, 89, 4, 5, 21, 5, 21, 6, 104, 29, 21, 4, 104, 96, 104, 79, 89, 5, 29]
abbrev dktX7_init_7 : List UInt8 := dkwX7_init_7 ++ dktX7_init_8
def dkwX7_init_6 : List UInt8 := [104, 29, 21, 4, 104, 100, 104, 79, 83, 89, 5, 6, 188, 10, 89, 3, 5, 21, 4, 21, 6, 104, 29]
abbrev dktX7_init_6 : List UInt8 := dkwX7_init_6 ++ dktX7_init_7
def dkwX7_init_5 : List UInt8 := [21, 4, 104, 100, 21, 5, 21, 5, 104, 96, 21, 6, 21, 6, 104, 100, 79, 89, 5, 5, 21, 5, 21, 6]
abbrev dktX7_init_5 : List UInt8 := dkwX7_init_5 ++ dktX7_init_6
def dkwX7_init_4 : List UInt8 := [188, 10, 89, 3, 5, 21, 4, 21, 5, 104, 29, 21, 6, 104, 96, 104, 79, 89, 4, 29, 29, 104, 21, 4]
abbrev dktX7_init_4 : List UInt8 := dkwX7_init_4 ++ dktX7_init_5
def dkwX7_init_3 : List UInt8 := [104, 100, 104, 79, 89, 5, 5, 21, 4, 21, 6, 104, 29, 21, 5, 104, 96, 104, 79, 83, 89, 4, 6]
abbrev dktX7_init_3 : List UInt8 := dkwX7_init_3 ++ dktX7_init_4
def dkwX7_init_2 : List UInt8 := [21, 5, 21, 5, 104, 100, 21, 6, 21, 6, 104, 100, 79, 89, 4, 5, 21, 4, 21, 5, 104, 29, 21, 6]
abbrev dktX7_init_2 : List UInt8 := dkwX7_init_2 ++ dktX7_init_3
def dkwX7_init_1 : List UInt8 := [6, 46, 54, 6, 6, 189, 0, 15, 89, 3, 6, 188, 10, 89, 3, 29, 29, 104, 21, 4, 21, 4, 104, 96]
abbrev dktX7_init_1 : List UInt8 := dkwX7_init_1 ++ dktX7_init_2
def dkwX7_init_0 : List UInt8 := [42, 183, 0, 3, 42, 43, 181, 0, 9, 44, 3, 46, 62, 44, 4, 46, 54, 4, 44, 5, 46, 54, 5, 44]
abbrev dktX7_init_0 : List UInt8 := dkwX7_init_0 ++ dktX7_init_1
theorem dksX7_init_0 : cX7_init.data.toList.drop 0 = dktX7_init_0 := by decide +kernel
theorem dksX7_init_1 : cX7_init.data.toList.drop 24 = dktX7_init_1 := dk_seg dksX7_init_0 24 rfl rfl
theorem dksX7_init_2 : cX7_init.data.toList.drop 48 = dktX7_init_2 := dk_seg dksX7_init_1 24 rfl rfl
theorem dksX7_init_3 : cX7_init.data.toList.drop 72 = dktX7_init_3 := dk_seg dksX7_init_2 24 rfl rfl
theorem dksX7_init_4 : cX7_init.data.toList.drop 95 = dktX7_init_4 := dk_seg dksX7_init_3 23 rfl rfl
theorem dksX7_init_5 : cX7_init.data.toList.drop 119 = dktX7_init_5 := dk_seg dksX7_init_4 24 rfl rfl
theorem dksX7_init_6 : cX7_init.data.toList.drop 143 = dktX7_init_6 := dk_seg dksX7_init_5 24 rfl rfl
theorem dksX7_init_7 : cX7_init.data.toList.drop 166 = dktX7_init_7 := dk_seg dksX7_init_6 23 rfl rfl
theorem dksX7_init_8 : cX7_init.data.toList.drop 190 = dktX7_init_8 := dk_seg dksX7_init_7 24 rfl rfl
theorem dksX7_init_9 : cX7_init.data.toList.drop 214 = dktX7_init_9 := dk_seg dksX7_init_8 24 rfl rfl
theorem dksX7_init_10 : cX7_init.data.toList.drop 237 = dktX7_init_10 := dk_seg dksX7_init_9 23 rfl rfl
theorem dksX7_init_11 : cX7_init.data.toList.drop 260 = dktX7_init_11 := dk_seg dksX7_init_10 23 rfl rfl
theorem dksX7_init_12 : cX7_init.data.toList.drop 283 = dktX7_init_12 := dk_seg dksX7_init_11 23 rfl rfl
theorem dksX7_init_13 : cX7_init.data.toList.drop 307 = dktX7_init_13 := dk_seg dksX7_init_12 24 rfl rfl
theorem dX7_init_0 : decode cX7_init 0 = .ok (.aload_n 0, 1) := dk_42 (dk_at dksX7_init_0 0 rfl rfl)
theorem dX7_init_1 : decode cX7_init 1 = .ok (.invokespecial 3, 3) := dk_183 0 3 (dk_at dksX7_init_0 1 rfl rfl)
theorem dX7_init_4 : decode cX7_init 4 = .ok (.aload_n 0, 1) := dk_42 (dk_at dksX7_init_0 4 rfl rfl)
theorem dX7_init_5 : decode cX7_init 5 = .ok (.aload_n 1, 1) := dk_43 (dk_at dksX7_init_0 5 rfl rfl)
theorem dX7_init_6 : decode cX7_init 6 = .ok (.putfield 9, 3) := dk_181 0 9 (dk_at dksX7_init_0 6 rfl rfl)
theorem dX7_init_9 : decode cX7_init 9 = .ok (.aload_n 2, 1) := dk_44 (dk_at dksX7_init_0 9 rfl rfl)
theorem dX7_init_10 : decode cX7_init 10 = .ok (.iconst 0, 1) := dk_3 (dk_at dksX7_init_0 10 rfl rfl)
theorem dX7_init_11 : decode cX7_init 11 = .ok (.iaload, 1) := dk_46 (dk_at dksX7_init_0 11 rfl rfl)
theorem dX7_init_12 : decode cX7_init 12 = .ok (.istore_n 3, 1) := dk_62 (dk_at dksX7_init_0 12 rfl rfl)
theorem dX7_init_13 : decode cX7_init 13 = .ok (.aload_n 2, 1) := dk_44 (dk_at dksX7_init_0 13 rfl rfl)
theorem dX7_init_14 : decode cX7_init 14 = .ok (.iconst 1, 1) := dk_4 (dk_at dksX7_init_0 14 rfl rfl)
theorem dX7_init_15 : decode cX7_init 15 = .ok (.iaload, 1) := dk_46 (dk_at dksX7_init_0 15 rfl rfl)
theorem dX7_init_16 : decode cX7_init 16 = .ok (.istore 4, 2) := dk_54 4 (dk_at dksX7_init_0 16 rfl rfl)
theorem dX7_init_18 : decode cX7_init 18 = .ok (.aload_n 2, 1) := dk_44 (dk_at dksX7_init_0 18 rfl rfl)
theorem dX7_init_19 : decode cX7_init 19 = .ok (.iconst 2, 1) := dk_5 (dk_at dksX7_init_0 19 rfl rfl)
theorem dX7_init_20 : decode cX7_init 20 = .ok (.iaload, 1) := dk_46 (dk_at dksX7_init_0 20 rfl rfl)
theorem dX7_init_21 : decode cX7_init 21 = .ok (.istore 5, 2) := dk_54 5 (dk_at dksX7_init_0 21 rfl rfl)
theorem dX7_init_23 : decode cX7_init 23 = .ok (.aload_n 2, 1) := dk_44 (dk_at dksX7_init_0 23 rfl rfl)
theorem dX7_init_24 : decode cX7_init 24 = .ok (.iconst 3, 1) := dk_6 (dk_at dksX7_init_1 0 rfl rfl)
theorem dX7_init_25 : decode cX7_init 25 = .ok (.iaload, 1) := dk_46 (dk_at dksX7_init_1 1 rfl rfl)
theorem dX7_init_26 : decode cX7_init 26 = .ok (.istore 6, 2) := dk_54 6 (dk_at dksX7_init_1 2 rfl rfl)
theorem dX7_init_28 : decode cX7_init 28 = .ok (.iconst 3, 1) := dk_6 (dk_at dksX7_init_1 4 rfl rfl)
theorem dX7_init_29 : decode cX7_init 29 = .ok (.anewarray 15, 3) := dk_189 0 15 (dk_at dksX7_init_1 5 rfl rfl)
theorem dX7_init_32 : decode cX7_init 32 = .ok (.dup, 1) := dk_89 (dk_at dksX7_init_1 8 rfl rfl)
theorem dX7_init_33 : decode cX7_init 33 = .ok (.iconst 0, 1) := dk_3 (dk_at dksX7_init_1 9 rfl rfl)
theorem dX7_init_34 : decode cX7_init 34 = .ok (.iconst 3, 1) := dk_6 (dk_at dksX7_init_1 10 rfl rfl)
theorem dX7_init_35 : decode cX7_init 35 = .ok (.newarray .int, 2) := dk_188_10 (dk_at dksX7_init_1 11 rfl rfl)
theorem dX7_init_37 : decode cX7_init 37 = .ok (.dup, 1) := dk_89 (dk_at dksX7_init_1 13 rfl rfl)
theorem dX7_init_38 : decode cX7_init 38 = .ok (.iconst 0, 1) := dk_3 (dk_at dksX7_init_1 14 rfl rfl)
theorem dX7_init_39 : decode cX7_init 39 = .ok (.iload_n 3, 1) := dk_29 (dk_at dksX7_init_1 15 rfl rfl)
theorem dX7_init_40 : decode cX7_init 40 = .ok (.iload_n 3, 1) := dk_29 (dk_at dksX7_init_1 16 rfl rfl)
theorem dX7_init_41 : decode cX7_init 41 = .ok (.imul, 1) := dk_104 (dk_at dksX7_init_1 17 rfl rfl)
theorem dX7_init_42 : decode cX7_init 42 = .ok (.iload 4, 2) := dk_21 4 (dk_at dksX7_init_1 18 rfl rfl)
theorem dX7_init_44 : decode cX7_init 44 = .ok (.iload 4, 2) := dk_21 4 (dk_at dksX7_init_1 20 rfl rfl)
theorem dX7_init_46 : decode cX7_init 46 = .ok (.imul, 1) := dk_104 (dk_at dksX7_init_1 22 rfl rfl)
theorem dX7_init_47 : decode cX7_init 47 = .ok (.iadd, 1) := dk_96 (dk_at dksX7_init_1 23 rfl rfl)
theorem dX7_init_48 : decode cX7_init 48 = .ok (.iload 5, 2) := dk_21 5 (dk_at dksX7_init_2 0 rfl rfl)
theorem dX7_init_50 : decode cX7_init 50 = .ok (.iload 5, 2) := dk_21 5 (dk_at dksX7_init_2 2 rfl rfl)
theorem dX7_init_52 : decode cX7_init 52 = .ok (.imul, 1) := dk_104 (dk_at dksX7_init_2 4 rfl rfl)
theorem dX7_init_53 : decode cX7_init 53 = .ok (.isub, 1) := dk_100 (dk_at dksX7_init_2 5 rfl rfl)
theorem dX7_init_54 : decode cX7_init 54 = .ok (.iload 6, 2) := dk_21 6 (dk_at dksX7_init_2 6 rfl rfl)
theorem dX7_init_56 : decode cX7_init 56 = .ok (.iload 6, 2) := dk_21 6 (dk_at dksX7_init_2 8 rfl rfl)
theorem dX7_init_58 : decode cX7_init 58 = .ok (.imul, 1) := dk_104 (dk_at dksX7_init_2 10 rfl rfl)
theorem dX7_init_59 : decode cX7_init 59 = .ok (.isub, 1) := dk_100 (dk_at dksX7_init_2 11 rfl rfl)
theorem dX7_init_60 : decode cX7_init 60 = .ok (.iastore, 1) := dk_79 (dk_at dksX7_init_2 12 rfl rfl)
theorem dX7_init_61 : decode cX7_init 61 = .ok (.dup, 1) := dk_89 (dk_at dksX7_init_2 13 rfl rfl)
theorem dX7_init_62 : decode cX7_init 62 = .ok (.iconst 1, 1) := dk_4 (dk_at dksX7_init_2 14 rfl rfl)
theorem dX7_init_63 : decode cX7_init 63 = .ok (.iconst 2, 1) := dk_5 (dk_at dksX7_init_2 15 rfl rfl)
theorem dX7_init_64 : decode cX7_init 64 = .ok (.iload 4, 2) := dk_21 4 (dk_at dksX7_init_2 16 rfl rfl)
theorem dX7_init_66 : decode cX7_init 66 = .ok (.iload 5, 2) := dk_21 5 (dk_at dksX7_init_2 18 rfl rfl)
theorem dX7_init_68 : decode cX7_init 68 = .ok (.imul, 1) := dk_104 (dk_at dksX7_init_2 20 rfl rfl)
theorem dX7_init_69 : decode cX7_init 69 = .ok (.iload_n 3, 1) := dk_29 (dk_at dksX7_init_2 21 rfl rfl)
theorem dX7_init_70 : decode cX7_init 70 = .ok (.iload 6, 2) := dk_21 6 (dk_at dksX7_init_2 22 rfl rfl)
theorem dX7_init_72 : decode cX7_init 72 = .ok (.imul, 1) := dk_104 (dk_at dksX7_init_3 0 rfl rfl)
theorem dX7_init_73 : decode cX7_init 73 = .ok (.isub, 1) := dk_100 (dk_at dksX7_init_3 1 rfl rfl)
theorem dX7_init_74 : decode cX7_init 74 = .ok (.imul, 1) := dk_104 (dk_at dksX7_init_3 2 rfl rfl)
theorem dX7_init_75 : decode cX7_init 75 = .ok (.iastore, 1) := dk_79 (dk_at dksX7_init_3 3 rfl rfl)
theorem dX7_init_76 : decode cX7_init 76 = .ok (.dup, 1) := dk_89 (dk_at dksX7_init_3 4 rfl rfl)
theorem dX7_init_77 : decode cX7_init 77 = .ok (.iconst 2, 1) := dk_5 (dk_at dksX7_init_3 5 rfl rfl)
theorem dX7_init_78 : decode cX7_init 78 = .ok (.iconst 2, 1) := dk_5 (dk_at dksX7_init_3 6 rfl rfl)
theorem dX7_init_79 : decode cX7_init 79 = .ok (.iload 4, 2) := dk_21 4 (dk_at dksX7_init_3 7 rfl rfl)
theorem dX7_init_81 : decode cX7_init 81 = .ok (.iload 6, 2) := dk_21 6 (dk_at dksX7_init_3 9 rfl rfl)
theorem dX7_init_83 : decode cX7_init 83 = .ok (.imul, 1) := dk_104 (dk_at dksX7_init_3 11 rfl rfl)
theorem dX7_init_84 : decode cX7_init 84 = .ok (.iload_n 3, 1) := dk_29 (dk_at dksX7_init_3 12 rfl rfl)
theorem dX7_init_85 : decode cX7_init 85 = .ok (.iload 5, 2) := dk_21 5 (dk_at dksX7_init_3 13 rfl rfl)
theorem dX7_init_87 : decode cX7_init 87 = .ok (.imul, 1) := dk_104 (dk_at dksX7_init_3 15 rfl rfl)
theorem dX7_init_88 : decode cX7_init 88 = .ok (.iadd, 1) := dk_96 (dk_at dksX7_init_3 16 rfl rfl)
theorem dX7_init_89 : decode cX7_init 89 = .ok (.imul, 1) := dk_104 (dk_at dksX7_init_3 17 rfl rfl)
theorem dX7_init_90 : decode cX7_init 90 = .ok (.iastore, 1) := dk_79 (dk_at dksX7_init_3 18 rfl rfl)
theorem dX7_init_91 : decode cX7_init 91 = .ok (.aastore, 1) := dk_83 (dk_at dksX7_init_3 19 rfl rfl)
theorem dX7_init_92 : decode cX7_init 92 = .ok (.dup, 1) := dk_89 (dk_at dksX7_init_3 20 rfl rfl)
theorem dX7_init_93 : decode cX7_init 93 = .ok (.iconst 1, 1) := dk_4 (dk_at dksX7_init_3 21 rfl rfl)
theorem dX7_init_94 : decode cX7_init 94 = .ok (.iconst 3, 1) := dk_6 (dk_at dksX7_init_3 22 rfl rfl)
theorem dX7_init_95 : decode cX7_init 95 = .ok (.newarray .int, 2) := dk_188_10 (dk_at dksX7_init_4 0 rfl rfl)
theorem dX7_init_97 : decode cX7_init 97 = .ok (.dup, 1) := dk_89 (dk_at dksX7_init_4 2 rfl rfl)
theorem dX7_init_98 : decode cX7_init 98 = .ok (.iconst 0, 1) := dk_3 (dk_at dksX7_init_4 3 rfl rfl)
theorem dX7_init_99 : decode cX7_init 99 = .ok (.iconst 2, 1) := dk_5 (dk_at dksX7_init_4 4 rfl rfl)
theorem dX7_init_100 : decode cX7_init 100 = .ok (.iload 4, 2) := dk_21 4 (dk_at dksX7_init_4 5 rfl rfl)
theorem dX7_init_102 : decode cX7_init 102 = .ok (.iload 5, 2) := dk_21 5 (dk_at dksX7_init_4 7 rfl rfl)
theorem dX7_init_104 : decode cX7_init 104 = .ok (.imul, 1) := dk_104 (dk_at dksX7_init_4 9 rfl rfl)
theorem dX7_init_105 : decode cX7_init 105 = .ok (.iload_n 3, 1) := dk_29 (dk_at dksX7_init_4 10 rfl rfl)
theorem dX7_init_106 : decode cX7_init 106 = .ok (.iload 6, 2) := dk_21 6 (dk_at dksX7_init_4 11 rfl rfl)
theorem dX7_init_108 : decode cX7_init 108 = .ok (.imul, 1) := dk_104 (dk_at dksX7_init_4 13 rfl rfl)
theorem dX7_init_109 : decode cX7_init 109 = .ok (.iadd, 1) := dk_96 (dk_at dksX7_init_4 14 rfl rfl)
theorem dX7_init_110 : decode cX7_init 110 = .ok (.imul, 1) := dk_104 (dk_at dksX7_init_4 15 rfl rfl)
theorem dX7_init_111 : decode cX7_init 111 = .ok (.iastore, 1) := dk_79 (dk_at dksX7_init_4 16 rfl rfl)
theorem dX7_init_112 : decode cX7_init 112 = .ok (.dup, 1) := dk_89 (dk_at dksX7_init_4 17 rfl rfl)
theorem dX7_init_113 : decode cX7_init 113 = .ok (.iconst 1, 1) := dk_4 (dk_at dksX7_init_4 18 rfl rfl)
theorem dX7_init_114 : decode cX7_init 114 = .ok (.iload_n 3, 1) := dk_29 (dk_at dksX7_init_4 19 rfl rfl)
theorem dX7_init_115 : decode cX7_init 115 = .ok (.iload_n 3, 1) := dk_29 (dk_at dksX7_init_4 20 rfl rfl)
theorem dX7_init_116 : decode cX7_init 116 = .ok (.imul, 1) := dk_104 (dk_at dksX7_init_4 21 rfl rfl)
theorem dX7_init_117 : decode cX7_init 117 = .ok (.iload 4, 2) := dk_21 4 (dk_at dksX7_init_4 22 rfl rfl)
theorem dX7_init_119 : decode cX7_init 119 = .ok (.iload 4, 2) := dk_21 4 (dk_at dksX7_init_5 0 rfl rfl)
theorem dX7_init_121 : decode cX7_init 121 = .ok (.imul, 1) := dk_104 (dk_at dksX7_init_5 2 rfl rfl)
theorem dX7_init_122 : decode cX7_init 122 = .ok (.isub, 1) := dk_100 (dk_at dksX7_init_5 3 rfl rfl)
theorem dX7_init_123 : decode cX7_init 123 = .ok (.iload 5, 2) := dk_21 5 (dk_at dksX7_init_5 4 rfl rfl)
theorem dX7_init_125 : decode cX7_init 125 = .ok (.iload 5, 2) := dk_21 5 (dk_at dksX7_init_5 6 rfl rfl)
theorem dX7_init_127 : decode cX7_init 127 = .ok (.imul, 1) := dk_104 (dk_at dksX7_init_5 8 rfl rfl)
theorem dX7_init_128 : decode cX7_init 128 = .ok (.iadd, 1) := dk_96 (dk_at dksX7_init_5 9 rfl rfl)
theorem dX7_init_129 : decode cX7_init 129 = .ok (.iload 6, 2) := dk_21 6 (dk_at dksX7_init_5 10 rfl rfl)
theorem dX7_init_131 : decode cX7_init 131 = .ok (.iload 6, 2) := dk_21 6 (dk_at dksX7_init_5 12 rfl rfl)
theorem dX7_init_133 : decode cX7_init 133 = .ok (.imul, 1) := dk_104 (dk_at dksX7_init_5 14 rfl rfl)
theorem dX7_init_134 : decode cX7_init 134 = .ok (.isub, 1) := dk_100 (dk_at dksX7_init_5 15 rfl rfl)
theorem dX7_init_135 : decode cX7_init 135 = .ok (.iastore, 1) := dk_79 (dk_at dksX7_init_5 16 rfl rfl)
theorem dX7_init_136 : decode cX7_init 136 = .ok (.dup, 1) := dk_89 (dk_at dksX7_init_5 17 rfl rfl)
theorem dX7_init_137 : decode cX7_init 137 = .ok (.iconst 2, 1) := dk_5 (dk_at dksX7_init_5 18 rfl rfl)
theorem dX7_init_138 : decode cX7_init 138 = .ok (.iconst 2, 1) := dk_5 (dk_at dksX7_init_5 19 rfl rfl)
theorem dX7_init_139 : decode cX7_init 139 = .ok (.iload 5, 2) := dk_21 5 (dk_at dksX7_init_5 20 rfl rfl)
theorem dX7_init_141 : decode cX7_init 141 = .ok (.iload 6, 2) := dk_21 6 (dk_at dksX7_init_5 22 rfl rfl)
theorem dX7_init_143 : decode cX7_init 143 = .ok (.imul, 1) := dk_104 (dk_at dksX7_init_6 0 rfl rfl)
theorem dX7_init_144 : decode cX7_init 144 = .ok (.iload_n 3, 1) := dk_29 (dk_at dksX7_init_6 1 rfl rfl)
theorem dX7_init_145 : decode cX7_init 145 = .ok (.iload 4, 2) := dk_21 4 (dk_at dksX7_init_6 2 rfl rfl)
theorem dX7_init_147 : decode cX7_init 147 = .ok (.imul, 1) := dk_104 (dk_at dksX7_init_6 4 rfl rfl)
theorem dX7_init_148 : decode cX7_init 148 = .ok (.isub, 1) := dk_100 (dk_at dksX7_init_6 5 rfl rfl)
theorem dX7_init_149 : decode cX7_init 149 = .ok (.imul, 1) := dk_104 (dk_at dksX7_init_6 6 rfl rfl)
theorem dX7_init_150 : decode cX7_init 150 = .ok (.iastore, 1) := dk_79 (dk_at dksX7_init_6 7 rfl rfl)
theorem dX7_init_151 : decode cX7_init 151 = .ok (.aastore, 1) := dk_83 (dk_at dksX7_init_6 8 rfl rfl)
theorem dX7_init_152 : decode cX7_init 152 = .ok (.dup, 1) := dk_89 (dk_at dksX7_init_6 9 rfl rfl)
theorem dX7_init_153 : decode cX7_init 153 = .ok (.iconst 2, 1) := dk_5 (dk_at dksX7_init_6 10 rfl rfl)
theorem dX7_init_154 : decode cX7_init 154 = .ok (.iconst 3, 1) := dk_6 (dk_at dksX7_init_6 11 rfl rfl)
theorem dX7_init_155 : decode cX7_init 155 = .ok (.newarray .int, 2) := dk_188_10 (dk_at dksX7_init_6 12 rfl rfl)
theorem dX7_init_157 : decode cX7_init 157 = .ok (.dup, 1) := dk_89 (dk_at dksX7_init_6 14 rfl rfl)
theorem dX7_init_158 : decode cX7_init 158 = .ok (.iconst 0, 1) := dk_3 (dk_at dksX7_init_6 15 rfl rfl)
theorem dX7_init_159 : decode cX7_init 159 = .ok (.iconst 2, 1) := dk_5 (dk_at dksX7_init_6 16 rfl rfl)
theorem dX7_init_160 : decode cX7_init 160 = .ok (.iload 4, 2) := dk_21 4 (dk_at dksX7_init_6 17 rfl rfl)
theorem dX7_init_162 : decode cX7_init 162 = .ok (.iload 6, 2) := dk_21 6 (dk_at dksX7_init_6 19 rfl rfl)
theorem dX7_init_164 : decode cX7_init 164 = .ok (.imul, 1) := dk_104 (dk_at dksX7_init_6 21 rfl rfl)
theorem dX7_init_165 : decode cX7_init 165 = .ok (.iload_n 3, 1) := dk_29 (dk_at dksX7_init_6 22 rfl rfl)
theorem dX7_init_166 : decode cX7_init 166 = .ok (.iload 5, 2) := dk_21 5 (dk_at dksX7_init_7 0 rfl rfl)
theorem dX7_init_168 : decode cX7_init 168 = .ok (.imul, 1) := dk_104 (dk_at dksX7_init_7 2 rfl rfl)
theorem dX7_init_169 : decode cX7_init 169 = .ok (.isub, 1) := dk_100 (dk_at dksX7_init_7 3 rfl rfl)
theorem dX7_init_170 : decode cX7_init 170 = .ok (.imul, 1) := dk_104 (dk_at dksX7_init_7 4 rfl rfl)
theorem dX7_init_171 : decode cX7_init 171 = .ok (.iastore, 1) := dk_79 (dk_at dksX7_init_7 5 rfl rfl)
theorem dX7_init_172 : decode cX7_init 172 = .ok (.dup, 1) := dk_89 (dk_at dksX7_init_7 6 rfl rfl)
theorem dX7_init_173 : decode cX7_init 173 = .ok (.iconst 1, 1) := dk_4 (dk_at dksX7_init_7 7 rfl rfl)
theorem dX7_init_174 : decode cX7_init 174 = .ok (.iconst 2, 1) := dk_5 (dk_at dksX7_init_7 8 rfl rfl)
theorem dX7_init_175 : decode cX7_init 175 = .ok (.iload 5, 2) := dk_21 5 (dk_at dksX7_init_7 9 rfl rfl)
theorem dX7_init_177 : decode cX7_init 177 = .ok (.iload 6, 2) := dk_21 6 (dk_at dksX7_init_7 11 rfl rfl)
theorem dX7_init_179 : decode cX7_init 179 = .ok (.imul, 1) := dk_104 (dk_at dksX7_init_7 13 rfl rfl)
theorem dX7_init_180 : decode cX7_init 180 = .ok (.iload_n 3, 1) := dk_29 (dk_at dksX7_init_7 14 rfl rfl)
theorem dX7_init_181 : decode cX7_init 181 = .ok (.iload 4, 2) := dk_21 4 (dk_at dksX7_init_7 15 rfl rfl)
theorem dX7_init_183 : decode cX7_init 183 = .ok (.imul, 1) := dk_104 (dk_at dksX7_init_7 17 rfl rfl)
theorem dX7_init_184 : decode cX7_init 184 = .ok (.iadd, 1) := dk_96 (dk_at dksX7_init_7 18 rfl rfl)
theorem dX7_init_185 : decode cX7_init 185 = .ok (.imul, 1) := dk_104 (dk_at dksX7_init_7 19 rfl rfl)
theorem dX7_init_186 : decode cX7_init 186 = .ok (.iastore, 1) := dk_79 (dk_at dksX7_init_7 20 rfl rfl)
theorem dX7_init_187 : decode cX7_init 187 = .ok (.dup, 1) := dk_89 (dk_at dksX7_init_7 21 rfl rfl)
theorem dX7_init_188 : decode cX7_init 188 = .ok (.iconst 2, 1) := dk_5 (dk_at dksX7_init_7 22 rfl rfl)
theorem dX7_init_189 : decode cX7_init 189 = .ok (.iload_n 3, 1) := dk_29 (dk_at dksX7_init_7 23 rfl rfl)
theorem dX7_init_190 : decode cX7_init 190 = .ok (.iload_n 3, 1) := dk_29 (dk_at dksX7_init_8 0 rfl rfl)
theorem dX7_init_191 : decode cX7_init 191 = .ok (.imul, 1) := dk_104 (dk_at dksX7_init_8 1 rfl rfl)
theorem dX7_init_192 : decode cX7_init 192 = .ok (.iload 4, 2) := dk_21 4 (dk_at dksX7_init_8 2 rfl rfl)
theorem dX7_init_194 : decode cX7_init 194 = .ok (.iload 4, 2) := dk_21 4 (dk_at dksX7_init_8 4 rfl rfl)
theorem dX7_init_196 : decode cX7_init 196 = .ok (.imul, 1) := dk_104 (dk_at dksX7_init_8 6 rfl rfl)
theorem dX7_init_197 : decode cX7_init 197 = .ok (.isub, 1) := dk_100 (dk_at dksX7_init_8 7 rfl rfl)
theorem dX7_init_198 : decode cX7_init 198 = .ok (.iload 5, 2) := dk_21 5 (dk_at dksX7_init_8 8 rfl rfl)
theorem dX7_init_200 : decode cX7_init 200 = .ok (.iload 5, 2) := dk_21 5 (dk_at dksX7_init_8 10 rfl rfl)
theorem dX7_init_202 : decode cX7_init 202 = .ok (.imul, 1) := dk_104 (dk_at dksX7_init_8 12 rfl rfl)
theorem dX7_init_203 : decode cX7_init 203 = .ok (.isub, 1) := dk_100 (dk_at dksX7_init_8 13 rfl rfl)
theorem dX7_init_204 : decode cX7_init 204 = .ok (.iload 6, 2) := dk_21 6 (dk_at dksX7_init_8 14 rfl rfl)
theorem dX7_init_206 : decode cX7_init 206 = .ok (.iload 6, 2) := dk_21 6 (dk_at dksX7_init_8 16 rfl rfl)
theorem dX7_init_208 : decode cX7_init 208 = .ok (.imul, 1) := dk_104 (dk_at dksX7_init_8 18 rfl rfl)
theorem dX7_init_209 : decode cX7_init 209 = .ok (.iadd, 1) := dk_96 (dk_at dksX7_init_8 19 rfl rfl)
theorem dX7_init_210 : decode cX7_init 210 = .ok (.iastore, 1) := dk_79 (dk_at dksX7_init_8 20 rfl rfl)
theorem dX7_init_211 : decode cX7_init 211 = .ok (.aastore, 1) := dk_83 (dk_at dksX7_init_8 21 rfl rfl)
theorem dX7_init_212 : decode cX7_init 212 = .ok (.astore 7, 2) := dk_58 7 (dk_at dksX7_init_8 22 rfl rfl)
theorem dX7_init_214 : decode cX7_init 214 = .ok (.aload_n 0, 1) := dk_42 (dk_at dksX7_init_9 0 rfl rfl)
theorem dX7_init_215 : decode cX7_init 215 = .ok (.new 17, 3) := dk_187 0 17 (dk_at dksX7_init_9 1 rfl rfl)
theorem dX7_init_218 : decode cX7_init 218 = .ok (.dup, 1) := dk_89 (dk_at dksX7_init_9 4 rfl rfl)
theorem dX7_init_219 : decode cX7_init 219 = .ok (.invokespecial 19, 3) := dk_183 0 19 (dk_at dksX7_init_9 5 rfl rfl)
theorem dX7_init_222 : decode cX7_init 222 = .ok (.putfield 20, 3) := dk_181 0 20 (dk_at dksX7_init_9 8 rfl rfl)
theorem dX7_init_225 : decode cX7_init 225 = .ok (.iconst 0, 1) := dk_3 (dk_at dksX7_init_9 11 rfl rfl)
theorem dX7_init_226 : decode cX7_init 226 = .ok (.istore 8, 2) := dk_54 8 (dk_at dksX7_init_9 12 rfl rfl)
theorem dX7_init_228 : decode cX7_init 228 = .ok (.iload 8, 2) := dk_21 8 (dk_at dksX7_init_9 14 rfl rfl)
theorem dX7_init_230 : decode cX7_init 230 = .ok (.iconst 3, 1) := dk_6 (dk_at dksX7_init_9 16 rfl rfl)
theorem dX7_init_231 : decode cX7_init 231 = .ok (.if_icmp .ge 46, 3) := dk_162 0 46 (dk_at dksX7_init_9 17 rfl rfl)
theorem dX7_init_234 : decode cX7_init 234 = .ok (.iconst 0, 1) := dk_3 (dk_at dksX7_init_9 20 rfl rfl)
theorem dX7_init_235 : decode cX7_init 235 = .ok (.istore 9, 2) := dk_54 9 (dk_at dksX7_init_9 21 rfl rfl)
theorem dX7_init_237 : decode cX7_init 237 = .ok (.iload 9, 2) := dk_21 9 (dk_at dksX7_init_10 0 rfl rfl)
theorem dX7_init_239 : decode cX7_init 239 = .ok (.iconst 3, 1) := dk_6 (dk_at dksX7_init_10 2 rfl rfl)
theorem dX7_init_240 : decode cX7_init 240 = .ok (.if_icmp .ge 31, 3) := dk_162 0 31 (dk_at dksX7_init_10 3 rfl rfl)
theorem dX7_init_243 : decode cX7_init 243 = .ok (.aload_n 0, 1) := dk_42 (dk_at dksX7_init_10 6 rfl rfl)
theorem dX7_init_244 : decode cX7_init 244 = .ok (.getfield 20, 3) := dk_180 0 20 (dk_at dksX7_init_10 7 rfl rfl)
theorem dX7_init_247 : decode cX7_init 247 = .ok (.getfield 24, 3) := dk_180 0 24 (dk_at dksX7_init_10 10 rfl rfl)
theorem dX7_init_250 : decode cX7_init 250 = .ok (.iload 9, 2) := dk_21 9 (dk_at dksX7_init_10 13 rfl rfl)
theorem dX7_init_252 : decode cX7_init 252 = .ok (.aaload, 1) := dk_50 (dk_at dksX7_init_10 15 rfl rfl)
theorem dX7_init_253 : decode cX7_init 253 = .ok (.iload 8, 2) := dk_21 8 (dk_at dksX7_init_10 16 rfl rfl)
theorem dX7_init_255 : decode cX7_init 255 = .ok (.aload 7, 2) := dk_25 7 (dk_at dksX7_init_10 18 rfl rfl)
theorem dX7_init_257 : decode cX7_init 257 = .ok (.iload 8, 2) := dk_21 8 (dk_at dksX7_init_10 20 rfl rfl)
theorem dX7_init_259 : decode cX7_init 259 = .ok (.aaload, 1) := dk_50 (dk_at dksX7_init_10 22 rfl rfl)
theorem dX7_init_260 : decode cX7_init 260 = .ok (.iload 9, 2) := dk_21 9 (dk_at dksX7_init_11 0 rfl rfl)
theorem dX7_init_262 : decode cX7_init 262 = .ok (.iaload, 1) := dk_46 (dk_at dksX7_init_11 2 rfl rfl)
theorem dX7_init_263 : decode cX7_init 263 = .ok (.i2l, 1) := dk_133 (dk_at dksX7_init_11 3 rfl rfl)
theorem dX7_init_264 : decode cX7_init 264 = .ok (.lastore, 1) := dk_80 (dk_at dksX7_init_11 4 rfl rfl)
theorem dX7_init_265 : decode cX7_init 265 = .ok (.iinc 9 1, 3) := dk_132 9 1 (dk_at dksX7_init_11 5 rfl rfl)
theorem dX7_init_268 : decode cX7_init 268 = .ok (.goto (-31), 3) := dk_167 255 225 (dk_at dksX7_init_11 8 rfl rfl)
theorem dX7_init_271 : decode cX7_init 271 = .ok (.iinc 8 1, 3) := dk_132 8 1 (dk_at dksX7_init_11 11 rfl rfl)
theorem dX7_init_274 : decode cX7_init 274 = .ok (.goto (-46), 3) := dk_167 255 210 (dk_at dksX7_init_11 14 rfl rfl)
theorem dX7_init_277 : decode cX7_init 277 = .ok (.aload_n 0, 1) := dk_42 (dk_at dksX7_init_11 17 rfl rfl)
theorem dX7_init_278 : decode cX7_init 278 = .ok (.iload_n 3, 1) := dk_29 (dk_at dksX7_init_11 18 rfl rfl)
theorem dX7_init_279 : decode cX7_init 279 = .ok (.iload_n 3, 1) := dk_29 (dk_at dksX7_init_11 19 rfl rfl)
theorem dX7_init_280 : decode cX7_init 280 = .ok (.imul, 1) := dk_104 (dk_at dksX7_init_11 20 rfl rfl)
theorem dX7_init_281 : decode cX7_init 281 = .ok (.iload 4, 2) := dk_21 4 (dk_at dksX7_init_11 21 rfl rfl)
theorem dX7_init_283 : decode cX7_init 283 = .ok (.iload 4, 2) := dk_21 4 (dk_at dksX7_init_12 0 rfl rfl)
theorem dX7_init_285 : decode cX7_init 285 = .ok (.imul, 1) := dk_104 (dk_at dksX7_init_12 2 rfl rfl)
theorem dX7_init_286 : decode cX7_init 286 = .ok (.iadd, 1) := dk_96 (dk_at dksX7_init_12 3 rfl rfl)
theorem dX7_init_287 : decode cX7_init 287 = .ok (.iload 5, 2) := dk_21 5 (dk_at dksX7_init_12 4 rfl rfl)
theorem dX7_init_289 : decode cX7_init 289 = .ok (.iload 5, 2) := dk_21 5 (dk_at dksX7_init_12 6 rfl rfl)
theorem dX7_init_291 : decode cX7_init 291 = .ok (.imul, 1) := dk_104 (dk_at dksX7_init_12 8 rfl rfl)
theorem dX7_init_292 : decode cX7_init 292 = .ok (.iadd, 1) := dk_96 (dk_at dksX7_init_12 9 rfl rfl)
theorem dX7_init_293 : decode cX7_init 293 = .ok (.iload 6, 2) := dk_21 6 (dk_at dksX7_init_12 10 rfl rfl)
theorem dX7_init_295 : decode cX7_init 295 = .ok (.iload 6, 2) := dk_21 6 (dk_at dksX7_init_12 12 rfl rfl)
theorem dX7_init_297 : decode cX7_init 297 = .ok (.imul, 1) := dk_104 (dk_at dksX7_init_12 14 rfl rfl)
theorem dX7_init_298 : decode cX7_init 298 = .ok (.iadd, 1) := dk_96 (dk_at dksX7_init_12 15 rfl rfl)
theorem dX7_init_299 : decode cX7_init 299 = .ok (.i2l, 1) := dk_133 (dk_at dksX7_init_12 16 rfl rfl)
theorem dX7_init_300 : decode cX7_init 300 = .ok (.putfield 28, 3) := dk_181 0 28 (dk_at dksX7_init_12 17 rfl rfl)
theorem dX7_init_303 : decode cX7_init 303 = .ok (.aload_n 0, 1) := dk_42 (dk_at dksX7_init_12 20 rfl rfl)
theorem dX7_init_304 : decode cX7_init 304 = .ok (.iload_n 3, 1) := dk_29 (dk_at dksX7_init_12 21 rfl rfl)
theorem dX7_init_305 : decode cX7_init 305 = .ok (.iload_n 3, 1) := dk_29 (dk_at dksX7_init_12 22 rfl rfl)
theorem dX7_init_306 : decode cX7_init 306 = .ok (.imul, 1) := dk_104 (dk_at dksX7_init_12 23 rfl rfl)
theorem dX7_init_307 : decode cX7_init 307 = .ok (.iload 4, 2) := dk_21 4 (dk_at dksX7_init_13 0 rfl rfl)
theorem dX7_init_309 : decode cX7_init 309 = .ok (.iload 4, 2) := dk_21 4 (dk_at dksX7_init_13 2 rfl rfl)
theorem dX7_init_311 : decode cX7_init 311 = .ok (.imul, 1) := dk_104 (dk_at dksX7_init_13 4 rfl rfl)
theorem dX7_init_312 : decode cX7_init 312 = .ok (.isub, 1) := dk_100 (dk_at dksX7_init_13 5 rfl rfl)
theorem dX7_init_313 : decode cX7_init 313 = .ok (.iload 5, 2) := dk_21 5 (dk_at dksX7_init_13 6 rfl rfl)
theorem dX7_init_315 : decode cX7_init 315 = .ok (.iload 5, 2) := dk_21 5 (dk_at dksX7_init_13 8 rfl rfl)
theorem dX7_init_317 : decode cX7_init 317 = .ok (.imul, 1) := dk_104 (dk_at dksX7_init_13 10 rfl rfl)
theorem dX7_init_318 : decode cX7_init 318 = .ok (.isub, 1) := dk_100 (dk_at dksX7_init_13 11 rfl rfl)
theorem dX7_init_319 : decode cX7_init 319 = .ok (.iload 6, 2) := dk_21 6 (dk_at dksX7_init_13 12 rfl rfl)
theorem dX7_init_321 : decode cX7_init 321 = .ok (.iload 6, 2) := dk_21 6 (dk_at dksX7_init_13 14 rfl rfl)
theorem dX7_init_323 : decode cX7_init 323 = .ok (.imul, 1) := dk_104 (dk_at dksX7_init_13 16 rfl rfl)
theorem dX7_init_324 : decode cX7_init 324 = .ok (.isub, 1) := dk_100 (dk_at dksX7_init_13 17 rfl rfl)
theorem dX7_init_325 : decode cX7_init 325 = .ok (.i2l, 1) := dk_133 (dk_at dksX7_init_13 18 rfl rfl)
theorem dX7_init_326 : decode cX7_init 326 = .ok (.putfield 32, 3) := dk_181 0 32 (dk_at dksX7_init_13 19 rfl rfl)
theorem dX7_init_329 : decode cX7_init 329 = .ok (.return_, 1) := dk_177 (dk_at dksX7_init_13 22 rfl rfl)
abbrev cX7_rows : ByteArray := prog_18_method_4_code
def yX7_rows : MethodName := ⟨RX7, "rows", "()LCoincideBench$Rows;"⟩
def dkwX7_rows_0 : List UInt8 := [42, 182, 0, 43, 42, 182, 0, 54, 182, 0, 57, 176]
abbrev dktX7_rows_0 : List UInt8 := dkwX7_rows_0 ++ []
theorem dksX7_rows_0 : cX7_rows.data.toList.drop 0 = dktX7_rows_0 := by decide +kernel
theorem dX7_rows_0 : decode cX7_rows 0 = .ok (.aload_n 0, 1) := dk_42 (dk_at dksX7_rows_0 0 rfl rfl)
theorem dX7_rows_1 : decode cX7_rows 1 = .ok (.invokevirtual 43, 3) := dk_182 0 43 (dk_at dksX7_rows_0 1 rfl rfl)
theorem dX7_rows_4 : decode cX7_rows 4 = .ok (.aload_n 0, 1) := dk_42 (dk_at dksX7_rows_0 4 rfl rfl)
theorem dX7_rows_5 : decode cX7_rows 5 = .ok (.invokevirtual 54, 3) := dk_182 0 54 (dk_at dksX7_rows_0 5 rfl rfl)
theorem dX7_rows_8 : decode cX7_rows 8 = .ok (.invokevirtual 57, 3) := dk_182 0 57 (dk_at dksX7_rows_0 8 rfl rfl)
theorem dX7_rows_11 : decode cX7_rows 11 = .ok (.areturn, 1) := dk_176 (dk_at dksX7_rows_0 11 rfl rfl)
abbrev cX7_whole : ByteArray := prog_18_method_2_code
def yX7_whole : MethodName := ⟨RX7, "whole", "()LCoincideBench$Rows;"⟩
def dkwX7_whole_0 : List UInt8 := [42, 180, 0, 9, 182, 0, 35, 42, 180, 0, 20, 182, 0, 39, 176]
abbrev dktX7_whole_0 : List UInt8 := dkwX7_whole_0 ++ []
theorem dksX7_whole_0 : cX7_whole.data.toList.drop 0 = dktX7_whole_0 := by decide +kernel
theorem dX7_whole_0 : decode cX7_whole 0 = .ok (.aload_n 0, 1) := dk_42 (dk_at dksX7_whole_0 0 rfl rfl)
theorem dX7_whole_1 : decode cX7_whole 1 = .ok (.getfield 9, 3) := dk_180 0 9 (dk_at dksX7_whole_0 1 rfl rfl)
theorem dX7_whole_4 : decode cX7_whole 4 = .ok (.invokevirtual 35, 3) := dk_182 0 35 (dk_at dksX7_whole_0 4 rfl rfl)
theorem dX7_whole_7 : decode cX7_whole 7 = .ok (.aload_n 0, 1) := dk_42 (dk_at dksX7_whole_0 7 rfl rfl)
theorem dX7_whole_8 : decode cX7_whole 8 = .ok (.getfield 20, 3) := dk_180 0 20 (dk_at dksX7_whole_0 8 rfl rfl)
theorem dX7_whole_11 : decode cX7_whole 11 = .ok (.invokevirtual 39, 3) := dk_182 0 39 (dk_at dksX7_whole_0 11 rfl rfl)
theorem dX7_whole_14 : decode cX7_whole 14 = .ok (.areturn, 1) := dk_176 (dk_at dksX7_whole_0 14 rfl rfl)
abbrev cX7_part : ByteArray := prog_18_method_3_code
def yX7_part : MethodName := ⟨RX7, "part", "()J"⟩
def dkwX7_part_0 : List UInt8 := [42, 182, 0, 43, 182, 0, 46, 42, 180, 0, 28, 184, 0, 50, 173]
abbrev dktX7_part_0 : List UInt8 := dkwX7_part_0 ++ []
theorem dksX7_part_0 : cX7_part.data.toList.drop 0 = dktX7_part_0 := by decide +kernel
theorem dX7_part_0 : decode cX7_part 0 = .ok (.aload_n 0, 1) := dk_42 (dk_at dksX7_part_0 0 rfl rfl)
theorem dX7_part_1 : decode cX7_part 1 = .ok (.invokevirtual 43, 3) := dk_182 0 43 (dk_at dksX7_part_0 1 rfl rfl)
theorem dX7_part_4 : decode cX7_part 4 = .ok (.invokevirtual 46, 3) := dk_182 0 46 (dk_at dksX7_part_0 4 rfl rfl)
theorem dX7_part_7 : decode cX7_part 7 = .ok (.aload_n 0, 1) := dk_42 (dk_at dksX7_part_0 7 rfl rfl)
theorem dX7_part_8 : decode cX7_part 8 = .ok (.getfield 28, 3) := dk_180 0 28 (dk_at dksX7_part_0 8 rfl rfl)
theorem dX7_part_11 : decode cX7_part 11 = .ok (.invokestatic 50, 3) := dk_184 0 50 (dk_at dksX7_part_0 11 rfl rfl)
theorem dX7_part_14 : decode cX7_part 14 = .ok (.lreturn, 1) := dk_173 (dk_at dksX7_part_0 14 rfl rfl)
abbrev cX7_over : ByteArray := prog_18_method_5_code
def yX7_over : MethodName := ⟨RX7, "over", "()J"⟩
def dkwX7_over_0 : List UInt8 := [42, 180, 0, 28, 42, 182, 0, 54, 109, 173]
abbrev dktX7_over_0 : List UInt8 := dkwX7_over_0 ++ []
theorem dksX7_over_0 : cX7_over.data.toList.drop 0 = dktX7_over_0 := by decide +kernel
theorem dX7_over_0 : decode cX7_over 0 = .ok (.aload_n 0, 1) := dk_42 (dk_at dksX7_over_0 0 rfl rfl)
theorem dX7_over_1 : decode cX7_over 1 = .ok (.getfield 28, 3) := dk_180 0 28 (dk_at dksX7_over_0 1 rfl rfl)
theorem dX7_over_4 : decode cX7_over 4 = .ok (.aload_n 0, 1) := dk_42 (dk_at dksX7_over_0 4 rfl rfl)
theorem dX7_over_5 : decode cX7_over 5 = .ok (.invokevirtual 54, 3) := dk_182 0 54 (dk_at dksX7_over_0 5 rfl rfl)
theorem dX7_over_8 : decode cX7_over 8 = .ok (.ldiv, 1) := dk_109 (dk_at dksX7_over_0 8 rfl rfl)
theorem dX7_over_9 : decode cX7_over 9 = .ok (.lreturn, 1) := dk_173 (dk_at dksX7_over_0 9 rfl rfl)
theorem q144 : (Jvm.Cond.initialized "CoincideBench$Turned") ∈ lw_all := lw_g (lw_at lw_m1 26 rfl) rfl
theorem q206 : (Jvm.Cond.fieldLinkNest "CoincideBench$Turned" (24 : Nat) "CoincideBench$Rows" "at" "[[J" "CoincideBench") ∈ lw_tbl := lw_at lw_m1 88 rfl
theorem q707 : (Jvm.Cond.selects "CoincideBench$Turned" ({ cls := "java/lang/Object", name := "equals", desc := "(Ljava/lang/Object;)Z" } : Jvm.MethodName) ({ cls := "java/lang/Object", name := "equals", desc := "(Ljava/lang/Object;)Z" } : Jvm.MethodName)) ∈ lw_all := lw_g (lw_at lw_m3 109 rfl) rfl
theorem q738 : (Jvm.Cond.selects "CoincideBench$Turned" ({ cls := "CoincideBench$Lattice", name := "isTurned", desc := "()Z" } : Jvm.MethodName) ({ cls := "CoincideBench$Turned", name := "isTurned", desc := "()Z" } : Jvm.MethodName)) ∈ lw_all := lw_g (lw_at lw_m3 140 rfl) rfl
theorem q739 : (Jvm.Cond.instanceMethod ({ cls := "CoincideBench$Turned", name := "isTurned", desc := "()Z" } : Jvm.MethodName)) ∈ lw_all := lw_g (lw_at lw_m3 141 rfl) rfl
theorem q740 : (Jvm.Cond.code ({ cls := "CoincideBench$Turned", name := "isTurned", desc := "()Z" } : Jvm.MethodName) prog_18_method_6_code (1 : Nat) (Option.some Jvm.ClassFile.FieldType.boolean)) ∈ lw_all := lw_g (lw_at lw_m3 142 rfl) rfl
theorem q747 : (Jvm.Cond.instantiable "CoincideBench$Turned" (5 : Nat)) ∈ lw_all := lw_g (lw_at lw_m3 149 rfl) rfl
theorem q749 : (Jvm.Cond.instanceMethod ({ cls := "CoincideBench$Turned", name := "<init>", desc := "(LCoincideBench$Lattice;[I)V" } : Jvm.MethodName)) ∈ lw_all := lw_g (lw_at lw_m3 151 rfl) rfl
theorem q750 : (Jvm.Cond.code ({ cls := "CoincideBench$Turned", name := "<init>", desc := "(LCoincideBench$Lattice;[I)V" } : Jvm.MethodName) prog_18_method_1_code (10 : Nat) (Option.none : Option Jvm.ClassFile.FieldType)) ∈ lw_all := lw_g (lw_at lw_m3 152 rfl) rfl
theorem q751 : (Jvm.Cond.methodLinkNest "CoincideBench$Turned" (3 : Nat) ({ cls := "CoincideBench$Lattice", name := "<init>", desc := "()V" } : Jvm.MethodName) "CoincideBench") ∈ lw_tbl := lw_at lw_m3 153 rfl
theorem q757 : (Jvm.Cond.classLink "CoincideBench$Turned" (15 : Nat) "[I") ∈ lw_all := lw_g (lw_at lw_m3 159 rfl) rfl
theorem q758 : (Jvm.Cond.classLink "CoincideBench$Turned" (17 : Nat) "CoincideBench$Rows") ∈ lw_all := lw_g (lw_at lw_m3 160 rfl) rfl
theorem q759 : (Jvm.Cond.methodLinkNest "CoincideBench$Turned" (19 : Nat) ({ cls := "CoincideBench$Rows", name := "<init>", desc := "()V" } : Jvm.MethodName) "CoincideBench") ∈ lw_tbl := lw_at lw_m3 161 rfl
theorem q760 : (Jvm.Cond.fieldLink "CoincideBench$Turned" (9 : Nat) "CoincideBench$Turned" "of" "LCoincideBench$Lattice;") ∈ lw_all := lw_g (lw_at lw_m3 162 rfl) rfl
theorem q761 : (Jvm.Cond.fieldLink "CoincideBench$Turned" (20 : Nat) "CoincideBench$Turned" "turn" "LCoincideBench$Rows;") ∈ lw_all := lw_g (lw_at lw_m3 163 rfl) rfl
theorem q762 : (Jvm.Cond.fieldLink "CoincideBench$Turned" (28 : Nat) "CoincideBench$Turned" "over" "J") ∈ lw_all := lw_g (lw_at lw_m3 164 rfl) rfl
theorem q764 : (Jvm.Cond.fieldLink "CoincideBench$Turned" (32 : Nat) "CoincideBench$Turned" "upon" "J") ∈ lw_all := lw_g (lw_at lw_m3 166 rfl) rfl
theorem q769 : (Jvm.Cond.laysFinal "CoincideBench$Turned" "CoincideBench$Turned" "of" "LCoincideBench$Lattice;") ∈ lw_all := lw_g (lw_at lw_m3 171 rfl) rfl
theorem q770 : (Jvm.Cond.soleField "CoincideBench$Turned" "of") ∈ lw_all := lw_g (lw_at lw_m3 172 rfl) rfl
theorem q771 : (Jvm.Cond.laysFinal "CoincideBench$Turned" "CoincideBench$Turned" "turn" "LCoincideBench$Rows;") ∈ lw_all := lw_g (lw_at lw_m3 173 rfl) rfl
theorem q772 : (Jvm.Cond.soleField "CoincideBench$Turned" "turn") ∈ lw_all := lw_g (lw_at lw_m3 174 rfl) rfl
theorem q773 : (Jvm.Cond.laysFinal "CoincideBench$Turned" "CoincideBench$Turned" "over" "J") ∈ lw_all := lw_g (lw_at lw_m3 175 rfl) rfl
theorem q774 : (Jvm.Cond.soleField "CoincideBench$Turned" "over") ∈ lw_all := lw_g (lw_at lw_m3 176 rfl) rfl
theorem q775 : (Jvm.Cond.laysFinal "CoincideBench$Turned" "CoincideBench$Turned" "upon" "J") ∈ lw_all := lw_g (lw_at lw_m3 177 rfl) rfl
theorem q776 : (Jvm.Cond.soleField "CoincideBench$Turned" "upon") ∈ lw_all := lw_g (lw_at lw_m3 178 rfl) rfl
theorem q777 : (Jvm.Cond.lays "CoincideBench$Turned" "CoincideBench$Lattice" "rows" "LCoincideBench$Rows;") ∈ lw_all := lw_g (lw_at lw_m3 179 rfl) rfl
theorem q779 : (Jvm.Cond.superclass "CoincideBench$Turned" "CoincideBench$Lattice") ∈ lw_all := lw_g (lw_at lw_m3 181 rfl) rfl
theorem q841 : (Jvm.Cond.selects "CoincideBench$Turned" ({ cls := "java/lang/Object", name := "getClass", desc := "()Ljava/lang/Class;" } : Jvm.MethodName) ({ cls := "java/lang/Object", name := "getClass", desc := "()Ljava/lang/Class;" } : Jvm.MethodName)) ∈ lw_all := lw_g (lw_at lw_m4 3 rfl) rfl
theorem q908 : (Jvm.Cond.selects "CoincideBench$Turned" ({ cls := "CoincideBench$Lattice", name := "rows", desc := "()LCoincideBench$Rows;" } : Jvm.MethodName) ({ cls := "CoincideBench$Turned", name := "rows", desc := "()LCoincideBench$Rows;" } : Jvm.MethodName)) ∈ lw_all := lw_g (lw_at lw_m4 70 rfl) rfl
theorem q909 : (Jvm.Cond.instanceMethod ({ cls := "CoincideBench$Turned", name := "rows", desc := "()LCoincideBench$Rows;" } : Jvm.MethodName)) ∈ lw_all := lw_g (lw_at lw_m4 71 rfl) rfl
theorem q910 : (Jvm.Cond.code ({ cls := "CoincideBench$Turned", name := "rows", desc := "()LCoincideBench$Rows;" } : Jvm.MethodName) prog_18_method_4_code (1 : Nat) (Option.some (Jvm.ClassFile.FieldType.object "CoincideBench$Rows"))) ∈ lw_all := lw_g (lw_at lw_m4 72 rfl) rfl
theorem q911 : (Jvm.Cond.methodLink "CoincideBench$Turned" (43 : Nat) ({ cls := "CoincideBench$Turned", name := "whole", desc := "()LCoincideBench$Rows;" } : Jvm.MethodName)) ∈ lw_all := lw_g (lw_at lw_m4 73 rfl) rfl
theorem q912 : (Jvm.Cond.privateMethod ({ cls := "CoincideBench$Turned", name := "whole", desc := "()LCoincideBench$Rows;" } : Jvm.MethodName)) ∈ lw_tbl := lw_at lw_m4 74 rfl
theorem q913 : (Jvm.Cond.instanceMethod ({ cls := "CoincideBench$Turned", name := "whole", desc := "()LCoincideBench$Rows;" } : Jvm.MethodName)) ∈ lw_all := lw_g (lw_at lw_m4 75 rfl) rfl
theorem q914 : (Jvm.Cond.code ({ cls := "CoincideBench$Turned", name := "whole", desc := "()LCoincideBench$Rows;" } : Jvm.MethodName) prog_18_method_2_code (1 : Nat) (Option.some (Jvm.ClassFile.FieldType.object "CoincideBench$Rows"))) ∈ lw_all := lw_g (lw_at lw_m4 76 rfl) rfl
theorem q915 : (Jvm.Cond.methodLink "CoincideBench$Turned" (35 : Nat) ({ cls := "CoincideBench$Lattice", name := "rows", desc := "()LCoincideBench$Rows;" } : Jvm.MethodName)) ∈ lw_all := lw_g (lw_at lw_m4 77 rfl) rfl
theorem q916 : (Jvm.Cond.methodLink "CoincideBench$Turned" (39 : Nat) ({ cls := "CoincideBench$Rows", name := "times", desc := "(LCoincideBench$Rows;)LCoincideBench$Rows;" } : Jvm.MethodName)) ∈ lw_all := lw_g (lw_at lw_m4 78 rfl) rfl
theorem q922 : (Jvm.Cond.methodLink "CoincideBench$Turned" (54 : Nat) ({ cls := "CoincideBench$Turned", name := "part", desc := "()J" } : Jvm.MethodName)) ∈ lw_all := lw_g (lw_at lw_m4 84 rfl) rfl
theorem q923 : (Jvm.Cond.privateMethod ({ cls := "CoincideBench$Turned", name := "part", desc := "()J" } : Jvm.MethodName)) ∈ lw_tbl := lw_at lw_m4 85 rfl
theorem q924 : (Jvm.Cond.instanceMethod ({ cls := "CoincideBench$Turned", name := "part", desc := "()J" } : Jvm.MethodName)) ∈ lw_all := lw_g (lw_at lw_m4 86 rfl) rfl
theorem q925 : (Jvm.Cond.code ({ cls := "CoincideBench$Turned", name := "part", desc := "()J" } : Jvm.MethodName) prog_18_method_3_code (1 : Nat) (Option.some Jvm.ClassFile.FieldType.long)) ∈ lw_all := lw_g (lw_at lw_m4 87 rfl) rfl
theorem q926 : (Jvm.Cond.methodLink "CoincideBench$Turned" (46 : Nat) ({ cls := "CoincideBench$Rows", name := "common", desc := "()J" } : Jvm.MethodName)) ∈ lw_all := lw_g (lw_at lw_m4 88 rfl) rfl
theorem q935 : (Jvm.Cond.methodLinkNest "CoincideBench$Turned" (50 : Nat) ({ cls := "CoincideBench", name := "divisor", desc := "(JJ)J" } : Jvm.MethodName) "CoincideBench") ∈ lw_tbl := lw_at lw_m4 97 rfl
theorem q936 : (Jvm.Cond.methodLink "CoincideBench$Turned" (57 : Nat) ({ cls := "CoincideBench$Rows", name := "by", desc := "(J)LCoincideBench$Rows;" } : Jvm.MethodName)) ∈ lw_all := lw_g (lw_at lw_m4 98 rfl) rfl
theorem q949 : (Jvm.Cond.selects "CoincideBench$Turned" ({ cls := "CoincideBench$Lattice", name := "over", desc := "()J" } : Jvm.MethodName) ({ cls := "CoincideBench$Turned", name := "over", desc := "()J" } : Jvm.MethodName)) ∈ lw_all := lw_g (lw_at lw_m4 111 rfl) rfl
theorem q950 : (Jvm.Cond.instanceMethod ({ cls := "CoincideBench$Turned", name := "over", desc := "()J" } : Jvm.MethodName)) ∈ lw_all := lw_g (lw_at lw_m4 112 rfl) rfl
theorem q951 : (Jvm.Cond.code ({ cls := "CoincideBench$Turned", name := "over", desc := "()J" } : Jvm.MethodName) prog_18_method_5_code (1 : Nat) (Option.some Jvm.ClassFile.FieldType.long)) ∈ lw_all := lw_g (lw_at lw_m4 113 rfl) rfl
theorem q2191 : (Jvm.Cond.castable "CoincideBench$Turned" "CoincideBench$Lattice") ∈ lw_tbl := lw_at lw_m9 153 rfl
theorem q2205 : (Jvm.Cond.castable "CoincideBench$Turned" "java/lang/Object") ∈ lw_tbl := lw_at lw_m9 167 rfl
theorem in_X7 : ∀ w ∈ wsX70, w ∈ lw_all := lw_in wsX70 [777, 769, 771, 773, 775] (by decide +kernel) (by decide +kernel)
