/-! CoincideBench$Reader -/
set_option maxRecDepth 100000
def RX4 : String := "CoincideBench$Reader"
def TX4 : u_T := fun k => match k with
  | 0 => ("CoincideBench$Reader", "fresh", "Ljava/util/ArrayList;", true)
  | 1 => ("CoincideBench$Reader", "names", "Ljava/util/ArrayList;", true)
  | 2 => ("CoincideBench$Reader", "at", "I", false)
  | 3 => ("CoincideBench$Reader", "from", "I", false)
  | 4 => ("CoincideBench$Reader", "number", "I", false)
  | 5 => ("CoincideBench$Reader", "lined", "I", false)
  | 6 => ("CoincideBench$Reader", "last", "I", false)
  | 7 => ("CoincideBench$Reader", "token", "LCoincideBench$Token;", false)
  | 8 => ("CoincideBench$Reader", "word", "Ljava/lang/String;", false)
  | _ => ("CoincideBench$Reader", "this$0", "LCoincideBench;", true)
def tyX4 : Nat → FieldType := fun k => match k with
  | 0 => .object "java/util/ArrayList"
  | 1 => .object "java/util/ArrayList"
  | 2 => .int
  | 3 => .int
  | 4 => .int
  | 5 => .int
  | 6 => .int
  | 7 => .object "CoincideBench$Token"
  | 8 => .object "java/lang/String"
  | _ => .object "CoincideBench"
abbrev wsX40 : List Cond := u_ws RX4 TX4 10
theorem nmX4 : ∀ a, a < 10 → ∀ b, b < 10 → a ≠ b → (TX4 a).2.1 ≠ (TX4 b).2.1 := by decide +kernel
theorem tyX4_ok : ∀ k, k < 10 → parseFieldDescriptor (TX4 k).2.2.1 = some (tyX4 k) := by decide +kernel
abbrev cX4_init : ByteArray := prog_10_method_1_code
def yX4_init : MethodName := ⟨RX4, "<init>", "(LCoincideBench;)V"⟩
def dkwX4_init_1 : List UInt8 := [187, 0, 15, 89, 8, 183, 0, 17, 181, 0, 24, 42, 18, 27, 181, 0, 29, 177]
abbrev dktX4_init_1 : List UInt8 := dkwX4_init_1 ++ []
def dkwX4_init_0 : List UInt8 := [42, 43, 181, 0, 3, 42, 183, 0, 9, 42, 187, 0, 15, 89, 8, 183, 0, 17, 181, 0, 20, 42]
abbrev dktX4_init_0 : List UInt8 := dkwX4_init_0 ++ dktX4_init_1
theorem dksX4_init_0 : cX4_init.data.toList.drop 0 = dktX4_init_0 := by decide +kernel
theorem dksX4_init_1 : cX4_init.data.toList.drop 22 = dktX4_init_1 := dk_seg dksX4_init_0 22 rfl rfl
theorem dX4_init_0 : decode cX4_init 0 = .ok (.aload_n 0, 1) := dk_42 (dk_at dksX4_init_0 0 rfl rfl)
theorem dX4_init_1 : decode cX4_init 1 = .ok (.aload_n 1, 1) := dk_43 (dk_at dksX4_init_0 1 rfl rfl)
theorem dX4_init_2 : decode cX4_init 2 = .ok (.putfield 3, 3) := dk_181 0 3 (dk_at dksX4_init_0 2 rfl rfl)
theorem dX4_init_5 : decode cX4_init 5 = .ok (.aload_n 0, 1) := dk_42 (dk_at dksX4_init_0 5 rfl rfl)
theorem dX4_init_6 : decode cX4_init 6 = .ok (.invokespecial 9, 3) := dk_183 0 9 (dk_at dksX4_init_0 6 rfl rfl)
theorem dX4_init_9 : decode cX4_init 9 = .ok (.aload_n 0, 1) := dk_42 (dk_at dksX4_init_0 9 rfl rfl)
theorem dX4_init_10 : decode cX4_init 10 = .ok (.new 15, 3) := dk_187 0 15 (dk_at dksX4_init_0 10 rfl rfl)
theorem dX4_init_13 : decode cX4_init 13 = .ok (.dup, 1) := dk_89 (dk_at dksX4_init_0 13 rfl rfl)
theorem dX4_init_14 : decode cX4_init 14 = .ok (.iconst 5, 1) := dk_8 (dk_at dksX4_init_0 14 rfl rfl)
theorem dX4_init_15 : decode cX4_init 15 = .ok (.invokespecial 17, 3) := dk_183 0 17 (dk_at dksX4_init_0 15 rfl rfl)
theorem dX4_init_18 : decode cX4_init 18 = .ok (.putfield 20, 3) := dk_181 0 20 (dk_at dksX4_init_0 18 rfl rfl)
theorem dX4_init_21 : decode cX4_init 21 = .ok (.aload_n 0, 1) := dk_42 (dk_at dksX4_init_0 21 rfl rfl)
theorem dX4_init_22 : decode cX4_init 22 = .ok (.new 15, 3) := dk_187 0 15 (dk_at dksX4_init_1 0 rfl rfl)
theorem dX4_init_25 : decode cX4_init 25 = .ok (.dup, 1) := dk_89 (dk_at dksX4_init_1 3 rfl rfl)
theorem dX4_init_26 : decode cX4_init 26 = .ok (.iconst 5, 1) := dk_8 (dk_at dksX4_init_1 4 rfl rfl)
theorem dX4_init_27 : decode cX4_init 27 = .ok (.invokespecial 17, 3) := dk_183 0 17 (dk_at dksX4_init_1 5 rfl rfl)
theorem dX4_init_30 : decode cX4_init 30 = .ok (.putfield 24, 3) := dk_181 0 24 (dk_at dksX4_init_1 8 rfl rfl)
theorem dX4_init_33 : decode cX4_init 33 = .ok (.aload_n 0, 1) := dk_42 (dk_at dksX4_init_1 11 rfl rfl)
theorem dX4_init_34 : decode cX4_init 34 = .ok (.ldc 27, 2) := dk_18 27 (dk_at dksX4_init_1 12 rfl rfl)
theorem dX4_init_36 : decode cX4_init 36 = .ok (.putfield 29, 3) := dk_181 0 29 (dk_at dksX4_init_1 14 rfl rfl)
theorem dX4_init_39 : decode cX4_init 39 = .ok (.return_, 1) := dk_177 (dk_at dksX4_init_1 17 rfl rfl)
abbrev cX4_read : ByteArray := prog_10_method_8_code
def yX4_read : MethodName := ⟨RX4, "read", "()V"⟩
def dkwX4_read_0 : List UInt8 := [42, 182, 0, 126, 42, 180, 0, 57, 178, 0, 51, 165, 0, 10, 42, 182, 0, 132, 167, 255, 242, 177]
abbrev dktX4_read_0 : List UInt8 := dkwX4_read_0 ++ []
theorem dksX4_read_0 : cX4_read.data.toList.drop 0 = dktX4_read_0 := by decide +kernel
theorem dX4_read_0 : decode cX4_read 0 = .ok (.aload_n 0, 1) := dk_42 (dk_at dksX4_read_0 0 rfl rfl)
theorem dX4_read_1 : decode cX4_read 1 = .ok (.invokevirtual 126, 3) := dk_182 0 126 (dk_at dksX4_read_0 1 rfl rfl)
theorem dX4_read_4 : decode cX4_read 4 = .ok (.aload_n 0, 1) := dk_42 (dk_at dksX4_read_0 4 rfl rfl)
theorem dX4_read_5 : decode cX4_read 5 = .ok (.getfield 57, 3) := dk_180 0 57 (dk_at dksX4_read_0 5 rfl rfl)
theorem dX4_read_8 : decode cX4_read 8 = .ok (.getstatic 51, 3) := dk_178 0 51 (dk_at dksX4_read_0 8 rfl rfl)
theorem dX4_read_11 : decode cX4_read 11 = .ok (.if_acmp .eq 10, 3) := dk_165 0 10 (dk_at dksX4_read_0 11 rfl rfl)
theorem dX4_read_14 : decode cX4_read 14 = .ok (.aload_n 0, 1) := dk_42 (dk_at dksX4_read_0 14 rfl rfl)
theorem dX4_read_15 : decode cX4_read 15 = .ok (.invokevirtual 132, 3) := dk_182 0 132 (dk_at dksX4_read_0 15 rfl rfl)
theorem dX4_read_18 : decode cX4_read 18 = .ok (.goto (-14), 3) := dk_167 255 242 (dk_at dksX4_read_0 18 rfl rfl)
theorem dX4_read_21 : decode cX4_read 21 = .ok (.return_, 1) := dk_177 (dk_at dksX4_read_0 21 rfl rfl)
abbrev cX4_advance : ByteArray := prog_10_method_3_code
def yX4_advance : MethodName := ⟨RX4, "advance", "()V"⟩
def dkwX4_advance_12 : List UInt8 := [42, 89, 180, 0, 41, 4, 96, 181, 0, 41, 177]
abbrev dktX4_advance_12 : List UInt8 := dkwX4_advance_12 ++ []
def dkwX4_advance_11 : List UInt8 := [178, 0, 98, 167, 0, 18, 27, 16, 45, 160, 0, 9, 178, 0, 101, 167, 0, 6, 178, 0, 104, 181, 0, 57]
abbrev dktX4_advance_11 : List UInt8 := dkwX4_advance_11 ++ dktX4_advance_12
def dkwX4_advance_10 : List UInt8 := [181, 0, 41, 167, 255, 196, 42, 178, 0, 95, 181, 0, 57, 167, 0, 44, 42, 27, 16, 59, 160, 0, 9]
abbrev dktX4_advance_10 : List UInt8 := dkwX4_advance_10 ++ dktX4_advance_11
def dkwX4_advance_9 : List UInt8 := [42, 180, 0, 41, 182, 0, 44, 96, 16, 48, 100, 184, 0, 89, 181, 0, 86, 42, 89, 180, 0, 41, 4, 96]
abbrev dktX4_advance_9 : List UInt8 := dkwX4_advance_9 ++ dktX4_advance_10
def dkwX4_advance_8 : List UInt8 := [20, 0, 82, 20, 0, 84, 184, 0, 64, 153, 0, 45, 42, 17, 39, 15, 16, 10, 42, 180, 0, 86, 104, 42]
abbrev dktX4_advance_8 : List UInt8 := dkwX4_advance_8 ++ dktX4_advance_9
def dkwX4_advance_7 : List UInt8 := [20, 0, 84, 184, 0, 64, 153, 0, 81, 42, 3, 181, 0, 86, 42, 42, 180, 0, 41, 182, 0, 44, 133]
abbrev dktX4_advance_7 : List UInt8 := dkwX4_advance_7 ++ dktX4_advance_8
def dkwX4_advance_6 : List UInt8 := [42, 44, 182, 0, 75, 181, 0, 29, 42, 178, 0, 79, 181, 0, 57, 167, 0, 136, 27, 133, 20, 0, 82]
abbrev dktX4_advance_6 : List UInt8 := dkwX4_advance_6 ++ dktX4_advance_7
def dkwX4_advance_5 : List UInt8 := [180, 0, 41, 182, 0, 44, 146, 182, 0, 71, 87, 42, 89, 180, 0, 41, 4, 96, 181, 0, 41, 167, 255, 211]
abbrev dktX4_advance_5 : List UInt8 := dkwX4_advance_5 ++ dktX4_advance_6
def dkwX4_advance_4 : List UInt8 := [42, 42, 180, 0, 41, 182, 0, 44, 133, 20, 0, 60, 20, 0, 62, 184, 0, 64, 153, 0, 30, 44, 42, 42]
abbrev dktX4_advance_4 : List UInt8 := dkwX4_advance_4 ++ dktX4_advance_5
def dkwX4_advance_3 : List UInt8 := [27, 133, 20, 0, 60, 20, 0, 62, 184, 0, 64, 153, 0, 79, 187, 0, 68, 89, 16, 8, 183, 0, 70, 77]
abbrev dktX4_advance_3 : List UInt8 := dkwX4_advance_3 ++ dktX4_advance_4
def dkwX4_advance_2 : List UInt8 := [42, 42, 180, 0, 41, 182, 0, 44, 60, 27, 2, 160, 0, 13, 42, 178, 0, 51, 181, 0, 57, 167, 0, 226]
abbrev dktX4_advance_2 : List UInt8 := dkwX4_advance_2 ++ dktX4_advance_3
def dkwX4_advance_1 : List UInt8 := [160, 0, 16, 42, 89, 180, 0, 41, 4, 96, 181, 0, 41, 167, 255, 220, 42, 42, 180, 0, 41, 181, 0, 48]
abbrev dktX4_advance_1 : List UInt8 := dkwX4_advance_1 ++ dktX4_advance_2
def dkwX4_advance_0 : List UInt8 := [42, 42, 180, 0, 41, 182, 0, 44, 16, 32, 159, 0, 16, 42, 42, 180, 0, 41, 182, 0, 44, 16, 10]
abbrev dktX4_advance_0 : List UInt8 := dkwX4_advance_0 ++ dktX4_advance_1
theorem dksX4_advance_0 : cX4_advance.data.toList.drop 0 = dktX4_advance_0 := by decide +kernel
theorem dksX4_advance_1 : cX4_advance.data.toList.drop 23 = dktX4_advance_1 := dk_seg dksX4_advance_0 23 rfl rfl
theorem dksX4_advance_2 : cX4_advance.data.toList.drop 47 = dktX4_advance_2 := dk_seg dksX4_advance_1 24 rfl rfl
theorem dksX4_advance_3 : cX4_advance.data.toList.drop 71 = dktX4_advance_3 := dk_seg dksX4_advance_2 24 rfl rfl
theorem dksX4_advance_4 : cX4_advance.data.toList.drop 95 = dktX4_advance_4 := dk_seg dksX4_advance_3 24 rfl rfl
theorem dksX4_advance_5 : cX4_advance.data.toList.drop 119 = dktX4_advance_5 := dk_seg dksX4_advance_4 24 rfl rfl
theorem dksX4_advance_6 : cX4_advance.data.toList.drop 143 = dktX4_advance_6 := dk_seg dksX4_advance_5 24 rfl rfl
theorem dksX4_advance_7 : cX4_advance.data.toList.drop 166 = dktX4_advance_7 := dk_seg dksX4_advance_6 23 rfl rfl
theorem dksX4_advance_8 : cX4_advance.data.toList.drop 189 = dktX4_advance_8 := dk_seg dksX4_advance_7 23 rfl rfl
theorem dksX4_advance_9 : cX4_advance.data.toList.drop 213 = dktX4_advance_9 := dk_seg dksX4_advance_8 24 rfl rfl
theorem dksX4_advance_10 : cX4_advance.data.toList.drop 237 = dktX4_advance_10 := dk_seg dksX4_advance_9 24 rfl rfl
theorem dksX4_advance_11 : cX4_advance.data.toList.drop 260 = dktX4_advance_11 := dk_seg dksX4_advance_10 23 rfl rfl
theorem dksX4_advance_12 : cX4_advance.data.toList.drop 284 = dktX4_advance_12 := dk_seg dksX4_advance_11 24 rfl rfl
theorem dX4_advance_0 : decode cX4_advance 0 = .ok (.aload_n 0, 1) := dk_42 (dk_at dksX4_advance_0 0 rfl rfl)
theorem dX4_advance_1 : decode cX4_advance 1 = .ok (.aload_n 0, 1) := dk_42 (dk_at dksX4_advance_0 1 rfl rfl)
theorem dX4_advance_2 : decode cX4_advance 2 = .ok (.getfield 41, 3) := dk_180 0 41 (dk_at dksX4_advance_0 2 rfl rfl)
theorem dX4_advance_5 : decode cX4_advance 5 = .ok (.invokevirtual 44, 3) := dk_182 0 44 (dk_at dksX4_advance_0 5 rfl rfl)
theorem dX4_advance_8 : decode cX4_advance 8 = .ok (.bipush 32, 2) := dk_16 32 (dk_at dksX4_advance_0 8 rfl rfl)
theorem dX4_advance_10 : decode cX4_advance 10 = .ok (.if_icmp .eq 16, 3) := dk_159 0 16 (dk_at dksX4_advance_0 10 rfl rfl)
theorem dX4_advance_13 : decode cX4_advance 13 = .ok (.aload_n 0, 1) := dk_42 (dk_at dksX4_advance_0 13 rfl rfl)
theorem dX4_advance_14 : decode cX4_advance 14 = .ok (.aload_n 0, 1) := dk_42 (dk_at dksX4_advance_0 14 rfl rfl)
theorem dX4_advance_15 : decode cX4_advance 15 = .ok (.getfield 41, 3) := dk_180 0 41 (dk_at dksX4_advance_0 15 rfl rfl)
theorem dX4_advance_18 : decode cX4_advance 18 = .ok (.invokevirtual 44, 3) := dk_182 0 44 (dk_at dksX4_advance_0 18 rfl rfl)
theorem dX4_advance_21 : decode cX4_advance 21 = .ok (.bipush 10, 2) := dk_16 10 (dk_at dksX4_advance_0 21 rfl rfl)
theorem dX4_advance_23 : decode cX4_advance 23 = .ok (.if_icmp .ne 16, 3) := dk_160 0 16 (dk_at dksX4_advance_1 0 rfl rfl)
theorem dX4_advance_26 : decode cX4_advance 26 = .ok (.aload_n 0, 1) := dk_42 (dk_at dksX4_advance_1 3 rfl rfl)
theorem dX4_advance_27 : decode cX4_advance 27 = .ok (.dup, 1) := dk_89 (dk_at dksX4_advance_1 4 rfl rfl)
theorem dX4_advance_28 : decode cX4_advance 28 = .ok (.getfield 41, 3) := dk_180 0 41 (dk_at dksX4_advance_1 5 rfl rfl)
theorem dX4_advance_31 : decode cX4_advance 31 = .ok (.iconst 1, 1) := dk_4 (dk_at dksX4_advance_1 8 rfl rfl)
theorem dX4_advance_32 : decode cX4_advance 32 = .ok (.iadd, 1) := dk_96 (dk_at dksX4_advance_1 9 rfl rfl)
theorem dX4_advance_33 : decode cX4_advance 33 = .ok (.putfield 41, 3) := dk_181 0 41 (dk_at dksX4_advance_1 10 rfl rfl)
theorem dX4_advance_36 : decode cX4_advance 36 = .ok (.goto (-36), 3) := dk_167 255 220 (dk_at dksX4_advance_1 13 rfl rfl)
theorem dX4_advance_39 : decode cX4_advance 39 = .ok (.aload_n 0, 1) := dk_42 (dk_at dksX4_advance_1 16 rfl rfl)
theorem dX4_advance_40 : decode cX4_advance 40 = .ok (.aload_n 0, 1) := dk_42 (dk_at dksX4_advance_1 17 rfl rfl)
theorem dX4_advance_41 : decode cX4_advance 41 = .ok (.getfield 41, 3) := dk_180 0 41 (dk_at dksX4_advance_1 18 rfl rfl)
theorem dX4_advance_44 : decode cX4_advance 44 = .ok (.putfield 48, 3) := dk_181 0 48 (dk_at dksX4_advance_1 21 rfl rfl)
theorem dX4_advance_47 : decode cX4_advance 47 = .ok (.aload_n 0, 1) := dk_42 (dk_at dksX4_advance_2 0 rfl rfl)
theorem dX4_advance_48 : decode cX4_advance 48 = .ok (.aload_n 0, 1) := dk_42 (dk_at dksX4_advance_2 1 rfl rfl)
theorem dX4_advance_49 : decode cX4_advance 49 = .ok (.getfield 41, 3) := dk_180 0 41 (dk_at dksX4_advance_2 2 rfl rfl)
theorem dX4_advance_52 : decode cX4_advance 52 = .ok (.invokevirtual 44, 3) := dk_182 0 44 (dk_at dksX4_advance_2 5 rfl rfl)
theorem dX4_advance_55 : decode cX4_advance 55 = .ok (.istore_n 1, 1) := dk_60 (dk_at dksX4_advance_2 8 rfl rfl)
theorem dX4_advance_56 : decode cX4_advance 56 = .ok (.iload_n 1, 1) := dk_27 (dk_at dksX4_advance_2 9 rfl rfl)
theorem dX4_advance_57 : decode cX4_advance 57 = .ok (.iconst (-1), 1) := dk_2 (dk_at dksX4_advance_2 10 rfl rfl)
theorem dX4_advance_58 : decode cX4_advance 58 = .ok (.if_icmp .ne 13, 3) := dk_160 0 13 (dk_at dksX4_advance_2 11 rfl rfl)
theorem dX4_advance_61 : decode cX4_advance 61 = .ok (.aload_n 0, 1) := dk_42 (dk_at dksX4_advance_2 14 rfl rfl)
theorem dX4_advance_62 : decode cX4_advance 62 = .ok (.getstatic 51, 3) := dk_178 0 51 (dk_at dksX4_advance_2 15 rfl rfl)
theorem dX4_advance_65 : decode cX4_advance 65 = .ok (.putfield 57, 3) := dk_181 0 57 (dk_at dksX4_advance_2 18 rfl rfl)
theorem dX4_advance_68 : decode cX4_advance 68 = .ok (.goto 226, 3) := dk_167 0 226 (dk_at dksX4_advance_2 21 rfl rfl)
theorem dX4_advance_71 : decode cX4_advance 71 = .ok (.iload_n 1, 1) := dk_27 (dk_at dksX4_advance_3 0 rfl rfl)
theorem dX4_advance_72 : decode cX4_advance 72 = .ok (.i2l, 1) := dk_133 (dk_at dksX4_advance_3 1 rfl rfl)
theorem dX4_advance_73 : decode cX4_advance 73 = .ok (.ldc2_w 60, 3) := dk_20 0 60 (dk_at dksX4_advance_3 2 rfl rfl)
theorem dX4_advance_76 : decode cX4_advance 76 = .ok (.ldc2_w 62, 3) := dk_20 0 62 (dk_at dksX4_advance_3 5 rfl rfl)
theorem dX4_advance_79 : decode cX4_advance 79 = .ok (.invokestatic 64, 3) := dk_184 0 64 (dk_at dksX4_advance_3 8 rfl rfl)
theorem dX4_advance_82 : decode cX4_advance 82 = .ok (.ifCond .eq 79, 3) := dk_153 0 79 (dk_at dksX4_advance_3 11 rfl rfl)
theorem dX4_advance_85 : decode cX4_advance 85 = .ok (.new 68, 3) := dk_187 0 68 (dk_at dksX4_advance_3 14 rfl rfl)
theorem dX4_advance_88 : decode cX4_advance 88 = .ok (.dup, 1) := dk_89 (dk_at dksX4_advance_3 17 rfl rfl)
theorem dX4_advance_89 : decode cX4_advance 89 = .ok (.bipush 8, 2) := dk_16 8 (dk_at dksX4_advance_3 18 rfl rfl)
theorem dX4_advance_91 : decode cX4_advance 91 = .ok (.invokespecial 70, 3) := dk_183 0 70 (dk_at dksX4_advance_3 20 rfl rfl)
theorem dX4_advance_94 : decode cX4_advance 94 = .ok (.astore_n 2, 1) := dk_77 (dk_at dksX4_advance_3 23 rfl rfl)
theorem dX4_advance_95 : decode cX4_advance 95 = .ok (.aload_n 0, 1) := dk_42 (dk_at dksX4_advance_4 0 rfl rfl)
theorem dX4_advance_96 : decode cX4_advance 96 = .ok (.aload_n 0, 1) := dk_42 (dk_at dksX4_advance_4 1 rfl rfl)
theorem dX4_advance_97 : decode cX4_advance 97 = .ok (.getfield 41, 3) := dk_180 0 41 (dk_at dksX4_advance_4 2 rfl rfl)
theorem dX4_advance_100 : decode cX4_advance 100 = .ok (.invokevirtual 44, 3) := dk_182 0 44 (dk_at dksX4_advance_4 5 rfl rfl)
theorem dX4_advance_103 : decode cX4_advance 103 = .ok (.i2l, 1) := dk_133 (dk_at dksX4_advance_4 8 rfl rfl)
theorem dX4_advance_104 : decode cX4_advance 104 = .ok (.ldc2_w 60, 3) := dk_20 0 60 (dk_at dksX4_advance_4 9 rfl rfl)
theorem dX4_advance_107 : decode cX4_advance 107 = .ok (.ldc2_w 62, 3) := dk_20 0 62 (dk_at dksX4_advance_4 12 rfl rfl)
theorem dX4_advance_110 : decode cX4_advance 110 = .ok (.invokestatic 64, 3) := dk_184 0 64 (dk_at dksX4_advance_4 15 rfl rfl)
theorem dX4_advance_113 : decode cX4_advance 113 = .ok (.ifCond .eq 30, 3) := dk_153 0 30 (dk_at dksX4_advance_4 18 rfl rfl)
theorem dX4_advance_116 : decode cX4_advance 116 = .ok (.aload_n 2, 1) := dk_44 (dk_at dksX4_advance_4 21 rfl rfl)
theorem dX4_advance_117 : decode cX4_advance 117 = .ok (.aload_n 0, 1) := dk_42 (dk_at dksX4_advance_4 22 rfl rfl)
theorem dX4_advance_118 : decode cX4_advance 118 = .ok (.aload_n 0, 1) := dk_42 (dk_at dksX4_advance_4 23 rfl rfl)
theorem dX4_advance_119 : decode cX4_advance 119 = .ok (.getfield 41, 3) := dk_180 0 41 (dk_at dksX4_advance_5 0 rfl rfl)
theorem dX4_advance_122 : decode cX4_advance 122 = .ok (.invokevirtual 44, 3) := dk_182 0 44 (dk_at dksX4_advance_5 3 rfl rfl)
theorem dX4_advance_125 : decode cX4_advance 125 = .ok (.i2c, 1) := dk_146 (dk_at dksX4_advance_5 6 rfl rfl)
theorem dX4_advance_126 : decode cX4_advance 126 = .ok (.invokevirtual 71, 3) := dk_182 0 71 (dk_at dksX4_advance_5 7 rfl rfl)
theorem dX4_advance_129 : decode cX4_advance 129 = .ok (.pop, 1) := dk_87 (dk_at dksX4_advance_5 10 rfl rfl)
theorem dX4_advance_130 : decode cX4_advance 130 = .ok (.aload_n 0, 1) := dk_42 (dk_at dksX4_advance_5 11 rfl rfl)
theorem dX4_advance_131 : decode cX4_advance 131 = .ok (.dup, 1) := dk_89 (dk_at dksX4_advance_5 12 rfl rfl)
theorem dX4_advance_132 : decode cX4_advance 132 = .ok (.getfield 41, 3) := dk_180 0 41 (dk_at dksX4_advance_5 13 rfl rfl)
theorem dX4_advance_135 : decode cX4_advance 135 = .ok (.iconst 1, 1) := dk_4 (dk_at dksX4_advance_5 16 rfl rfl)
theorem dX4_advance_136 : decode cX4_advance 136 = .ok (.iadd, 1) := dk_96 (dk_at dksX4_advance_5 17 rfl rfl)
theorem dX4_advance_137 : decode cX4_advance 137 = .ok (.putfield 41, 3) := dk_181 0 41 (dk_at dksX4_advance_5 18 rfl rfl)
theorem dX4_advance_140 : decode cX4_advance 140 = .ok (.goto (-45), 3) := dk_167 255 211 (dk_at dksX4_advance_5 21 rfl rfl)
theorem dX4_advance_143 : decode cX4_advance 143 = .ok (.aload_n 0, 1) := dk_42 (dk_at dksX4_advance_6 0 rfl rfl)
theorem dX4_advance_144 : decode cX4_advance 144 = .ok (.aload_n 2, 1) := dk_44 (dk_at dksX4_advance_6 1 rfl rfl)
theorem dX4_advance_145 : decode cX4_advance 145 = .ok (.invokevirtual 75, 3) := dk_182 0 75 (dk_at dksX4_advance_6 2 rfl rfl)
theorem dX4_advance_148 : decode cX4_advance 148 = .ok (.putfield 29, 3) := dk_181 0 29 (dk_at dksX4_advance_6 5 rfl rfl)
theorem dX4_advance_151 : decode cX4_advance 151 = .ok (.aload_n 0, 1) := dk_42 (dk_at dksX4_advance_6 8 rfl rfl)
theorem dX4_advance_152 : decode cX4_advance 152 = .ok (.getstatic 79, 3) := dk_178 0 79 (dk_at dksX4_advance_6 9 rfl rfl)
theorem dX4_advance_155 : decode cX4_advance 155 = .ok (.putfield 57, 3) := dk_181 0 57 (dk_at dksX4_advance_6 12 rfl rfl)
theorem dX4_advance_158 : decode cX4_advance 158 = .ok (.goto 136, 3) := dk_167 0 136 (dk_at dksX4_advance_6 15 rfl rfl)
theorem dX4_advance_161 : decode cX4_advance 161 = .ok (.iload_n 1, 1) := dk_27 (dk_at dksX4_advance_6 18 rfl rfl)
theorem dX4_advance_162 : decode cX4_advance 162 = .ok (.i2l, 1) := dk_133 (dk_at dksX4_advance_6 19 rfl rfl)
theorem dX4_advance_163 : decode cX4_advance 163 = .ok (.ldc2_w 82, 3) := dk_20 0 82 (dk_at dksX4_advance_6 20 rfl rfl)
theorem dX4_advance_166 : decode cX4_advance 166 = .ok (.ldc2_w 84, 3) := dk_20 0 84 (dk_at dksX4_advance_7 0 rfl rfl)
theorem dX4_advance_169 : decode cX4_advance 169 = .ok (.invokestatic 64, 3) := dk_184 0 64 (dk_at dksX4_advance_7 3 rfl rfl)
theorem dX4_advance_172 : decode cX4_advance 172 = .ok (.ifCond .eq 81, 3) := dk_153 0 81 (dk_at dksX4_advance_7 6 rfl rfl)
theorem dX4_advance_175 : decode cX4_advance 175 = .ok (.aload_n 0, 1) := dk_42 (dk_at dksX4_advance_7 9 rfl rfl)
theorem dX4_advance_176 : decode cX4_advance 176 = .ok (.iconst 0, 1) := dk_3 (dk_at dksX4_advance_7 10 rfl rfl)
theorem dX4_advance_177 : decode cX4_advance 177 = .ok (.putfield 86, 3) := dk_181 0 86 (dk_at dksX4_advance_7 11 rfl rfl)
theorem dX4_advance_180 : decode cX4_advance 180 = .ok (.aload_n 0, 1) := dk_42 (dk_at dksX4_advance_7 14 rfl rfl)
theorem dX4_advance_181 : decode cX4_advance 181 = .ok (.aload_n 0, 1) := dk_42 (dk_at dksX4_advance_7 15 rfl rfl)
theorem dX4_advance_182 : decode cX4_advance 182 = .ok (.getfield 41, 3) := dk_180 0 41 (dk_at dksX4_advance_7 16 rfl rfl)
theorem dX4_advance_185 : decode cX4_advance 185 = .ok (.invokevirtual 44, 3) := dk_182 0 44 (dk_at dksX4_advance_7 19 rfl rfl)
theorem dX4_advance_188 : decode cX4_advance 188 = .ok (.i2l, 1) := dk_133 (dk_at dksX4_advance_7 22 rfl rfl)
theorem dX4_advance_189 : decode cX4_advance 189 = .ok (.ldc2_w 82, 3) := dk_20 0 82 (dk_at dksX4_advance_8 0 rfl rfl)
theorem dX4_advance_192 : decode cX4_advance 192 = .ok (.ldc2_w 84, 3) := dk_20 0 84 (dk_at dksX4_advance_8 3 rfl rfl)
theorem dX4_advance_195 : decode cX4_advance 195 = .ok (.invokestatic 64, 3) := dk_184 0 64 (dk_at dksX4_advance_8 6 rfl rfl)
theorem dX4_advance_198 : decode cX4_advance 198 = .ok (.ifCond .eq 45, 3) := dk_153 0 45 (dk_at dksX4_advance_8 9 rfl rfl)
theorem dX4_advance_201 : decode cX4_advance 201 = .ok (.aload_n 0, 1) := dk_42 (dk_at dksX4_advance_8 12 rfl rfl)
theorem dX4_advance_202 : decode cX4_advance 202 = .ok (.sipush 9999, 3) := dk_17 39 15 (dk_at dksX4_advance_8 13 rfl rfl)
theorem dX4_advance_205 : decode cX4_advance 205 = .ok (.bipush 10, 2) := dk_16 10 (dk_at dksX4_advance_8 16 rfl rfl)
theorem dX4_advance_207 : decode cX4_advance 207 = .ok (.aload_n 0, 1) := dk_42 (dk_at dksX4_advance_8 18 rfl rfl)
theorem dX4_advance_208 : decode cX4_advance 208 = .ok (.getfield 86, 3) := dk_180 0 86 (dk_at dksX4_advance_8 19 rfl rfl)
theorem dX4_advance_211 : decode cX4_advance 211 = .ok (.imul, 1) := dk_104 (dk_at dksX4_advance_8 22 rfl rfl)
theorem dX4_advance_212 : decode cX4_advance 212 = .ok (.aload_n 0, 1) := dk_42 (dk_at dksX4_advance_8 23 rfl rfl)
theorem dX4_advance_213 : decode cX4_advance 213 = .ok (.aload_n 0, 1) := dk_42 (dk_at dksX4_advance_9 0 rfl rfl)
theorem dX4_advance_214 : decode cX4_advance 214 = .ok (.getfield 41, 3) := dk_180 0 41 (dk_at dksX4_advance_9 1 rfl rfl)
theorem dX4_advance_217 : decode cX4_advance 217 = .ok (.invokevirtual 44, 3) := dk_182 0 44 (dk_at dksX4_advance_9 4 rfl rfl)
theorem dX4_advance_220 : decode cX4_advance 220 = .ok (.iadd, 1) := dk_96 (dk_at dksX4_advance_9 7 rfl rfl)
theorem dX4_advance_221 : decode cX4_advance 221 = .ok (.bipush 48, 2) := dk_16 48 (dk_at dksX4_advance_9 8 rfl rfl)
theorem dX4_advance_223 : decode cX4_advance 223 = .ok (.isub, 1) := dk_100 (dk_at dksX4_advance_9 10 rfl rfl)
theorem dX4_advance_224 : decode cX4_advance 224 = .ok (.invokestatic 89, 3) := dk_184 0 89 (dk_at dksX4_advance_9 11 rfl rfl)
theorem dX4_advance_227 : decode cX4_advance 227 = .ok (.putfield 86, 3) := dk_181 0 86 (dk_at dksX4_advance_9 14 rfl rfl)
theorem dX4_advance_230 : decode cX4_advance 230 = .ok (.aload_n 0, 1) := dk_42 (dk_at dksX4_advance_9 17 rfl rfl)
theorem dX4_advance_231 : decode cX4_advance 231 = .ok (.dup, 1) := dk_89 (dk_at dksX4_advance_9 18 rfl rfl)
theorem dX4_advance_232 : decode cX4_advance 232 = .ok (.getfield 41, 3) := dk_180 0 41 (dk_at dksX4_advance_9 19 rfl rfl)
theorem dX4_advance_235 : decode cX4_advance 235 = .ok (.iconst 1, 1) := dk_4 (dk_at dksX4_advance_9 22 rfl rfl)
theorem dX4_advance_236 : decode cX4_advance 236 = .ok (.iadd, 1) := dk_96 (dk_at dksX4_advance_9 23 rfl rfl)
theorem dX4_advance_237 : decode cX4_advance 237 = .ok (.putfield 41, 3) := dk_181 0 41 (dk_at dksX4_advance_10 0 rfl rfl)
theorem dX4_advance_240 : decode cX4_advance 240 = .ok (.goto (-60), 3) := dk_167 255 196 (dk_at dksX4_advance_10 3 rfl rfl)
theorem dX4_advance_243 : decode cX4_advance 243 = .ok (.aload_n 0, 1) := dk_42 (dk_at dksX4_advance_10 6 rfl rfl)
theorem dX4_advance_244 : decode cX4_advance 244 = .ok (.getstatic 95, 3) := dk_178 0 95 (dk_at dksX4_advance_10 7 rfl rfl)
theorem dX4_advance_247 : decode cX4_advance 247 = .ok (.putfield 57, 3) := dk_181 0 57 (dk_at dksX4_advance_10 10 rfl rfl)
theorem dX4_advance_250 : decode cX4_advance 250 = .ok (.goto 44, 3) := dk_167 0 44 (dk_at dksX4_advance_10 13 rfl rfl)
theorem dX4_advance_253 : decode cX4_advance 253 = .ok (.aload_n 0, 1) := dk_42 (dk_at dksX4_advance_10 16 rfl rfl)
theorem dX4_advance_254 : decode cX4_advance 254 = .ok (.iload_n 1, 1) := dk_27 (dk_at dksX4_advance_10 17 rfl rfl)
theorem dX4_advance_255 : decode cX4_advance 255 = .ok (.bipush 59, 2) := dk_16 59 (dk_at dksX4_advance_10 18 rfl rfl)
theorem dX4_advance_257 : decode cX4_advance 257 = .ok (.if_icmp .ne 9, 3) := dk_160 0 9 (dk_at dksX4_advance_10 20 rfl rfl)
theorem dX4_advance_260 : decode cX4_advance 260 = .ok (.getstatic 98, 3) := dk_178 0 98 (dk_at dksX4_advance_11 0 rfl rfl)
theorem dX4_advance_263 : decode cX4_advance 263 = .ok (.goto 18, 3) := dk_167 0 18 (dk_at dksX4_advance_11 3 rfl rfl)
theorem dX4_advance_266 : decode cX4_advance 266 = .ok (.iload_n 1, 1) := dk_27 (dk_at dksX4_advance_11 6 rfl rfl)
theorem dX4_advance_267 : decode cX4_advance 267 = .ok (.bipush 45, 2) := dk_16 45 (dk_at dksX4_advance_11 7 rfl rfl)
theorem dX4_advance_269 : decode cX4_advance 269 = .ok (.if_icmp .ne 9, 3) := dk_160 0 9 (dk_at dksX4_advance_11 9 rfl rfl)
theorem dX4_advance_272 : decode cX4_advance 272 = .ok (.getstatic 101, 3) := dk_178 0 101 (dk_at dksX4_advance_11 12 rfl rfl)
theorem dX4_advance_275 : decode cX4_advance 275 = .ok (.goto 6, 3) := dk_167 0 6 (dk_at dksX4_advance_11 15 rfl rfl)
theorem dX4_advance_278 : decode cX4_advance 278 = .ok (.getstatic 104, 3) := dk_178 0 104 (dk_at dksX4_advance_11 18 rfl rfl)
theorem dX4_advance_281 : decode cX4_advance 281 = .ok (.putfield 57, 3) := dk_181 0 57 (dk_at dksX4_advance_11 21 rfl rfl)
theorem dX4_advance_284 : decode cX4_advance 284 = .ok (.aload_n 0, 1) := dk_42 (dk_at dksX4_advance_12 0 rfl rfl)
theorem dX4_advance_285 : decode cX4_advance 285 = .ok (.dup, 1) := dk_89 (dk_at dksX4_advance_12 1 rfl rfl)
theorem dX4_advance_286 : decode cX4_advance 286 = .ok (.getfield 41, 3) := dk_180 0 41 (dk_at dksX4_advance_12 2 rfl rfl)
theorem dX4_advance_289 : decode cX4_advance 289 = .ok (.iconst 1, 1) := dk_4 (dk_at dksX4_advance_12 5 rfl rfl)
theorem dX4_advance_290 : decode cX4_advance 290 = .ok (.iadd, 1) := dk_96 (dk_at dksX4_advance_12 6 rfl rfl)
theorem dX4_advance_291 : decode cX4_advance 291 = .ok (.putfield 41, 3) := dk_181 0 41 (dk_at dksX4_advance_12 7 rfl rfl)
theorem dX4_advance_294 : decode cX4_advance 294 = .ok (.return_, 1) := dk_177 (dk_at dksX4_advance_12 10 rfl rfl)
abbrev cX4_byteAt : ByteArray := prog_10_method_2_code
def yX4_byteAt : MethodName := ⟨RX4, "byteAt", "(I)I"⟩
def dkwX4_byteAt_1 : List UInt8 := [167, 0, 4, 2, 172]
abbrev dktX4_byteAt_1 : List UInt8 := dkwX4_byteAt_1 ++ []
def dkwX4_byteAt_0 : List UInt8 := [27, 42, 180, 0, 3, 180, 0, 33, 162, 0, 19, 42, 180, 0, 3, 180, 0, 37, 27, 51, 17, 0, 255, 126]
abbrev dktX4_byteAt_0 : List UInt8 := dkwX4_byteAt_0 ++ dktX4_byteAt_1
theorem dksX4_byteAt_0 : cX4_byteAt.data.toList.drop 0 = dktX4_byteAt_0 := by decide +kernel
theorem dksX4_byteAt_1 : cX4_byteAt.data.toList.drop 24 = dktX4_byteAt_1 := dk_seg dksX4_byteAt_0 24 rfl rfl
theorem dX4_byteAt_0 : decode cX4_byteAt 0 = .ok (.iload_n 1, 1) := dk_27 (dk_at dksX4_byteAt_0 0 rfl rfl)
theorem dX4_byteAt_1 : decode cX4_byteAt 1 = .ok (.aload_n 0, 1) := dk_42 (dk_at dksX4_byteAt_0 1 rfl rfl)
theorem dX4_byteAt_2 : decode cX4_byteAt 2 = .ok (.getfield 3, 3) := dk_180 0 3 (dk_at dksX4_byteAt_0 2 rfl rfl)
theorem dX4_byteAt_5 : decode cX4_byteAt 5 = .ok (.getfield 33, 3) := dk_180 0 33 (dk_at dksX4_byteAt_0 5 rfl rfl)
theorem dX4_byteAt_8 : decode cX4_byteAt 8 = .ok (.if_icmp .ge 19, 3) := dk_162 0 19 (dk_at dksX4_byteAt_0 8 rfl rfl)
theorem dX4_byteAt_11 : decode cX4_byteAt 11 = .ok (.aload_n 0, 1) := dk_42 (dk_at dksX4_byteAt_0 11 rfl rfl)
theorem dX4_byteAt_12 : decode cX4_byteAt 12 = .ok (.getfield 3, 3) := dk_180 0 3 (dk_at dksX4_byteAt_0 12 rfl rfl)
theorem dX4_byteAt_15 : decode cX4_byteAt 15 = .ok (.getfield 37, 3) := dk_180 0 37 (dk_at dksX4_byteAt_0 15 rfl rfl)
theorem dX4_byteAt_18 : decode cX4_byteAt 18 = .ok (.iload_n 1, 1) := dk_27 (dk_at dksX4_byteAt_0 18 rfl rfl)
theorem dX4_byteAt_19 : decode cX4_byteAt 19 = .ok (.baload, 1) := dk_51 (dk_at dksX4_byteAt_0 19 rfl rfl)
theorem dX4_byteAt_20 : decode cX4_byteAt 20 = .ok (.sipush 255, 3) := dk_17 0 255 (dk_at dksX4_byteAt_0 20 rfl rfl)
theorem dX4_byteAt_23 : decode cX4_byteAt 23 = .ok (.iand, 1) := dk_126 (dk_at dksX4_byteAt_0 23 rfl rfl)
theorem dX4_byteAt_24 : decode cX4_byteAt 24 = .ok (.goto 4, 3) := dk_167 0 4 (dk_at dksX4_byteAt_1 0 rfl rfl)
theorem dX4_byteAt_27 : decode cX4_byteAt 27 = .ok (.iconst (-1), 1) := dk_2 (dk_at dksX4_byteAt_1 3 rfl rfl)
theorem dX4_byteAt_28 : decode cX4_byteAt 28 = .ok (.ireturn, 1) := dk_172 (dk_at dksX4_byteAt_1 4 rfl rfl)
abbrev cX4_line : ByteArray := prog_10_method_9_code
def yX4_line : MethodName := ⟨RX4, "line", "()V"⟩
def dkwX4_line_8 : List UInt8 := [180, 0, 162, 4, 96, 181, 0, 162, 177]
abbrev dktX4_line_8 : List UInt8 := dkwX4_line_8 ++ []
def dkwX4_line_7 : List UInt8 := [42, 182, 0, 126, 42, 180, 0, 24, 44, 182, 0, 159, 87, 42, 180, 0, 20, 45, 182, 0, 159, 87, 42, 89]
abbrev dktX4_line_7 : List UInt8 := dkwX4_line_7 ++ dktX4_line_8
def dkwX4_line_6 : List UInt8 := [182, 0, 157, 78, 42, 42, 180, 0, 57, 178, 0, 98, 166, 0, 7, 4, 167, 0, 4, 3, 4, 182, 0, 122]
abbrev dktX4_line_6 : List UInt8 := dkwX4_line_6 ++ dktX4_line_7
def dkwX4_line_5 : List UInt8 := [182, 0, 122, 42, 180, 0, 29, 77, 42, 182, 0, 126, 27, 153, 0, 10, 42, 182, 0, 153, 167, 0, 7, 42]
abbrev dktX4_line_5 : List UInt8 := dkwX4_line_5 ++ dktX4_line_6
def dkwX4_line_4 : List UInt8 := [154, 0, 21, 42, 180, 0, 24, 42, 180, 0, 29, 182, 0, 150, 154, 0, 7, 4, 167, 0, 4, 3, 5]
abbrev dktX4_line_4 : List UInt8 := dkwX4_line_4 ++ dktX4_line_5
def dkwX4_line_3 : List UInt8 := [3, 4, 182, 0, 122, 42, 42, 180, 0, 29, 182, 0, 143, 16, 6, 163, 0, 28, 42, 182, 0, 146]
abbrev dktX4_line_3 : List UInt8 := dkwX4_line_3 ++ dktX4_line_4
def dkwX4_line_2 : List UInt8 := [3, 6, 182, 0, 122, 42, 182, 0, 126, 42, 42, 180, 0, 57, 178, 0, 79, 166, 0, 7, 4, 167, 0, 4]
abbrev dktX4_line_2 : List UInt8 := dkwX4_line_2 ++ dktX4_line_3
def dkwX4_line_1 : List UInt8 := [167, 0, 4, 3, 4, 182, 0, 122, 42, 42, 180, 0, 20, 182, 0, 139, 8, 162, 0, 7, 4, 167, 0, 4]
abbrev dktX4_line_1 : List UInt8 := dkwX4_line_1 ++ dktX4_line_2
def dkwX4_line_0 : List UInt8 := [42, 18, 135, 182, 0, 118, 60, 42, 27, 154, 0, 12, 42, 18, 137, 182, 0, 118, 153, 0, 7, 4]
abbrev dktX4_line_0 : List UInt8 := dkwX4_line_0 ++ dktX4_line_1
theorem dksX4_line_0 : cX4_line.data.toList.drop 0 = dktX4_line_0 := by decide +kernel
theorem dksX4_line_1 : cX4_line.data.toList.drop 22 = dktX4_line_1 := dk_seg dksX4_line_0 22 rfl rfl
theorem dksX4_line_2 : cX4_line.data.toList.drop 46 = dktX4_line_2 := dk_seg dksX4_line_1 24 rfl rfl
theorem dksX4_line_3 : cX4_line.data.toList.drop 70 = dktX4_line_3 := dk_seg dksX4_line_2 24 rfl rfl
theorem dksX4_line_4 : cX4_line.data.toList.drop 92 = dktX4_line_4 := dk_seg dksX4_line_3 22 rfl rfl
theorem dksX4_line_5 : cX4_line.data.toList.drop 115 = dktX4_line_5 := dk_seg dksX4_line_4 23 rfl rfl
theorem dksX4_line_6 : cX4_line.data.toList.drop 139 = dktX4_line_6 := dk_seg dksX4_line_5 24 rfl rfl
theorem dksX4_line_7 : cX4_line.data.toList.drop 163 = dktX4_line_7 := dk_seg dksX4_line_6 24 rfl rfl
theorem dksX4_line_8 : cX4_line.data.toList.drop 187 = dktX4_line_8 := dk_seg dksX4_line_7 24 rfl rfl
theorem dX4_line_0 : decode cX4_line 0 = .ok (.aload_n 0, 1) := dk_42 (dk_at dksX4_line_0 0 rfl rfl)
theorem dX4_line_1 : decode cX4_line 1 = .ok (.ldc 135, 2) := dk_18 135 (dk_at dksX4_line_0 1 rfl rfl)
theorem dX4_line_3 : decode cX4_line 3 = .ok (.invokevirtual 118, 3) := dk_182 0 118 (dk_at dksX4_line_0 3 rfl rfl)
theorem dX4_line_6 : decode cX4_line 6 = .ok (.istore_n 1, 1) := dk_60 (dk_at dksX4_line_0 6 rfl rfl)
theorem dX4_line_7 : decode cX4_line 7 = .ok (.aload_n 0, 1) := dk_42 (dk_at dksX4_line_0 7 rfl rfl)
theorem dX4_line_8 : decode cX4_line 8 = .ok (.iload_n 1, 1) := dk_27 (dk_at dksX4_line_0 8 rfl rfl)
theorem dX4_line_9 : decode cX4_line 9 = .ok (.ifCond .ne 12, 3) := dk_154 0 12 (dk_at dksX4_line_0 9 rfl rfl)
theorem dX4_line_12 : decode cX4_line 12 = .ok (.aload_n 0, 1) := dk_42 (dk_at dksX4_line_0 12 rfl rfl)
theorem dX4_line_13 : decode cX4_line 13 = .ok (.ldc 137, 2) := dk_18 137 (dk_at dksX4_line_0 13 rfl rfl)
theorem dX4_line_15 : decode cX4_line 15 = .ok (.invokevirtual 118, 3) := dk_182 0 118 (dk_at dksX4_line_0 15 rfl rfl)
theorem dX4_line_18 : decode cX4_line 18 = .ok (.ifCond .eq 7, 3) := dk_153 0 7 (dk_at dksX4_line_0 18 rfl rfl)
theorem dX4_line_21 : decode cX4_line 21 = .ok (.iconst 1, 1) := dk_4 (dk_at dksX4_line_0 21 rfl rfl)
theorem dX4_line_22 : decode cX4_line 22 = .ok (.goto 4, 3) := dk_167 0 4 (dk_at dksX4_line_1 0 rfl rfl)
theorem dX4_line_25 : decode cX4_line 25 = .ok (.iconst 0, 1) := dk_3 (dk_at dksX4_line_1 3 rfl rfl)
theorem dX4_line_26 : decode cX4_line 26 = .ok (.iconst 1, 1) := dk_4 (dk_at dksX4_line_1 4 rfl rfl)
theorem dX4_line_27 : decode cX4_line 27 = .ok (.invokevirtual 122, 3) := dk_182 0 122 (dk_at dksX4_line_1 5 rfl rfl)
theorem dX4_line_30 : decode cX4_line 30 = .ok (.aload_n 0, 1) := dk_42 (dk_at dksX4_line_1 8 rfl rfl)
theorem dX4_line_31 : decode cX4_line 31 = .ok (.aload_n 0, 1) := dk_42 (dk_at dksX4_line_1 9 rfl rfl)
theorem dX4_line_32 : decode cX4_line 32 = .ok (.getfield 20, 3) := dk_180 0 20 (dk_at dksX4_line_1 10 rfl rfl)
theorem dX4_line_35 : decode cX4_line 35 = .ok (.invokevirtual 139, 3) := dk_182 0 139 (dk_at dksX4_line_1 13 rfl rfl)
theorem dX4_line_38 : decode cX4_line 38 = .ok (.iconst 5, 1) := dk_8 (dk_at dksX4_line_1 16 rfl rfl)
theorem dX4_line_39 : decode cX4_line 39 = .ok (.if_icmp .ge 7, 3) := dk_162 0 7 (dk_at dksX4_line_1 17 rfl rfl)
theorem dX4_line_42 : decode cX4_line 42 = .ok (.iconst 1, 1) := dk_4 (dk_at dksX4_line_1 20 rfl rfl)
theorem dX4_line_43 : decode cX4_line 43 = .ok (.goto 4, 3) := dk_167 0 4 (dk_at dksX4_line_1 21 rfl rfl)
theorem dX4_line_46 : decode cX4_line 46 = .ok (.iconst 0, 1) := dk_3 (dk_at dksX4_line_2 0 rfl rfl)
theorem dX4_line_47 : decode cX4_line 47 = .ok (.iconst 3, 1) := dk_6 (dk_at dksX4_line_2 1 rfl rfl)
theorem dX4_line_48 : decode cX4_line 48 = .ok (.invokevirtual 122, 3) := dk_182 0 122 (dk_at dksX4_line_2 2 rfl rfl)
theorem dX4_line_51 : decode cX4_line 51 = .ok (.aload_n 0, 1) := dk_42 (dk_at dksX4_line_2 5 rfl rfl)
theorem dX4_line_52 : decode cX4_line 52 = .ok (.invokevirtual 126, 3) := dk_182 0 126 (dk_at dksX4_line_2 6 rfl rfl)
theorem dX4_line_55 : decode cX4_line 55 = .ok (.aload_n 0, 1) := dk_42 (dk_at dksX4_line_2 9 rfl rfl)
theorem dX4_line_56 : decode cX4_line 56 = .ok (.aload_n 0, 1) := dk_42 (dk_at dksX4_line_2 10 rfl rfl)
theorem dX4_line_57 : decode cX4_line 57 = .ok (.getfield 57, 3) := dk_180 0 57 (dk_at dksX4_line_2 11 rfl rfl)
theorem dX4_line_60 : decode cX4_line 60 = .ok (.getstatic 79, 3) := dk_178 0 79 (dk_at dksX4_line_2 14 rfl rfl)
theorem dX4_line_63 : decode cX4_line 63 = .ok (.if_acmp .ne 7, 3) := dk_166 0 7 (dk_at dksX4_line_2 17 rfl rfl)
theorem dX4_line_66 : decode cX4_line 66 = .ok (.iconst 1, 1) := dk_4 (dk_at dksX4_line_2 20 rfl rfl)
theorem dX4_line_67 : decode cX4_line 67 = .ok (.goto 4, 3) := dk_167 0 4 (dk_at dksX4_line_2 21 rfl rfl)
theorem dX4_line_70 : decode cX4_line 70 = .ok (.iconst 0, 1) := dk_3 (dk_at dksX4_line_3 0 rfl rfl)
theorem dX4_line_71 : decode cX4_line 71 = .ok (.iconst 1, 1) := dk_4 (dk_at dksX4_line_3 1 rfl rfl)
theorem dX4_line_72 : decode cX4_line 72 = .ok (.invokevirtual 122, 3) := dk_182 0 122 (dk_at dksX4_line_3 2 rfl rfl)
theorem dX4_line_75 : decode cX4_line 75 = .ok (.aload_n 0, 1) := dk_42 (dk_at dksX4_line_3 5 rfl rfl)
theorem dX4_line_76 : decode cX4_line 76 = .ok (.aload_n 0, 1) := dk_42 (dk_at dksX4_line_3 6 rfl rfl)
theorem dX4_line_77 : decode cX4_line 77 = .ok (.getfield 29, 3) := dk_180 0 29 (dk_at dksX4_line_3 7 rfl rfl)
theorem dX4_line_80 : decode cX4_line 80 = .ok (.invokevirtual 143, 3) := dk_182 0 143 (dk_at dksX4_line_3 10 rfl rfl)
theorem dX4_line_83 : decode cX4_line 83 = .ok (.bipush 6, 2) := dk_16 6 (dk_at dksX4_line_3 13 rfl rfl)
theorem dX4_line_85 : decode cX4_line 85 = .ok (.if_icmp .gt 28, 3) := dk_163 0 28 (dk_at dksX4_line_3 15 rfl rfl)
theorem dX4_line_88 : decode cX4_line 88 = .ok (.aload_n 0, 1) := dk_42 (dk_at dksX4_line_3 18 rfl rfl)
theorem dX4_line_89 : decode cX4_line 89 = .ok (.invokevirtual 146, 3) := dk_182 0 146 (dk_at dksX4_line_3 19 rfl rfl)
theorem dX4_line_92 : decode cX4_line 92 = .ok (.ifCond .ne 21, 3) := dk_154 0 21 (dk_at dksX4_line_4 0 rfl rfl)
theorem dX4_line_95 : decode cX4_line 95 = .ok (.aload_n 0, 1) := dk_42 (dk_at dksX4_line_4 3 rfl rfl)
theorem dX4_line_96 : decode cX4_line 96 = .ok (.getfield 24, 3) := dk_180 0 24 (dk_at dksX4_line_4 4 rfl rfl)
theorem dX4_line_99 : decode cX4_line 99 = .ok (.aload_n 0, 1) := dk_42 (dk_at dksX4_line_4 7 rfl rfl)
theorem dX4_line_100 : decode cX4_line 100 = .ok (.getfield 29, 3) := dk_180 0 29 (dk_at dksX4_line_4 8 rfl rfl)
theorem dX4_line_103 : decode cX4_line 103 = .ok (.invokevirtual 150, 3) := dk_182 0 150 (dk_at dksX4_line_4 11 rfl rfl)
theorem dX4_line_106 : decode cX4_line 106 = .ok (.ifCond .ne 7, 3) := dk_154 0 7 (dk_at dksX4_line_4 14 rfl rfl)
theorem dX4_line_109 : decode cX4_line 109 = .ok (.iconst 1, 1) := dk_4 (dk_at dksX4_line_4 17 rfl rfl)
theorem dX4_line_110 : decode cX4_line 110 = .ok (.goto 4, 3) := dk_167 0 4 (dk_at dksX4_line_4 18 rfl rfl)
theorem dX4_line_113 : decode cX4_line 113 = .ok (.iconst 0, 1) := dk_3 (dk_at dksX4_line_4 21 rfl rfl)
theorem dX4_line_114 : decode cX4_line 114 = .ok (.iconst 2, 1) := dk_5 (dk_at dksX4_line_4 22 rfl rfl)
theorem dX4_line_115 : decode cX4_line 115 = .ok (.invokevirtual 122, 3) := dk_182 0 122 (dk_at dksX4_line_5 0 rfl rfl)
theorem dX4_line_118 : decode cX4_line 118 = .ok (.aload_n 0, 1) := dk_42 (dk_at dksX4_line_5 3 rfl rfl)
theorem dX4_line_119 : decode cX4_line 119 = .ok (.getfield 29, 3) := dk_180 0 29 (dk_at dksX4_line_5 4 rfl rfl)
theorem dX4_line_122 : decode cX4_line 122 = .ok (.astore_n 2, 1) := dk_77 (dk_at dksX4_line_5 7 rfl rfl)
theorem dX4_line_123 : decode cX4_line 123 = .ok (.aload_n 0, 1) := dk_42 (dk_at dksX4_line_5 8 rfl rfl)
theorem dX4_line_124 : decode cX4_line 124 = .ok (.invokevirtual 126, 3) := dk_182 0 126 (dk_at dksX4_line_5 9 rfl rfl)
theorem dX4_line_127 : decode cX4_line 127 = .ok (.iload_n 1, 1) := dk_27 (dk_at dksX4_line_5 12 rfl rfl)
theorem dX4_line_128 : decode cX4_line 128 = .ok (.ifCond .eq 10, 3) := dk_153 0 10 (dk_at dksX4_line_5 13 rfl rfl)
theorem dX4_line_131 : decode cX4_line 131 = .ok (.aload_n 0, 1) := dk_42 (dk_at dksX4_line_5 16 rfl rfl)
theorem dX4_line_132 : decode cX4_line 132 = .ok (.invokevirtual 153, 3) := dk_182 0 153 (dk_at dksX4_line_5 17 rfl rfl)
theorem dX4_line_135 : decode cX4_line 135 = .ok (.goto 7, 3) := dk_167 0 7 (dk_at dksX4_line_5 20 rfl rfl)
theorem dX4_line_138 : decode cX4_line 138 = .ok (.aload_n 0, 1) := dk_42 (dk_at dksX4_line_5 23 rfl rfl)
theorem dX4_line_139 : decode cX4_line 139 = .ok (.invokevirtual 157, 3) := dk_182 0 157 (dk_at dksX4_line_6 0 rfl rfl)
theorem dX4_line_142 : decode cX4_line 142 = .ok (.astore_n 3, 1) := dk_78 (dk_at dksX4_line_6 3 rfl rfl)
theorem dX4_line_143 : decode cX4_line 143 = .ok (.aload_n 0, 1) := dk_42 (dk_at dksX4_line_6 4 rfl rfl)
theorem dX4_line_144 : decode cX4_line 144 = .ok (.aload_n 0, 1) := dk_42 (dk_at dksX4_line_6 5 rfl rfl)
theorem dX4_line_145 : decode cX4_line 145 = .ok (.getfield 57, 3) := dk_180 0 57 (dk_at dksX4_line_6 6 rfl rfl)
theorem dX4_line_148 : decode cX4_line 148 = .ok (.getstatic 98, 3) := dk_178 0 98 (dk_at dksX4_line_6 9 rfl rfl)
theorem dX4_line_151 : decode cX4_line 151 = .ok (.if_acmp .ne 7, 3) := dk_166 0 7 (dk_at dksX4_line_6 12 rfl rfl)
theorem dX4_line_154 : decode cX4_line 154 = .ok (.iconst 1, 1) := dk_4 (dk_at dksX4_line_6 15 rfl rfl)
theorem dX4_line_155 : decode cX4_line 155 = .ok (.goto 4, 3) := dk_167 0 4 (dk_at dksX4_line_6 16 rfl rfl)
theorem dX4_line_158 : decode cX4_line 158 = .ok (.iconst 0, 1) := dk_3 (dk_at dksX4_line_6 19 rfl rfl)
theorem dX4_line_159 : decode cX4_line 159 = .ok (.iconst 1, 1) := dk_4 (dk_at dksX4_line_6 20 rfl rfl)
theorem dX4_line_160 : decode cX4_line 160 = .ok (.invokevirtual 122, 3) := dk_182 0 122 (dk_at dksX4_line_6 21 rfl rfl)
theorem dX4_line_163 : decode cX4_line 163 = .ok (.aload_n 0, 1) := dk_42 (dk_at dksX4_line_7 0 rfl rfl)
theorem dX4_line_164 : decode cX4_line 164 = .ok (.invokevirtual 126, 3) := dk_182 0 126 (dk_at dksX4_line_7 1 rfl rfl)
theorem dX4_line_167 : decode cX4_line 167 = .ok (.aload_n 0, 1) := dk_42 (dk_at dksX4_line_7 4 rfl rfl)
theorem dX4_line_168 : decode cX4_line 168 = .ok (.getfield 24, 3) := dk_180 0 24 (dk_at dksX4_line_7 5 rfl rfl)
theorem dX4_line_171 : decode cX4_line 171 = .ok (.aload_n 2, 1) := dk_44 (dk_at dksX4_line_7 8 rfl rfl)
theorem dX4_line_172 : decode cX4_line 172 = .ok (.invokevirtual 159, 3) := dk_182 0 159 (dk_at dksX4_line_7 9 rfl rfl)
theorem dX4_line_175 : decode cX4_line 175 = .ok (.pop, 1) := dk_87 (dk_at dksX4_line_7 12 rfl rfl)
theorem dX4_line_176 : decode cX4_line 176 = .ok (.aload_n 0, 1) := dk_42 (dk_at dksX4_line_7 13 rfl rfl)
theorem dX4_line_177 : decode cX4_line 177 = .ok (.getfield 20, 3) := dk_180 0 20 (dk_at dksX4_line_7 14 rfl rfl)
theorem dX4_line_180 : decode cX4_line 180 = .ok (.aload_n 3, 1) := dk_45 (dk_at dksX4_line_7 17 rfl rfl)
theorem dX4_line_181 : decode cX4_line 181 = .ok (.invokevirtual 159, 3) := dk_182 0 159 (dk_at dksX4_line_7 18 rfl rfl)
theorem dX4_line_184 : decode cX4_line 184 = .ok (.pop, 1) := dk_87 (dk_at dksX4_line_7 21 rfl rfl)
theorem dX4_line_185 : decode cX4_line 185 = .ok (.aload_n 0, 1) := dk_42 (dk_at dksX4_line_7 22 rfl rfl)
theorem dX4_line_186 : decode cX4_line 186 = .ok (.dup, 1) := dk_89 (dk_at dksX4_line_7 23 rfl rfl)
theorem dX4_line_187 : decode cX4_line 187 = .ok (.getfield 162, 3) := dk_180 0 162 (dk_at dksX4_line_8 0 rfl rfl)
theorem dX4_line_190 : decode cX4_line 190 = .ok (.iconst 1, 1) := dk_4 (dk_at dksX4_line_8 3 rfl rfl)
theorem dX4_line_191 : decode cX4_line 191 = .ok (.iadd, 1) := dk_96 (dk_at dksX4_line_8 4 rfl rfl)
theorem dX4_line_192 : decode cX4_line 192 = .ok (.putfield 162, 3) := dk_181 0 162 (dk_at dksX4_line_8 5 rfl rfl)
theorem dX4_line_195 : decode cX4_line 195 = .ok (.return_, 1) := dk_177 (dk_at dksX4_line_8 8 rfl rfl)
abbrev cX4_isWord : ByteArray := prog_10_method_5_code
def yX4_isWord : MethodName := ⟨RX4, "isWord", "(Ljava/lang/String;)Z"⟩
def dkwX4_isWord_1 : List UInt8 := [167, 0, 4, 3, 172]
abbrev dktX4_isWord_1 : List UInt8 := dkwX4_isWord_1 ++ []
def dkwX4_isWord_0 : List UInt8 := [42, 180, 0, 57, 178, 0, 79, 166, 0, 18, 42, 180, 0, 29, 43, 182, 0, 112, 153, 0, 7, 4]
abbrev dktX4_isWord_0 : List UInt8 := dkwX4_isWord_0 ++ dktX4_isWord_1
theorem dksX4_isWord_0 : cX4_isWord.data.toList.drop 0 = dktX4_isWord_0 := by decide +kernel
theorem dksX4_isWord_1 : cX4_isWord.data.toList.drop 22 = dktX4_isWord_1 := dk_seg dksX4_isWord_0 22 rfl rfl
theorem dX4_isWord_0 : decode cX4_isWord 0 = .ok (.aload_n 0, 1) := dk_42 (dk_at dksX4_isWord_0 0 rfl rfl)
theorem dX4_isWord_1 : decode cX4_isWord 1 = .ok (.getfield 57, 3) := dk_180 0 57 (dk_at dksX4_isWord_0 1 rfl rfl)
theorem dX4_isWord_4 : decode cX4_isWord 4 = .ok (.getstatic 79, 3) := dk_178 0 79 (dk_at dksX4_isWord_0 4 rfl rfl)
theorem dX4_isWord_7 : decode cX4_isWord 7 = .ok (.if_acmp .ne 18, 3) := dk_166 0 18 (dk_at dksX4_isWord_0 7 rfl rfl)
theorem dX4_isWord_10 : decode cX4_isWord 10 = .ok (.aload_n 0, 1) := dk_42 (dk_at dksX4_isWord_0 10 rfl rfl)
theorem dX4_isWord_11 : decode cX4_isWord 11 = .ok (.getfield 29, 3) := dk_180 0 29 (dk_at dksX4_isWord_0 11 rfl rfl)
theorem dX4_isWord_14 : decode cX4_isWord 14 = .ok (.aload_n 1, 1) := dk_43 (dk_at dksX4_isWord_0 14 rfl rfl)
theorem dX4_isWord_15 : decode cX4_isWord 15 = .ok (.invokevirtual 112, 3) := dk_182 0 112 (dk_at dksX4_isWord_0 15 rfl rfl)
theorem dX4_isWord_18 : decode cX4_isWord 18 = .ok (.ifCond .eq 7, 3) := dk_153 0 7 (dk_at dksX4_isWord_0 18 rfl rfl)
theorem dX4_isWord_21 : decode cX4_isWord 21 = .ok (.iconst 1, 1) := dk_4 (dk_at dksX4_isWord_0 21 rfl rfl)
theorem dX4_isWord_22 : decode cX4_isWord 22 = .ok (.goto 4, 3) := dk_167 0 4 (dk_at dksX4_isWord_1 0 rfl rfl)
theorem dX4_isWord_25 : decode cX4_isWord 25 = .ok (.iconst 0, 1) := dk_3 (dk_at dksX4_isWord_1 3 rfl rfl)
theorem dX4_isWord_26 : decode cX4_isWord 26 = .ok (.ireturn, 1) := dk_172 (dk_at dksX4_isWord_1 4 rfl rfl)
abbrev cX4_needs : ByteArray := prog_10_method_4_code
def yX4_needs : MethodName := ⟨RX4, "needs", "(ZI)V"⟩
def dkwX4_needs_0 : List UInt8 := [27, 154, 0, 16, 187, 0, 107, 89, 28, 42, 180, 0, 48, 183, 0, 109, 191, 177]
abbrev dktX4_needs_0 : List UInt8 := dkwX4_needs_0 ++ []
theorem dksX4_needs_0 : cX4_needs.data.toList.drop 0 = dktX4_needs_0 := by decide +kernel
theorem dX4_needs_0 : decode cX4_needs 0 = .ok (.iload_n 1, 1) := dk_27 (dk_at dksX4_needs_0 0 rfl rfl)
theorem dX4_needs_1 : decode cX4_needs 1 = .ok (.ifCond .ne 16, 3) := dk_154 0 16 (dk_at dksX4_needs_0 1 rfl rfl)
theorem dX4_needs_4 : decode cX4_needs 4 = .ok (.new 107, 3) := dk_187 0 107 (dk_at dksX4_needs_0 4 rfl rfl)
theorem dX4_needs_7 : decode cX4_needs 7 = .ok (.dup, 1) := dk_89 (dk_at dksX4_needs_0 7 rfl rfl)
theorem dX4_needs_8 : decode cX4_needs 8 = .ok (.iload_n 2, 1) := dk_28 (dk_at dksX4_needs_0 8 rfl rfl)
theorem dX4_needs_9 : decode cX4_needs 9 = .ok (.aload_n 0, 1) := dk_42 (dk_at dksX4_needs_0 9 rfl rfl)
theorem dX4_needs_10 : decode cX4_needs 10 = .ok (.getfield 48, 3) := dk_180 0 48 (dk_at dksX4_needs_0 10 rfl rfl)
theorem dX4_needs_13 : decode cX4_needs 13 = .ok (.invokespecial 109, 3) := dk_183 0 109 (dk_at dksX4_needs_0 13 rfl rfl)
theorem dX4_needs_16 : decode cX4_needs 16 = .ok (.athrow, 1) := dk_191 (dk_at dksX4_needs_0 16 rfl rfl)
theorem dX4_needs_17 : decode cX4_needs 17 = .ok (.return_, 1) := dk_177 (dk_at dksX4_needs_0 17 rfl rfl)
abbrev cX4_isOwn : ByteArray := prog_10_method_10_code
def yX4_isOwn : MethodName := ⟨RX4, "isOwn", "()Z"⟩
def dkwX4_isOwn_1 : List UInt8 := [154, 0, 12, 42, 18, 167, 182, 0, 118, 153, 0, 7, 4, 167, 0, 4, 3, 172]
abbrev dktX4_isOwn_1 : List UInt8 := dkwX4_isOwn_1 ++ []
def dkwX4_isOwn_0 : List UInt8 := [42, 18, 137, 182, 0, 118, 154, 0, 30, 42, 18, 135, 182, 0, 118, 154, 0, 21, 42, 18, 165, 182, 0, 118]
abbrev dktX4_isOwn_0 : List UInt8 := dkwX4_isOwn_0 ++ dktX4_isOwn_1
theorem dksX4_isOwn_0 : cX4_isOwn.data.toList.drop 0 = dktX4_isOwn_0 := by decide +kernel
theorem dksX4_isOwn_1 : cX4_isOwn.data.toList.drop 24 = dktX4_isOwn_1 := dk_seg dksX4_isOwn_0 24 rfl rfl
theorem dX4_isOwn_0 : decode cX4_isOwn 0 = .ok (.aload_n 0, 1) := dk_42 (dk_at dksX4_isOwn_0 0 rfl rfl)
theorem dX4_isOwn_1 : decode cX4_isOwn 1 = .ok (.ldc 137, 2) := dk_18 137 (dk_at dksX4_isOwn_0 1 rfl rfl)
theorem dX4_isOwn_3 : decode cX4_isOwn 3 = .ok (.invokevirtual 118, 3) := dk_182 0 118 (dk_at dksX4_isOwn_0 3 rfl rfl)
theorem dX4_isOwn_6 : decode cX4_isOwn 6 = .ok (.ifCond .ne 30, 3) := dk_154 0 30 (dk_at dksX4_isOwn_0 6 rfl rfl)
theorem dX4_isOwn_9 : decode cX4_isOwn 9 = .ok (.aload_n 0, 1) := dk_42 (dk_at dksX4_isOwn_0 9 rfl rfl)
theorem dX4_isOwn_10 : decode cX4_isOwn 10 = .ok (.ldc 135, 2) := dk_18 135 (dk_at dksX4_isOwn_0 10 rfl rfl)
theorem dX4_isOwn_12 : decode cX4_isOwn 12 = .ok (.invokevirtual 118, 3) := dk_182 0 118 (dk_at dksX4_isOwn_0 12 rfl rfl)
theorem dX4_isOwn_15 : decode cX4_isOwn 15 = .ok (.ifCond .ne 21, 3) := dk_154 0 21 (dk_at dksX4_isOwn_0 15 rfl rfl)
theorem dX4_isOwn_18 : decode cX4_isOwn 18 = .ok (.aload_n 0, 1) := dk_42 (dk_at dksX4_isOwn_0 18 rfl rfl)
theorem dX4_isOwn_19 : decode cX4_isOwn 19 = .ok (.ldc 165, 2) := dk_18 165 (dk_at dksX4_isOwn_0 19 rfl rfl)
theorem dX4_isOwn_21 : decode cX4_isOwn 21 = .ok (.invokevirtual 118, 3) := dk_182 0 118 (dk_at dksX4_isOwn_0 21 rfl rfl)
theorem dX4_isOwn_24 : decode cX4_isOwn 24 = .ok (.ifCond .ne 12, 3) := dk_154 0 12 (dk_at dksX4_isOwn_1 0 rfl rfl)
theorem dX4_isOwn_27 : decode cX4_isOwn 27 = .ok (.aload_n 0, 1) := dk_42 (dk_at dksX4_isOwn_1 3 rfl rfl)
theorem dX4_isOwn_28 : decode cX4_isOwn 28 = .ok (.ldc 167, 2) := dk_18 167 (dk_at dksX4_isOwn_1 4 rfl rfl)
theorem dX4_isOwn_30 : decode cX4_isOwn 30 = .ok (.invokevirtual 118, 3) := dk_182 0 118 (dk_at dksX4_isOwn_1 6 rfl rfl)
theorem dX4_isOwn_33 : decode cX4_isOwn 33 = .ok (.ifCond .eq 7, 3) := dk_153 0 7 (dk_at dksX4_isOwn_1 9 rfl rfl)
theorem dX4_isOwn_36 : decode cX4_isOwn 36 = .ok (.iconst 1, 1) := dk_4 (dk_at dksX4_isOwn_1 12 rfl rfl)
theorem dX4_isOwn_37 : decode cX4_isOwn 37 = .ok (.goto 4, 3) := dk_167 0 4 (dk_at dksX4_isOwn_1 13 rfl rfl)
theorem dX4_isOwn_40 : decode cX4_isOwn 40 = .ok (.iconst 0, 1) := dk_3 (dk_at dksX4_isOwn_1 16 rfl rfl)
theorem dX4_isOwn_41 : decode cX4_isOwn 41 = .ok (.ireturn, 1) := dk_172 (dk_at dksX4_isOwn_1 17 rfl rfl)
abbrev cX4_turned : ByteArray := prog_10_method_12_code
def yX4_turned : MethodName := ⟨RX4, "turned", "()LCoincideBench$Lattice;"⟩
def dkwX4_turned_6 : List UInt8 := [187, 0, 209, 89, 42, 180, 0, 20, 27, 182, 0, 202, 192, 0, 169, 44, 183, 0, 211, 176]
abbrev dktX4_turned_6 : List UInt8 := dkwX4_turned_6 ++ []
def dkwX4_turned_5 : List UInt8 := [46, 154, 0, 22, 44, 6, 46, 154, 0, 16, 187, 0, 107, 89, 5, 42, 180, 0, 129, 183, 0, 109, 191]
abbrev dktX4_turned_5 : List UInt8 := dkwX4_turned_5 ++ dktX4_turned_6
def dkwX4_turned_4 : List UInt8 := [182, 0, 181, 79, 132, 3, 1, 167, 255, 240, 44, 3, 46, 154, 0, 34, 44, 4, 46, 154, 0, 28, 44, 5]
abbrev dktX4_turned_4 : List UInt8 := dkwX4_turned_4 ++ dktX4_turned_5
def dkwX4_turned_3 : List UInt8 := [182, 0, 126, 42, 18, 167, 182, 0, 194, 7, 188, 10, 77, 3, 62, 29, 7, 162, 0, 17, 44, 29, 42, 6]
abbrev dktX4_turned_3 : List UInt8 := dkwX4_turned_3 ++ dktX4_turned_4
def dkwX4_turned_2 : List UInt8 := [27, 182, 0, 202, 192, 0, 169, 182, 0, 206, 154, 0, 7, 4, 167, 0, 4, 3, 5, 182, 0, 122, 42]
abbrev dktX4_turned_2 : List UInt8 := dkwX4_turned_2 ++ dktX4_turned_3
def dkwX4_turned_1 : List UInt8 := [182, 0, 122, 42, 180, 0, 24, 42, 180, 0, 29, 182, 0, 198, 60, 42, 27, 155, 0, 24, 42, 180, 0, 20]
abbrev dktX4_turned_1 : List UInt8 := dkwX4_turned_1 ++ dktX4_turned_2
def dkwX4_turned_0 : List UInt8 := [42, 18, 165, 182, 0, 194, 42, 42, 180, 0, 57, 178, 0, 79, 166, 0, 7, 4, 167, 0, 4, 3, 4]
abbrev dktX4_turned_0 : List UInt8 := dkwX4_turned_0 ++ dktX4_turned_1
theorem dksX4_turned_0 : cX4_turned.data.toList.drop 0 = dktX4_turned_0 := by decide +kernel
theorem dksX4_turned_1 : cX4_turned.data.toList.drop 23 = dktX4_turned_1 := dk_seg dksX4_turned_0 23 rfl rfl
theorem dksX4_turned_2 : cX4_turned.data.toList.drop 47 = dktX4_turned_2 := dk_seg dksX4_turned_1 24 rfl rfl
theorem dksX4_turned_3 : cX4_turned.data.toList.drop 70 = dktX4_turned_3 := dk_seg dksX4_turned_2 23 rfl rfl
theorem dksX4_turned_4 : cX4_turned.data.toList.drop 94 = dktX4_turned_4 := dk_seg dksX4_turned_3 24 rfl rfl
theorem dksX4_turned_5 : cX4_turned.data.toList.drop 118 = dktX4_turned_5 := dk_seg dksX4_turned_4 24 rfl rfl
theorem dksX4_turned_6 : cX4_turned.data.toList.drop 141 = dktX4_turned_6 := dk_seg dksX4_turned_5 23 rfl rfl
theorem dX4_turned_0 : decode cX4_turned 0 = .ok (.aload_n 0, 1) := dk_42 (dk_at dksX4_turned_0 0 rfl rfl)
theorem dX4_turned_1 : decode cX4_turned 1 = .ok (.ldc 165, 2) := dk_18 165 (dk_at dksX4_turned_0 1 rfl rfl)
theorem dX4_turned_3 : decode cX4_turned 3 = .ok (.invokevirtual 194, 3) := dk_182 0 194 (dk_at dksX4_turned_0 3 rfl rfl)
theorem dX4_turned_6 : decode cX4_turned 6 = .ok (.aload_n 0, 1) := dk_42 (dk_at dksX4_turned_0 6 rfl rfl)
theorem dX4_turned_7 : decode cX4_turned 7 = .ok (.aload_n 0, 1) := dk_42 (dk_at dksX4_turned_0 7 rfl rfl)
theorem dX4_turned_8 : decode cX4_turned 8 = .ok (.getfield 57, 3) := dk_180 0 57 (dk_at dksX4_turned_0 8 rfl rfl)
theorem dX4_turned_11 : decode cX4_turned 11 = .ok (.getstatic 79, 3) := dk_178 0 79 (dk_at dksX4_turned_0 11 rfl rfl)
theorem dX4_turned_14 : decode cX4_turned 14 = .ok (.if_acmp .ne 7, 3) := dk_166 0 7 (dk_at dksX4_turned_0 14 rfl rfl)
theorem dX4_turned_17 : decode cX4_turned 17 = .ok (.iconst 1, 1) := dk_4 (dk_at dksX4_turned_0 17 rfl rfl)
theorem dX4_turned_18 : decode cX4_turned 18 = .ok (.goto 4, 3) := dk_167 0 4 (dk_at dksX4_turned_0 18 rfl rfl)
theorem dX4_turned_21 : decode cX4_turned 21 = .ok (.iconst 0, 1) := dk_3 (dk_at dksX4_turned_0 21 rfl rfl)
theorem dX4_turned_22 : decode cX4_turned 22 = .ok (.iconst 1, 1) := dk_4 (dk_at dksX4_turned_0 22 rfl rfl)
theorem dX4_turned_23 : decode cX4_turned 23 = .ok (.invokevirtual 122, 3) := dk_182 0 122 (dk_at dksX4_turned_1 0 rfl rfl)
theorem dX4_turned_26 : decode cX4_turned 26 = .ok (.aload_n 0, 1) := dk_42 (dk_at dksX4_turned_1 3 rfl rfl)
theorem dX4_turned_27 : decode cX4_turned 27 = .ok (.getfield 24, 3) := dk_180 0 24 (dk_at dksX4_turned_1 4 rfl rfl)
theorem dX4_turned_30 : decode cX4_turned 30 = .ok (.aload_n 0, 1) := dk_42 (dk_at dksX4_turned_1 7 rfl rfl)
theorem dX4_turned_31 : decode cX4_turned 31 = .ok (.getfield 29, 3) := dk_180 0 29 (dk_at dksX4_turned_1 8 rfl rfl)
theorem dX4_turned_34 : decode cX4_turned 34 = .ok (.invokevirtual 198, 3) := dk_182 0 198 (dk_at dksX4_turned_1 11 rfl rfl)
theorem dX4_turned_37 : decode cX4_turned 37 = .ok (.istore_n 1, 1) := dk_60 (dk_at dksX4_turned_1 14 rfl rfl)
theorem dX4_turned_38 : decode cX4_turned 38 = .ok (.aload_n 0, 1) := dk_42 (dk_at dksX4_turned_1 15 rfl rfl)
theorem dX4_turned_39 : decode cX4_turned 39 = .ok (.iload_n 1, 1) := dk_27 (dk_at dksX4_turned_1 16 rfl rfl)
theorem dX4_turned_40 : decode cX4_turned 40 = .ok (.ifCond .lt 24, 3) := dk_155 0 24 (dk_at dksX4_turned_1 17 rfl rfl)
theorem dX4_turned_43 : decode cX4_turned 43 = .ok (.aload_n 0, 1) := dk_42 (dk_at dksX4_turned_1 20 rfl rfl)
theorem dX4_turned_44 : decode cX4_turned 44 = .ok (.getfield 20, 3) := dk_180 0 20 (dk_at dksX4_turned_1 21 rfl rfl)
theorem dX4_turned_47 : decode cX4_turned 47 = .ok (.iload_n 1, 1) := dk_27 (dk_at dksX4_turned_2 0 rfl rfl)
theorem dX4_turned_48 : decode cX4_turned 48 = .ok (.invokevirtual 202, 3) := dk_182 0 202 (dk_at dksX4_turned_2 1 rfl rfl)
theorem dX4_turned_51 : decode cX4_turned 51 = .ok (.checkcast 169, 3) := dk_192 0 169 (dk_at dksX4_turned_2 4 rfl rfl)
theorem dX4_turned_54 : decode cX4_turned 54 = .ok (.invokevirtual 206, 3) := dk_182 0 206 (dk_at dksX4_turned_2 7 rfl rfl)
theorem dX4_turned_57 : decode cX4_turned 57 = .ok (.ifCond .ne 7, 3) := dk_154 0 7 (dk_at dksX4_turned_2 10 rfl rfl)
theorem dX4_turned_60 : decode cX4_turned 60 = .ok (.iconst 1, 1) := dk_4 (dk_at dksX4_turned_2 13 rfl rfl)
theorem dX4_turned_61 : decode cX4_turned 61 = .ok (.goto 4, 3) := dk_167 0 4 (dk_at dksX4_turned_2 14 rfl rfl)
theorem dX4_turned_64 : decode cX4_turned 64 = .ok (.iconst 0, 1) := dk_3 (dk_at dksX4_turned_2 17 rfl rfl)
theorem dX4_turned_65 : decode cX4_turned 65 = .ok (.iconst 2, 1) := dk_5 (dk_at dksX4_turned_2 18 rfl rfl)
theorem dX4_turned_66 : decode cX4_turned 66 = .ok (.invokevirtual 122, 3) := dk_182 0 122 (dk_at dksX4_turned_2 19 rfl rfl)
theorem dX4_turned_69 : decode cX4_turned 69 = .ok (.aload_n 0, 1) := dk_42 (dk_at dksX4_turned_2 22 rfl rfl)
theorem dX4_turned_70 : decode cX4_turned 70 = .ok (.invokevirtual 126, 3) := dk_182 0 126 (dk_at dksX4_turned_3 0 rfl rfl)
theorem dX4_turned_73 : decode cX4_turned 73 = .ok (.aload_n 0, 1) := dk_42 (dk_at dksX4_turned_3 3 rfl rfl)
theorem dX4_turned_74 : decode cX4_turned 74 = .ok (.ldc 167, 2) := dk_18 167 (dk_at dksX4_turned_3 4 rfl rfl)
theorem dX4_turned_76 : decode cX4_turned 76 = .ok (.invokevirtual 194, 3) := dk_182 0 194 (dk_at dksX4_turned_3 6 rfl rfl)
theorem dX4_turned_79 : decode cX4_turned 79 = .ok (.iconst 4, 1) := dk_7 (dk_at dksX4_turned_3 9 rfl rfl)
theorem dX4_turned_80 : decode cX4_turned 80 = .ok (.newarray .int, 2) := dk_188_10 (dk_at dksX4_turned_3 10 rfl rfl)
theorem dX4_turned_82 : decode cX4_turned 82 = .ok (.astore_n 2, 1) := dk_77 (dk_at dksX4_turned_3 12 rfl rfl)
theorem dX4_turned_83 : decode cX4_turned 83 = .ok (.iconst 0, 1) := dk_3 (dk_at dksX4_turned_3 13 rfl rfl)
theorem dX4_turned_84 : decode cX4_turned 84 = .ok (.istore_n 3, 1) := dk_62 (dk_at dksX4_turned_3 14 rfl rfl)
theorem dX4_turned_85 : decode cX4_turned 85 = .ok (.iload_n 3, 1) := dk_29 (dk_at dksX4_turned_3 15 rfl rfl)
theorem dX4_turned_86 : decode cX4_turned 86 = .ok (.iconst 4, 1) := dk_7 (dk_at dksX4_turned_3 16 rfl rfl)
theorem dX4_turned_87 : decode cX4_turned 87 = .ok (.if_icmp .ge 17, 3) := dk_162 0 17 (dk_at dksX4_turned_3 17 rfl rfl)
theorem dX4_turned_90 : decode cX4_turned 90 = .ok (.aload_n 2, 1) := dk_44 (dk_at dksX4_turned_3 20 rfl rfl)
theorem dX4_turned_91 : decode cX4_turned 91 = .ok (.iload_n 3, 1) := dk_29 (dk_at dksX4_turned_3 21 rfl rfl)
theorem dX4_turned_92 : decode cX4_turned 92 = .ok (.aload_n 0, 1) := dk_42 (dk_at dksX4_turned_3 22 rfl rfl)
theorem dX4_turned_93 : decode cX4_turned 93 = .ok (.iconst 3, 1) := dk_6 (dk_at dksX4_turned_3 23 rfl rfl)
theorem dX4_turned_94 : decode cX4_turned 94 = .ok (.invokevirtual 181, 3) := dk_182 0 181 (dk_at dksX4_turned_4 0 rfl rfl)
theorem dX4_turned_97 : decode cX4_turned 97 = .ok (.iastore, 1) := dk_79 (dk_at dksX4_turned_4 3 rfl rfl)
theorem dX4_turned_98 : decode cX4_turned 98 = .ok (.iinc 3 1, 3) := dk_132 3 1 (dk_at dksX4_turned_4 4 rfl rfl)
theorem dX4_turned_101 : decode cX4_turned 101 = .ok (.goto (-16), 3) := dk_167 255 240 (dk_at dksX4_turned_4 7 rfl rfl)
theorem dX4_turned_104 : decode cX4_turned 104 = .ok (.aload_n 2, 1) := dk_44 (dk_at dksX4_turned_4 10 rfl rfl)
theorem dX4_turned_105 : decode cX4_turned 105 = .ok (.iconst 0, 1) := dk_3 (dk_at dksX4_turned_4 11 rfl rfl)
theorem dX4_turned_106 : decode cX4_turned 106 = .ok (.iaload, 1) := dk_46 (dk_at dksX4_turned_4 12 rfl rfl)
theorem dX4_turned_107 : decode cX4_turned 107 = .ok (.ifCond .ne 34, 3) := dk_154 0 34 (dk_at dksX4_turned_4 13 rfl rfl)
theorem dX4_turned_110 : decode cX4_turned 110 = .ok (.aload_n 2, 1) := dk_44 (dk_at dksX4_turned_4 16 rfl rfl)
theorem dX4_turned_111 : decode cX4_turned 111 = .ok (.iconst 1, 1) := dk_4 (dk_at dksX4_turned_4 17 rfl rfl)
theorem dX4_turned_112 : decode cX4_turned 112 = .ok (.iaload, 1) := dk_46 (dk_at dksX4_turned_4 18 rfl rfl)
theorem dX4_turned_113 : decode cX4_turned 113 = .ok (.ifCond .ne 28, 3) := dk_154 0 28 (dk_at dksX4_turned_4 19 rfl rfl)
theorem dX4_turned_116 : decode cX4_turned 116 = .ok (.aload_n 2, 1) := dk_44 (dk_at dksX4_turned_4 22 rfl rfl)
theorem dX4_turned_117 : decode cX4_turned 117 = .ok (.iconst 2, 1) := dk_5 (dk_at dksX4_turned_4 23 rfl rfl)
theorem dX4_turned_118 : decode cX4_turned 118 = .ok (.iaload, 1) := dk_46 (dk_at dksX4_turned_5 0 rfl rfl)
theorem dX4_turned_119 : decode cX4_turned 119 = .ok (.ifCond .ne 22, 3) := dk_154 0 22 (dk_at dksX4_turned_5 1 rfl rfl)
theorem dX4_turned_122 : decode cX4_turned 122 = .ok (.aload_n 2, 1) := dk_44 (dk_at dksX4_turned_5 4 rfl rfl)
theorem dX4_turned_123 : decode cX4_turned 123 = .ok (.iconst 3, 1) := dk_6 (dk_at dksX4_turned_5 5 rfl rfl)
theorem dX4_turned_124 : decode cX4_turned 124 = .ok (.iaload, 1) := dk_46 (dk_at dksX4_turned_5 6 rfl rfl)
theorem dX4_turned_125 : decode cX4_turned 125 = .ok (.ifCond .ne 16, 3) := dk_154 0 16 (dk_at dksX4_turned_5 7 rfl rfl)
theorem dX4_turned_128 : decode cX4_turned 128 = .ok (.new 107, 3) := dk_187 0 107 (dk_at dksX4_turned_5 10 rfl rfl)
theorem dX4_turned_131 : decode cX4_turned 131 = .ok (.dup, 1) := dk_89 (dk_at dksX4_turned_5 13 rfl rfl)
theorem dX4_turned_132 : decode cX4_turned 132 = .ok (.iconst 2, 1) := dk_5 (dk_at dksX4_turned_5 14 rfl rfl)
theorem dX4_turned_133 : decode cX4_turned 133 = .ok (.aload_n 0, 1) := dk_42 (dk_at dksX4_turned_5 15 rfl rfl)
theorem dX4_turned_134 : decode cX4_turned 134 = .ok (.getfield 129, 3) := dk_180 0 129 (dk_at dksX4_turned_5 16 rfl rfl)
theorem dX4_turned_137 : decode cX4_turned 137 = .ok (.invokespecial 109, 3) := dk_183 0 109 (dk_at dksX4_turned_5 19 rfl rfl)
theorem dX4_turned_140 : decode cX4_turned 140 = .ok (.athrow, 1) := dk_191 (dk_at dksX4_turned_5 22 rfl rfl)
theorem dX4_turned_141 : decode cX4_turned 141 = .ok (.new 209, 3) := dk_187 0 209 (dk_at dksX4_turned_6 0 rfl rfl)
theorem dX4_turned_144 : decode cX4_turned 144 = .ok (.dup, 1) := dk_89 (dk_at dksX4_turned_6 3 rfl rfl)
theorem dX4_turned_145 : decode cX4_turned 145 = .ok (.aload_n 0, 1) := dk_42 (dk_at dksX4_turned_6 4 rfl rfl)
theorem dX4_turned_146 : decode cX4_turned 146 = .ok (.getfield 20, 3) := dk_180 0 20 (dk_at dksX4_turned_6 5 rfl rfl)
theorem dX4_turned_149 : decode cX4_turned 149 = .ok (.iload_n 1, 1) := dk_27 (dk_at dksX4_turned_6 8 rfl rfl)
theorem dX4_turned_150 : decode cX4_turned 150 = .ok (.invokevirtual 202, 3) := dk_182 0 202 (dk_at dksX4_turned_6 9 rfl rfl)
theorem dX4_turned_153 : decode cX4_turned 153 = .ok (.checkcast 169, 3) := dk_192 0 169 (dk_at dksX4_turned_6 12 rfl rfl)
theorem dX4_turned_156 : decode cX4_turned 156 = .ok (.aload_n 2, 1) := dk_44 (dk_at dksX4_turned_6 15 rfl rfl)
theorem dX4_turned_157 : decode cX4_turned 157 = .ok (.invokespecial 211, 3) := dk_183 0 211 (dk_at dksX4_turned_6 16 rfl rfl)
theorem dX4_turned_160 : decode cX4_turned 160 = .ok (.areturn, 1) := dk_176 (dk_at dksX4_turned_6 19 rfl rfl)
abbrev cX4_asks : ByteArray := prog_10_method_6_code
def yX4_asks : MethodName := ⟨RX4, "asks", "(Ljava/lang/String;)V"⟩
def dkwX4_asks_0 : List UInt8 := [42, 42, 43, 182, 0, 118, 4, 182, 0, 122, 42, 182, 0, 126, 177]
abbrev dktX4_asks_0 : List UInt8 := dkwX4_asks_0 ++ []
theorem dksX4_asks_0 : cX4_asks.data.toList.drop 0 = dktX4_asks_0 := by decide +kernel
theorem dX4_asks_0 : decode cX4_asks 0 = .ok (.aload_n 0, 1) := dk_42 (dk_at dksX4_asks_0 0 rfl rfl)
theorem dX4_asks_1 : decode cX4_asks 1 = .ok (.aload_n 0, 1) := dk_42 (dk_at dksX4_asks_0 1 rfl rfl)
theorem dX4_asks_2 : decode cX4_asks 2 = .ok (.aload_n 1, 1) := dk_43 (dk_at dksX4_asks_0 2 rfl rfl)
theorem dX4_asks_3 : decode cX4_asks 3 = .ok (.invokevirtual 118, 3) := dk_182 0 118 (dk_at dksX4_asks_0 3 rfl rfl)
theorem dX4_asks_6 : decode cX4_asks 6 = .ok (.iconst 1, 1) := dk_4 (dk_at dksX4_asks_0 6 rfl rfl)
theorem dX4_asks_7 : decode cX4_asks 7 = .ok (.invokevirtual 122, 3) := dk_182 0 122 (dk_at dksX4_asks_0 7 rfl rfl)
theorem dX4_asks_10 : decode cX4_asks 10 = .ok (.aload_n 0, 1) := dk_42 (dk_at dksX4_asks_0 10 rfl rfl)
theorem dX4_asks_11 : decode cX4_asks 11 = .ok (.invokevirtual 126, 3) := dk_182 0 126 (dk_at dksX4_asks_0 11 rfl rfl)
theorem dX4_asks_14 : decode cX4_asks 14 = .ok (.return_, 1) := dk_177 (dk_at dksX4_asks_0 14 rfl rfl)
abbrev cX4_signed : ByteArray := prog_10_method_7_code
def yX4_signed : MethodName := ⟨RX4, "signed", "(I)I"⟩
def dkwX4_signed_3 : List UInt8 := [28, 153, 0, 11, 42, 180, 0, 86, 116, 167, 0, 7, 42, 180, 0, 86, 62, 42, 182, 0, 126, 29, 172]
abbrev dktX4_signed_3 : List UInt8 := dkwX4_signed_3 ++ []
def dkwX4_signed_2 : List UInt8 := [180, 0, 86, 27, 163, 0, 7, 4, 167, 0, 4, 3, 5, 182, 0, 122, 42, 42, 180, 0, 48, 181, 0, 129]
abbrev dktX4_signed_2 : List UInt8 := dkwX4_signed_2 ++ dktX4_signed_3
def dkwX4_signed_1 : List UInt8 := [42, 42, 180, 0, 57, 178, 0, 95, 166, 0, 7, 4, 167, 0, 4, 3, 4, 182, 0, 122, 42, 42]
abbrev dktX4_signed_1 : List UInt8 := dkwX4_signed_1 ++ dktX4_signed_2
def dkwX4_signed_0 : List UInt8 := [42, 180, 0, 57, 178, 0, 101, 166, 0, 7, 4, 167, 0, 4, 3, 61, 28, 153, 0, 7, 42, 182, 0, 126]
abbrev dktX4_signed_0 : List UInt8 := dkwX4_signed_0 ++ dktX4_signed_1
theorem dksX4_signed_0 : cX4_signed.data.toList.drop 0 = dktX4_signed_0 := by decide +kernel
theorem dksX4_signed_1 : cX4_signed.data.toList.drop 24 = dktX4_signed_1 := dk_seg dksX4_signed_0 24 rfl rfl
theorem dksX4_signed_2 : cX4_signed.data.toList.drop 46 = dktX4_signed_2 := dk_seg dksX4_signed_1 22 rfl rfl
theorem dksX4_signed_3 : cX4_signed.data.toList.drop 70 = dktX4_signed_3 := dk_seg dksX4_signed_2 24 rfl rfl
theorem dX4_signed_0 : decode cX4_signed 0 = .ok (.aload_n 0, 1) := dk_42 (dk_at dksX4_signed_0 0 rfl rfl)
theorem dX4_signed_1 : decode cX4_signed 1 = .ok (.getfield 57, 3) := dk_180 0 57 (dk_at dksX4_signed_0 1 rfl rfl)
theorem dX4_signed_4 : decode cX4_signed 4 = .ok (.getstatic 101, 3) := dk_178 0 101 (dk_at dksX4_signed_0 4 rfl rfl)
theorem dX4_signed_7 : decode cX4_signed 7 = .ok (.if_acmp .ne 7, 3) := dk_166 0 7 (dk_at dksX4_signed_0 7 rfl rfl)
theorem dX4_signed_10 : decode cX4_signed 10 = .ok (.iconst 1, 1) := dk_4 (dk_at dksX4_signed_0 10 rfl rfl)
theorem dX4_signed_11 : decode cX4_signed 11 = .ok (.goto 4, 3) := dk_167 0 4 (dk_at dksX4_signed_0 11 rfl rfl)
theorem dX4_signed_14 : decode cX4_signed 14 = .ok (.iconst 0, 1) := dk_3 (dk_at dksX4_signed_0 14 rfl rfl)
theorem dX4_signed_15 : decode cX4_signed 15 = .ok (.istore_n 2, 1) := dk_61 (dk_at dksX4_signed_0 15 rfl rfl)
theorem dX4_signed_16 : decode cX4_signed 16 = .ok (.iload_n 2, 1) := dk_28 (dk_at dksX4_signed_0 16 rfl rfl)
theorem dX4_signed_17 : decode cX4_signed 17 = .ok (.ifCond .eq 7, 3) := dk_153 0 7 (dk_at dksX4_signed_0 17 rfl rfl)
theorem dX4_signed_20 : decode cX4_signed 20 = .ok (.aload_n 0, 1) := dk_42 (dk_at dksX4_signed_0 20 rfl rfl)
theorem dX4_signed_21 : decode cX4_signed 21 = .ok (.invokevirtual 126, 3) := dk_182 0 126 (dk_at dksX4_signed_0 21 rfl rfl)
theorem dX4_signed_24 : decode cX4_signed 24 = .ok (.aload_n 0, 1) := dk_42 (dk_at dksX4_signed_1 0 rfl rfl)
theorem dX4_signed_25 : decode cX4_signed 25 = .ok (.aload_n 0, 1) := dk_42 (dk_at dksX4_signed_1 1 rfl rfl)
theorem dX4_signed_26 : decode cX4_signed 26 = .ok (.getfield 57, 3) := dk_180 0 57 (dk_at dksX4_signed_1 2 rfl rfl)
theorem dX4_signed_29 : decode cX4_signed 29 = .ok (.getstatic 95, 3) := dk_178 0 95 (dk_at dksX4_signed_1 5 rfl rfl)
theorem dX4_signed_32 : decode cX4_signed 32 = .ok (.if_acmp .ne 7, 3) := dk_166 0 7 (dk_at dksX4_signed_1 8 rfl rfl)
theorem dX4_signed_35 : decode cX4_signed 35 = .ok (.iconst 1, 1) := dk_4 (dk_at dksX4_signed_1 11 rfl rfl)
theorem dX4_signed_36 : decode cX4_signed 36 = .ok (.goto 4, 3) := dk_167 0 4 (dk_at dksX4_signed_1 12 rfl rfl)
theorem dX4_signed_39 : decode cX4_signed 39 = .ok (.iconst 0, 1) := dk_3 (dk_at dksX4_signed_1 15 rfl rfl)
theorem dX4_signed_40 : decode cX4_signed 40 = .ok (.iconst 1, 1) := dk_4 (dk_at dksX4_signed_1 16 rfl rfl)
theorem dX4_signed_41 : decode cX4_signed 41 = .ok (.invokevirtual 122, 3) := dk_182 0 122 (dk_at dksX4_signed_1 17 rfl rfl)
theorem dX4_signed_44 : decode cX4_signed 44 = .ok (.aload_n 0, 1) := dk_42 (dk_at dksX4_signed_1 20 rfl rfl)
theorem dX4_signed_45 : decode cX4_signed 45 = .ok (.aload_n 0, 1) := dk_42 (dk_at dksX4_signed_1 21 rfl rfl)
theorem dX4_signed_46 : decode cX4_signed 46 = .ok (.getfield 86, 3) := dk_180 0 86 (dk_at dksX4_signed_2 0 rfl rfl)
theorem dX4_signed_49 : decode cX4_signed 49 = .ok (.iload_n 1, 1) := dk_27 (dk_at dksX4_signed_2 3 rfl rfl)
theorem dX4_signed_50 : decode cX4_signed 50 = .ok (.if_icmp .gt 7, 3) := dk_163 0 7 (dk_at dksX4_signed_2 4 rfl rfl)
theorem dX4_signed_53 : decode cX4_signed 53 = .ok (.iconst 1, 1) := dk_4 (dk_at dksX4_signed_2 7 rfl rfl)
theorem dX4_signed_54 : decode cX4_signed 54 = .ok (.goto 4, 3) := dk_167 0 4 (dk_at dksX4_signed_2 8 rfl rfl)
theorem dX4_signed_57 : decode cX4_signed 57 = .ok (.iconst 0, 1) := dk_3 (dk_at dksX4_signed_2 11 rfl rfl)
theorem dX4_signed_58 : decode cX4_signed 58 = .ok (.iconst 2, 1) := dk_5 (dk_at dksX4_signed_2 12 rfl rfl)
theorem dX4_signed_59 : decode cX4_signed 59 = .ok (.invokevirtual 122, 3) := dk_182 0 122 (dk_at dksX4_signed_2 13 rfl rfl)
theorem dX4_signed_62 : decode cX4_signed 62 = .ok (.aload_n 0, 1) := dk_42 (dk_at dksX4_signed_2 16 rfl rfl)
theorem dX4_signed_63 : decode cX4_signed 63 = .ok (.aload_n 0, 1) := dk_42 (dk_at dksX4_signed_2 17 rfl rfl)
theorem dX4_signed_64 : decode cX4_signed 64 = .ok (.getfield 48, 3) := dk_180 0 48 (dk_at dksX4_signed_2 18 rfl rfl)
theorem dX4_signed_67 : decode cX4_signed 67 = .ok (.putfield 129, 3) := dk_181 0 129 (dk_at dksX4_signed_2 21 rfl rfl)
theorem dX4_signed_70 : decode cX4_signed 70 = .ok (.iload_n 2, 1) := dk_28 (dk_at dksX4_signed_3 0 rfl rfl)
theorem dX4_signed_71 : decode cX4_signed 71 = .ok (.ifCond .eq 11, 3) := dk_153 0 11 (dk_at dksX4_signed_3 1 rfl rfl)
theorem dX4_signed_74 : decode cX4_signed 74 = .ok (.aload_n 0, 1) := dk_42 (dk_at dksX4_signed_3 4 rfl rfl)
theorem dX4_signed_75 : decode cX4_signed 75 = .ok (.getfield 86, 3) := dk_180 0 86 (dk_at dksX4_signed_3 5 rfl rfl)
theorem dX4_signed_78 : decode cX4_signed 78 = .ok (.ineg, 1) := dk_116 (dk_at dksX4_signed_3 8 rfl rfl)
theorem dX4_signed_79 : decode cX4_signed 79 = .ok (.goto 7, 3) := dk_167 0 7 (dk_at dksX4_signed_3 9 rfl rfl)
theorem dX4_signed_82 : decode cX4_signed 82 = .ok (.aload_n 0, 1) := dk_42 (dk_at dksX4_signed_3 12 rfl rfl)
theorem dX4_signed_83 : decode cX4_signed 83 = .ok (.getfield 86, 3) := dk_180 0 86 (dk_at dksX4_signed_3 13 rfl rfl)
theorem dX4_signed_86 : decode cX4_signed 86 = .ok (.istore_n 3, 1) := dk_62 (dk_at dksX4_signed_3 16 rfl rfl)
theorem dX4_signed_87 : decode cX4_signed 87 = .ok (.aload_n 0, 1) := dk_42 (dk_at dksX4_signed_3 17 rfl rfl)
theorem dX4_signed_88 : decode cX4_signed 88 = .ok (.invokevirtual 126, 3) := dk_182 0 126 (dk_at dksX4_signed_3 18 rfl rfl)
theorem dX4_signed_91 : decode cX4_signed 91 = .ok (.iload_n 3, 1) := dk_29 (dk_at dksX4_signed_3 21 rfl rfl)
theorem dX4_signed_92 : decode cX4_signed 92 = .ok (.ireturn, 1) := dk_172 (dk_at dksX4_signed_3 22 rfl rfl)
abbrev cX4_lattice : ByteArray := prog_10_method_11_code
def yX4_lattice : MethodName := ⟨RX4, "lattice", "()LCoincideBench$Lattice;"⟩
def dkwX4_lattice_3 : List UInt8 := [180, 0, 129, 183, 0, 109, 191, 43, 176]
abbrev dktX4_lattice_3 : List UInt8 := dkwX4_lattice_3 ++ []
def dkwX4_lattice_2 : List UInt8 := [182, 0, 184, 184, 0, 188, 10, 20, 0, 192, 184, 0, 64, 154, 0, 16, 187, 0, 107, 89, 5, 42]
abbrev dktX4_lattice_2 : List UInt8 := dkwX4_lattice_2 ++ dktX4_lattice_3
def dkwX4_lattice_1 : List UInt8 := [6, 108, 50, 28, 6, 112, 42, 16, 6, 182, 0, 181, 133, 80, 132, 2, 1, 167, 255, 225, 43, 180, 0, 172]
abbrev dktX4_lattice_1 : List UInt8 := dkwX4_lattice_1 ++ dktX4_lattice_2
def dkwX4_lattice_0 : List UInt8 := [187, 0, 169, 89, 183, 0, 171, 76, 3, 61, 28, 16, 9, 162, 0, 31, 43, 180, 0, 172, 180, 0, 176, 28]
abbrev dktX4_lattice_0 : List UInt8 := dkwX4_lattice_0 ++ dktX4_lattice_1
theorem dksX4_lattice_0 : cX4_lattice.data.toList.drop 0 = dktX4_lattice_0 := by decide +kernel
theorem dksX4_lattice_1 : cX4_lattice.data.toList.drop 24 = dktX4_lattice_1 := dk_seg dksX4_lattice_0 24 rfl rfl
theorem dksX4_lattice_2 : cX4_lattice.data.toList.drop 48 = dktX4_lattice_2 := dk_seg dksX4_lattice_1 24 rfl rfl
theorem dksX4_lattice_3 : cX4_lattice.data.toList.drop 70 = dktX4_lattice_3 := dk_seg dksX4_lattice_2 22 rfl rfl
theorem dX4_lattice_0 : decode cX4_lattice 0 = .ok (.new 169, 3) := dk_187 0 169 (dk_at dksX4_lattice_0 0 rfl rfl)
theorem dX4_lattice_3 : decode cX4_lattice 3 = .ok (.dup, 1) := dk_89 (dk_at dksX4_lattice_0 3 rfl rfl)
theorem dX4_lattice_4 : decode cX4_lattice 4 = .ok (.invokespecial 171, 3) := dk_183 0 171 (dk_at dksX4_lattice_0 4 rfl rfl)
theorem dX4_lattice_7 : decode cX4_lattice 7 = .ok (.astore_n 1, 1) := dk_76 (dk_at dksX4_lattice_0 7 rfl rfl)
theorem dX4_lattice_8 : decode cX4_lattice 8 = .ok (.iconst 0, 1) := dk_3 (dk_at dksX4_lattice_0 8 rfl rfl)
theorem dX4_lattice_9 : decode cX4_lattice 9 = .ok (.istore_n 2, 1) := dk_61 (dk_at dksX4_lattice_0 9 rfl rfl)
theorem dX4_lattice_10 : decode cX4_lattice 10 = .ok (.iload_n 2, 1) := dk_28 (dk_at dksX4_lattice_0 10 rfl rfl)
theorem dX4_lattice_11 : decode cX4_lattice 11 = .ok (.bipush 9, 2) := dk_16 9 (dk_at dksX4_lattice_0 11 rfl rfl)
theorem dX4_lattice_13 : decode cX4_lattice 13 = .ok (.if_icmp .ge 31, 3) := dk_162 0 31 (dk_at dksX4_lattice_0 13 rfl rfl)
theorem dX4_lattice_16 : decode cX4_lattice 16 = .ok (.aload_n 1, 1) := dk_43 (dk_at dksX4_lattice_0 16 rfl rfl)
theorem dX4_lattice_17 : decode cX4_lattice 17 = .ok (.getfield 172, 3) := dk_180 0 172 (dk_at dksX4_lattice_0 17 rfl rfl)
theorem dX4_lattice_20 : decode cX4_lattice 20 = .ok (.getfield 176, 3) := dk_180 0 176 (dk_at dksX4_lattice_0 20 rfl rfl)
theorem dX4_lattice_23 : decode cX4_lattice 23 = .ok (.iload_n 2, 1) := dk_28 (dk_at dksX4_lattice_0 23 rfl rfl)
theorem dX4_lattice_24 : decode cX4_lattice 24 = .ok (.iconst 3, 1) := dk_6 (dk_at dksX4_lattice_1 0 rfl rfl)
theorem dX4_lattice_25 : decode cX4_lattice 25 = .ok (.idiv, 1) := dk_108 (dk_at dksX4_lattice_1 1 rfl rfl)
theorem dX4_lattice_26 : decode cX4_lattice 26 = .ok (.aaload, 1) := dk_50 (dk_at dksX4_lattice_1 2 rfl rfl)
theorem dX4_lattice_27 : decode cX4_lattice 27 = .ok (.iload_n 2, 1) := dk_28 (dk_at dksX4_lattice_1 3 rfl rfl)
theorem dX4_lattice_28 : decode cX4_lattice 28 = .ok (.iconst 3, 1) := dk_6 (dk_at dksX4_lattice_1 4 rfl rfl)
theorem dX4_lattice_29 : decode cX4_lattice 29 = .ok (.irem, 1) := dk_112 (dk_at dksX4_lattice_1 5 rfl rfl)
theorem dX4_lattice_30 : decode cX4_lattice 30 = .ok (.aload_n 0, 1) := dk_42 (dk_at dksX4_lattice_1 6 rfl rfl)
theorem dX4_lattice_31 : decode cX4_lattice 31 = .ok (.bipush 6, 2) := dk_16 6 (dk_at dksX4_lattice_1 7 rfl rfl)
theorem dX4_lattice_33 : decode cX4_lattice 33 = .ok (.invokevirtual 181, 3) := dk_182 0 181 (dk_at dksX4_lattice_1 9 rfl rfl)
theorem dX4_lattice_36 : decode cX4_lattice 36 = .ok (.i2l, 1) := dk_133 (dk_at dksX4_lattice_1 12 rfl rfl)
theorem dX4_lattice_37 : decode cX4_lattice 37 = .ok (.lastore, 1) := dk_80 (dk_at dksX4_lattice_1 13 rfl rfl)
theorem dX4_lattice_38 : decode cX4_lattice 38 = .ok (.iinc 2 1, 3) := dk_132 2 1 (dk_at dksX4_lattice_1 14 rfl rfl)
theorem dX4_lattice_41 : decode cX4_lattice 41 = .ok (.goto (-31), 3) := dk_167 255 225 (dk_at dksX4_lattice_1 17 rfl rfl)
theorem dX4_lattice_44 : decode cX4_lattice 44 = .ok (.aload_n 1, 1) := dk_43 (dk_at dksX4_lattice_1 20 rfl rfl)
theorem dX4_lattice_45 : decode cX4_lattice 45 = .ok (.getfield 172, 3) := dk_180 0 172 (dk_at dksX4_lattice_1 21 rfl rfl)
theorem dX4_lattice_48 : decode cX4_lattice 48 = .ok (.invokevirtual 184, 3) := dk_182 0 184 (dk_at dksX4_lattice_2 0 rfl rfl)
theorem dX4_lattice_51 : decode cX4_lattice 51 = .ok (.invokestatic 188, 3) := dk_184 0 188 (dk_at dksX4_lattice_2 3 rfl rfl)
theorem dX4_lattice_54 : decode cX4_lattice 54 = .ok (.lconst 1, 1) := dk_10 (dk_at dksX4_lattice_2 6 rfl rfl)
theorem dX4_lattice_55 : decode cX4_lattice 55 = .ok (.ldc2_w 192, 3) := dk_20 0 192 (dk_at dksX4_lattice_2 7 rfl rfl)
theorem dX4_lattice_58 : decode cX4_lattice 58 = .ok (.invokestatic 64, 3) := dk_184 0 64 (dk_at dksX4_lattice_2 10 rfl rfl)
theorem dX4_lattice_61 : decode cX4_lattice 61 = .ok (.ifCond .ne 16, 3) := dk_154 0 16 (dk_at dksX4_lattice_2 13 rfl rfl)
theorem dX4_lattice_64 : decode cX4_lattice 64 = .ok (.new 107, 3) := dk_187 0 107 (dk_at dksX4_lattice_2 16 rfl rfl)
theorem dX4_lattice_67 : decode cX4_lattice 67 = .ok (.dup, 1) := dk_89 (dk_at dksX4_lattice_2 19 rfl rfl)
theorem dX4_lattice_68 : decode cX4_lattice 68 = .ok (.iconst 2, 1) := dk_5 (dk_at dksX4_lattice_2 20 rfl rfl)
theorem dX4_lattice_69 : decode cX4_lattice 69 = .ok (.aload_n 0, 1) := dk_42 (dk_at dksX4_lattice_2 21 rfl rfl)
theorem dX4_lattice_70 : decode cX4_lattice 70 = .ok (.getfield 129, 3) := dk_180 0 129 (dk_at dksX4_lattice_3 0 rfl rfl)
theorem dX4_lattice_73 : decode cX4_lattice 73 = .ok (.invokespecial 109, 3) := dk_183 0 109 (dk_at dksX4_lattice_3 3 rfl rfl)
theorem dX4_lattice_76 : decode cX4_lattice 76 = .ok (.athrow, 1) := dk_191 (dk_at dksX4_lattice_3 6 rfl rfl)
theorem dX4_lattice_77 : decode cX4_lattice 77 = .ok (.aload_n 1, 1) := dk_43 (dk_at dksX4_lattice_3 7 rfl rfl)
theorem dX4_lattice_78 : decode cX4_lattice 78 = .ok (.areturn, 1) := dk_176 (dk_at dksX4_lattice_3 8 rfl rfl)
theorem q126 : (Jvm.Cond.initialized "CoincideBench$Reader") ∈ lw_all := lw_g (lw_at lw_m1 8 rfl) rfl
theorem q210 : (Jvm.Cond.fieldLinkNest "CoincideBench$Reader" (176 : Nat) "CoincideBench$Rows" "at" "[[J" "CoincideBench") ∈ lw_tbl := lw_at lw_m1 92 rfl
theorem q239 : (Jvm.Cond.fieldLinkNest "CoincideBench$Reader" (37 : Nat) "CoincideBench" "tape" "[B" "CoincideBench") ∈ lw_tbl := lw_at lw_m1 121 rfl
theorem q241 : (Jvm.Cond.fieldLinkNest "CoincideBench$Reader" (33 : Nat) "CoincideBench" "taped" "I" "CoincideBench") ∈ lw_tbl := lw_at lw_m1 123 rfl
theorem q306 : (Jvm.Cond.instantiable "CoincideBench$Reader" (10 : Nat)) ∈ lw_all := lw_g (lw_at lw_m1 188 rfl) rfl
theorem q308 : (Jvm.Cond.instanceMethod ({ cls := "CoincideBench$Reader", name := "<init>", desc := "(LCoincideBench;)V" } : Jvm.MethodName)) ∈ lw_all := lw_g (lw_at lw_m1 190 rfl) rfl
theorem q309 : (Jvm.Cond.code ({ cls := "CoincideBench$Reader", name := "<init>", desc := "(LCoincideBench;)V" } : Jvm.MethodName) prog_10_method_1_code (2 : Nat) (Option.none : Option Jvm.ClassFile.FieldType)) ∈ lw_all := lw_g (lw_at lw_m1 191 rfl) rfl
theorem q310 : (Jvm.Cond.methodLink "CoincideBench$Reader" (9 : Nat) ({ cls := "java/lang/Object", name := "<init>", desc := "()V" } : Jvm.MethodName)) ∈ lw_all := lw_g (lw_at lw_m1 192 rfl) rfl
theorem q311 : (Jvm.Cond.classLink "CoincideBench$Reader" (15 : Nat) "java/util/ArrayList") ∈ lw_all := lw_g (lw_at lw_m1 193 rfl) rfl
theorem q312 : (Jvm.Cond.methodLink "CoincideBench$Reader" (17 : Nat) ({ cls := "java/util/ArrayList", name := "<init>", desc := "(I)V" } : Jvm.MethodName)) ∈ lw_all := lw_g (lw_at lw_m1 194 rfl) rfl
theorem q313 : (Jvm.Cond.stringRef "CoincideBench$Reader" (27 : Nat) "") ∈ lw_tbl := lw_at lw_m1 195 rfl
theorem q314 : (Jvm.Cond.fieldLink "CoincideBench$Reader" (20 : Nat) "CoincideBench$Reader" "fresh" "Ljava/util/ArrayList;") ∈ lw_all := lw_g (lw_at lw_m1 196 rfl) rfl
theorem q316 : (Jvm.Cond.fieldLink "CoincideBench$Reader" (24 : Nat) "CoincideBench$Reader" "names" "Ljava/util/ArrayList;") ∈ lw_all := lw_g (lw_at lw_m1 198 rfl) rfl
theorem q317 : (Jvm.Cond.fieldLink "CoincideBench$Reader" (41 : Nat) "CoincideBench$Reader" "at" "I") ∈ lw_all := lw_g (lw_at lw_m1 199 rfl) rfl
theorem q318 : (Jvm.Cond.fieldLink "CoincideBench$Reader" (48 : Nat) "CoincideBench$Reader" "from" "I") ∈ lw_all := lw_g (lw_at lw_m1 200 rfl) rfl
theorem q319 : (Jvm.Cond.fieldLink "CoincideBench$Reader" (86 : Nat) "CoincideBench$Reader" "number" "I") ∈ lw_all := lw_g (lw_at lw_m1 201 rfl) rfl
theorem q321 : (Jvm.Cond.fieldLink "CoincideBench$Reader" (162 : Nat) "CoincideBench$Reader" "lined" "I") ∈ lw_all := lw_g (lw_at lw_m1 203 rfl) rfl
theorem q322 : (Jvm.Cond.fieldLink "CoincideBench$Reader" (129 : Nat) "CoincideBench$Reader" "last" "I") ∈ lw_all := lw_g (lw_at lw_m1 204 rfl) rfl
theorem q323 : (Jvm.Cond.fieldLink "CoincideBench$Reader" (57 : Nat) "CoincideBench$Reader" "token" "LCoincideBench$Token;") ∈ lw_all := lw_g (lw_at lw_m1 205 rfl) rfl
theorem q324 : (Jvm.Cond.fieldLink "CoincideBench$Reader" (29 : Nat) "CoincideBench$Reader" "word" "Ljava/lang/String;") ∈ lw_all := lw_g (lw_at lw_m1 206 rfl) rfl
theorem q325 : (Jvm.Cond.fieldLink "CoincideBench$Reader" (3 : Nat) "CoincideBench$Reader" "this$0" "LCoincideBench;") ∈ lw_all := lw_g (lw_at lw_m1 207 rfl) rfl
theorem q326 : (Jvm.Cond.laysFinal "CoincideBench$Reader" "CoincideBench$Reader" "fresh" "Ljava/util/ArrayList;") ∈ lw_all := lw_g (lw_at lw_m1 208 rfl) rfl
theorem q327 : (Jvm.Cond.soleField "CoincideBench$Reader" "fresh") ∈ lw_all := lw_g (lw_at lw_m1 209 rfl) rfl
theorem q328 : (Jvm.Cond.laysFinal "CoincideBench$Reader" "CoincideBench$Reader" "names" "Ljava/util/ArrayList;") ∈ lw_all := lw_g (lw_at lw_m1 210 rfl) rfl
theorem q329 : (Jvm.Cond.soleField "CoincideBench$Reader" "names") ∈ lw_all := lw_g (lw_at lw_m1 211 rfl) rfl
theorem q330 : (Jvm.Cond.lays "CoincideBench$Reader" "CoincideBench$Reader" "at" "I") ∈ lw_all := lw_g (lw_at lw_m1 212 rfl) rfl
theorem q331 : (Jvm.Cond.soleField "CoincideBench$Reader" "at") ∈ lw_all := lw_g (lw_at lw_m1 213 rfl) rfl
theorem q332 : (Jvm.Cond.lays "CoincideBench$Reader" "CoincideBench$Reader" "from" "I") ∈ lw_all := lw_g (lw_at lw_m1 214 rfl) rfl
theorem q333 : (Jvm.Cond.soleField "CoincideBench$Reader" "from") ∈ lw_all := lw_g (lw_at lw_m1 215 rfl) rfl
theorem q334 : (Jvm.Cond.lays "CoincideBench$Reader" "CoincideBench$Reader" "number" "I") ∈ lw_all := lw_g (lw_at lw_m1 216 rfl) rfl
theorem q335 : (Jvm.Cond.soleField "CoincideBench$Reader" "number") ∈ lw_all := lw_g (lw_at lw_m1 217 rfl) rfl
theorem q336 : (Jvm.Cond.lays "CoincideBench$Reader" "CoincideBench$Reader" "lined" "I") ∈ lw_all := lw_g (lw_at lw_m1 218 rfl) rfl
theorem q337 : (Jvm.Cond.soleField "CoincideBench$Reader" "lined") ∈ lw_all := lw_g (lw_at lw_m1 219 rfl) rfl
theorem q338 : (Jvm.Cond.lays "CoincideBench$Reader" "CoincideBench$Reader" "last" "I") ∈ lw_all := lw_g (lw_at lw_m1 220 rfl) rfl
theorem q339 : (Jvm.Cond.soleField "CoincideBench$Reader" "last") ∈ lw_all := lw_g (lw_at lw_m1 221 rfl) rfl
theorem q340 : (Jvm.Cond.lays "CoincideBench$Reader" "CoincideBench$Reader" "token" "LCoincideBench$Token;") ∈ lw_all := lw_g (lw_at lw_m1 222 rfl) rfl
theorem q341 : (Jvm.Cond.soleField "CoincideBench$Reader" "token") ∈ lw_all := lw_g (lw_at lw_m1 223 rfl) rfl
theorem q342 : (Jvm.Cond.lays "CoincideBench$Reader" "CoincideBench$Reader" "word" "Ljava/lang/String;") ∈ lw_all := lw_g (lw_at lw_m1 224 rfl) rfl
theorem q343 : (Jvm.Cond.soleField "CoincideBench$Reader" "word") ∈ lw_all := lw_g (lw_at lw_m1 225 rfl) rfl
theorem q344 : (Jvm.Cond.laysFinal "CoincideBench$Reader" "CoincideBench$Reader" "this$0" "LCoincideBench;") ∈ lw_all := lw_g (lw_at lw_m1 226 rfl) rfl
theorem q345 : (Jvm.Cond.soleField "CoincideBench$Reader" "this$0") ∈ lw_all := lw_g (lw_at lw_m1 227 rfl) rfl
theorem q346 : (Jvm.Cond.superclass "CoincideBench$Reader" "java/lang/Object") ∈ lw_all := lw_g (lw_at lw_m1 228 rfl) rfl
theorem q348 : (Jvm.Cond.instanceMethod ({ cls := "CoincideBench$Reader", name := "read", desc := "()V" } : Jvm.MethodName)) ∈ lw_all := lw_g (lw_at lw_m1 230 rfl) rfl
theorem q349 : (Jvm.Cond.selects "CoincideBench$Reader" ({ cls := "CoincideBench$Reader", name := "read", desc := "()V" } : Jvm.MethodName) ({ cls := "CoincideBench$Reader", name := "read", desc := "()V" } : Jvm.MethodName)) ∈ lw_all := lw_g (lw_at lw_m1 231 rfl) rfl
theorem q350 : (Jvm.Cond.code ({ cls := "CoincideBench$Reader", name := "read", desc := "()V" } : Jvm.MethodName) prog_10_method_8_code (1 : Nat) (Option.none : Option Jvm.ClassFile.FieldType)) ∈ lw_all := lw_g (lw_at lw_m1 232 rfl) rfl
theorem q351 : (Jvm.Cond.methodLink "CoincideBench$Reader" (126 : Nat) ({ cls := "CoincideBench$Reader", name := "advance", desc := "()V" } : Jvm.MethodName)) ∈ lw_all := lw_g (lw_at lw_m1 233 rfl) rfl
theorem q352 : (Jvm.Cond.privateMethod ({ cls := "CoincideBench$Reader", name := "advance", desc := "()V" } : Jvm.MethodName)) ∈ lw_tbl := lw_at lw_m1 234 rfl
theorem q353 : (Jvm.Cond.instanceMethod ({ cls := "CoincideBench$Reader", name := "advance", desc := "()V" } : Jvm.MethodName)) ∈ lw_all := lw_g (lw_at lw_m1 235 rfl) rfl
theorem q354 : (Jvm.Cond.code ({ cls := "CoincideBench$Reader", name := "advance", desc := "()V" } : Jvm.MethodName) prog_10_method_3_code (3 : Nat) (Option.none : Option Jvm.ClassFile.FieldType)) ∈ lw_all := lw_g (lw_at lw_m1 236 rfl) rfl
theorem q355 : (Jvm.Cond.methodLink "CoincideBench$Reader" (44 : Nat) ({ cls := "CoincideBench$Reader", name := "byteAt", desc := "(I)I" } : Jvm.MethodName)) ∈ lw_all := lw_g (lw_at lw_m1 237 rfl) rfl
theorem q356 : (Jvm.Cond.privateMethod ({ cls := "CoincideBench$Reader", name := "byteAt", desc := "(I)I" } : Jvm.MethodName)) ∈ lw_tbl := lw_at lw_m1 238 rfl
theorem q357 : (Jvm.Cond.instanceMethod ({ cls := "CoincideBench$Reader", name := "byteAt", desc := "(I)I" } : Jvm.MethodName)) ∈ lw_all := lw_g (lw_at lw_m1 239 rfl) rfl
theorem q358 : (Jvm.Cond.code ({ cls := "CoincideBench$Reader", name := "byteAt", desc := "(I)I" } : Jvm.MethodName) prog_10_method_2_code (2 : Nat) (Option.some Jvm.ClassFile.FieldType.int)) ∈ lw_all := lw_g (lw_at lw_m2 0 rfl) rfl
theorem q359 : (Jvm.Cond.fieldLink "CoincideBench$Reader" (51 : Nat) "CoincideBench$Token" "END" "LCoincideBench$Token;") ∈ lw_all := lw_g (lw_at lw_m2 1 rfl) rfl
theorem q361 : (Jvm.Cond.constantLong "CoincideBench$Reader" (60 : Nat) (97 : Int64)) ∈ lw_all := lw_g (lw_at lw_m2 3 rfl) rfl
theorem q362 : (Jvm.Cond.constantLong "CoincideBench$Reader" (62 : Nat) (122 : Int64)) ∈ lw_all := lw_g (lw_at lw_m2 4 rfl) rfl
theorem q363 : (Jvm.Cond.methodLinkNest "CoincideBench$Reader" (64 : Nat) ({ cls := "CoincideBench", name := "isIn", desc := "(JJJ)Z" } : Jvm.MethodName) "CoincideBench") ∈ lw_tbl := lw_at lw_m2 5 rfl
theorem q364 : (Jvm.Cond.classLink "CoincideBench$Reader" (68 : Nat) "java/lang/StringBuilder") ∈ lw_all := lw_g (lw_at lw_m2 6 rfl) rfl
theorem q366 : (Jvm.Cond.methodLink "CoincideBench$Reader" (70 : Nat) ({ cls := "java/lang/StringBuilder", name := "<init>", desc := "(I)V" } : Jvm.MethodName)) ∈ lw_all := lw_g (lw_at lw_m2 8 rfl) rfl
theorem q395 : (Jvm.Cond.methodLink "CoincideBench$Reader" (71 : Nat) ({ cls := "java/lang/StringBuilder", name := "append", desc := "(C)Ljava/lang/StringBuilder;" } : Jvm.MethodName)) ∈ lw_all := lw_g (lw_at lw_m2 37 rfl) rfl
theorem q490 : (Jvm.Cond.methodLink "CoincideBench$Reader" (75 : Nat) ({ cls := "java/lang/StringBuilder", name := "toString", desc := "()Ljava/lang/String;" } : Jvm.MethodName)) ∈ lw_all := lw_g (lw_at lw_m2 132 rfl) rfl
theorem q551 : (Jvm.Cond.fieldLink "CoincideBench$Reader" (79 : Nat) "CoincideBench$Token" "WORD" "LCoincideBench$Token;") ∈ lw_all := lw_g (lw_at lw_m2 193 rfl) rfl
theorem q553 : (Jvm.Cond.constantLong "CoincideBench$Reader" (82 : Nat) (48 : Int64)) ∈ lw_all := lw_g (lw_at lw_m2 195 rfl) rfl
theorem q554 : (Jvm.Cond.constantLong "CoincideBench$Reader" (84 : Nat) (57 : Int64)) ∈ lw_all := lw_g (lw_at lw_m2 196 rfl) rfl
theorem q555 : (Jvm.Cond.methodLink "CoincideBench$Reader" (89 : Nat) ({ cls := "java/lang/Math", name := "min", desc := "(II)I" } : Jvm.MethodName)) ∈ lw_all := lw_g (lw_at lw_m2 197 rfl) rfl
theorem q556 : (Jvm.Cond.fieldLink "CoincideBench$Reader" (95 : Nat) "CoincideBench$Token" "NUMBER" "LCoincideBench$Token;") ∈ lw_all := lw_g (lw_at lw_m2 198 rfl) rfl
theorem q558 : (Jvm.Cond.fieldLink "CoincideBench$Reader" (98 : Nat) "CoincideBench$Token" "SEMI" "LCoincideBench$Token;") ∈ lw_all := lw_g (lw_at lw_m2 200 rfl) rfl
theorem q560 : (Jvm.Cond.fieldLink "CoincideBench$Reader" (101 : Nat) "CoincideBench$Token" "DASH" "LCoincideBench$Token;") ∈ lw_all := lw_g (lw_at lw_m2 202 rfl) rfl
theorem q562 : (Jvm.Cond.fieldLink "CoincideBench$Reader" (104 : Nat) "CoincideBench$Token" "BAD" "LCoincideBench$Token;") ∈ lw_all := lw_g (lw_at lw_m2 204 rfl) rfl
theorem q564 : (Jvm.Cond.methodLink "CoincideBench$Reader" (132 : Nat) ({ cls := "CoincideBench$Reader", name := "line", desc := "()V" } : Jvm.MethodName)) ∈ lw_all := lw_g (lw_at lw_m2 206 rfl) rfl
theorem q565 : (Jvm.Cond.privateMethod ({ cls := "CoincideBench$Reader", name := "line", desc := "()V" } : Jvm.MethodName)) ∈ lw_tbl := lw_at lw_m2 207 rfl
theorem q566 : (Jvm.Cond.instanceMethod ({ cls := "CoincideBench$Reader", name := "line", desc := "()V" } : Jvm.MethodName)) ∈ lw_all := lw_g (lw_at lw_m2 208 rfl) rfl
theorem q567 : (Jvm.Cond.code ({ cls := "CoincideBench$Reader", name := "line", desc := "()V" } : Jvm.MethodName) prog_10_method_9_code (4 : Nat) (Option.none : Option Jvm.ClassFile.FieldType)) ∈ lw_all := lw_g (lw_at lw_m2 209 rfl) rfl
theorem q568 : (Jvm.Cond.stringRef "CoincideBench$Reader" (135 : Nat) "turn") ∈ lw_tbl := lw_at lw_m2 210 rfl
theorem q569 : (Jvm.Cond.methodLink "CoincideBench$Reader" (118 : Nat) ({ cls := "CoincideBench$Reader", name := "isWord", desc := "(Ljava/lang/String;)Z" } : Jvm.MethodName)) ∈ lw_all := lw_g (lw_at lw_m2 211 rfl) rfl
theorem q570 : (Jvm.Cond.privateMethod ({ cls := "CoincideBench$Reader", name := "isWord", desc := "(Ljava/lang/String;)Z" } : Jvm.MethodName)) ∈ lw_tbl := lw_at lw_m2 212 rfl
theorem q571 : (Jvm.Cond.instanceMethod ({ cls := "CoincideBench$Reader", name := "isWord", desc := "(Ljava/lang/String;)Z" } : Jvm.MethodName)) ∈ lw_all := lw_g (lw_at lw_m2 213 rfl) rfl
theorem q572 : (Jvm.Cond.code ({ cls := "CoincideBench$Reader", name := "isWord", desc := "(Ljava/lang/String;)Z" } : Jvm.MethodName) prog_10_method_5_code (2 : Nat) (Option.some Jvm.ClassFile.FieldType.boolean)) ∈ lw_all := lw_g (lw_at lw_m2 214 rfl) rfl
theorem q573 : (Jvm.Cond.methodLink "CoincideBench$Reader" (112 : Nat) ({ cls := "java/lang/String", name := "equals", desc := "(Ljava/lang/Object;)Z" } : Jvm.MethodName)) ∈ lw_all := lw_g (lw_at lw_m2 215 rfl) rfl
theorem q581 : (Jvm.Cond.stringRef "CoincideBench$Reader" (137 : Nat) "lattice") ∈ lw_tbl := lw_at lw_m2 223 rfl
theorem q582 : (Jvm.Cond.methodLink "CoincideBench$Reader" (122 : Nat) ({ cls := "CoincideBench$Reader", name := "needs", desc := "(ZI)V" } : Jvm.MethodName)) ∈ lw_all := lw_g (lw_at lw_m2 224 rfl) rfl
theorem q583 : (Jvm.Cond.privateMethod ({ cls := "CoincideBench$Reader", name := "needs", desc := "(ZI)V" } : Jvm.MethodName)) ∈ lw_tbl := lw_at lw_m2 225 rfl
theorem q584 : (Jvm.Cond.instanceMethod ({ cls := "CoincideBench$Reader", name := "needs", desc := "(ZI)V" } : Jvm.MethodName)) ∈ lw_all := lw_g (lw_at lw_m2 226 rfl) rfl
theorem q585 : (Jvm.Cond.code ({ cls := "CoincideBench$Reader", name := "needs", desc := "(ZI)V" } : Jvm.MethodName) prog_10_method_4_code (3 : Nat) (Option.none : Option Jvm.ClassFile.FieldType)) ∈ lw_all := lw_g (lw_at lw_m2 227 rfl) rfl
theorem q586 : (Jvm.Cond.classLink "CoincideBench$Reader" (107 : Nat) "CoincideBench$Fault") ∈ lw_all := lw_g (lw_at lw_m2 228 rfl) rfl
theorem q627 : (Jvm.Cond.methodLink "CoincideBench$Reader" (109 : Nat) ({ cls := "CoincideBench$Fault", name := "<init>", desc := "(II)V" } : Jvm.MethodName)) ∈ lw_all := lw_g (lw_at lw_m3 29 rfl) rfl
theorem q655 : (Jvm.Cond.methodLink "CoincideBench$Reader" (139 : Nat) ({ cls := "java/util/ArrayList", name := "size", desc := "()I" } : Jvm.MethodName)) ∈ lw_all := lw_g (lw_at lw_m3 57 rfl) rfl
theorem q659 : (Jvm.Cond.methodLink "CoincideBench$Reader" (143 : Nat) ({ cls := "java/lang/String", name := "length", desc := "()I" } : Jvm.MethodName)) ∈ lw_all := lw_g (lw_at lw_m3 61 rfl) rfl
theorem q667 : (Jvm.Cond.methodLink "CoincideBench$Reader" (146 : Nat) ({ cls := "CoincideBench$Reader", name := "isOwn", desc := "()Z" } : Jvm.MethodName)) ∈ lw_all := lw_g (lw_at lw_m3 69 rfl) rfl
theorem q668 : (Jvm.Cond.privateMethod ({ cls := "CoincideBench$Reader", name := "isOwn", desc := "()Z" } : Jvm.MethodName)) ∈ lw_tbl := lw_at lw_m3 70 rfl
theorem q669 : (Jvm.Cond.instanceMethod ({ cls := "CoincideBench$Reader", name := "isOwn", desc := "()Z" } : Jvm.MethodName)) ∈ lw_all := lw_g (lw_at lw_m3 71 rfl) rfl
theorem q670 : (Jvm.Cond.code ({ cls := "CoincideBench$Reader", name := "isOwn", desc := "()Z" } : Jvm.MethodName) prog_10_method_10_code (1 : Nat) (Option.some Jvm.ClassFile.FieldType.boolean)) ∈ lw_all := lw_g (lw_at lw_m3 72 rfl) rfl
theorem q671 : (Jvm.Cond.stringRef "CoincideBench$Reader" (165 : Nat) "of") ∈ lw_tbl := lw_at lw_m3 73 rfl
theorem q672 : (Jvm.Cond.stringRef "CoincideBench$Reader" (167 : Nat) "by") ∈ lw_tbl := lw_at lw_m3 74 rfl
theorem q673 : (Jvm.Cond.methodLink "CoincideBench$Reader" (150 : Nat) ({ cls := "java/util/ArrayList", name := "contains", desc := "(Ljava/lang/Object;)Z" } : Jvm.MethodName)) ∈ lw_all := lw_g (lw_at lw_m3 75 rfl) rfl
theorem q697 : (Jvm.Cond.selects "CoincideBench$Reader" ({ cls := "java/lang/Object", name := "equals", desc := "(Ljava/lang/Object;)Z" } : Jvm.MethodName) ({ cls := "java/lang/Object", name := "equals", desc := "(Ljava/lang/Object;)Z" } : Jvm.MethodName)) ∈ lw_all := lw_g (lw_at lw_m3 99 rfl) rfl
theorem q712 : (Jvm.Cond.methodLink "CoincideBench$Reader" (153 : Nat) ({ cls := "CoincideBench$Reader", name := "turned", desc := "()LCoincideBench$Lattice;" } : Jvm.MethodName)) ∈ lw_all := lw_g (lw_at lw_m3 114 rfl) rfl
theorem q713 : (Jvm.Cond.privateMethod ({ cls := "CoincideBench$Reader", name := "turned", desc := "()LCoincideBench$Lattice;" } : Jvm.MethodName)) ∈ lw_tbl := lw_at lw_m3 115 rfl
theorem q714 : (Jvm.Cond.instanceMethod ({ cls := "CoincideBench$Reader", name := "turned", desc := "()LCoincideBench$Lattice;" } : Jvm.MethodName)) ∈ lw_all := lw_g (lw_at lw_m3 116 rfl) rfl
theorem q715 : (Jvm.Cond.code ({ cls := "CoincideBench$Reader", name := "turned", desc := "()LCoincideBench$Lattice;" } : Jvm.MethodName) prog_10_method_12_code (4 : Nat) (Option.some (Jvm.ClassFile.FieldType.object "CoincideBench$Lattice"))) ∈ lw_all := lw_g (lw_at lw_m3 117 rfl) rfl
theorem q716 : (Jvm.Cond.methodLink "CoincideBench$Reader" (194 : Nat) ({ cls := "CoincideBench$Reader", name := "asks", desc := "(Ljava/lang/String;)V" } : Jvm.MethodName)) ∈ lw_all := lw_g (lw_at lw_m3 118 rfl) rfl
theorem q717 : (Jvm.Cond.privateMethod ({ cls := "CoincideBench$Reader", name := "asks", desc := "(Ljava/lang/String;)V" } : Jvm.MethodName)) ∈ lw_tbl := lw_at lw_m3 119 rfl
theorem q718 : (Jvm.Cond.instanceMethod ({ cls := "CoincideBench$Reader", name := "asks", desc := "(Ljava/lang/String;)V" } : Jvm.MethodName)) ∈ lw_all := lw_g (lw_at lw_m3 120 rfl) rfl
theorem q719 : (Jvm.Cond.code ({ cls := "CoincideBench$Reader", name := "asks", desc := "(Ljava/lang/String;)V" } : Jvm.MethodName) prog_10_method_6_code (2 : Nat) (Option.none : Option Jvm.ClassFile.FieldType)) ∈ lw_all := lw_g (lw_at lw_m3 121 rfl) rfl
theorem q720 : (Jvm.Cond.methodLink "CoincideBench$Reader" (198 : Nat) ({ cls := "java/util/ArrayList", name := "indexOf", desc := "(Ljava/lang/Object;)I" } : Jvm.MethodName)) ∈ lw_all := lw_g (lw_at lw_m3 122 rfl) rfl
theorem q721 : (Jvm.Cond.methodLink "CoincideBench$Reader" (202 : Nat) ({ cls := "java/util/ArrayList", name := "get", desc := "(I)Ljava/lang/Object;" } : Jvm.MethodName)) ∈ lw_all := lw_g (lw_at lw_m3 123 rfl) rfl
theorem q733 : (Jvm.Cond.classLink "CoincideBench$Reader" (169 : Nat) "CoincideBench$Lattice") ∈ lw_all := lw_g (lw_at lw_m3 135 rfl) rfl
theorem q734 : (Jvm.Cond.methodLink "CoincideBench$Reader" (206 : Nat) ({ cls := "CoincideBench$Lattice", name := "isTurned", desc := "()Z" } : Jvm.MethodName)) ∈ lw_all := lw_g (lw_at lw_m3 136 rfl) rfl
theorem q742 : (Jvm.Cond.methodLink "CoincideBench$Reader" (181 : Nat) ({ cls := "CoincideBench$Reader", name := "signed", desc := "(I)I" } : Jvm.MethodName)) ∈ lw_all := lw_g (lw_at lw_m3 144 rfl) rfl
theorem q743 : (Jvm.Cond.privateMethod ({ cls := "CoincideBench$Reader", name := "signed", desc := "(I)I" } : Jvm.MethodName)) ∈ lw_tbl := lw_at lw_m3 145 rfl
theorem q744 : (Jvm.Cond.instanceMethod ({ cls := "CoincideBench$Reader", name := "signed", desc := "(I)I" } : Jvm.MethodName)) ∈ lw_all := lw_g (lw_at lw_m3 146 rfl) rfl
theorem q745 : (Jvm.Cond.code ({ cls := "CoincideBench$Reader", name := "signed", desc := "(I)I" } : Jvm.MethodName) prog_10_method_7_code (4 : Nat) (Option.some Jvm.ClassFile.FieldType.int)) ∈ lw_all := lw_g (lw_at lw_m3 147 rfl) rfl
theorem q746 : (Jvm.Cond.classLink "CoincideBench$Reader" (209 : Nat) "CoincideBench$Turned") ∈ lw_all := lw_g (lw_at lw_m3 148 rfl) rfl
theorem q748 : (Jvm.Cond.methodLink "CoincideBench$Reader" (211 : Nat) ({ cls := "CoincideBench$Turned", name := "<init>", desc := "(LCoincideBench$Lattice;[I)V" } : Jvm.MethodName)) ∈ lw_all := lw_g (lw_at lw_m3 150 rfl) rfl
theorem q767 : (Jvm.Cond.fieldLinkNest "CoincideBench$Reader" (172 : Nat) "CoincideBench$Lattice" "rows" "LCoincideBench$Rows;" "CoincideBench") ∈ lw_tbl := lw_at lw_m3 169 rfl
theorem q780 : (Jvm.Cond.methodLink "CoincideBench$Reader" (157 : Nat) ({ cls := "CoincideBench$Reader", name := "lattice", desc := "()LCoincideBench$Lattice;" } : Jvm.MethodName)) ∈ lw_all := lw_g (lw_at lw_m3 182 rfl) rfl
theorem q781 : (Jvm.Cond.privateMethod ({ cls := "CoincideBench$Reader", name := "lattice", desc := "()LCoincideBench$Lattice;" } : Jvm.MethodName)) ∈ lw_tbl := lw_at lw_m3 183 rfl
theorem q782 : (Jvm.Cond.instanceMethod ({ cls := "CoincideBench$Reader", name := "lattice", desc := "()LCoincideBench$Lattice;" } : Jvm.MethodName)) ∈ lw_all := lw_g (lw_at lw_m3 184 rfl) rfl
theorem q783 : (Jvm.Cond.code ({ cls := "CoincideBench$Reader", name := "lattice", desc := "()LCoincideBench$Lattice;" } : Jvm.MethodName) prog_10_method_11_code (3 : Nat) (Option.some (Jvm.ClassFile.FieldType.object "CoincideBench$Lattice"))) ∈ lw_all := lw_g (lw_at lw_m3 185 rfl) rfl
theorem q785 : (Jvm.Cond.methodLinkNest "CoincideBench$Reader" (171 : Nat) ({ cls := "CoincideBench$Lattice", name := "<init>", desc := "()V" } : Jvm.MethodName) "CoincideBench") ∈ lw_tbl := lw_at lw_m3 187 rfl
theorem q788 : (Jvm.Cond.methodLink "CoincideBench$Reader" (184 : Nat) ({ cls := "CoincideBench$Rows", name := "determinant", desc := "()J" } : Jvm.MethodName)) ∈ lw_all := lw_g (lw_at lw_m3 190 rfl) rfl
theorem q796 : (Jvm.Cond.methodLink "CoincideBench$Reader" (188 : Nat) ({ cls := "java/lang/Math", name := "abs", desc := "(J)J" } : Jvm.MethodName)) ∈ lw_all := lw_g (lw_at lw_m3 198 rfl) rfl
theorem q799 : (Jvm.Cond.constantLong "CoincideBench$Reader" (192 : Nat) (60 : Int64)) ∈ lw_all := lw_g (lw_at lw_m3 201 rfl) rfl
theorem q800 : (Jvm.Cond.methodLink "CoincideBench$Reader" (159 : Nat) ({ cls := "java/util/ArrayList", name := "add", desc := "(Ljava/lang/Object;)Z" } : Jvm.MethodName)) ∈ lw_all := lw_g (lw_at lw_m3 202 rfl) rfl
theorem q833 : (Jvm.Cond.selects "CoincideBench$Reader" ({ cls := "java/lang/Object", name := "getClass", desc := "()Ljava/lang/Class;" } : Jvm.MethodName) ({ cls := "java/lang/Object", name := "getClass", desc := "()Ljava/lang/Class;" } : Jvm.MethodName)) ∈ lw_all := lw_g (lw_at lw_m3 235 rfl) rfl
theorem q2200 : (Jvm.Cond.castable "CoincideBench$Reader" "java/lang/Object") ∈ lw_tbl := lw_at lw_m9 162 rfl
theorem in_X4 : ∀ w ∈ wsX40, w ∈ lw_all := lw_in wsX40 [326, 328, 330, 332, 334, 336, 338, 340, 342, 344] (by decide +kernel) (by decide +kernel)
