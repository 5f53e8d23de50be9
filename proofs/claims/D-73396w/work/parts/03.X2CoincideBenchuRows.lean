/-! CoincideBench$Rows -/
set_option maxRecDepth 100000
def RX2 : String := "CoincideBench$Rows"
def TX2 : u_T := fun k => match k with
  | _ => ("CoincideBench$Rows", "at", "[[J", true)
def tyX2 : Nat → FieldType := fun k => match k with
  | _ => .array (.array .long)
abbrev wsX20 : List Cond := u_ws RX2 TX2 1
theorem nmX2 : ∀ a, a < 1 → ∀ b, b < 1 → a ≠ b → (TX2 a).2.1 ≠ (TX2 b).2.1 := by decide +kernel
theorem tyX2_ok : ∀ k, k < 1 → parseFieldDescriptor (TX2 k).2.2.1 = some (tyX2 k) := by decide +kernel
abbrev cX2_init : ByteArray := prog_13_method_1_code
def yX2_init : MethodName := ⟨RX2, "<init>", "()V"⟩
def dkwX2_init_0 : List UInt8 := [42, 183, 0, 3, 42, 6, 6, 197, 0, 9, 2, 181, 0, 11, 177]
abbrev dktX2_init_0 : List UInt8 := dkwX2_init_0 ++ []
theorem dksX2_init_0 : cX2_init.data.toList.drop 0 = dktX2_init_0 := by decide +kernel
theorem dX2_init_0 : decode cX2_init 0 = .ok (.aload_n 0, 1) := dk_42 (dk_at dksX2_init_0 0 rfl rfl)
theorem dX2_init_1 : decode cX2_init 1 = .ok (.invokespecial 3, 3) := dk_183 0 3 (dk_at dksX2_init_0 1 rfl rfl)
theorem dX2_init_4 : decode cX2_init 4 = .ok (.aload_n 0, 1) := dk_42 (dk_at dksX2_init_0 4 rfl rfl)
theorem dX2_init_5 : decode cX2_init 5 = .ok (.iconst 3, 1) := dk_6 (dk_at dksX2_init_0 5 rfl rfl)
theorem dX2_init_6 : decode cX2_init 6 = .ok (.iconst 3, 1) := dk_6 (dk_at dksX2_init_0 6 rfl rfl)
theorem dX2_init_7 : decode cX2_init 7 = .ok (.multianewarray 9 2, 4) := by decide +kernel
theorem dX2_init_11 : decode cX2_init 11 = .ok (.putfield 11, 3) := dk_181 0 11 (dk_at dksX2_init_0 11 rfl rfl)
theorem dX2_init_14 : decode cX2_init 14 = .ok (.return_, 1) := dk_177 (dk_at dksX2_init_0 14 rfl rfl)
abbrev cX2_determinant : ByteArray := prog_13_method_4_code
def yX2_determinant : MethodName := ⟨RX2, "determinant", "()J"⟩
def dkwX2_determinant_1 : List UInt8 := [3, 4, 182, 0, 17, 105, 97, 42, 180, 0, 11, 3, 50, 5, 47, 42, 3, 5, 182, 0, 17, 105, 97, 173]
abbrev dktX2_determinant_1 : List UInt8 := dkwX2_determinant_1 ++ []
def dkwX2_determinant_0 : List UInt8 := [42, 180, 0, 11, 3, 50, 3, 47, 42, 3, 3, 182, 0, 17, 105, 42, 180, 0, 11, 3, 50, 4, 47, 42]
abbrev dktX2_determinant_0 : List UInt8 := dkwX2_determinant_0 ++ dktX2_determinant_1
theorem dksX2_determinant_0 : cX2_determinant.data.toList.drop 0 = dktX2_determinant_0 := by decide +kernel
theorem dksX2_determinant_1 : cX2_determinant.data.toList.drop 24 = dktX2_determinant_1 := dk_seg dksX2_determinant_0 24 rfl rfl
theorem dX2_determinant_0 : decode cX2_determinant 0 = .ok (.aload_n 0, 1) := dk_42 (dk_at dksX2_determinant_0 0 rfl rfl)
theorem dX2_determinant_1 : decode cX2_determinant 1 = .ok (.getfield 11, 3) := dk_180 0 11 (dk_at dksX2_determinant_0 1 rfl rfl)
theorem dX2_determinant_4 : decode cX2_determinant 4 = .ok (.iconst 0, 1) := dk_3 (dk_at dksX2_determinant_0 4 rfl rfl)
theorem dX2_determinant_5 : decode cX2_determinant 5 = .ok (.aaload, 1) := dk_50 (dk_at dksX2_determinant_0 5 rfl rfl)
theorem dX2_determinant_6 : decode cX2_determinant 6 = .ok (.iconst 0, 1) := dk_3 (dk_at dksX2_determinant_0 6 rfl rfl)
theorem dX2_determinant_7 : decode cX2_determinant 7 = .ok (.laload, 1) := dk_47 (dk_at dksX2_determinant_0 7 rfl rfl)
theorem dX2_determinant_8 : decode cX2_determinant 8 = .ok (.aload_n 0, 1) := dk_42 (dk_at dksX2_determinant_0 8 rfl rfl)
theorem dX2_determinant_9 : decode cX2_determinant 9 = .ok (.iconst 0, 1) := dk_3 (dk_at dksX2_determinant_0 9 rfl rfl)
theorem dX2_determinant_10 : decode cX2_determinant 10 = .ok (.iconst 0, 1) := dk_3 (dk_at dksX2_determinant_0 10 rfl rfl)
theorem dX2_determinant_11 : decode cX2_determinant 11 = .ok (.invokevirtual 17, 3) := dk_182 0 17 (dk_at dksX2_determinant_0 11 rfl rfl)
theorem dX2_determinant_14 : decode cX2_determinant 14 = .ok (.lmul, 1) := dk_105 (dk_at dksX2_determinant_0 14 rfl rfl)
theorem dX2_determinant_15 : decode cX2_determinant 15 = .ok (.aload_n 0, 1) := dk_42 (dk_at dksX2_determinant_0 15 rfl rfl)
theorem dX2_determinant_16 : decode cX2_determinant 16 = .ok (.getfield 11, 3) := dk_180 0 11 (dk_at dksX2_determinant_0 16 rfl rfl)
theorem dX2_determinant_19 : decode cX2_determinant 19 = .ok (.iconst 0, 1) := dk_3 (dk_at dksX2_determinant_0 19 rfl rfl)
theorem dX2_determinant_20 : decode cX2_determinant 20 = .ok (.aaload, 1) := dk_50 (dk_at dksX2_determinant_0 20 rfl rfl)
theorem dX2_determinant_21 : decode cX2_determinant 21 = .ok (.iconst 1, 1) := dk_4 (dk_at dksX2_determinant_0 21 rfl rfl)
theorem dX2_determinant_22 : decode cX2_determinant 22 = .ok (.laload, 1) := dk_47 (dk_at dksX2_determinant_0 22 rfl rfl)
theorem dX2_determinant_23 : decode cX2_determinant 23 = .ok (.aload_n 0, 1) := dk_42 (dk_at dksX2_determinant_0 23 rfl rfl)
theorem dX2_determinant_24 : decode cX2_determinant 24 = .ok (.iconst 0, 1) := dk_3 (dk_at dksX2_determinant_1 0 rfl rfl)
theorem dX2_determinant_25 : decode cX2_determinant 25 = .ok (.iconst 1, 1) := dk_4 (dk_at dksX2_determinant_1 1 rfl rfl)
theorem dX2_determinant_26 : decode cX2_determinant 26 = .ok (.invokevirtual 17, 3) := dk_182 0 17 (dk_at dksX2_determinant_1 2 rfl rfl)
theorem dX2_determinant_29 : decode cX2_determinant 29 = .ok (.lmul, 1) := dk_105 (dk_at dksX2_determinant_1 5 rfl rfl)
theorem dX2_determinant_30 : decode cX2_determinant 30 = .ok (.ladd, 1) := dk_97 (dk_at dksX2_determinant_1 6 rfl rfl)
theorem dX2_determinant_31 : decode cX2_determinant 31 = .ok (.aload_n 0, 1) := dk_42 (dk_at dksX2_determinant_1 7 rfl rfl)
theorem dX2_determinant_32 : decode cX2_determinant 32 = .ok (.getfield 11, 3) := dk_180 0 11 (dk_at dksX2_determinant_1 8 rfl rfl)
theorem dX2_determinant_35 : decode cX2_determinant 35 = .ok (.iconst 0, 1) := dk_3 (dk_at dksX2_determinant_1 11 rfl rfl)
theorem dX2_determinant_36 : decode cX2_determinant 36 = .ok (.aaload, 1) := dk_50 (dk_at dksX2_determinant_1 12 rfl rfl)
theorem dX2_determinant_37 : decode cX2_determinant 37 = .ok (.iconst 2, 1) := dk_5 (dk_at dksX2_determinant_1 13 rfl rfl)
theorem dX2_determinant_38 : decode cX2_determinant 38 = .ok (.laload, 1) := dk_47 (dk_at dksX2_determinant_1 14 rfl rfl)
theorem dX2_determinant_39 : decode cX2_determinant 39 = .ok (.aload_n 0, 1) := dk_42 (dk_at dksX2_determinant_1 15 rfl rfl)
theorem dX2_determinant_40 : decode cX2_determinant 40 = .ok (.iconst 0, 1) := dk_3 (dk_at dksX2_determinant_1 16 rfl rfl)
theorem dX2_determinant_41 : decode cX2_determinant 41 = .ok (.iconst 2, 1) := dk_5 (dk_at dksX2_determinant_1 17 rfl rfl)
theorem dX2_determinant_42 : decode cX2_determinant 42 = .ok (.invokevirtual 17, 3) := dk_182 0 17 (dk_at dksX2_determinant_1 18 rfl rfl)
theorem dX2_determinant_45 : decode cX2_determinant 45 = .ok (.lmul, 1) := dk_105 (dk_at dksX2_determinant_1 21 rfl rfl)
theorem dX2_determinant_46 : decode cX2_determinant 46 = .ok (.ladd, 1) := dk_97 (dk_at dksX2_determinant_1 22 rfl rfl)
theorem dX2_determinant_47 : decode cX2_determinant 47 = .ok (.lreturn, 1) := dk_173 (dk_at dksX2_determinant_1 23 rfl rfl)
abbrev cX2_minor : ByteArray := prog_13_method_3_code
def yX2_minor : MethodName := ⟨RX2, "minor", "(II)J"⟩
def dkwX2_minor_2 : List UInt8 := [180, 0, 11, 29, 50, 21, 6, 47, 42, 180, 0, 11, 21, 4, 50, 21, 5, 47, 105, 101, 173]
abbrev dktX2_minor_2 : List UInt8 := dkwX2_minor_2 ++ []
def dkwX2_minor_1 : List UInt8 := [112, 54, 6, 42, 180, 0, 11, 29, 50, 21, 5, 47, 42, 180, 0, 11, 21, 4, 50, 21, 6, 47, 105, 42]
abbrev dktX2_minor_1 : List UInt8 := dkwX2_minor_1 ++ dktX2_minor_2
def dkwX2_minor_0 : List UInt8 := [27, 4, 96, 6, 112, 62, 27, 5, 96, 6, 112, 54, 4, 28, 4, 96, 6, 112, 54, 5, 28, 5, 96, 6]
abbrev dktX2_minor_0 : List UInt8 := dkwX2_minor_0 ++ dktX2_minor_1
theorem dksX2_minor_0 : cX2_minor.data.toList.drop 0 = dktX2_minor_0 := by decide +kernel
theorem dksX2_minor_1 : cX2_minor.data.toList.drop 24 = dktX2_minor_1 := dk_seg dksX2_minor_0 24 rfl rfl
theorem dksX2_minor_2 : cX2_minor.data.toList.drop 48 = dktX2_minor_2 := dk_seg dksX2_minor_1 24 rfl rfl
theorem dX2_minor_0 : decode cX2_minor 0 = .ok (.iload_n 1, 1) := dk_27 (dk_at dksX2_minor_0 0 rfl rfl)
theorem dX2_minor_1 : decode cX2_minor 1 = .ok (.iconst 1, 1) := dk_4 (dk_at dksX2_minor_0 1 rfl rfl)
theorem dX2_minor_2 : decode cX2_minor 2 = .ok (.iadd, 1) := dk_96 (dk_at dksX2_minor_0 2 rfl rfl)
theorem dX2_minor_3 : decode cX2_minor 3 = .ok (.iconst 3, 1) := dk_6 (dk_at dksX2_minor_0 3 rfl rfl)
theorem dX2_minor_4 : decode cX2_minor 4 = .ok (.irem, 1) := dk_112 (dk_at dksX2_minor_0 4 rfl rfl)
theorem dX2_minor_5 : decode cX2_minor 5 = .ok (.istore_n 3, 1) := dk_62 (dk_at dksX2_minor_0 5 rfl rfl)
theorem dX2_minor_6 : decode cX2_minor 6 = .ok (.iload_n 1, 1) := dk_27 (dk_at dksX2_minor_0 6 rfl rfl)
theorem dX2_minor_7 : decode cX2_minor 7 = .ok (.iconst 2, 1) := dk_5 (dk_at dksX2_minor_0 7 rfl rfl)
theorem dX2_minor_8 : decode cX2_minor 8 = .ok (.iadd, 1) := dk_96 (dk_at dksX2_minor_0 8 rfl rfl)
theorem dX2_minor_9 : decode cX2_minor 9 = .ok (.iconst 3, 1) := dk_6 (dk_at dksX2_minor_0 9 rfl rfl)
theorem dX2_minor_10 : decode cX2_minor 10 = .ok (.irem, 1) := dk_112 (dk_at dksX2_minor_0 10 rfl rfl)
theorem dX2_minor_11 : decode cX2_minor 11 = .ok (.istore 4, 2) := dk_54 4 (dk_at dksX2_minor_0 11 rfl rfl)
theorem dX2_minor_13 : decode cX2_minor 13 = .ok (.iload_n 2, 1) := dk_28 (dk_at dksX2_minor_0 13 rfl rfl)
theorem dX2_minor_14 : decode cX2_minor 14 = .ok (.iconst 1, 1) := dk_4 (dk_at dksX2_minor_0 14 rfl rfl)
theorem dX2_minor_15 : decode cX2_minor 15 = .ok (.iadd, 1) := dk_96 (dk_at dksX2_minor_0 15 rfl rfl)
theorem dX2_minor_16 : decode cX2_minor 16 = .ok (.iconst 3, 1) := dk_6 (dk_at dksX2_minor_0 16 rfl rfl)
theorem dX2_minor_17 : decode cX2_minor 17 = .ok (.irem, 1) := dk_112 (dk_at dksX2_minor_0 17 rfl rfl)
theorem dX2_minor_18 : decode cX2_minor 18 = .ok (.istore 5, 2) := dk_54 5 (dk_at dksX2_minor_0 18 rfl rfl)
theorem dX2_minor_20 : decode cX2_minor 20 = .ok (.iload_n 2, 1) := dk_28 (dk_at dksX2_minor_0 20 rfl rfl)
theorem dX2_minor_21 : decode cX2_minor 21 = .ok (.iconst 2, 1) := dk_5 (dk_at dksX2_minor_0 21 rfl rfl)
theorem dX2_minor_22 : decode cX2_minor 22 = .ok (.iadd, 1) := dk_96 (dk_at dksX2_minor_0 22 rfl rfl)
theorem dX2_minor_23 : decode cX2_minor 23 = .ok (.iconst 3, 1) := dk_6 (dk_at dksX2_minor_0 23 rfl rfl)
theorem dX2_minor_24 : decode cX2_minor 24 = .ok (.irem, 1) := dk_112 (dk_at dksX2_minor_1 0 rfl rfl)
theorem dX2_minor_25 : decode cX2_minor 25 = .ok (.istore 6, 2) := dk_54 6 (dk_at dksX2_minor_1 1 rfl rfl)
theorem dX2_minor_27 : decode cX2_minor 27 = .ok (.aload_n 0, 1) := dk_42 (dk_at dksX2_minor_1 3 rfl rfl)
theorem dX2_minor_28 : decode cX2_minor 28 = .ok (.getfield 11, 3) := dk_180 0 11 (dk_at dksX2_minor_1 4 rfl rfl)
theorem dX2_minor_31 : decode cX2_minor 31 = .ok (.iload_n 3, 1) := dk_29 (dk_at dksX2_minor_1 7 rfl rfl)
theorem dX2_minor_32 : decode cX2_minor 32 = .ok (.aaload, 1) := dk_50 (dk_at dksX2_minor_1 8 rfl rfl)
theorem dX2_minor_33 : decode cX2_minor 33 = .ok (.iload 5, 2) := dk_21 5 (dk_at dksX2_minor_1 9 rfl rfl)
theorem dX2_minor_35 : decode cX2_minor 35 = .ok (.laload, 1) := dk_47 (dk_at dksX2_minor_1 11 rfl rfl)
theorem dX2_minor_36 : decode cX2_minor 36 = .ok (.aload_n 0, 1) := dk_42 (dk_at dksX2_minor_1 12 rfl rfl)
theorem dX2_minor_37 : decode cX2_minor 37 = .ok (.getfield 11, 3) := dk_180 0 11 (dk_at dksX2_minor_1 13 rfl rfl)
theorem dX2_minor_40 : decode cX2_minor 40 = .ok (.iload 4, 2) := dk_21 4 (dk_at dksX2_minor_1 16 rfl rfl)
theorem dX2_minor_42 : decode cX2_minor 42 = .ok (.aaload, 1) := dk_50 (dk_at dksX2_minor_1 18 rfl rfl)
theorem dX2_minor_43 : decode cX2_minor 43 = .ok (.iload 6, 2) := dk_21 6 (dk_at dksX2_minor_1 19 rfl rfl)
theorem dX2_minor_45 : decode cX2_minor 45 = .ok (.laload, 1) := dk_47 (dk_at dksX2_minor_1 21 rfl rfl)
theorem dX2_minor_46 : decode cX2_minor 46 = .ok (.lmul, 1) := dk_105 (dk_at dksX2_minor_1 22 rfl rfl)
theorem dX2_minor_47 : decode cX2_minor 47 = .ok (.aload_n 0, 1) := dk_42 (dk_at dksX2_minor_1 23 rfl rfl)
theorem dX2_minor_48 : decode cX2_minor 48 = .ok (.getfield 11, 3) := dk_180 0 11 (dk_at dksX2_minor_2 0 rfl rfl)
theorem dX2_minor_51 : decode cX2_minor 51 = .ok (.iload_n 3, 1) := dk_29 (dk_at dksX2_minor_2 3 rfl rfl)
theorem dX2_minor_52 : decode cX2_minor 52 = .ok (.aaload, 1) := dk_50 (dk_at dksX2_minor_2 4 rfl rfl)
theorem dX2_minor_53 : decode cX2_minor 53 = .ok (.iload 6, 2) := dk_21 6 (dk_at dksX2_minor_2 5 rfl rfl)
theorem dX2_minor_55 : decode cX2_minor 55 = .ok (.laload, 1) := dk_47 (dk_at dksX2_minor_2 7 rfl rfl)
theorem dX2_minor_56 : decode cX2_minor 56 = .ok (.aload_n 0, 1) := dk_42 (dk_at dksX2_minor_2 8 rfl rfl)
theorem dX2_minor_57 : decode cX2_minor 57 = .ok (.getfield 11, 3) := dk_180 0 11 (dk_at dksX2_minor_2 9 rfl rfl)
theorem dX2_minor_60 : decode cX2_minor 60 = .ok (.iload 4, 2) := dk_21 4 (dk_at dksX2_minor_2 12 rfl rfl)
theorem dX2_minor_62 : decode cX2_minor 62 = .ok (.aaload, 1) := dk_50 (dk_at dksX2_minor_2 14 rfl rfl)
theorem dX2_minor_63 : decode cX2_minor 63 = .ok (.iload 5, 2) := dk_21 5 (dk_at dksX2_minor_2 15 rfl rfl)
theorem dX2_minor_65 : decode cX2_minor 65 = .ok (.laload, 1) := dk_47 (dk_at dksX2_minor_2 17 rfl rfl)
theorem dX2_minor_66 : decode cX2_minor 66 = .ok (.lmul, 1) := dk_105 (dk_at dksX2_minor_2 18 rfl rfl)
theorem dX2_minor_67 : decode cX2_minor 67 = .ok (.lsub, 1) := dk_101 (dk_at dksX2_minor_2 19 rfl rfl)
theorem dX2_minor_68 : decode cX2_minor 68 = .ok (.lreturn, 1) := dk_173 (dk_at dksX2_minor_2 20 rfl rfl)
abbrev cX2_times : ByteArray := prog_13_method_6_code
def yX2_times : MethodName := ⟨RX2, "times", "(LCoincideBench$Rows;)LCoincideBench$Rows;"⟩
def dkwX2_times_3 : List UInt8 := [132, 4, 1, 167, 255, 200, 132, 3, 1, 167, 255, 186, 44, 176]
abbrev dktX2_times_3 : List UInt8 := dkwX2_times_3 ++ []
def dkwX2_times_2 : List UInt8 := [50, 21, 5, 47, 43, 180, 0, 11, 21, 5, 50, 21, 4, 47, 105, 97, 80, 132, 5, 1, 167, 255, 215]
abbrev dktX2_times_2 : List UInt8 := dkwX2_times_2 ++ dktX2_times_3
def dkwX2_times_1 : List UInt8 := [3, 54, 5, 21, 5, 6, 162, 0, 41, 44, 180, 0, 11, 29, 50, 21, 4, 92, 47, 42, 180, 0, 11, 29]
abbrev dktX2_times_1 : List UInt8 := dkwX2_times_1 ++ dktX2_times_2
def dkwX2_times_0 : List UInt8 := [187, 0, 12, 89, 183, 0, 16, 77, 3, 62, 29, 6, 162, 0, 71, 3, 54, 4, 21, 4, 6, 162, 0, 56]
abbrev dktX2_times_0 : List UInt8 := dkwX2_times_0 ++ dktX2_times_1
theorem dksX2_times_0 : cX2_times.data.toList.drop 0 = dktX2_times_0 := by decide +kernel
theorem dksX2_times_1 : cX2_times.data.toList.drop 24 = dktX2_times_1 := dk_seg dksX2_times_0 24 rfl rfl
theorem dksX2_times_2 : cX2_times.data.toList.drop 48 = dktX2_times_2 := dk_seg dksX2_times_1 24 rfl rfl
theorem dksX2_times_3 : cX2_times.data.toList.drop 71 = dktX2_times_3 := dk_seg dksX2_times_2 23 rfl rfl
theorem dX2_times_0 : decode cX2_times 0 = .ok (.new 12, 3) := dk_187 0 12 (dk_at dksX2_times_0 0 rfl rfl)
theorem dX2_times_3 : decode cX2_times 3 = .ok (.dup, 1) := dk_89 (dk_at dksX2_times_0 3 rfl rfl)
theorem dX2_times_4 : decode cX2_times 4 = .ok (.invokespecial 16, 3) := dk_183 0 16 (dk_at dksX2_times_0 4 rfl rfl)
theorem dX2_times_7 : decode cX2_times 7 = .ok (.astore_n 2, 1) := dk_77 (dk_at dksX2_times_0 7 rfl rfl)
theorem dX2_times_8 : decode cX2_times 8 = .ok (.iconst 0, 1) := dk_3 (dk_at dksX2_times_0 8 rfl rfl)
theorem dX2_times_9 : decode cX2_times 9 = .ok (.istore_n 3, 1) := dk_62 (dk_at dksX2_times_0 9 rfl rfl)
theorem dX2_times_10 : decode cX2_times 10 = .ok (.iload_n 3, 1) := dk_29 (dk_at dksX2_times_0 10 rfl rfl)
theorem dX2_times_11 : decode cX2_times 11 = .ok (.iconst 3, 1) := dk_6 (dk_at dksX2_times_0 11 rfl rfl)
theorem dX2_times_12 : decode cX2_times 12 = .ok (.if_icmp .ge 71, 3) := dk_162 0 71 (dk_at dksX2_times_0 12 rfl rfl)
theorem dX2_times_15 : decode cX2_times 15 = .ok (.iconst 0, 1) := dk_3 (dk_at dksX2_times_0 15 rfl rfl)
theorem dX2_times_16 : decode cX2_times 16 = .ok (.istore 4, 2) := dk_54 4 (dk_at dksX2_times_0 16 rfl rfl)
theorem dX2_times_18 : decode cX2_times 18 = .ok (.iload 4, 2) := dk_21 4 (dk_at dksX2_times_0 18 rfl rfl)
theorem dX2_times_20 : decode cX2_times 20 = .ok (.iconst 3, 1) := dk_6 (dk_at dksX2_times_0 20 rfl rfl)
theorem dX2_times_21 : decode cX2_times 21 = .ok (.if_icmp .ge 56, 3) := dk_162 0 56 (dk_at dksX2_times_0 21 rfl rfl)
theorem dX2_times_24 : decode cX2_times 24 = .ok (.iconst 0, 1) := dk_3 (dk_at dksX2_times_1 0 rfl rfl)
theorem dX2_times_25 : decode cX2_times 25 = .ok (.istore 5, 2) := dk_54 5 (dk_at dksX2_times_1 1 rfl rfl)
theorem dX2_times_27 : decode cX2_times 27 = .ok (.iload 5, 2) := dk_21 5 (dk_at dksX2_times_1 3 rfl rfl)
theorem dX2_times_29 : decode cX2_times 29 = .ok (.iconst 3, 1) := dk_6 (dk_at dksX2_times_1 5 rfl rfl)
theorem dX2_times_30 : decode cX2_times 30 = .ok (.if_icmp .ge 41, 3) := dk_162 0 41 (dk_at dksX2_times_1 6 rfl rfl)
theorem dX2_times_33 : decode cX2_times 33 = .ok (.aload_n 2, 1) := dk_44 (dk_at dksX2_times_1 9 rfl rfl)
theorem dX2_times_34 : decode cX2_times 34 = .ok (.getfield 11, 3) := dk_180 0 11 (dk_at dksX2_times_1 10 rfl rfl)
theorem dX2_times_37 : decode cX2_times 37 = .ok (.iload_n 3, 1) := dk_29 (dk_at dksX2_times_1 13 rfl rfl)
theorem dX2_times_38 : decode cX2_times 38 = .ok (.aaload, 1) := dk_50 (dk_at dksX2_times_1 14 rfl rfl)
theorem dX2_times_39 : decode cX2_times 39 = .ok (.iload 4, 2) := dk_21 4 (dk_at dksX2_times_1 15 rfl rfl)
theorem dX2_times_41 : decode cX2_times 41 = .ok (.dup2, 1) := dk_92 (dk_at dksX2_times_1 17 rfl rfl)
theorem dX2_times_42 : decode cX2_times 42 = .ok (.laload, 1) := dk_47 (dk_at dksX2_times_1 18 rfl rfl)
theorem dX2_times_43 : decode cX2_times 43 = .ok (.aload_n 0, 1) := dk_42 (dk_at dksX2_times_1 19 rfl rfl)
theorem dX2_times_44 : decode cX2_times 44 = .ok (.getfield 11, 3) := dk_180 0 11 (dk_at dksX2_times_1 20 rfl rfl)
theorem dX2_times_47 : decode cX2_times 47 = .ok (.iload_n 3, 1) := dk_29 (dk_at dksX2_times_1 23 rfl rfl)
theorem dX2_times_48 : decode cX2_times 48 = .ok (.aaload, 1) := dk_50 (dk_at dksX2_times_2 0 rfl rfl)
theorem dX2_times_49 : decode cX2_times 49 = .ok (.iload 5, 2) := dk_21 5 (dk_at dksX2_times_2 1 rfl rfl)
theorem dX2_times_51 : decode cX2_times 51 = .ok (.laload, 1) := dk_47 (dk_at dksX2_times_2 3 rfl rfl)
theorem dX2_times_52 : decode cX2_times 52 = .ok (.aload_n 1, 1) := dk_43 (dk_at dksX2_times_2 4 rfl rfl)
theorem dX2_times_53 : decode cX2_times 53 = .ok (.getfield 11, 3) := dk_180 0 11 (dk_at dksX2_times_2 5 rfl rfl)
theorem dX2_times_56 : decode cX2_times 56 = .ok (.iload 5, 2) := dk_21 5 (dk_at dksX2_times_2 8 rfl rfl)
theorem dX2_times_58 : decode cX2_times 58 = .ok (.aaload, 1) := dk_50 (dk_at dksX2_times_2 10 rfl rfl)
theorem dX2_times_59 : decode cX2_times 59 = .ok (.iload 4, 2) := dk_21 4 (dk_at dksX2_times_2 11 rfl rfl)
theorem dX2_times_61 : decode cX2_times 61 = .ok (.laload, 1) := dk_47 (dk_at dksX2_times_2 13 rfl rfl)
theorem dX2_times_62 : decode cX2_times 62 = .ok (.lmul, 1) := dk_105 (dk_at dksX2_times_2 14 rfl rfl)
theorem dX2_times_63 : decode cX2_times 63 = .ok (.ladd, 1) := dk_97 (dk_at dksX2_times_2 15 rfl rfl)
theorem dX2_times_64 : decode cX2_times 64 = .ok (.lastore, 1) := dk_80 (dk_at dksX2_times_2 16 rfl rfl)
theorem dX2_times_65 : decode cX2_times 65 = .ok (.iinc 5 1, 3) := dk_132 5 1 (dk_at dksX2_times_2 17 rfl rfl)
theorem dX2_times_68 : decode cX2_times 68 = .ok (.goto (-41), 3) := dk_167 255 215 (dk_at dksX2_times_2 20 rfl rfl)
theorem dX2_times_71 : decode cX2_times 71 = .ok (.iinc 4 1, 3) := dk_132 4 1 (dk_at dksX2_times_3 0 rfl rfl)
theorem dX2_times_74 : decode cX2_times 74 = .ok (.goto (-56), 3) := dk_167 255 200 (dk_at dksX2_times_3 3 rfl rfl)
theorem dX2_times_77 : decode cX2_times 77 = .ok (.iinc 3 1, 3) := dk_132 3 1 (dk_at dksX2_times_3 6 rfl rfl)
theorem dX2_times_80 : decode cX2_times 80 = .ok (.goto (-70), 3) := dk_167 255 186 (dk_at dksX2_times_3 9 rfl rfl)
theorem dX2_times_83 : decode cX2_times 83 = .ok (.aload_n 2, 1) := dk_44 (dk_at dksX2_times_3 12 rfl rfl)
theorem dX2_times_84 : decode cX2_times 84 = .ok (.areturn, 1) := dk_176 (dk_at dksX2_times_3 13 rfl rfl)
abbrev cX2_common : ByteArray := prog_13_method_9_code
def yX2_common : MethodName := ⟨RX2, "common", "()J"⟩
def dkwX2_common_1 : List UInt8 := [50, 21, 4, 47, 184, 0, 21, 64, 132, 4, 1, 167, 255, 233, 132, 3, 1, 167, 255, 219, 31, 173]
abbrev dktX2_common_1 : List UInt8 := dkwX2_common_1 ++ []
def dkwX2_common_0 : List UInt8 := [9, 64, 3, 62, 29, 6, 162, 0, 38, 3, 54, 4, 21, 4, 6, 162, 0, 23, 31, 42, 180, 0, 11, 29]
abbrev dktX2_common_0 : List UInt8 := dkwX2_common_0 ++ dktX2_common_1
theorem dksX2_common_0 : cX2_common.data.toList.drop 0 = dktX2_common_0 := by decide +kernel
theorem dksX2_common_1 : cX2_common.data.toList.drop 24 = dktX2_common_1 := dk_seg dksX2_common_0 24 rfl rfl
theorem dX2_common_0 : decode cX2_common 0 = .ok (.lconst 0, 1) := dk_9 (dk_at dksX2_common_0 0 rfl rfl)
theorem dX2_common_1 : decode cX2_common 1 = .ok (.lstore_n 1, 1) := dk_64 (dk_at dksX2_common_0 1 rfl rfl)
theorem dX2_common_2 : decode cX2_common 2 = .ok (.iconst 0, 1) := dk_3 (dk_at dksX2_common_0 2 rfl rfl)
theorem dX2_common_3 : decode cX2_common 3 = .ok (.istore_n 3, 1) := dk_62 (dk_at dksX2_common_0 3 rfl rfl)
theorem dX2_common_4 : decode cX2_common 4 = .ok (.iload_n 3, 1) := dk_29 (dk_at dksX2_common_0 4 rfl rfl)
theorem dX2_common_5 : decode cX2_common 5 = .ok (.iconst 3, 1) := dk_6 (dk_at dksX2_common_0 5 rfl rfl)
theorem dX2_common_6 : decode cX2_common 6 = .ok (.if_icmp .ge 38, 3) := dk_162 0 38 (dk_at dksX2_common_0 6 rfl rfl)
theorem dX2_common_9 : decode cX2_common 9 = .ok (.iconst 0, 1) := dk_3 (dk_at dksX2_common_0 9 rfl rfl)
theorem dX2_common_10 : decode cX2_common 10 = .ok (.istore 4, 2) := dk_54 4 (dk_at dksX2_common_0 10 rfl rfl)
theorem dX2_common_12 : decode cX2_common 12 = .ok (.iload 4, 2) := dk_21 4 (dk_at dksX2_common_0 12 rfl rfl)
theorem dX2_common_14 : decode cX2_common 14 = .ok (.iconst 3, 1) := dk_6 (dk_at dksX2_common_0 14 rfl rfl)
theorem dX2_common_15 : decode cX2_common 15 = .ok (.if_icmp .ge 23, 3) := dk_162 0 23 (dk_at dksX2_common_0 15 rfl rfl)
theorem dX2_common_18 : decode cX2_common 18 = .ok (.lload_n 1, 1) := dk_31 (dk_at dksX2_common_0 18 rfl rfl)
theorem dX2_common_19 : decode cX2_common 19 = .ok (.aload_n 0, 1) := dk_42 (dk_at dksX2_common_0 19 rfl rfl)
theorem dX2_common_20 : decode cX2_common 20 = .ok (.getfield 11, 3) := dk_180 0 11 (dk_at dksX2_common_0 20 rfl rfl)
theorem dX2_common_23 : decode cX2_common 23 = .ok (.iload_n 3, 1) := dk_29 (dk_at dksX2_common_0 23 rfl rfl)
theorem dX2_common_24 : decode cX2_common 24 = .ok (.aaload, 1) := dk_50 (dk_at dksX2_common_1 0 rfl rfl)
theorem dX2_common_25 : decode cX2_common 25 = .ok (.iload 4, 2) := dk_21 4 (dk_at dksX2_common_1 1 rfl rfl)
theorem dX2_common_27 : decode cX2_common 27 = .ok (.laload, 1) := dk_47 (dk_at dksX2_common_1 3 rfl rfl)
theorem dX2_common_28 : decode cX2_common 28 = .ok (.invokestatic 21, 3) := dk_184 0 21 (dk_at dksX2_common_1 4 rfl rfl)
theorem dX2_common_31 : decode cX2_common 31 = .ok (.lstore_n 1, 1) := dk_64 (dk_at dksX2_common_1 7 rfl rfl)
theorem dX2_common_32 : decode cX2_common 32 = .ok (.iinc 4 1, 3) := dk_132 4 1 (dk_at dksX2_common_1 8 rfl rfl)
theorem dX2_common_35 : decode cX2_common 35 = .ok (.goto (-23), 3) := dk_167 255 233 (dk_at dksX2_common_1 11 rfl rfl)
theorem dX2_common_38 : decode cX2_common 38 = .ok (.iinc 3 1, 3) := dk_132 3 1 (dk_at dksX2_common_1 14 rfl rfl)
theorem dX2_common_41 : decode cX2_common 41 = .ok (.goto (-37), 3) := dk_167 255 219 (dk_at dksX2_common_1 17 rfl rfl)
theorem dX2_common_44 : decode cX2_common 44 = .ok (.lload_n 1, 1) := dk_31 (dk_at dksX2_common_1 20 rfl rfl)
theorem dX2_common_45 : decode cX2_common 45 = .ok (.lreturn, 1) := dk_173 (dk_at dksX2_common_1 21 rfl rfl)
abbrev cX2_by : ByteArray := prog_13_method_8_code
def yX2_by : MethodName := ⟨RX2, "by", "(J)LCoincideBench$Rows;"⟩
def dkwX2_by_2 : List UInt8 := [80, 132, 5, 1, 167, 255, 225, 132, 4, 1, 167, 255, 210, 45, 176]
abbrev dktX2_by_2 : List UInt8 := dkwX2_by_2 ++ []
def dkwX2_by_1 : List UInt8 := [162, 0, 31, 45, 180, 0, 11, 21, 4, 50, 21, 5, 42, 180, 0, 11, 21, 4, 50, 21, 5, 47, 31, 109]
abbrev dktX2_by_1 : List UInt8 := dkwX2_by_1 ++ dktX2_by_2
def dkwX2_by_0 : List UInt8 := [187, 0, 12, 89, 183, 0, 16, 78, 3, 54, 4, 21, 4, 6, 162, 0, 46, 3, 54, 5, 21, 5, 6]
abbrev dktX2_by_0 : List UInt8 := dkwX2_by_0 ++ dktX2_by_1
theorem dksX2_by_0 : cX2_by.data.toList.drop 0 = dktX2_by_0 := by decide +kernel
theorem dksX2_by_1 : cX2_by.data.toList.drop 23 = dktX2_by_1 := dk_seg dksX2_by_0 23 rfl rfl
theorem dksX2_by_2 : cX2_by.data.toList.drop 47 = dktX2_by_2 := dk_seg dksX2_by_1 24 rfl rfl
theorem dX2_by_0 : decode cX2_by 0 = .ok (.new 12, 3) := dk_187 0 12 (dk_at dksX2_by_0 0 rfl rfl)
theorem dX2_by_3 : decode cX2_by 3 = .ok (.dup, 1) := dk_89 (dk_at dksX2_by_0 3 rfl rfl)
theorem dX2_by_4 : decode cX2_by 4 = .ok (.invokespecial 16, 3) := dk_183 0 16 (dk_at dksX2_by_0 4 rfl rfl)
theorem dX2_by_7 : decode cX2_by 7 = .ok (.astore_n 3, 1) := dk_78 (dk_at dksX2_by_0 7 rfl rfl)
theorem dX2_by_8 : decode cX2_by 8 = .ok (.iconst 0, 1) := dk_3 (dk_at dksX2_by_0 8 rfl rfl)
theorem dX2_by_9 : decode cX2_by 9 = .ok (.istore 4, 2) := dk_54 4 (dk_at dksX2_by_0 9 rfl rfl)
theorem dX2_by_11 : decode cX2_by 11 = .ok (.iload 4, 2) := dk_21 4 (dk_at dksX2_by_0 11 rfl rfl)
theorem dX2_by_13 : decode cX2_by 13 = .ok (.iconst 3, 1) := dk_6 (dk_at dksX2_by_0 13 rfl rfl)
theorem dX2_by_14 : decode cX2_by 14 = .ok (.if_icmp .ge 46, 3) := dk_162 0 46 (dk_at dksX2_by_0 14 rfl rfl)
theorem dX2_by_17 : decode cX2_by 17 = .ok (.iconst 0, 1) := dk_3 (dk_at dksX2_by_0 17 rfl rfl)
theorem dX2_by_18 : decode cX2_by 18 = .ok (.istore 5, 2) := dk_54 5 (dk_at dksX2_by_0 18 rfl rfl)
theorem dX2_by_20 : decode cX2_by 20 = .ok (.iload 5, 2) := dk_21 5 (dk_at dksX2_by_0 20 rfl rfl)
theorem dX2_by_22 : decode cX2_by 22 = .ok (.iconst 3, 1) := dk_6 (dk_at dksX2_by_0 22 rfl rfl)
theorem dX2_by_23 : decode cX2_by 23 = .ok (.if_icmp .ge 31, 3) := dk_162 0 31 (dk_at dksX2_by_1 0 rfl rfl)
theorem dX2_by_26 : decode cX2_by 26 = .ok (.aload_n 3, 1) := dk_45 (dk_at dksX2_by_1 3 rfl rfl)
theorem dX2_by_27 : decode cX2_by 27 = .ok (.getfield 11, 3) := dk_180 0 11 (dk_at dksX2_by_1 4 rfl rfl)
theorem dX2_by_30 : decode cX2_by 30 = .ok (.iload 4, 2) := dk_21 4 (dk_at dksX2_by_1 7 rfl rfl)
theorem dX2_by_32 : decode cX2_by 32 = .ok (.aaload, 1) := dk_50 (dk_at dksX2_by_1 9 rfl rfl)
theorem dX2_by_33 : decode cX2_by 33 = .ok (.iload 5, 2) := dk_21 5 (dk_at dksX2_by_1 10 rfl rfl)
theorem dX2_by_35 : decode cX2_by 35 = .ok (.aload_n 0, 1) := dk_42 (dk_at dksX2_by_1 12 rfl rfl)
theorem dX2_by_36 : decode cX2_by 36 = .ok (.getfield 11, 3) := dk_180 0 11 (dk_at dksX2_by_1 13 rfl rfl)
theorem dX2_by_39 : decode cX2_by 39 = .ok (.iload 4, 2) := dk_21 4 (dk_at dksX2_by_1 16 rfl rfl)
theorem dX2_by_41 : decode cX2_by 41 = .ok (.aaload, 1) := dk_50 (dk_at dksX2_by_1 18 rfl rfl)
theorem dX2_by_42 : decode cX2_by 42 = .ok (.iload 5, 2) := dk_21 5 (dk_at dksX2_by_1 19 rfl rfl)
theorem dX2_by_44 : decode cX2_by 44 = .ok (.laload, 1) := dk_47 (dk_at dksX2_by_1 21 rfl rfl)
theorem dX2_by_45 : decode cX2_by 45 = .ok (.lload_n 1, 1) := dk_31 (dk_at dksX2_by_1 22 rfl rfl)
theorem dX2_by_46 : decode cX2_by 46 = .ok (.ldiv, 1) := dk_109 (dk_at dksX2_by_1 23 rfl rfl)
theorem dX2_by_47 : decode cX2_by 47 = .ok (.lastore, 1) := dk_80 (dk_at dksX2_by_2 0 rfl rfl)
theorem dX2_by_48 : decode cX2_by 48 = .ok (.iinc 5 1, 3) := dk_132 5 1 (dk_at dksX2_by_2 1 rfl rfl)
theorem dX2_by_51 : decode cX2_by 51 = .ok (.goto (-31), 3) := dk_167 255 225 (dk_at dksX2_by_2 4 rfl rfl)
theorem dX2_by_54 : decode cX2_by 54 = .ok (.iinc 4 1, 3) := dk_132 4 1 (dk_at dksX2_by_2 7 rfl rfl)
theorem dX2_by_57 : decode cX2_by 57 = .ok (.goto (-46), 3) := dk_167 255 210 (dk_at dksX2_by_2 10 rfl rfl)
theorem dX2_by_60 : decode cX2_by 60 = .ok (.aload_n 3, 1) := dk_45 (dk_at dksX2_by_2 13 rfl rfl)
theorem dX2_by_61 : decode cX2_by 61 = .ok (.areturn, 1) := dk_176 (dk_at dksX2_by_2 14 rfl rfl)
abbrev cX2_copy : ByteArray := prog_13_method_2_code
def yX2_copy : MethodName := ⟨RX2, "copy", "()LCoincideBench$Rows;"⟩
def dkwX2_copy_2 : List UInt8 := [167, 255, 219, 43, 176]
abbrev dktX2_copy_2 : List UInt8 := dkwX2_copy_2 ++ []
def dkwX2_copy_1 : List UInt8 := [180, 0, 11, 28, 50, 29, 42, 180, 0, 11, 28, 50, 29, 47, 80, 132, 3, 1, 167, 255, 232, 132, 2, 1]
abbrev dktX2_copy_1 : List UInt8 := dkwX2_copy_1 ++ dktX2_copy_2
def dkwX2_copy_0 : List UInt8 := [187, 0, 12, 89, 183, 0, 16, 76, 3, 61, 28, 6, 162, 0, 38, 3, 62, 29, 6, 162, 0, 25, 43]
abbrev dktX2_copy_0 : List UInt8 := dkwX2_copy_0 ++ dktX2_copy_1
theorem dksX2_copy_0 : cX2_copy.data.toList.drop 0 = dktX2_copy_0 := by decide +kernel
theorem dksX2_copy_1 : cX2_copy.data.toList.drop 23 = dktX2_copy_1 := dk_seg dksX2_copy_0 23 rfl rfl
theorem dksX2_copy_2 : cX2_copy.data.toList.drop 47 = dktX2_copy_2 := dk_seg dksX2_copy_1 24 rfl rfl
theorem dX2_copy_0 : decode cX2_copy 0 = .ok (.new 12, 3) := dk_187 0 12 (dk_at dksX2_copy_0 0 rfl rfl)
theorem dX2_copy_3 : decode cX2_copy 3 = .ok (.dup, 1) := dk_89 (dk_at dksX2_copy_0 3 rfl rfl)
theorem dX2_copy_4 : decode cX2_copy 4 = .ok (.invokespecial 16, 3) := dk_183 0 16 (dk_at dksX2_copy_0 4 rfl rfl)
theorem dX2_copy_7 : decode cX2_copy 7 = .ok (.astore_n 1, 1) := dk_76 (dk_at dksX2_copy_0 7 rfl rfl)
theorem dX2_copy_8 : decode cX2_copy 8 = .ok (.iconst 0, 1) := dk_3 (dk_at dksX2_copy_0 8 rfl rfl)
theorem dX2_copy_9 : decode cX2_copy 9 = .ok (.istore_n 2, 1) := dk_61 (dk_at dksX2_copy_0 9 rfl rfl)
theorem dX2_copy_10 : decode cX2_copy 10 = .ok (.iload_n 2, 1) := dk_28 (dk_at dksX2_copy_0 10 rfl rfl)
theorem dX2_copy_11 : decode cX2_copy 11 = .ok (.iconst 3, 1) := dk_6 (dk_at dksX2_copy_0 11 rfl rfl)
theorem dX2_copy_12 : decode cX2_copy 12 = .ok (.if_icmp .ge 38, 3) := dk_162 0 38 (dk_at dksX2_copy_0 12 rfl rfl)
theorem dX2_copy_15 : decode cX2_copy 15 = .ok (.iconst 0, 1) := dk_3 (dk_at dksX2_copy_0 15 rfl rfl)
theorem dX2_copy_16 : decode cX2_copy 16 = .ok (.istore_n 3, 1) := dk_62 (dk_at dksX2_copy_0 16 rfl rfl)
theorem dX2_copy_17 : decode cX2_copy 17 = .ok (.iload_n 3, 1) := dk_29 (dk_at dksX2_copy_0 17 rfl rfl)
theorem dX2_copy_18 : decode cX2_copy 18 = .ok (.iconst 3, 1) := dk_6 (dk_at dksX2_copy_0 18 rfl rfl)
theorem dX2_copy_19 : decode cX2_copy 19 = .ok (.if_icmp .ge 25, 3) := dk_162 0 25 (dk_at dksX2_copy_0 19 rfl rfl)
theorem dX2_copy_22 : decode cX2_copy 22 = .ok (.aload_n 1, 1) := dk_43 (dk_at dksX2_copy_0 22 rfl rfl)
theorem dX2_copy_23 : decode cX2_copy 23 = .ok (.getfield 11, 3) := dk_180 0 11 (dk_at dksX2_copy_1 0 rfl rfl)
theorem dX2_copy_26 : decode cX2_copy 26 = .ok (.iload_n 2, 1) := dk_28 (dk_at dksX2_copy_1 3 rfl rfl)
theorem dX2_copy_27 : decode cX2_copy 27 = .ok (.aaload, 1) := dk_50 (dk_at dksX2_copy_1 4 rfl rfl)
theorem dX2_copy_28 : decode cX2_copy 28 = .ok (.iload_n 3, 1) := dk_29 (dk_at dksX2_copy_1 5 rfl rfl)
theorem dX2_copy_29 : decode cX2_copy 29 = .ok (.aload_n 0, 1) := dk_42 (dk_at dksX2_copy_1 6 rfl rfl)
theorem dX2_copy_30 : decode cX2_copy 30 = .ok (.getfield 11, 3) := dk_180 0 11 (dk_at dksX2_copy_1 7 rfl rfl)
theorem dX2_copy_33 : decode cX2_copy 33 = .ok (.iload_n 2, 1) := dk_28 (dk_at dksX2_copy_1 10 rfl rfl)
theorem dX2_copy_34 : decode cX2_copy 34 = .ok (.aaload, 1) := dk_50 (dk_at dksX2_copy_1 11 rfl rfl)
theorem dX2_copy_35 : decode cX2_copy 35 = .ok (.iload_n 3, 1) := dk_29 (dk_at dksX2_copy_1 12 rfl rfl)
theorem dX2_copy_36 : decode cX2_copy 36 = .ok (.laload, 1) := dk_47 (dk_at dksX2_copy_1 13 rfl rfl)
theorem dX2_copy_37 : decode cX2_copy 37 = .ok (.lastore, 1) := dk_80 (dk_at dksX2_copy_1 14 rfl rfl)
theorem dX2_copy_38 : decode cX2_copy 38 = .ok (.iinc 3 1, 3) := dk_132 3 1 (dk_at dksX2_copy_1 15 rfl rfl)
theorem dX2_copy_41 : decode cX2_copy 41 = .ok (.goto (-24), 3) := dk_167 255 232 (dk_at dksX2_copy_1 18 rfl rfl)
theorem dX2_copy_44 : decode cX2_copy 44 = .ok (.iinc 2 1, 3) := dk_132 2 1 (dk_at dksX2_copy_1 21 rfl rfl)
theorem dX2_copy_47 : decode cX2_copy 47 = .ok (.goto (-37), 3) := dk_167 255 219 (dk_at dksX2_copy_2 0 rfl rfl)
theorem dX2_copy_50 : decode cX2_copy 50 = .ok (.aload_n 1, 1) := dk_43 (dk_at dksX2_copy_2 3 rfl rfl)
theorem dX2_copy_51 : decode cX2_copy 51 = .ok (.areturn, 1) := dk_176 (dk_at dksX2_copy_2 4 rfl rfl)
abbrev cX2_adds : ByteArray := prog_13_method_12_code
def yX2_adds : MethodName := ⟨RX2, "adds", "(IIJ)V"⟩
def dkwX2_adds_1 : List UInt8 := [28, 50, 21, 5, 47, 105, 97, 80, 132, 5, 1, 167, 255, 224, 177]
abbrev dktX2_adds_1 : List UInt8 := dkwX2_adds_1 ++ []
def dkwX2_adds_0 : List UInt8 := [3, 54, 5, 21, 5, 6, 162, 0, 32, 42, 180, 0, 11, 27, 50, 21, 5, 92, 47, 33, 42, 180, 0, 11]
abbrev dktX2_adds_0 : List UInt8 := dkwX2_adds_0 ++ dktX2_adds_1
theorem dksX2_adds_0 : cX2_adds.data.toList.drop 0 = dktX2_adds_0 := by decide +kernel
theorem dksX2_adds_1 : cX2_adds.data.toList.drop 24 = dktX2_adds_1 := dk_seg dksX2_adds_0 24 rfl rfl
theorem dX2_adds_0 : decode cX2_adds 0 = .ok (.iconst 0, 1) := dk_3 (dk_at dksX2_adds_0 0 rfl rfl)
theorem dX2_adds_1 : decode cX2_adds 1 = .ok (.istore 5, 2) := dk_54 5 (dk_at dksX2_adds_0 1 rfl rfl)
theorem dX2_adds_3 : decode cX2_adds 3 = .ok (.iload 5, 2) := dk_21 5 (dk_at dksX2_adds_0 3 rfl rfl)
theorem dX2_adds_5 : decode cX2_adds 5 = .ok (.iconst 3, 1) := dk_6 (dk_at dksX2_adds_0 5 rfl rfl)
theorem dX2_adds_6 : decode cX2_adds 6 = .ok (.if_icmp .ge 32, 3) := dk_162 0 32 (dk_at dksX2_adds_0 6 rfl rfl)
theorem dX2_adds_9 : decode cX2_adds 9 = .ok (.aload_n 0, 1) := dk_42 (dk_at dksX2_adds_0 9 rfl rfl)
theorem dX2_adds_10 : decode cX2_adds 10 = .ok (.getfield 11, 3) := dk_180 0 11 (dk_at dksX2_adds_0 10 rfl rfl)
theorem dX2_adds_13 : decode cX2_adds 13 = .ok (.iload_n 1, 1) := dk_27 (dk_at dksX2_adds_0 13 rfl rfl)
theorem dX2_adds_14 : decode cX2_adds 14 = .ok (.aaload, 1) := dk_50 (dk_at dksX2_adds_0 14 rfl rfl)
theorem dX2_adds_15 : decode cX2_adds 15 = .ok (.iload 5, 2) := dk_21 5 (dk_at dksX2_adds_0 15 rfl rfl)
theorem dX2_adds_17 : decode cX2_adds 17 = .ok (.dup2, 1) := dk_92 (dk_at dksX2_adds_0 17 rfl rfl)
theorem dX2_adds_18 : decode cX2_adds 18 = .ok (.laload, 1) := dk_47 (dk_at dksX2_adds_0 18 rfl rfl)
theorem dX2_adds_19 : decode cX2_adds 19 = .ok (.lload_n 3, 1) := dk_33 (dk_at dksX2_adds_0 19 rfl rfl)
theorem dX2_adds_20 : decode cX2_adds 20 = .ok (.aload_n 0, 1) := dk_42 (dk_at dksX2_adds_0 20 rfl rfl)
theorem dX2_adds_21 : decode cX2_adds 21 = .ok (.getfield 11, 3) := dk_180 0 11 (dk_at dksX2_adds_0 21 rfl rfl)
theorem dX2_adds_24 : decode cX2_adds 24 = .ok (.iload_n 2, 1) := dk_28 (dk_at dksX2_adds_1 0 rfl rfl)
theorem dX2_adds_25 : decode cX2_adds 25 = .ok (.aaload, 1) := dk_50 (dk_at dksX2_adds_1 1 rfl rfl)
theorem dX2_adds_26 : decode cX2_adds 26 = .ok (.iload 5, 2) := dk_21 5 (dk_at dksX2_adds_1 2 rfl rfl)
theorem dX2_adds_28 : decode cX2_adds 28 = .ok (.laload, 1) := dk_47 (dk_at dksX2_adds_1 4 rfl rfl)
theorem dX2_adds_29 : decode cX2_adds 29 = .ok (.lmul, 1) := dk_105 (dk_at dksX2_adds_1 5 rfl rfl)
theorem dX2_adds_30 : decode cX2_adds 30 = .ok (.ladd, 1) := dk_97 (dk_at dksX2_adds_1 6 rfl rfl)
theorem dX2_adds_31 : decode cX2_adds 31 = .ok (.lastore, 1) := dk_80 (dk_at dksX2_adds_1 7 rfl rfl)
theorem dX2_adds_32 : decode cX2_adds 32 = .ok (.iinc 5 1, 3) := dk_132 5 1 (dk_at dksX2_adds_1 8 rfl rfl)
theorem dX2_adds_35 : decode cX2_adds 35 = .ok (.goto (-32), 3) := dk_167 255 224 (dk_at dksX2_adds_1 11 rfl rfl)
theorem dX2_adds_38 : decode cX2_adds 38 = .ok (.return_, 1) := dk_177 (dk_at dksX2_adds_1 14 rfl rfl)
abbrev cX2_turnsOver : ByteArray := prog_13_method_14_code
def yX2_turnsOver : MethodName := ⟨RX2, "turnsOver", "(I)V"⟩
def dkwX2_turnsOver_1 : List UInt8 := [132, 2, 1, 167, 255, 231, 177]
abbrev dktX2_turnsOver_1 : List UInt8 := dkwX2_turnsOver_1 ++ []
def dkwX2_turnsOver_0 : List UInt8 := [3, 61, 28, 6, 162, 0, 26, 42, 180, 0, 11, 27, 50, 28, 42, 180, 0, 11, 27, 50, 28, 47, 117, 80]
abbrev dktX2_turnsOver_0 : List UInt8 := dkwX2_turnsOver_0 ++ dktX2_turnsOver_1
theorem dksX2_turnsOver_0 : cX2_turnsOver.data.toList.drop 0 = dktX2_turnsOver_0 := by decide +kernel
theorem dksX2_turnsOver_1 : cX2_turnsOver.data.toList.drop 24 = dktX2_turnsOver_1 := dk_seg dksX2_turnsOver_0 24 rfl rfl
theorem dX2_turnsOver_0 : decode cX2_turnsOver 0 = .ok (.iconst 0, 1) := dk_3 (dk_at dksX2_turnsOver_0 0 rfl rfl)
theorem dX2_turnsOver_1 : decode cX2_turnsOver 1 = .ok (.istore_n 2, 1) := dk_61 (dk_at dksX2_turnsOver_0 1 rfl rfl)
theorem dX2_turnsOver_2 : decode cX2_turnsOver 2 = .ok (.iload_n 2, 1) := dk_28 (dk_at dksX2_turnsOver_0 2 rfl rfl)
theorem dX2_turnsOver_3 : decode cX2_turnsOver 3 = .ok (.iconst 3, 1) := dk_6 (dk_at dksX2_turnsOver_0 3 rfl rfl)
theorem dX2_turnsOver_4 : decode cX2_turnsOver 4 = .ok (.if_icmp .ge 26, 3) := dk_162 0 26 (dk_at dksX2_turnsOver_0 4 rfl rfl)
theorem dX2_turnsOver_7 : decode cX2_turnsOver 7 = .ok (.aload_n 0, 1) := dk_42 (dk_at dksX2_turnsOver_0 7 rfl rfl)
theorem dX2_turnsOver_8 : decode cX2_turnsOver 8 = .ok (.getfield 11, 3) := dk_180 0 11 (dk_at dksX2_turnsOver_0 8 rfl rfl)
theorem dX2_turnsOver_11 : decode cX2_turnsOver 11 = .ok (.iload_n 1, 1) := dk_27 (dk_at dksX2_turnsOver_0 11 rfl rfl)
theorem dX2_turnsOver_12 : decode cX2_turnsOver 12 = .ok (.aaload, 1) := dk_50 (dk_at dksX2_turnsOver_0 12 rfl rfl)
theorem dX2_turnsOver_13 : decode cX2_turnsOver 13 = .ok (.iload_n 2, 1) := dk_28 (dk_at dksX2_turnsOver_0 13 rfl rfl)
theorem dX2_turnsOver_14 : decode cX2_turnsOver 14 = .ok (.aload_n 0, 1) := dk_42 (dk_at dksX2_turnsOver_0 14 rfl rfl)
theorem dX2_turnsOver_15 : decode cX2_turnsOver 15 = .ok (.getfield 11, 3) := dk_180 0 11 (dk_at dksX2_turnsOver_0 15 rfl rfl)
theorem dX2_turnsOver_18 : decode cX2_turnsOver 18 = .ok (.iload_n 1, 1) := dk_27 (dk_at dksX2_turnsOver_0 18 rfl rfl)
theorem dX2_turnsOver_19 : decode cX2_turnsOver 19 = .ok (.aaload, 1) := dk_50 (dk_at dksX2_turnsOver_0 19 rfl rfl)
theorem dX2_turnsOver_20 : decode cX2_turnsOver 20 = .ok (.iload_n 2, 1) := dk_28 (dk_at dksX2_turnsOver_0 20 rfl rfl)
theorem dX2_turnsOver_21 : decode cX2_turnsOver 21 = .ok (.laload, 1) := dk_47 (dk_at dksX2_turnsOver_0 21 rfl rfl)
theorem dX2_turnsOver_22 : decode cX2_turnsOver 22 = .ok (.lneg, 1) := dk_117 (dk_at dksX2_turnsOver_0 22 rfl rfl)
theorem dX2_turnsOver_23 : decode cX2_turnsOver 23 = .ok (.lastore, 1) := dk_80 (dk_at dksX2_turnsOver_0 23 rfl rfl)
theorem dX2_turnsOver_24 : decode cX2_turnsOver 24 = .ok (.iinc 2 1, 3) := dk_132 2 1 (dk_at dksX2_turnsOver_1 0 rfl rfl)
theorem dX2_turnsOver_27 : decode cX2_turnsOver 27 = .ok (.goto (-25), 3) := dk_167 255 231 (dk_at dksX2_turnsOver_1 3 rfl rfl)
theorem dX2_turnsOver_30 : decode cX2_turnsOver 30 = .ok (.return_, 1) := dk_177 (dk_at dksX2_turnsOver_1 6 rfl rfl)
abbrev cX2_exchanges : ByteArray := prog_13_method_13_code
def yX2_exchanges : MethodName := ⟨RX2, "exchanges", "(II)V"⟩
def dkwX2_exchanges_2 : List UInt8 := [167, 255, 212, 177]
abbrev dktX2_exchanges_2 : List UInt8 := dkwX2_exchanges_2 ++ []
def dkwX2_exchanges_1 : List UInt8 := [42, 180, 0, 11, 28, 50, 29, 47, 80, 42, 180, 0, 11, 28, 50, 29, 22, 4, 80, 132, 3, 1]
abbrev dktX2_exchanges_1 : List UInt8 := dkwX2_exchanges_1 ++ dktX2_exchanges_2
def dkwX2_exchanges_0 : List UInt8 := [3, 62, 29, 6, 162, 0, 45, 42, 180, 0, 11, 27, 50, 29, 47, 55, 4, 42, 180, 0, 11, 27, 50, 29]
abbrev dktX2_exchanges_0 : List UInt8 := dkwX2_exchanges_0 ++ dktX2_exchanges_1
theorem dksX2_exchanges_0 : cX2_exchanges.data.toList.drop 0 = dktX2_exchanges_0 := by decide +kernel
theorem dksX2_exchanges_1 : cX2_exchanges.data.toList.drop 24 = dktX2_exchanges_1 := dk_seg dksX2_exchanges_0 24 rfl rfl
theorem dksX2_exchanges_2 : cX2_exchanges.data.toList.drop 46 = dktX2_exchanges_2 := dk_seg dksX2_exchanges_1 22 rfl rfl
theorem dX2_exchanges_0 : decode cX2_exchanges 0 = .ok (.iconst 0, 1) := dk_3 (dk_at dksX2_exchanges_0 0 rfl rfl)
theorem dX2_exchanges_1 : decode cX2_exchanges 1 = .ok (.istore_n 3, 1) := dk_62 (dk_at dksX2_exchanges_0 1 rfl rfl)
theorem dX2_exchanges_2 : decode cX2_exchanges 2 = .ok (.iload_n 3, 1) := dk_29 (dk_at dksX2_exchanges_0 2 rfl rfl)
theorem dX2_exchanges_3 : decode cX2_exchanges 3 = .ok (.iconst 3, 1) := dk_6 (dk_at dksX2_exchanges_0 3 rfl rfl)
theorem dX2_exchanges_4 : decode cX2_exchanges 4 = .ok (.if_icmp .ge 45, 3) := dk_162 0 45 (dk_at dksX2_exchanges_0 4 rfl rfl)
theorem dX2_exchanges_7 : decode cX2_exchanges 7 = .ok (.aload_n 0, 1) := dk_42 (dk_at dksX2_exchanges_0 7 rfl rfl)
theorem dX2_exchanges_8 : decode cX2_exchanges 8 = .ok (.getfield 11, 3) := dk_180 0 11 (dk_at dksX2_exchanges_0 8 rfl rfl)
theorem dX2_exchanges_11 : decode cX2_exchanges 11 = .ok (.iload_n 1, 1) := dk_27 (dk_at dksX2_exchanges_0 11 rfl rfl)
theorem dX2_exchanges_12 : decode cX2_exchanges 12 = .ok (.aaload, 1) := dk_50 (dk_at dksX2_exchanges_0 12 rfl rfl)
theorem dX2_exchanges_13 : decode cX2_exchanges 13 = .ok (.iload_n 3, 1) := dk_29 (dk_at dksX2_exchanges_0 13 rfl rfl)
theorem dX2_exchanges_14 : decode cX2_exchanges 14 = .ok (.laload, 1) := dk_47 (dk_at dksX2_exchanges_0 14 rfl rfl)
theorem dX2_exchanges_15 : decode cX2_exchanges 15 = .ok (.lstore 4, 2) := dk_55 4 (dk_at dksX2_exchanges_0 15 rfl rfl)
theorem dX2_exchanges_17 : decode cX2_exchanges 17 = .ok (.aload_n 0, 1) := dk_42 (dk_at dksX2_exchanges_0 17 rfl rfl)
theorem dX2_exchanges_18 : decode cX2_exchanges 18 = .ok (.getfield 11, 3) := dk_180 0 11 (dk_at dksX2_exchanges_0 18 rfl rfl)
theorem dX2_exchanges_21 : decode cX2_exchanges 21 = .ok (.iload_n 1, 1) := dk_27 (dk_at dksX2_exchanges_0 21 rfl rfl)
theorem dX2_exchanges_22 : decode cX2_exchanges 22 = .ok (.aaload, 1) := dk_50 (dk_at dksX2_exchanges_0 22 rfl rfl)
theorem dX2_exchanges_23 : decode cX2_exchanges 23 = .ok (.iload_n 3, 1) := dk_29 (dk_at dksX2_exchanges_0 23 rfl rfl)
theorem dX2_exchanges_24 : decode cX2_exchanges 24 = .ok (.aload_n 0, 1) := dk_42 (dk_at dksX2_exchanges_1 0 rfl rfl)
theorem dX2_exchanges_25 : decode cX2_exchanges 25 = .ok (.getfield 11, 3) := dk_180 0 11 (dk_at dksX2_exchanges_1 1 rfl rfl)
theorem dX2_exchanges_28 : decode cX2_exchanges 28 = .ok (.iload_n 2, 1) := dk_28 (dk_at dksX2_exchanges_1 4 rfl rfl)
theorem dX2_exchanges_29 : decode cX2_exchanges 29 = .ok (.aaload, 1) := dk_50 (dk_at dksX2_exchanges_1 5 rfl rfl)
theorem dX2_exchanges_30 : decode cX2_exchanges 30 = .ok (.iload_n 3, 1) := dk_29 (dk_at dksX2_exchanges_1 6 rfl rfl)
theorem dX2_exchanges_31 : decode cX2_exchanges 31 = .ok (.laload, 1) := dk_47 (dk_at dksX2_exchanges_1 7 rfl rfl)
theorem dX2_exchanges_32 : decode cX2_exchanges 32 = .ok (.lastore, 1) := dk_80 (dk_at dksX2_exchanges_1 8 rfl rfl)
theorem dX2_exchanges_33 : decode cX2_exchanges 33 = .ok (.aload_n 0, 1) := dk_42 (dk_at dksX2_exchanges_1 9 rfl rfl)
theorem dX2_exchanges_34 : decode cX2_exchanges 34 = .ok (.getfield 11, 3) := dk_180 0 11 (dk_at dksX2_exchanges_1 10 rfl rfl)
theorem dX2_exchanges_37 : decode cX2_exchanges 37 = .ok (.iload_n 2, 1) := dk_28 (dk_at dksX2_exchanges_1 13 rfl rfl)
theorem dX2_exchanges_38 : decode cX2_exchanges 38 = .ok (.aaload, 1) := dk_50 (dk_at dksX2_exchanges_1 14 rfl rfl)
theorem dX2_exchanges_39 : decode cX2_exchanges 39 = .ok (.iload_n 3, 1) := dk_29 (dk_at dksX2_exchanges_1 15 rfl rfl)
theorem dX2_exchanges_40 : decode cX2_exchanges 40 = .ok (.lload 4, 2) := dk_22 4 (dk_at dksX2_exchanges_1 16 rfl rfl)
theorem dX2_exchanges_42 : decode cX2_exchanges 42 = .ok (.lastore, 1) := dk_80 (dk_at dksX2_exchanges_1 18 rfl rfl)
theorem dX2_exchanges_43 : decode cX2_exchanges 43 = .ok (.iinc 3 1, 3) := dk_132 3 1 (dk_at dksX2_exchanges_1 19 rfl rfl)
theorem dX2_exchanges_46 : decode cX2_exchanges 46 = .ok (.goto (-44), 3) := dk_167 255 212 (dk_at dksX2_exchanges_2 0 rfl rfl)
theorem dX2_exchanges_49 : decode cX2_exchanges 49 = .ok (.return_, 1) := dk_177 (dk_at dksX2_exchanges_2 3 rfl rfl)
abbrev cX2_smith : ByteArray := prog_13_method_10_code
def yX2_smith : MethodName := ⟨RX2, "smith", "(I)J"⟩
def dkwX2_smith_3 : List UInt8 := [42, 182, 0, 29, 184, 0, 32, 22, 4, 109, 173]
abbrev dktX2_smith_3 : List UInt8 := dkwX2_smith_3 ++ []
def dkwX2_smith_2 : List UInt8 := [132, 7, 1, 167, 255, 232, 132, 6, 1, 167, 255, 217, 27, 4, 160, 0, 10, 22, 4, 32, 109, 167, 0, 13]
abbrev dktX2_smith_2 : List UInt8 := dkwX2_smith_2 ++ dktX2_smith_3
def dkwX2_smith_1 : List UInt8 := [54, 7, 21, 7, 6, 162, 0, 24, 22, 4, 42, 21, 6, 21, 7, 182, 0, 17, 184, 0, 21, 55, 4]
abbrev dktX2_smith_1 : List UInt8 := dkwX2_smith_1 ++ dktX2_smith_2
def dkwX2_smith_0 : List UInt8 := [42, 182, 0, 25, 65, 27, 154, 0, 5, 32, 173, 9, 55, 4, 3, 54, 6, 21, 6, 6, 162, 0, 39, 3]
abbrev dktX2_smith_0 : List UInt8 := dkwX2_smith_0 ++ dktX2_smith_1
theorem dksX2_smith_0 : cX2_smith.data.toList.drop 0 = dktX2_smith_0 := by decide +kernel
theorem dksX2_smith_1 : cX2_smith.data.toList.drop 24 = dktX2_smith_1 := dk_seg dksX2_smith_0 24 rfl rfl
theorem dksX2_smith_2 : cX2_smith.data.toList.drop 47 = dktX2_smith_2 := dk_seg dksX2_smith_1 23 rfl rfl
theorem dksX2_smith_3 : cX2_smith.data.toList.drop 71 = dktX2_smith_3 := dk_seg dksX2_smith_2 24 rfl rfl
theorem dX2_smith_0 : decode cX2_smith 0 = .ok (.aload_n 0, 1) := dk_42 (dk_at dksX2_smith_0 0 rfl rfl)
theorem dX2_smith_1 : decode cX2_smith 1 = .ok (.invokevirtual 25, 3) := dk_182 0 25 (dk_at dksX2_smith_0 1 rfl rfl)
theorem dX2_smith_4 : decode cX2_smith 4 = .ok (.lstore_n 2, 1) := dk_65 (dk_at dksX2_smith_0 4 rfl rfl)
theorem dX2_smith_5 : decode cX2_smith 5 = .ok (.iload_n 1, 1) := dk_27 (dk_at dksX2_smith_0 5 rfl rfl)
theorem dX2_smith_6 : decode cX2_smith 6 = .ok (.ifCond .ne 5, 3) := dk_154 0 5 (dk_at dksX2_smith_0 6 rfl rfl)
theorem dX2_smith_9 : decode cX2_smith 9 = .ok (.lload_n 2, 1) := dk_32 (dk_at dksX2_smith_0 9 rfl rfl)
theorem dX2_smith_10 : decode cX2_smith 10 = .ok (.lreturn, 1) := dk_173 (dk_at dksX2_smith_0 10 rfl rfl)
theorem dX2_smith_11 : decode cX2_smith 11 = .ok (.lconst 0, 1) := dk_9 (dk_at dksX2_smith_0 11 rfl rfl)
theorem dX2_smith_12 : decode cX2_smith 12 = .ok (.lstore 4, 2) := dk_55 4 (dk_at dksX2_smith_0 12 rfl rfl)
theorem dX2_smith_14 : decode cX2_smith 14 = .ok (.iconst 0, 1) := dk_3 (dk_at dksX2_smith_0 14 rfl rfl)
theorem dX2_smith_15 : decode cX2_smith 15 = .ok (.istore 6, 2) := dk_54 6 (dk_at dksX2_smith_0 15 rfl rfl)
theorem dX2_smith_17 : decode cX2_smith 17 = .ok (.iload 6, 2) := dk_21 6 (dk_at dksX2_smith_0 17 rfl rfl)
theorem dX2_smith_19 : decode cX2_smith 19 = .ok (.iconst 3, 1) := dk_6 (dk_at dksX2_smith_0 19 rfl rfl)
theorem dX2_smith_20 : decode cX2_smith 20 = .ok (.if_icmp .ge 39, 3) := dk_162 0 39 (dk_at dksX2_smith_0 20 rfl rfl)
theorem dX2_smith_23 : decode cX2_smith 23 = .ok (.iconst 0, 1) := dk_3 (dk_at dksX2_smith_0 23 rfl rfl)
theorem dX2_smith_24 : decode cX2_smith 24 = .ok (.istore 7, 2) := dk_54 7 (dk_at dksX2_smith_1 0 rfl rfl)
theorem dX2_smith_26 : decode cX2_smith 26 = .ok (.iload 7, 2) := dk_21 7 (dk_at dksX2_smith_1 2 rfl rfl)
theorem dX2_smith_28 : decode cX2_smith 28 = .ok (.iconst 3, 1) := dk_6 (dk_at dksX2_smith_1 4 rfl rfl)
theorem dX2_smith_29 : decode cX2_smith 29 = .ok (.if_icmp .ge 24, 3) := dk_162 0 24 (dk_at dksX2_smith_1 5 rfl rfl)
theorem dX2_smith_32 : decode cX2_smith 32 = .ok (.lload 4, 2) := dk_22 4 (dk_at dksX2_smith_1 8 rfl rfl)
theorem dX2_smith_34 : decode cX2_smith 34 = .ok (.aload_n 0, 1) := dk_42 (dk_at dksX2_smith_1 10 rfl rfl)
theorem dX2_smith_35 : decode cX2_smith 35 = .ok (.iload 6, 2) := dk_21 6 (dk_at dksX2_smith_1 11 rfl rfl)
theorem dX2_smith_37 : decode cX2_smith 37 = .ok (.iload 7, 2) := dk_21 7 (dk_at dksX2_smith_1 13 rfl rfl)
theorem dX2_smith_39 : decode cX2_smith 39 = .ok (.invokevirtual 17, 3) := dk_182 0 17 (dk_at dksX2_smith_1 15 rfl rfl)
theorem dX2_smith_42 : decode cX2_smith 42 = .ok (.invokestatic 21, 3) := dk_184 0 21 (dk_at dksX2_smith_1 18 rfl rfl)
theorem dX2_smith_45 : decode cX2_smith 45 = .ok (.lstore 4, 2) := dk_55 4 (dk_at dksX2_smith_1 21 rfl rfl)
theorem dX2_smith_47 : decode cX2_smith 47 = .ok (.iinc 7 1, 3) := dk_132 7 1 (dk_at dksX2_smith_2 0 rfl rfl)
theorem dX2_smith_50 : decode cX2_smith 50 = .ok (.goto (-24), 3) := dk_167 255 232 (dk_at dksX2_smith_2 3 rfl rfl)
theorem dX2_smith_53 : decode cX2_smith 53 = .ok (.iinc 6 1, 3) := dk_132 6 1 (dk_at dksX2_smith_2 6 rfl rfl)
theorem dX2_smith_56 : decode cX2_smith 56 = .ok (.goto (-39), 3) := dk_167 255 217 (dk_at dksX2_smith_2 9 rfl rfl)
theorem dX2_smith_59 : decode cX2_smith 59 = .ok (.iload_n 1, 1) := dk_27 (dk_at dksX2_smith_2 12 rfl rfl)
theorem dX2_smith_60 : decode cX2_smith 60 = .ok (.iconst 1, 1) := dk_4 (dk_at dksX2_smith_2 13 rfl rfl)
theorem dX2_smith_61 : decode cX2_smith 61 = .ok (.if_icmp .ne 10, 3) := dk_160 0 10 (dk_at dksX2_smith_2 14 rfl rfl)
theorem dX2_smith_64 : decode cX2_smith 64 = .ok (.lload 4, 2) := dk_22 4 (dk_at dksX2_smith_2 17 rfl rfl)
theorem dX2_smith_66 : decode cX2_smith 66 = .ok (.lload_n 2, 1) := dk_32 (dk_at dksX2_smith_2 19 rfl rfl)
theorem dX2_smith_67 : decode cX2_smith 67 = .ok (.ldiv, 1) := dk_109 (dk_at dksX2_smith_2 20 rfl rfl)
theorem dX2_smith_68 : decode cX2_smith 68 = .ok (.goto 13, 3) := dk_167 0 13 (dk_at dksX2_smith_2 21 rfl rfl)
theorem dX2_smith_71 : decode cX2_smith 71 = .ok (.aload_n 0, 1) := dk_42 (dk_at dksX2_smith_3 0 rfl rfl)
theorem dX2_smith_72 : decode cX2_smith 72 = .ok (.invokevirtual 29, 3) := dk_182 0 29 (dk_at dksX2_smith_3 1 rfl rfl)
theorem dX2_smith_75 : decode cX2_smith 75 = .ok (.invokestatic 32, 3) := dk_184 0 32 (dk_at dksX2_smith_3 4 rfl rfl)
theorem dX2_smith_78 : decode cX2_smith 78 = .ok (.lload 4, 2) := dk_22 4 (dk_at dksX2_smith_3 7 rfl rfl)
theorem dX2_smith_80 : decode cX2_smith 80 = .ok (.ldiv, 1) := dk_109 (dk_at dksX2_smith_3 9 rfl rfl)
theorem dX2_smith_81 : decode cX2_smith 81 = .ok (.lreturn, 1) := dk_173 (dk_at dksX2_smith_3 10 rfl rfl)
abbrev cX2_adjoint : ByteArray := prog_13_method_5_code
def yX2_adjoint : MethodName := ⟨RX2, "adjoint", "()LCoincideBench$Rows;"⟩
def dkwX2_adjoint_2 : List UInt8 := [167, 255, 221, 43, 176]
abbrev dktX2_adjoint_2 : List UInt8 := dkwX2_adjoint_2 ++ []
def dkwX2_adjoint_1 : List UInt8 := [180, 0, 11, 29, 50, 28, 42, 28, 29, 182, 0, 17, 80, 132, 3, 1, 167, 255, 234, 132, 2, 1]
abbrev dktX2_adjoint_1 : List UInt8 := dkwX2_adjoint_1 ++ dktX2_adjoint_2
def dkwX2_adjoint_0 : List UInt8 := [187, 0, 12, 89, 183, 0, 16, 76, 3, 61, 28, 6, 162, 0, 36, 3, 62, 29, 6, 162, 0, 23, 43]
abbrev dktX2_adjoint_0 : List UInt8 := dkwX2_adjoint_0 ++ dktX2_adjoint_1
theorem dksX2_adjoint_0 : cX2_adjoint.data.toList.drop 0 = dktX2_adjoint_0 := by decide +kernel
theorem dksX2_adjoint_1 : cX2_adjoint.data.toList.drop 23 = dktX2_adjoint_1 := dk_seg dksX2_adjoint_0 23 rfl rfl
theorem dksX2_adjoint_2 : cX2_adjoint.data.toList.drop 45 = dktX2_adjoint_2 := dk_seg dksX2_adjoint_1 22 rfl rfl
theorem dX2_adjoint_0 : decode cX2_adjoint 0 = .ok (.new 12, 3) := dk_187 0 12 (dk_at dksX2_adjoint_0 0 rfl rfl)
theorem dX2_adjoint_3 : decode cX2_adjoint 3 = .ok (.dup, 1) := dk_89 (dk_at dksX2_adjoint_0 3 rfl rfl)
theorem dX2_adjoint_4 : decode cX2_adjoint 4 = .ok (.invokespecial 16, 3) := dk_183 0 16 (dk_at dksX2_adjoint_0 4 rfl rfl)
theorem dX2_adjoint_7 : decode cX2_adjoint 7 = .ok (.astore_n 1, 1) := dk_76 (dk_at dksX2_adjoint_0 7 rfl rfl)
theorem dX2_adjoint_8 : decode cX2_adjoint 8 = .ok (.iconst 0, 1) := dk_3 (dk_at dksX2_adjoint_0 8 rfl rfl)
theorem dX2_adjoint_9 : decode cX2_adjoint 9 = .ok (.istore_n 2, 1) := dk_61 (dk_at dksX2_adjoint_0 9 rfl rfl)
theorem dX2_adjoint_10 : decode cX2_adjoint 10 = .ok (.iload_n 2, 1) := dk_28 (dk_at dksX2_adjoint_0 10 rfl rfl)
theorem dX2_adjoint_11 : decode cX2_adjoint 11 = .ok (.iconst 3, 1) := dk_6 (dk_at dksX2_adjoint_0 11 rfl rfl)
theorem dX2_adjoint_12 : decode cX2_adjoint 12 = .ok (.if_icmp .ge 36, 3) := dk_162 0 36 (dk_at dksX2_adjoint_0 12 rfl rfl)
theorem dX2_adjoint_15 : decode cX2_adjoint 15 = .ok (.iconst 0, 1) := dk_3 (dk_at dksX2_adjoint_0 15 rfl rfl)
theorem dX2_adjoint_16 : decode cX2_adjoint 16 = .ok (.istore_n 3, 1) := dk_62 (dk_at dksX2_adjoint_0 16 rfl rfl)
theorem dX2_adjoint_17 : decode cX2_adjoint 17 = .ok (.iload_n 3, 1) := dk_29 (dk_at dksX2_adjoint_0 17 rfl rfl)
theorem dX2_adjoint_18 : decode cX2_adjoint 18 = .ok (.iconst 3, 1) := dk_6 (dk_at dksX2_adjoint_0 18 rfl rfl)
theorem dX2_adjoint_19 : decode cX2_adjoint 19 = .ok (.if_icmp .ge 23, 3) := dk_162 0 23 (dk_at dksX2_adjoint_0 19 rfl rfl)
theorem dX2_adjoint_22 : decode cX2_adjoint 22 = .ok (.aload_n 1, 1) := dk_43 (dk_at dksX2_adjoint_0 22 rfl rfl)
theorem dX2_adjoint_23 : decode cX2_adjoint 23 = .ok (.getfield 11, 3) := dk_180 0 11 (dk_at dksX2_adjoint_1 0 rfl rfl)
theorem dX2_adjoint_26 : decode cX2_adjoint 26 = .ok (.iload_n 3, 1) := dk_29 (dk_at dksX2_adjoint_1 3 rfl rfl)
theorem dX2_adjoint_27 : decode cX2_adjoint 27 = .ok (.aaload, 1) := dk_50 (dk_at dksX2_adjoint_1 4 rfl rfl)
theorem dX2_adjoint_28 : decode cX2_adjoint 28 = .ok (.iload_n 2, 1) := dk_28 (dk_at dksX2_adjoint_1 5 rfl rfl)
theorem dX2_adjoint_29 : decode cX2_adjoint 29 = .ok (.aload_n 0, 1) := dk_42 (dk_at dksX2_adjoint_1 6 rfl rfl)
theorem dX2_adjoint_30 : decode cX2_adjoint 30 = .ok (.iload_n 2, 1) := dk_28 (dk_at dksX2_adjoint_1 7 rfl rfl)
theorem dX2_adjoint_31 : decode cX2_adjoint 31 = .ok (.iload_n 3, 1) := dk_29 (dk_at dksX2_adjoint_1 8 rfl rfl)
theorem dX2_adjoint_32 : decode cX2_adjoint 32 = .ok (.invokevirtual 17, 3) := dk_182 0 17 (dk_at dksX2_adjoint_1 9 rfl rfl)
theorem dX2_adjoint_35 : decode cX2_adjoint 35 = .ok (.lastore, 1) := dk_80 (dk_at dksX2_adjoint_1 12 rfl rfl)
theorem dX2_adjoint_36 : decode cX2_adjoint 36 = .ok (.iinc 3 1, 3) := dk_132 3 1 (dk_at dksX2_adjoint_1 13 rfl rfl)
theorem dX2_adjoint_39 : decode cX2_adjoint 39 = .ok (.goto (-22), 3) := dk_167 255 234 (dk_at dksX2_adjoint_1 16 rfl rfl)
theorem dX2_adjoint_42 : decode cX2_adjoint 42 = .ok (.iinc 2 1, 3) := dk_132 2 1 (dk_at dksX2_adjoint_1 19 rfl rfl)
theorem dX2_adjoint_45 : decode cX2_adjoint 45 = .ok (.goto (-35), 3) := dk_167 255 221 (dk_at dksX2_adjoint_2 0 rfl rfl)
theorem dX2_adjoint_48 : decode cX2_adjoint 48 = .ok (.aload_n 1, 1) := dk_43 (dk_at dksX2_adjoint_2 3 rfl rfl)
theorem dX2_adjoint_49 : decode cX2_adjoint 49 = .ok (.areturn, 1) := dk_176 (dk_at dksX2_adjoint_2 4 rfl rfl)
abbrev cX2_times_2 : ByteArray := prog_13_method_7_code
def yX2_times_2 : MethodName := ⟨RX2, "times", "(J)LCoincideBench$Rows;"⟩
def dkwX2_times_2_2 : List UInt8 := [80, 132, 5, 1, 167, 255, 225, 132, 4, 1, 167, 255, 210, 45, 176]
abbrev dktX2_times_2_2 : List UInt8 := dkwX2_times_2_2 ++ []
def dkwX2_times_2_1 : List UInt8 := [162, 0, 31, 45, 180, 0, 11, 21, 4, 50, 21, 5, 31, 42, 180, 0, 11, 21, 4, 50, 21, 5, 47, 105]
abbrev dktX2_times_2_1 : List UInt8 := dkwX2_times_2_1 ++ dktX2_times_2_2
def dkwX2_times_2_0 : List UInt8 := [187, 0, 12, 89, 183, 0, 16, 78, 3, 54, 4, 21, 4, 6, 162, 0, 46, 3, 54, 5, 21, 5, 6]
abbrev dktX2_times_2_0 : List UInt8 := dkwX2_times_2_0 ++ dktX2_times_2_1
theorem dksX2_times_2_0 : cX2_times_2.data.toList.drop 0 = dktX2_times_2_0 := by decide +kernel
theorem dksX2_times_2_1 : cX2_times_2.data.toList.drop 23 = dktX2_times_2_1 := dk_seg dksX2_times_2_0 23 rfl rfl
theorem dksX2_times_2_2 : cX2_times_2.data.toList.drop 47 = dktX2_times_2_2 := dk_seg dksX2_times_2_1 24 rfl rfl
theorem dX2_times_2_0 : decode cX2_times_2 0 = .ok (.new 12, 3) := dk_187 0 12 (dk_at dksX2_times_2_0 0 rfl rfl)
theorem dX2_times_2_3 : decode cX2_times_2 3 = .ok (.dup, 1) := dk_89 (dk_at dksX2_times_2_0 3 rfl rfl)
theorem dX2_times_2_4 : decode cX2_times_2 4 = .ok (.invokespecial 16, 3) := dk_183 0 16 (dk_at dksX2_times_2_0 4 rfl rfl)
theorem dX2_times_2_7 : decode cX2_times_2 7 = .ok (.astore_n 3, 1) := dk_78 (dk_at dksX2_times_2_0 7 rfl rfl)
theorem dX2_times_2_8 : decode cX2_times_2 8 = .ok (.iconst 0, 1) := dk_3 (dk_at dksX2_times_2_0 8 rfl rfl)
theorem dX2_times_2_9 : decode cX2_times_2 9 = .ok (.istore 4, 2) := dk_54 4 (dk_at dksX2_times_2_0 9 rfl rfl)
theorem dX2_times_2_11 : decode cX2_times_2 11 = .ok (.iload 4, 2) := dk_21 4 (dk_at dksX2_times_2_0 11 rfl rfl)
theorem dX2_times_2_13 : decode cX2_times_2 13 = .ok (.iconst 3, 1) := dk_6 (dk_at dksX2_times_2_0 13 rfl rfl)
theorem dX2_times_2_14 : decode cX2_times_2 14 = .ok (.if_icmp .ge 46, 3) := dk_162 0 46 (dk_at dksX2_times_2_0 14 rfl rfl)
theorem dX2_times_2_17 : decode cX2_times_2 17 = .ok (.iconst 0, 1) := dk_3 (dk_at dksX2_times_2_0 17 rfl rfl)
theorem dX2_times_2_18 : decode cX2_times_2 18 = .ok (.istore 5, 2) := dk_54 5 (dk_at dksX2_times_2_0 18 rfl rfl)
theorem dX2_times_2_20 : decode cX2_times_2 20 = .ok (.iload 5, 2) := dk_21 5 (dk_at dksX2_times_2_0 20 rfl rfl)
theorem dX2_times_2_22 : decode cX2_times_2 22 = .ok (.iconst 3, 1) := dk_6 (dk_at dksX2_times_2_0 22 rfl rfl)
theorem dX2_times_2_23 : decode cX2_times_2 23 = .ok (.if_icmp .ge 31, 3) := dk_162 0 31 (dk_at dksX2_times_2_1 0 rfl rfl)
theorem dX2_times_2_26 : decode cX2_times_2 26 = .ok (.aload_n 3, 1) := dk_45 (dk_at dksX2_times_2_1 3 rfl rfl)
theorem dX2_times_2_27 : decode cX2_times_2 27 = .ok (.getfield 11, 3) := dk_180 0 11 (dk_at dksX2_times_2_1 4 rfl rfl)
theorem dX2_times_2_30 : decode cX2_times_2 30 = .ok (.iload 4, 2) := dk_21 4 (dk_at dksX2_times_2_1 7 rfl rfl)
theorem dX2_times_2_32 : decode cX2_times_2 32 = .ok (.aaload, 1) := dk_50 (dk_at dksX2_times_2_1 9 rfl rfl)
theorem dX2_times_2_33 : decode cX2_times_2 33 = .ok (.iload 5, 2) := dk_21 5 (dk_at dksX2_times_2_1 10 rfl rfl)
theorem dX2_times_2_35 : decode cX2_times_2 35 = .ok (.lload_n 1, 1) := dk_31 (dk_at dksX2_times_2_1 12 rfl rfl)
theorem dX2_times_2_36 : decode cX2_times_2 36 = .ok (.aload_n 0, 1) := dk_42 (dk_at dksX2_times_2_1 13 rfl rfl)
theorem dX2_times_2_37 : decode cX2_times_2 37 = .ok (.getfield 11, 3) := dk_180 0 11 (dk_at dksX2_times_2_1 14 rfl rfl)
theorem dX2_times_2_40 : decode cX2_times_2 40 = .ok (.iload 4, 2) := dk_21 4 (dk_at dksX2_times_2_1 17 rfl rfl)
theorem dX2_times_2_42 : decode cX2_times_2 42 = .ok (.aaload, 1) := dk_50 (dk_at dksX2_times_2_1 19 rfl rfl)
theorem dX2_times_2_43 : decode cX2_times_2 43 = .ok (.iload 5, 2) := dk_21 5 (dk_at dksX2_times_2_1 20 rfl rfl)
theorem dX2_times_2_45 : decode cX2_times_2 45 = .ok (.laload, 1) := dk_47 (dk_at dksX2_times_2_1 22 rfl rfl)
theorem dX2_times_2_46 : decode cX2_times_2 46 = .ok (.lmul, 1) := dk_105 (dk_at dksX2_times_2_1 23 rfl rfl)
theorem dX2_times_2_47 : decode cX2_times_2 47 = .ok (.lastore, 1) := dk_80 (dk_at dksX2_times_2_2 0 rfl rfl)
theorem dX2_times_2_48 : decode cX2_times_2 48 = .ok (.iinc 5 1, 3) := dk_132 5 1 (dk_at dksX2_times_2_2 1 rfl rfl)
theorem dX2_times_2_51 : decode cX2_times_2 51 = .ok (.goto (-31), 3) := dk_167 255 225 (dk_at dksX2_times_2_2 4 rfl rfl)
theorem dX2_times_2_54 : decode cX2_times_2 54 = .ok (.iinc 4 1, 3) := dk_132 4 1 (dk_at dksX2_times_2_2 7 rfl rfl)
theorem dX2_times_2_57 : decode cX2_times_2 57 = .ok (.goto (-46), 3) := dk_167 255 210 (dk_at dksX2_times_2_2 10 rfl rfl)
theorem dX2_times_2_60 : decode cX2_times_2 60 = .ok (.aload_n 3, 1) := dk_45 (dk_at dksX2_times_2_2 13 rfl rfl)
theorem dX2_times_2_61 : decode cX2_times_2 61 = .ok (.areturn, 1) := dk_176 (dk_at dksX2_times_2_2 14 rfl rfl)
abbrev cX2_square : ByteArray := prog_13_method_15_code
def yX2_square : MethodName := ⟨RX2, "square", "(I)J"⟩
def dkwX2_square_2 : List UInt8 := [50, 5, 47, 105, 97, 173]
abbrev dktX2_square_2 : List UInt8 := dkwX2_square_2 ++ []
def dkwX2_square_1 : List UInt8 := [47, 42, 180, 0, 11, 27, 50, 4, 47, 105, 97, 42, 180, 0, 11, 27, 50, 5, 47, 42, 180, 0, 11, 27]
abbrev dktX2_square_1 : List UInt8 := dkwX2_square_1 ++ dktX2_square_2
def dkwX2_square_0 : List UInt8 := [42, 180, 0, 11, 27, 50, 3, 47, 42, 180, 0, 11, 27, 50, 3, 47, 105, 42, 180, 0, 11, 27, 50, 4]
abbrev dktX2_square_0 : List UInt8 := dkwX2_square_0 ++ dktX2_square_1
theorem dksX2_square_0 : cX2_square.data.toList.drop 0 = dktX2_square_0 := by decide +kernel
theorem dksX2_square_1 : cX2_square.data.toList.drop 24 = dktX2_square_1 := dk_seg dksX2_square_0 24 rfl rfl
theorem dksX2_square_2 : cX2_square.data.toList.drop 48 = dktX2_square_2 := dk_seg dksX2_square_1 24 rfl rfl
theorem dX2_square_0 : decode cX2_square 0 = .ok (.aload_n 0, 1) := dk_42 (dk_at dksX2_square_0 0 rfl rfl)
theorem dX2_square_1 : decode cX2_square 1 = .ok (.getfield 11, 3) := dk_180 0 11 (dk_at dksX2_square_0 1 rfl rfl)
theorem dX2_square_4 : decode cX2_square 4 = .ok (.iload_n 1, 1) := dk_27 (dk_at dksX2_square_0 4 rfl rfl)
theorem dX2_square_5 : decode cX2_square 5 = .ok (.aaload, 1) := dk_50 (dk_at dksX2_square_0 5 rfl rfl)
theorem dX2_square_6 : decode cX2_square 6 = .ok (.iconst 0, 1) := dk_3 (dk_at dksX2_square_0 6 rfl rfl)
theorem dX2_square_7 : decode cX2_square 7 = .ok (.laload, 1) := dk_47 (dk_at dksX2_square_0 7 rfl rfl)
theorem dX2_square_8 : decode cX2_square 8 = .ok (.aload_n 0, 1) := dk_42 (dk_at dksX2_square_0 8 rfl rfl)
theorem dX2_square_9 : decode cX2_square 9 = .ok (.getfield 11, 3) := dk_180 0 11 (dk_at dksX2_square_0 9 rfl rfl)
theorem dX2_square_12 : decode cX2_square 12 = .ok (.iload_n 1, 1) := dk_27 (dk_at dksX2_square_0 12 rfl rfl)
theorem dX2_square_13 : decode cX2_square 13 = .ok (.aaload, 1) := dk_50 (dk_at dksX2_square_0 13 rfl rfl)
theorem dX2_square_14 : decode cX2_square 14 = .ok (.iconst 0, 1) := dk_3 (dk_at dksX2_square_0 14 rfl rfl)
theorem dX2_square_15 : decode cX2_square 15 = .ok (.laload, 1) := dk_47 (dk_at dksX2_square_0 15 rfl rfl)
theorem dX2_square_16 : decode cX2_square 16 = .ok (.lmul, 1) := dk_105 (dk_at dksX2_square_0 16 rfl rfl)
theorem dX2_square_17 : decode cX2_square 17 = .ok (.aload_n 0, 1) := dk_42 (dk_at dksX2_square_0 17 rfl rfl)
theorem dX2_square_18 : decode cX2_square 18 = .ok (.getfield 11, 3) := dk_180 0 11 (dk_at dksX2_square_0 18 rfl rfl)
theorem dX2_square_21 : decode cX2_square 21 = .ok (.iload_n 1, 1) := dk_27 (dk_at dksX2_square_0 21 rfl rfl)
theorem dX2_square_22 : decode cX2_square 22 = .ok (.aaload, 1) := dk_50 (dk_at dksX2_square_0 22 rfl rfl)
theorem dX2_square_23 : decode cX2_square 23 = .ok (.iconst 1, 1) := dk_4 (dk_at dksX2_square_0 23 rfl rfl)
theorem dX2_square_24 : decode cX2_square 24 = .ok (.laload, 1) := dk_47 (dk_at dksX2_square_1 0 rfl rfl)
theorem dX2_square_25 : decode cX2_square 25 = .ok (.aload_n 0, 1) := dk_42 (dk_at dksX2_square_1 1 rfl rfl)
theorem dX2_square_26 : decode cX2_square 26 = .ok (.getfield 11, 3) := dk_180 0 11 (dk_at dksX2_square_1 2 rfl rfl)
theorem dX2_square_29 : decode cX2_square 29 = .ok (.iload_n 1, 1) := dk_27 (dk_at dksX2_square_1 5 rfl rfl)
theorem dX2_square_30 : decode cX2_square 30 = .ok (.aaload, 1) := dk_50 (dk_at dksX2_square_1 6 rfl rfl)
theorem dX2_square_31 : decode cX2_square 31 = .ok (.iconst 1, 1) := dk_4 (dk_at dksX2_square_1 7 rfl rfl)
theorem dX2_square_32 : decode cX2_square 32 = .ok (.laload, 1) := dk_47 (dk_at dksX2_square_1 8 rfl rfl)
theorem dX2_square_33 : decode cX2_square 33 = .ok (.lmul, 1) := dk_105 (dk_at dksX2_square_1 9 rfl rfl)
theorem dX2_square_34 : decode cX2_square 34 = .ok (.ladd, 1) := dk_97 (dk_at dksX2_square_1 10 rfl rfl)
theorem dX2_square_35 : decode cX2_square 35 = .ok (.aload_n 0, 1) := dk_42 (dk_at dksX2_square_1 11 rfl rfl)
theorem dX2_square_36 : decode cX2_square 36 = .ok (.getfield 11, 3) := dk_180 0 11 (dk_at dksX2_square_1 12 rfl rfl)
theorem dX2_square_39 : decode cX2_square 39 = .ok (.iload_n 1, 1) := dk_27 (dk_at dksX2_square_1 15 rfl rfl)
theorem dX2_square_40 : decode cX2_square 40 = .ok (.aaload, 1) := dk_50 (dk_at dksX2_square_1 16 rfl rfl)
theorem dX2_square_41 : decode cX2_square 41 = .ok (.iconst 2, 1) := dk_5 (dk_at dksX2_square_1 17 rfl rfl)
theorem dX2_square_42 : decode cX2_square 42 = .ok (.laload, 1) := dk_47 (dk_at dksX2_square_1 18 rfl rfl)
theorem dX2_square_43 : decode cX2_square 43 = .ok (.aload_n 0, 1) := dk_42 (dk_at dksX2_square_1 19 rfl rfl)
theorem dX2_square_44 : decode cX2_square 44 = .ok (.getfield 11, 3) := dk_180 0 11 (dk_at dksX2_square_1 20 rfl rfl)
theorem dX2_square_47 : decode cX2_square 47 = .ok (.iload_n 1, 1) := dk_27 (dk_at dksX2_square_1 23 rfl rfl)
theorem dX2_square_48 : decode cX2_square 48 = .ok (.aaload, 1) := dk_50 (dk_at dksX2_square_2 0 rfl rfl)
theorem dX2_square_49 : decode cX2_square 49 = .ok (.iconst 2, 1) := dk_5 (dk_at dksX2_square_2 1 rfl rfl)
theorem dX2_square_50 : decode cX2_square 50 = .ok (.laload, 1) := dk_47 (dk_at dksX2_square_2 2 rfl rfl)
theorem dX2_square_51 : decode cX2_square 51 = .ok (.lmul, 1) := dk_105 (dk_at dksX2_square_2 3 rfl rfl)
theorem dX2_square_52 : decode cX2_square 52 = .ok (.ladd, 1) := dk_97 (dk_at dksX2_square_2 4 rfl rfl)
theorem dX2_square_53 : decode cX2_square 53 = .ok (.lreturn, 1) := dk_173 (dk_at dksX2_square_2 5 rfl rfl)
abbrev cX2_across : ByteArray := prog_13_method_11_code
def yX2_across : MethodName := ⟨RX2, "across", "([I)J"⟩
def dkwX2_across_2 : List UInt8 := [5, 47, 43, 5, 46, 133, 105, 97, 184, 0, 21, 65, 132, 4, 1, 167, 255, 198, 32, 173]
abbrev dktX2_across_2 : List UInt8 := dkwX2_across_2 ++ []
def dkwX2_across_1 : List UInt8 := [133, 105, 42, 180, 0, 11, 21, 4, 50, 4, 47, 43, 4, 46, 133, 105, 97, 42, 180, 0, 11, 21, 4, 50]
abbrev dktX2_across_1 : List UInt8 := dkwX2_across_1 ++ dktX2_across_2
def dkwX2_across_0 : List UInt8 := [9, 65, 3, 54, 4, 21, 4, 6, 162, 0, 58, 32, 42, 180, 0, 11, 21, 4, 50, 3, 47, 43, 3, 46]
abbrev dktX2_across_0 : List UInt8 := dkwX2_across_0 ++ dktX2_across_1
theorem dksX2_across_0 : cX2_across.data.toList.drop 0 = dktX2_across_0 := by decide +kernel
theorem dksX2_across_1 : cX2_across.data.toList.drop 24 = dktX2_across_1 := dk_seg dksX2_across_0 24 rfl rfl
theorem dksX2_across_2 : cX2_across.data.toList.drop 48 = dktX2_across_2 := dk_seg dksX2_across_1 24 rfl rfl
theorem dX2_across_0 : decode cX2_across 0 = .ok (.lconst 0, 1) := dk_9 (dk_at dksX2_across_0 0 rfl rfl)
theorem dX2_across_1 : decode cX2_across 1 = .ok (.lstore_n 2, 1) := dk_65 (dk_at dksX2_across_0 1 rfl rfl)
theorem dX2_across_2 : decode cX2_across 2 = .ok (.iconst 0, 1) := dk_3 (dk_at dksX2_across_0 2 rfl rfl)
theorem dX2_across_3 : decode cX2_across 3 = .ok (.istore 4, 2) := dk_54 4 (dk_at dksX2_across_0 3 rfl rfl)
theorem dX2_across_5 : decode cX2_across 5 = .ok (.iload 4, 2) := dk_21 4 (dk_at dksX2_across_0 5 rfl rfl)
theorem dX2_across_7 : decode cX2_across 7 = .ok (.iconst 3, 1) := dk_6 (dk_at dksX2_across_0 7 rfl rfl)
theorem dX2_across_8 : decode cX2_across 8 = .ok (.if_icmp .ge 58, 3) := dk_162 0 58 (dk_at dksX2_across_0 8 rfl rfl)
theorem dX2_across_11 : decode cX2_across 11 = .ok (.lload_n 2, 1) := dk_32 (dk_at dksX2_across_0 11 rfl rfl)
theorem dX2_across_12 : decode cX2_across 12 = .ok (.aload_n 0, 1) := dk_42 (dk_at dksX2_across_0 12 rfl rfl)
theorem dX2_across_13 : decode cX2_across 13 = .ok (.getfield 11, 3) := dk_180 0 11 (dk_at dksX2_across_0 13 rfl rfl)
theorem dX2_across_16 : decode cX2_across 16 = .ok (.iload 4, 2) := dk_21 4 (dk_at dksX2_across_0 16 rfl rfl)
theorem dX2_across_18 : decode cX2_across 18 = .ok (.aaload, 1) := dk_50 (dk_at dksX2_across_0 18 rfl rfl)
theorem dX2_across_19 : decode cX2_across 19 = .ok (.iconst 0, 1) := dk_3 (dk_at dksX2_across_0 19 rfl rfl)
theorem dX2_across_20 : decode cX2_across 20 = .ok (.laload, 1) := dk_47 (dk_at dksX2_across_0 20 rfl rfl)
theorem dX2_across_21 : decode cX2_across 21 = .ok (.aload_n 1, 1) := dk_43 (dk_at dksX2_across_0 21 rfl rfl)
theorem dX2_across_22 : decode cX2_across 22 = .ok (.iconst 0, 1) := dk_3 (dk_at dksX2_across_0 22 rfl rfl)
theorem dX2_across_23 : decode cX2_across 23 = .ok (.iaload, 1) := dk_46 (dk_at dksX2_across_0 23 rfl rfl)
theorem dX2_across_24 : decode cX2_across 24 = .ok (.i2l, 1) := dk_133 (dk_at dksX2_across_1 0 rfl rfl)
theorem dX2_across_25 : decode cX2_across 25 = .ok (.lmul, 1) := dk_105 (dk_at dksX2_across_1 1 rfl rfl)
theorem dX2_across_26 : decode cX2_across 26 = .ok (.aload_n 0, 1) := dk_42 (dk_at dksX2_across_1 2 rfl rfl)
theorem dX2_across_27 : decode cX2_across 27 = .ok (.getfield 11, 3) := dk_180 0 11 (dk_at dksX2_across_1 3 rfl rfl)
theorem dX2_across_30 : decode cX2_across 30 = .ok (.iload 4, 2) := dk_21 4 (dk_at dksX2_across_1 6 rfl rfl)
theorem dX2_across_32 : decode cX2_across 32 = .ok (.aaload, 1) := dk_50 (dk_at dksX2_across_1 8 rfl rfl)
theorem dX2_across_33 : decode cX2_across 33 = .ok (.iconst 1, 1) := dk_4 (dk_at dksX2_across_1 9 rfl rfl)
theorem dX2_across_34 : decode cX2_across 34 = .ok (.laload, 1) := dk_47 (dk_at dksX2_across_1 10 rfl rfl)
theorem dX2_across_35 : decode cX2_across 35 = .ok (.aload_n 1, 1) := dk_43 (dk_at dksX2_across_1 11 rfl rfl)
theorem dX2_across_36 : decode cX2_across 36 = .ok (.iconst 1, 1) := dk_4 (dk_at dksX2_across_1 12 rfl rfl)
theorem dX2_across_37 : decode cX2_across 37 = .ok (.iaload, 1) := dk_46 (dk_at dksX2_across_1 13 rfl rfl)
theorem dX2_across_38 : decode cX2_across 38 = .ok (.i2l, 1) := dk_133 (dk_at dksX2_across_1 14 rfl rfl)
theorem dX2_across_39 : decode cX2_across 39 = .ok (.lmul, 1) := dk_105 (dk_at dksX2_across_1 15 rfl rfl)
theorem dX2_across_40 : decode cX2_across 40 = .ok (.ladd, 1) := dk_97 (dk_at dksX2_across_1 16 rfl rfl)
theorem dX2_across_41 : decode cX2_across 41 = .ok (.aload_n 0, 1) := dk_42 (dk_at dksX2_across_1 17 rfl rfl)
theorem dX2_across_42 : decode cX2_across 42 = .ok (.getfield 11, 3) := dk_180 0 11 (dk_at dksX2_across_1 18 rfl rfl)
theorem dX2_across_45 : decode cX2_across 45 = .ok (.iload 4, 2) := dk_21 4 (dk_at dksX2_across_1 21 rfl rfl)
theorem dX2_across_47 : decode cX2_across 47 = .ok (.aaload, 1) := dk_50 (dk_at dksX2_across_1 23 rfl rfl)
theorem dX2_across_48 : decode cX2_across 48 = .ok (.iconst 2, 1) := dk_5 (dk_at dksX2_across_2 0 rfl rfl)
theorem dX2_across_49 : decode cX2_across 49 = .ok (.laload, 1) := dk_47 (dk_at dksX2_across_2 1 rfl rfl)
theorem dX2_across_50 : decode cX2_across 50 = .ok (.aload_n 1, 1) := dk_43 (dk_at dksX2_across_2 2 rfl rfl)
theorem dX2_across_51 : decode cX2_across 51 = .ok (.iconst 2, 1) := dk_5 (dk_at dksX2_across_2 3 rfl rfl)
theorem dX2_across_52 : decode cX2_across 52 = .ok (.iaload, 1) := dk_46 (dk_at dksX2_across_2 4 rfl rfl)
theorem dX2_across_53 : decode cX2_across 53 = .ok (.i2l, 1) := dk_133 (dk_at dksX2_across_2 5 rfl rfl)
theorem dX2_across_54 : decode cX2_across 54 = .ok (.lmul, 1) := dk_105 (dk_at dksX2_across_2 6 rfl rfl)
theorem dX2_across_55 : decode cX2_across 55 = .ok (.ladd, 1) := dk_97 (dk_at dksX2_across_2 7 rfl rfl)
theorem dX2_across_56 : decode cX2_across 56 = .ok (.invokestatic 21, 3) := dk_184 0 21 (dk_at dksX2_across_2 8 rfl rfl)
theorem dX2_across_59 : decode cX2_across 59 = .ok (.lstore_n 2, 1) := dk_65 (dk_at dksX2_across_2 11 rfl rfl)
theorem dX2_across_60 : decode cX2_across 60 = .ok (.iinc 4 1, 3) := dk_132 4 1 (dk_at dksX2_across_2 12 rfl rfl)
theorem dX2_across_63 : decode cX2_across 63 = .ok (.goto (-58), 3) := dk_167 255 198 (dk_at dksX2_across_2 15 rfl rfl)
theorem dX2_across_66 : decode cX2_across 66 = .ok (.lload_n 2, 1) := dk_32 (dk_at dksX2_across_2 18 rfl rfl)
theorem dX2_across_67 : decode cX2_across 67 = .ok (.lreturn, 1) := dk_173 (dk_at dksX2_across_2 19 rfl rfl)
theorem q124 : (Jvm.Cond.initialized "CoincideBench$Rows") ∈ lw_all := lw_g (lw_at lw_m1 6 rfl) rfl
theorem q198 : (Jvm.Cond.instantiable "CoincideBench$Rows" (1 : Nat)) ∈ lw_all := lw_g (lw_at lw_m1 80 rfl) rfl
theorem q200 : (Jvm.Cond.instanceMethod ({ cls := "CoincideBench$Rows", name := "<init>", desc := "()V" } : Jvm.MethodName)) ∈ lw_all := lw_g (lw_at lw_m1 82 rfl) rfl
theorem q201 : (Jvm.Cond.code ({ cls := "CoincideBench$Rows", name := "<init>", desc := "()V" } : Jvm.MethodName) prog_13_method_1_code (1 : Nat) (Option.none : Option Jvm.ClassFile.FieldType)) ∈ lw_all := lw_g (lw_at lw_m1 83 rfl) rfl
theorem q202 : (Jvm.Cond.methodLink "CoincideBench$Rows" (3 : Nat) ({ cls := "java/lang/Object", name := "<init>", desc := "()V" } : Jvm.MethodName)) ∈ lw_all := lw_g (lw_at lw_m1 84 rfl) rfl
theorem q203 : (Jvm.Cond.classLink "CoincideBench$Rows" (9 : Nat) "[[J") ∈ lw_all := lw_g (lw_at lw_m1 85 rfl) rfl
theorem q205 : (Jvm.Cond.fieldLink "CoincideBench$Rows" (11 : Nat) "CoincideBench$Rows" "at" "[[J") ∈ lw_all := lw_g (lw_at lw_m1 87 rfl) rfl
theorem q212 : (Jvm.Cond.laysFinal "CoincideBench$Rows" "CoincideBench$Rows" "at" "[[J") ∈ lw_all := lw_g (lw_at lw_m1 94 rfl) rfl
theorem q213 : (Jvm.Cond.soleField "CoincideBench$Rows" "at") ∈ lw_all := lw_g (lw_at lw_m1 95 rfl) rfl
theorem q214 : (Jvm.Cond.superclass "CoincideBench$Rows" "java/lang/Object") ∈ lw_all := lw_g (lw_at lw_m1 96 rfl) rfl
theorem q700 : (Jvm.Cond.selects "CoincideBench$Rows" ({ cls := "java/lang/Object", name := "equals", desc := "(Ljava/lang/Object;)Z" } : Jvm.MethodName) ({ cls := "java/lang/Object", name := "equals", desc := "(Ljava/lang/Object;)Z" } : Jvm.MethodName)) ∈ lw_all := lw_g (lw_at lw_m3 102 rfl) rfl
theorem q789 : (Jvm.Cond.instanceMethod ({ cls := "CoincideBench$Rows", name := "determinant", desc := "()J" } : Jvm.MethodName)) ∈ lw_all := lw_g (lw_at lw_m3 191 rfl) rfl
theorem q790 : (Jvm.Cond.selects "CoincideBench$Rows" ({ cls := "CoincideBench$Rows", name := "determinant", desc := "()J" } : Jvm.MethodName) ({ cls := "CoincideBench$Rows", name := "determinant", desc := "()J" } : Jvm.MethodName)) ∈ lw_all := lw_g (lw_at lw_m3 192 rfl) rfl
theorem q791 : (Jvm.Cond.code ({ cls := "CoincideBench$Rows", name := "determinant", desc := "()J" } : Jvm.MethodName) prog_13_method_4_code (1 : Nat) (Option.some Jvm.ClassFile.FieldType.long)) ∈ lw_all := lw_g (lw_at lw_m3 193 rfl) rfl
theorem q792 : (Jvm.Cond.methodLink "CoincideBench$Rows" (17 : Nat) ({ cls := "CoincideBench$Rows", name := "minor", desc := "(II)J" } : Jvm.MethodName)) ∈ lw_all := lw_g (lw_at lw_m3 194 rfl) rfl
theorem q793 : (Jvm.Cond.instanceMethod ({ cls := "CoincideBench$Rows", name := "minor", desc := "(II)J" } : Jvm.MethodName)) ∈ lw_all := lw_g (lw_at lw_m3 195 rfl) rfl
theorem q794 : (Jvm.Cond.selects "CoincideBench$Rows" ({ cls := "CoincideBench$Rows", name := "minor", desc := "(II)J" } : Jvm.MethodName) ({ cls := "CoincideBench$Rows", name := "minor", desc := "(II)J" } : Jvm.MethodName)) ∈ lw_all := lw_g (lw_at lw_m3 196 rfl) rfl
theorem q795 : (Jvm.Cond.code ({ cls := "CoincideBench$Rows", name := "minor", desc := "(II)J" } : Jvm.MethodName) prog_13_method_3_code (7 : Nat) (Option.some Jvm.ClassFile.FieldType.long)) ∈ lw_all := lw_g (lw_at lw_m3 197 rfl) rfl
theorem q836 : (Jvm.Cond.selects "CoincideBench$Rows" ({ cls := "java/lang/Object", name := "getClass", desc := "()Ljava/lang/Class;" } : Jvm.MethodName) ({ cls := "java/lang/Object", name := "getClass", desc := "()Ljava/lang/Class;" } : Jvm.MethodName)) ∈ lw_all := lw_g (lw_at lw_m3 238 rfl) rfl
theorem q917 : (Jvm.Cond.instanceMethod ({ cls := "CoincideBench$Rows", name := "times", desc := "(LCoincideBench$Rows;)LCoincideBench$Rows;" } : Jvm.MethodName)) ∈ lw_all := lw_g (lw_at lw_m4 79 rfl) rfl
theorem q918 : (Jvm.Cond.selects "CoincideBench$Rows" ({ cls := "CoincideBench$Rows", name := "times", desc := "(LCoincideBench$Rows;)LCoincideBench$Rows;" } : Jvm.MethodName) ({ cls := "CoincideBench$Rows", name := "times", desc := "(LCoincideBench$Rows;)LCoincideBench$Rows;" } : Jvm.MethodName)) ∈ lw_all := lw_g (lw_at lw_m4 80 rfl) rfl
theorem q919 : (Jvm.Cond.code ({ cls := "CoincideBench$Rows", name := "times", desc := "(LCoincideBench$Rows;)LCoincideBench$Rows;" } : Jvm.MethodName) prog_13_method_6_code (6 : Nat) (Option.some (Jvm.ClassFile.FieldType.object "CoincideBench$Rows"))) ∈ lw_all := lw_g (lw_at lw_m4 81 rfl) rfl
theorem q920 : (Jvm.Cond.classLink "CoincideBench$Rows" (12 : Nat) "CoincideBench$Rows") ∈ lw_all := lw_g (lw_at lw_m4 82 rfl) rfl
theorem q921 : (Jvm.Cond.methodLink "CoincideBench$Rows" (16 : Nat) ({ cls := "CoincideBench$Rows", name := "<init>", desc := "()V" } : Jvm.MethodName)) ∈ lw_all := lw_g (lw_at lw_m4 83 rfl) rfl
theorem q927 : (Jvm.Cond.instanceMethod ({ cls := "CoincideBench$Rows", name := "common", desc := "()J" } : Jvm.MethodName)) ∈ lw_all := lw_g (lw_at lw_m4 89 rfl) rfl
theorem q928 : (Jvm.Cond.selects "CoincideBench$Rows" ({ cls := "CoincideBench$Rows", name := "common", desc := "()J" } : Jvm.MethodName) ({ cls := "CoincideBench$Rows", name := "common", desc := "()J" } : Jvm.MethodName)) ∈ lw_all := lw_g (lw_at lw_m4 90 rfl) rfl
theorem q929 : (Jvm.Cond.code ({ cls := "CoincideBench$Rows", name := "common", desc := "()J" } : Jvm.MethodName) prog_13_method_9_code (5 : Nat) (Option.some Jvm.ClassFile.FieldType.long)) ∈ lw_all := lw_g (lw_at lw_m4 91 rfl) rfl
theorem q930 : (Jvm.Cond.methodLinkNest "CoincideBench$Rows" (21 : Nat) ({ cls := "CoincideBench", name := "divisor", desc := "(JJ)J" } : Jvm.MethodName) "CoincideBench") ∈ lw_tbl := lw_at lw_m4 92 rfl
theorem q937 : (Jvm.Cond.instanceMethod ({ cls := "CoincideBench$Rows", name := "by", desc := "(J)LCoincideBench$Rows;" } : Jvm.MethodName)) ∈ lw_all := lw_g (lw_at lw_m4 99 rfl) rfl
theorem q938 : (Jvm.Cond.selects "CoincideBench$Rows" ({ cls := "CoincideBench$Rows", name := "by", desc := "(J)LCoincideBench$Rows;" } : Jvm.MethodName) ({ cls := "CoincideBench$Rows", name := "by", desc := "(J)LCoincideBench$Rows;" } : Jvm.MethodName)) ∈ lw_all := lw_g (lw_at lw_m4 100 rfl) rfl
theorem q939 : (Jvm.Cond.code ({ cls := "CoincideBench$Rows", name := "by", desc := "(J)LCoincideBench$Rows;" } : Jvm.MethodName) prog_13_method_8_code (6 : Nat) (Option.some (Jvm.ClassFile.FieldType.object "CoincideBench$Rows"))) ∈ lw_all := lw_g (lw_at lw_m4 101 rfl) rfl
theorem q968 : (Jvm.Cond.instanceMethod ({ cls := "CoincideBench$Rows", name := "copy", desc := "()LCoincideBench$Rows;" } : Jvm.MethodName)) ∈ lw_all := lw_g (lw_at lw_m4 130 rfl) rfl
theorem q969 : (Jvm.Cond.selects "CoincideBench$Rows" ({ cls := "CoincideBench$Rows", name := "copy", desc := "()LCoincideBench$Rows;" } : Jvm.MethodName) ({ cls := "CoincideBench$Rows", name := "copy", desc := "()LCoincideBench$Rows;" } : Jvm.MethodName)) ∈ lw_all := lw_g (lw_at lw_m4 131 rfl) rfl
theorem q970 : (Jvm.Cond.code ({ cls := "CoincideBench$Rows", name := "copy", desc := "()LCoincideBench$Rows;" } : Jvm.MethodName) prog_13_method_2_code (4 : Nat) (Option.some (Jvm.ClassFile.FieldType.object "CoincideBench$Rows"))) ∈ lw_all := lw_g (lw_at lw_m4 132 rfl) rfl
theorem q1016 : (Jvm.Cond.instanceMethod ({ cls := "CoincideBench$Rows", name := "adds", desc := "(IIJ)V" } : Jvm.MethodName)) ∈ lw_all := lw_g (lw_at lw_m4 178 rfl) rfl
theorem q1017 : (Jvm.Cond.selects "CoincideBench$Rows" ({ cls := "CoincideBench$Rows", name := "adds", desc := "(IIJ)V" } : Jvm.MethodName) ({ cls := "CoincideBench$Rows", name := "adds", desc := "(IIJ)V" } : Jvm.MethodName)) ∈ lw_all := lw_g (lw_at lw_m4 179 rfl) rfl
theorem q1018 : (Jvm.Cond.code ({ cls := "CoincideBench$Rows", name := "adds", desc := "(IIJ)V" } : Jvm.MethodName) prog_13_method_12_code (6 : Nat) (Option.none : Option Jvm.ClassFile.FieldType)) ∈ lw_all := lw_g (lw_at lw_m4 180 rfl) rfl
theorem q1020 : (Jvm.Cond.instanceMethod ({ cls := "CoincideBench$Rows", name := "turnsOver", desc := "(I)V" } : Jvm.MethodName)) ∈ lw_all := lw_g (lw_at lw_m4 182 rfl) rfl
theorem q1021 : (Jvm.Cond.selects "CoincideBench$Rows" ({ cls := "CoincideBench$Rows", name := "turnsOver", desc := "(I)V" } : Jvm.MethodName) ({ cls := "CoincideBench$Rows", name := "turnsOver", desc := "(I)V" } : Jvm.MethodName)) ∈ lw_all := lw_g (lw_at lw_m4 183 rfl) rfl
theorem q1022 : (Jvm.Cond.code ({ cls := "CoincideBench$Rows", name := "turnsOver", desc := "(I)V" } : Jvm.MethodName) prog_13_method_14_code (3 : Nat) (Option.none : Option Jvm.ClassFile.FieldType)) ∈ lw_all := lw_g (lw_at lw_m4 184 rfl) rfl
theorem q1024 : (Jvm.Cond.instanceMethod ({ cls := "CoincideBench$Rows", name := "exchanges", desc := "(II)V" } : Jvm.MethodName)) ∈ lw_all := lw_g (lw_at lw_m4 186 rfl) rfl
theorem q1025 : (Jvm.Cond.selects "CoincideBench$Rows" ({ cls := "CoincideBench$Rows", name := "exchanges", desc := "(II)V" } : Jvm.MethodName) ({ cls := "CoincideBench$Rows", name := "exchanges", desc := "(II)V" } : Jvm.MethodName)) ∈ lw_all := lw_g (lw_at lw_m4 187 rfl) rfl
theorem q1026 : (Jvm.Cond.code ({ cls := "CoincideBench$Rows", name := "exchanges", desc := "(II)V" } : Jvm.MethodName) prog_13_method_13_code (6 : Nat) (Option.none : Option Jvm.ClassFile.FieldType)) ∈ lw_all := lw_g (lw_at lw_m4 188 rfl) rfl
theorem q1069 : (Jvm.Cond.instanceMethod ({ cls := "CoincideBench$Rows", name := "smith", desc := "(I)J" } : Jvm.MethodName)) ∈ lw_all := lw_g (lw_at lw_m4 231 rfl) rfl
theorem q1070 : (Jvm.Cond.selects "CoincideBench$Rows" ({ cls := "CoincideBench$Rows", name := "smith", desc := "(I)J" } : Jvm.MethodName) ({ cls := "CoincideBench$Rows", name := "smith", desc := "(I)J" } : Jvm.MethodName)) ∈ lw_all := lw_g (lw_at lw_m4 232 rfl) rfl
theorem q1071 : (Jvm.Cond.code ({ cls := "CoincideBench$Rows", name := "smith", desc := "(I)J" } : Jvm.MethodName) prog_13_method_10_code (8 : Nat) (Option.some Jvm.ClassFile.FieldType.long)) ∈ lw_all := lw_g (lw_at lw_m4 233 rfl) rfl
theorem q1072 : (Jvm.Cond.methodLink "CoincideBench$Rows" (25 : Nat) ({ cls := "CoincideBench$Rows", name := "common", desc := "()J" } : Jvm.MethodName)) ∈ lw_all := lw_g (lw_at lw_m4 234 rfl) rfl
theorem q1073 : (Jvm.Cond.methodLink "CoincideBench$Rows" (29 : Nat) ({ cls := "CoincideBench$Rows", name := "determinant", desc := "()J" } : Jvm.MethodName)) ∈ lw_all := lw_g (lw_at lw_m4 235 rfl) rfl
theorem q1074 : (Jvm.Cond.methodLink "CoincideBench$Rows" (32 : Nat) ({ cls := "java/lang/Math", name := "abs", desc := "(J)J" } : Jvm.MethodName)) ∈ lw_all := lw_g (lw_at lw_m4 236 rfl) rfl
theorem q1089 : (Jvm.Cond.instanceMethod ({ cls := "CoincideBench$Rows", name := "adjoint", desc := "()LCoincideBench$Rows;" } : Jvm.MethodName)) ∈ lw_all := lw_g (lw_at lw_m5 11 rfl) rfl
theorem q1090 : (Jvm.Cond.selects "CoincideBench$Rows" ({ cls := "CoincideBench$Rows", name := "adjoint", desc := "()LCoincideBench$Rows;" } : Jvm.MethodName) ({ cls := "CoincideBench$Rows", name := "adjoint", desc := "()LCoincideBench$Rows;" } : Jvm.MethodName)) ∈ lw_all := lw_g (lw_at lw_m5 12 rfl) rfl
theorem q1091 : (Jvm.Cond.code ({ cls := "CoincideBench$Rows", name := "adjoint", desc := "()LCoincideBench$Rows;" } : Jvm.MethodName) prog_13_method_5_code (4 : Nat) (Option.some (Jvm.ClassFile.FieldType.object "CoincideBench$Rows"))) ∈ lw_all := lw_g (lw_at lw_m5 13 rfl) rfl
theorem q1120 : (Jvm.Cond.instanceMethod ({ cls := "CoincideBench$Rows", name := "times", desc := "(J)LCoincideBench$Rows;" } : Jvm.MethodName)) ∈ lw_all := lw_g (lw_at lw_m5 42 rfl) rfl
theorem q1121 : (Jvm.Cond.selects "CoincideBench$Rows" ({ cls := "CoincideBench$Rows", name := "times", desc := "(J)LCoincideBench$Rows;" } : Jvm.MethodName) ({ cls := "CoincideBench$Rows", name := "times", desc := "(J)LCoincideBench$Rows;" } : Jvm.MethodName)) ∈ lw_all := lw_g (lw_at lw_m5 43 rfl) rfl
theorem q1122 : (Jvm.Cond.code ({ cls := "CoincideBench$Rows", name := "times", desc := "(J)LCoincideBench$Rows;" } : Jvm.MethodName) prog_13_method_7_code (6 : Nat) (Option.some (Jvm.ClassFile.FieldType.object "CoincideBench$Rows"))) ∈ lw_all := lw_g (lw_at lw_m5 44 rfl) rfl
theorem q1237 : (Jvm.Cond.instanceMethod ({ cls := "CoincideBench$Rows", name := "square", desc := "(I)J" } : Jvm.MethodName)) ∈ lw_all := lw_g (lw_at lw_m5 159 rfl) rfl
theorem q1238 : (Jvm.Cond.selects "CoincideBench$Rows" ({ cls := "CoincideBench$Rows", name := "square", desc := "(I)J" } : Jvm.MethodName) ({ cls := "CoincideBench$Rows", name := "square", desc := "(I)J" } : Jvm.MethodName)) ∈ lw_all := lw_g (lw_at lw_m5 160 rfl) rfl
theorem q1239 : (Jvm.Cond.code ({ cls := "CoincideBench$Rows", name := "square", desc := "(I)J" } : Jvm.MethodName) prog_13_method_15_code (2 : Nat) (Option.some Jvm.ClassFile.FieldType.long)) ∈ lw_all := lw_g (lw_at lw_m5 161 rfl) rfl
theorem q1296 : (Jvm.Cond.instanceMethod ({ cls := "CoincideBench$Rows", name := "across", desc := "([I)J" } : Jvm.MethodName)) ∈ lw_all := lw_g (lw_at lw_m5 218 rfl) rfl
theorem q1297 : (Jvm.Cond.selects "CoincideBench$Rows" ({ cls := "CoincideBench$Rows", name := "across", desc := "([I)J" } : Jvm.MethodName) ({ cls := "CoincideBench$Rows", name := "across", desc := "([I)J" } : Jvm.MethodName)) ∈ lw_all := lw_g (lw_at lw_m5 219 rfl) rfl
theorem q1298 : (Jvm.Cond.code ({ cls := "CoincideBench$Rows", name := "across", desc := "([I)J" } : Jvm.MethodName) prog_13_method_11_code (5 : Nat) (Option.some Jvm.ClassFile.FieldType.long)) ∈ lw_all := lw_g (lw_at lw_m5 220 rfl) rfl
theorem q2198 : (Jvm.Cond.castable "CoincideBench$Rows" "java/lang/Object") ∈ lw_tbl := lw_at lw_m9 160 rfl
theorem in_X2 : ∀ w ∈ wsX20, w ∈ lw_all := lw_in wsX20 [212] (by decide +kernel) (by decide +kernel)
