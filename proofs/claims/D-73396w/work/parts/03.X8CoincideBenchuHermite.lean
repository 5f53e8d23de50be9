/-! CoincideBench$Hermite -/
set_option maxRecDepth 100000
def RX8 : String := "CoincideBench$Hermite"
def TX8 : u_T := fun k => match k with
  | 0 => ("CoincideBench$Hermite", "rows", "LCoincideBench$Rows;", true)
  | _ => ("CoincideBench$Hermite", "steps", "Ljava/util/ArrayList;", true)
def tyX8 : Nat → FieldType := fun k => match k with
  | 0 => .object "CoincideBench$Rows"
  | _ => .object "java/util/ArrayList"
abbrev wsX80 : List Cond := u_ws RX8 TX8 2
theorem nmX8 : ∀ a, a < 2 → ∀ b, b < 2 → a ≠ b → (TX8 a).2.1 ≠ (TX8 b).2.1 := by decide +kernel
theorem tyX8_ok : ∀ k, k < 2 → parseFieldDescriptor (TX8 k).2.2.1 = some (tyX8 k) := by decide +kernel
abbrev cX8_init : ByteArray := prog_7_method_1_code
def yX8_init : MethodName := ⟨RX8, "<init>", "(LCoincideBench$Rows;)V"⟩
def dkwX8_init_1 : List UInt8 := [61, 28, 6, 162, 0, 14, 42, 28, 182, 0, 28, 132, 2, 1, 167, 255, 243, 177]
abbrev dktX8_init_1 : List UInt8 := dkwX8_init_1 ++ []
def dkwX8_init_0 : List UInt8 := [42, 183, 0, 3, 42, 187, 0, 9, 89, 183, 0, 11, 181, 0, 12, 42, 43, 182, 0, 18, 181, 0, 24, 3]
abbrev dktX8_init_0 : List UInt8 := dkwX8_init_0 ++ dktX8_init_1
theorem dksX8_init_0 : cX8_init.data.toList.drop 0 = dktX8_init_0 := by decide +kernel
theorem dksX8_init_1 : cX8_init.data.toList.drop 24 = dktX8_init_1 := dk_seg dksX8_init_0 24 rfl rfl
theorem dX8_init_0 : decode cX8_init 0 = .ok (.aload_n 0, 1) := dk_42 (dk_at dksX8_init_0 0 rfl rfl)
theorem dX8_init_1 : decode cX8_init 1 = .ok (.invokespecial 3, 3) := dk_183 0 3 (dk_at dksX8_init_0 1 rfl rfl)
theorem dX8_init_4 : decode cX8_init 4 = .ok (.aload_n 0, 1) := dk_42 (dk_at dksX8_init_0 4 rfl rfl)
theorem dX8_init_5 : decode cX8_init 5 = .ok (.new 9, 3) := dk_187 0 9 (dk_at dksX8_init_0 5 rfl rfl)
theorem dX8_init_8 : decode cX8_init 8 = .ok (.dup, 1) := dk_89 (dk_at dksX8_init_0 8 rfl rfl)
theorem dX8_init_9 : decode cX8_init 9 = .ok (.invokespecial 11, 3) := dk_183 0 11 (dk_at dksX8_init_0 9 rfl rfl)
theorem dX8_init_12 : decode cX8_init 12 = .ok (.putfield 12, 3) := dk_181 0 12 (dk_at dksX8_init_0 12 rfl rfl)
theorem dX8_init_15 : decode cX8_init 15 = .ok (.aload_n 0, 1) := dk_42 (dk_at dksX8_init_0 15 rfl rfl)
theorem dX8_init_16 : decode cX8_init 16 = .ok (.aload_n 1, 1) := dk_43 (dk_at dksX8_init_0 16 rfl rfl)
theorem dX8_init_17 : decode cX8_init 17 = .ok (.invokevirtual 18, 3) := dk_182 0 18 (dk_at dksX8_init_0 17 rfl rfl)
theorem dX8_init_20 : decode cX8_init 20 = .ok (.putfield 24, 3) := dk_181 0 24 (dk_at dksX8_init_0 20 rfl rfl)
theorem dX8_init_23 : decode cX8_init 23 = .ok (.iconst 0, 1) := dk_3 (dk_at dksX8_init_0 23 rfl rfl)
theorem dX8_init_24 : decode cX8_init 24 = .ok (.istore_n 2, 1) := dk_61 (dk_at dksX8_init_1 0 rfl rfl)
theorem dX8_init_25 : decode cX8_init 25 = .ok (.iload_n 2, 1) := dk_28 (dk_at dksX8_init_1 1 rfl rfl)
theorem dX8_init_26 : decode cX8_init 26 = .ok (.iconst 3, 1) := dk_6 (dk_at dksX8_init_1 2 rfl rfl)
theorem dX8_init_27 : decode cX8_init 27 = .ok (.if_icmp .ge 14, 3) := dk_162 0 14 (dk_at dksX8_init_1 3 rfl rfl)
theorem dX8_init_30 : decode cX8_init 30 = .ok (.aload_n 0, 1) := dk_42 (dk_at dksX8_init_1 6 rfl rfl)
theorem dX8_init_31 : decode cX8_init 31 = .ok (.iload_n 2, 1) := dk_28 (dk_at dksX8_init_1 7 rfl rfl)
theorem dX8_init_32 : decode cX8_init 32 = .ok (.invokevirtual 28, 3) := dk_182 0 28 (dk_at dksX8_init_1 8 rfl rfl)
theorem dX8_init_35 : decode cX8_init 35 = .ok (.iinc 2 1, 3) := dk_132 2 1 (dk_at dksX8_init_1 11 rfl rfl)
theorem dX8_init_38 : decode cX8_init 38 = .ok (.goto (-13), 3) := dk_167 255 243 (dk_at dksX8_init_1 14 rfl rfl)
theorem dX8_init_41 : decode cX8_init 41 = .ok (.return_, 1) := dk_177 (dk_at dksX8_init_1 17 rfl rfl)
abbrev cX8_clears : ByteArray := prog_7_method_5_code
def yX8_clears : MethodName := ⟨RX8, "clears", "(I)V"⟩
def dkwX8_clears_7 : List UInt8 := [132, 2, 1, 167, 255, 207, 177]
abbrev dktX8_clears_7 : List UInt8 := dkwX8_clears_7 ++ []
def dkwX8_clears_6 : List UInt8 := [27, 50, 27, 47, 184, 0, 66, 117, 66, 33, 9, 148, 153, 0, 11, 42, 4, 28, 27, 33, 182, 0, 63]
abbrev dktX8_clears_6 : List UInt8 := dkwX8_clears_6 ++ dktX8_clears_7
def dkwX8_clears_5 : List UInt8 := [61, 28, 27, 162, 0, 50, 42, 180, 0, 24, 180, 0, 45, 28, 50, 27, 47, 42, 180, 0, 24, 180, 0, 45]
abbrev dktX8_clears_5 : List UInt8 := dkwX8_clears_5 ++ dktX8_clears_6
def dkwX8_clears_4 : List UInt8 := [180, 0, 24, 180, 0, 45, 27, 50, 27, 47, 9, 148, 156, 0, 11, 42, 5, 27, 2, 9, 182, 0, 63, 3]
abbrev dktX8_clears_4 : List UInt8 := dkwX8_clears_4 ++ dktX8_clears_5
def dkwX8_clears_3 : List UInt8 := [180, 0, 45, 27, 50, 27, 47, 109, 117, 182, 0, 63, 132, 3, 1, 167, 255, 201, 167, 255, 167, 42]
abbrev dktX8_clears_3 : List UInt8 := dkwX8_clears_3 ++ dktX8_clears_4
def dkwX8_clears_2 : List UInt8 := [148, 153, 0, 34, 42, 4, 29, 27, 42, 180, 0, 24, 180, 0, 45, 29, 50, 27, 47, 42, 180, 0, 24]
abbrev dktX8_clears_2 : List UInt8 := dkwX8_clears_2 ++ dktX8_clears_3
def dkwX8_clears_1 : List UInt8 := [182, 0, 63, 27, 4, 96, 62, 29, 6, 162, 0, 56, 42, 180, 0, 24, 180, 0, 45, 29, 50, 27, 47, 9]
abbrev dktX8_clears_1 : List UInt8 := dkwX8_clears_1 ++ dktX8_clears_2
def dkwX8_clears_0 : List UInt8 := [42, 27, 182, 0, 55, 153, 0, 87, 42, 27, 182, 0, 59, 61, 28, 27, 159, 0, 11, 42, 3, 27, 28, 9]
abbrev dktX8_clears_0 : List UInt8 := dkwX8_clears_0 ++ dktX8_clears_1
theorem dksX8_clears_0 : cX8_clears.data.toList.drop 0 = dktX8_clears_0 := by decide +kernel
theorem dksX8_clears_1 : cX8_clears.data.toList.drop 24 = dktX8_clears_1 := dk_seg dksX8_clears_0 24 rfl rfl
theorem dksX8_clears_2 : cX8_clears.data.toList.drop 48 = dktX8_clears_2 := dk_seg dksX8_clears_1 24 rfl rfl
theorem dksX8_clears_3 : cX8_clears.data.toList.drop 71 = dktX8_clears_3 := dk_seg dksX8_clears_2 23 rfl rfl
theorem dksX8_clears_4 : cX8_clears.data.toList.drop 93 = dktX8_clears_4 := dk_seg dksX8_clears_3 22 rfl rfl
theorem dksX8_clears_5 : cX8_clears.data.toList.drop 117 = dktX8_clears_5 := dk_seg dksX8_clears_4 24 rfl rfl
theorem dksX8_clears_6 : cX8_clears.data.toList.drop 141 = dktX8_clears_6 := dk_seg dksX8_clears_5 24 rfl rfl
theorem dksX8_clears_7 : cX8_clears.data.toList.drop 164 = dktX8_clears_7 := dk_seg dksX8_clears_6 23 rfl rfl
theorem dX8_clears_0 : decode cX8_clears 0 = .ok (.aload_n 0, 1) := dk_42 (dk_at dksX8_clears_0 0 rfl rfl)
theorem dX8_clears_1 : decode cX8_clears 1 = .ok (.iload_n 1, 1) := dk_27 (dk_at dksX8_clears_0 1 rfl rfl)
theorem dX8_clears_2 : decode cX8_clears 2 = .ok (.invokevirtual 55, 3) := dk_182 0 55 (dk_at dksX8_clears_0 2 rfl rfl)
theorem dX8_clears_5 : decode cX8_clears 5 = .ok (.ifCond .eq 87, 3) := dk_153 0 87 (dk_at dksX8_clears_0 5 rfl rfl)
theorem dX8_clears_8 : decode cX8_clears 8 = .ok (.aload_n 0, 1) := dk_42 (dk_at dksX8_clears_0 8 rfl rfl)
theorem dX8_clears_9 : decode cX8_clears 9 = .ok (.iload_n 1, 1) := dk_27 (dk_at dksX8_clears_0 9 rfl rfl)
theorem dX8_clears_10 : decode cX8_clears 10 = .ok (.invokevirtual 59, 3) := dk_182 0 59 (dk_at dksX8_clears_0 10 rfl rfl)
theorem dX8_clears_13 : decode cX8_clears 13 = .ok (.istore_n 2, 1) := dk_61 (dk_at dksX8_clears_0 13 rfl rfl)
theorem dX8_clears_14 : decode cX8_clears 14 = .ok (.iload_n 2, 1) := dk_28 (dk_at dksX8_clears_0 14 rfl rfl)
theorem dX8_clears_15 : decode cX8_clears 15 = .ok (.iload_n 1, 1) := dk_27 (dk_at dksX8_clears_0 15 rfl rfl)
theorem dX8_clears_16 : decode cX8_clears 16 = .ok (.if_icmp .eq 11, 3) := dk_159 0 11 (dk_at dksX8_clears_0 16 rfl rfl)
theorem dX8_clears_19 : decode cX8_clears 19 = .ok (.aload_n 0, 1) := dk_42 (dk_at dksX8_clears_0 19 rfl rfl)
theorem dX8_clears_20 : decode cX8_clears 20 = .ok (.iconst 0, 1) := dk_3 (dk_at dksX8_clears_0 20 rfl rfl)
theorem dX8_clears_21 : decode cX8_clears 21 = .ok (.iload_n 1, 1) := dk_27 (dk_at dksX8_clears_0 21 rfl rfl)
theorem dX8_clears_22 : decode cX8_clears 22 = .ok (.iload_n 2, 1) := dk_28 (dk_at dksX8_clears_0 22 rfl rfl)
theorem dX8_clears_23 : decode cX8_clears 23 = .ok (.lconst 0, 1) := dk_9 (dk_at dksX8_clears_0 23 rfl rfl)
theorem dX8_clears_24 : decode cX8_clears 24 = .ok (.invokevirtual 63, 3) := dk_182 0 63 (dk_at dksX8_clears_1 0 rfl rfl)
theorem dX8_clears_27 : decode cX8_clears 27 = .ok (.iload_n 1, 1) := dk_27 (dk_at dksX8_clears_1 3 rfl rfl)
theorem dX8_clears_28 : decode cX8_clears 28 = .ok (.iconst 1, 1) := dk_4 (dk_at dksX8_clears_1 4 rfl rfl)
theorem dX8_clears_29 : decode cX8_clears 29 = .ok (.iadd, 1) := dk_96 (dk_at dksX8_clears_1 5 rfl rfl)
theorem dX8_clears_30 : decode cX8_clears 30 = .ok (.istore_n 3, 1) := dk_62 (dk_at dksX8_clears_1 6 rfl rfl)
theorem dX8_clears_31 : decode cX8_clears 31 = .ok (.iload_n 3, 1) := dk_29 (dk_at dksX8_clears_1 7 rfl rfl)
theorem dX8_clears_32 : decode cX8_clears 32 = .ok (.iconst 3, 1) := dk_6 (dk_at dksX8_clears_1 8 rfl rfl)
theorem dX8_clears_33 : decode cX8_clears 33 = .ok (.if_icmp .ge 56, 3) := dk_162 0 56 (dk_at dksX8_clears_1 9 rfl rfl)
theorem dX8_clears_36 : decode cX8_clears 36 = .ok (.aload_n 0, 1) := dk_42 (dk_at dksX8_clears_1 12 rfl rfl)
theorem dX8_clears_37 : decode cX8_clears 37 = .ok (.getfield 24, 3) := dk_180 0 24 (dk_at dksX8_clears_1 13 rfl rfl)
theorem dX8_clears_40 : decode cX8_clears 40 = .ok (.getfield 45, 3) := dk_180 0 45 (dk_at dksX8_clears_1 16 rfl rfl)
theorem dX8_clears_43 : decode cX8_clears 43 = .ok (.iload_n 3, 1) := dk_29 (dk_at dksX8_clears_1 19 rfl rfl)
theorem dX8_clears_44 : decode cX8_clears 44 = .ok (.aaload, 1) := dk_50 (dk_at dksX8_clears_1 20 rfl rfl)
theorem dX8_clears_45 : decode cX8_clears 45 = .ok (.iload_n 1, 1) := dk_27 (dk_at dksX8_clears_1 21 rfl rfl)
theorem dX8_clears_46 : decode cX8_clears 46 = .ok (.laload, 1) := dk_47 (dk_at dksX8_clears_1 22 rfl rfl)
theorem dX8_clears_47 : decode cX8_clears 47 = .ok (.lconst 0, 1) := dk_9 (dk_at dksX8_clears_1 23 rfl rfl)
theorem dX8_clears_48 : decode cX8_clears 48 = .ok (.lcmp, 1) := dk_148 (dk_at dksX8_clears_2 0 rfl rfl)
theorem dX8_clears_49 : decode cX8_clears 49 = .ok (.ifCond .eq 34, 3) := dk_153 0 34 (dk_at dksX8_clears_2 1 rfl rfl)
theorem dX8_clears_52 : decode cX8_clears 52 = .ok (.aload_n 0, 1) := dk_42 (dk_at dksX8_clears_2 4 rfl rfl)
theorem dX8_clears_53 : decode cX8_clears 53 = .ok (.iconst 1, 1) := dk_4 (dk_at dksX8_clears_2 5 rfl rfl)
theorem dX8_clears_54 : decode cX8_clears 54 = .ok (.iload_n 3, 1) := dk_29 (dk_at dksX8_clears_2 6 rfl rfl)
theorem dX8_clears_55 : decode cX8_clears 55 = .ok (.iload_n 1, 1) := dk_27 (dk_at dksX8_clears_2 7 rfl rfl)
theorem dX8_clears_56 : decode cX8_clears 56 = .ok (.aload_n 0, 1) := dk_42 (dk_at dksX8_clears_2 8 rfl rfl)
theorem dX8_clears_57 : decode cX8_clears 57 = .ok (.getfield 24, 3) := dk_180 0 24 (dk_at dksX8_clears_2 9 rfl rfl)
theorem dX8_clears_60 : decode cX8_clears 60 = .ok (.getfield 45, 3) := dk_180 0 45 (dk_at dksX8_clears_2 12 rfl rfl)
theorem dX8_clears_63 : decode cX8_clears 63 = .ok (.iload_n 3, 1) := dk_29 (dk_at dksX8_clears_2 15 rfl rfl)
theorem dX8_clears_64 : decode cX8_clears 64 = .ok (.aaload, 1) := dk_50 (dk_at dksX8_clears_2 16 rfl rfl)
theorem dX8_clears_65 : decode cX8_clears 65 = .ok (.iload_n 1, 1) := dk_27 (dk_at dksX8_clears_2 17 rfl rfl)
theorem dX8_clears_66 : decode cX8_clears 66 = .ok (.laload, 1) := dk_47 (dk_at dksX8_clears_2 18 rfl rfl)
theorem dX8_clears_67 : decode cX8_clears 67 = .ok (.aload_n 0, 1) := dk_42 (dk_at dksX8_clears_2 19 rfl rfl)
theorem dX8_clears_68 : decode cX8_clears 68 = .ok (.getfield 24, 3) := dk_180 0 24 (dk_at dksX8_clears_2 20 rfl rfl)
theorem dX8_clears_71 : decode cX8_clears 71 = .ok (.getfield 45, 3) := dk_180 0 45 (dk_at dksX8_clears_3 0 rfl rfl)
theorem dX8_clears_74 : decode cX8_clears 74 = .ok (.iload_n 1, 1) := dk_27 (dk_at dksX8_clears_3 3 rfl rfl)
theorem dX8_clears_75 : decode cX8_clears 75 = .ok (.aaload, 1) := dk_50 (dk_at dksX8_clears_3 4 rfl rfl)
theorem dX8_clears_76 : decode cX8_clears 76 = .ok (.iload_n 1, 1) := dk_27 (dk_at dksX8_clears_3 5 rfl rfl)
theorem dX8_clears_77 : decode cX8_clears 77 = .ok (.laload, 1) := dk_47 (dk_at dksX8_clears_3 6 rfl rfl)
theorem dX8_clears_78 : decode cX8_clears 78 = .ok (.ldiv, 1) := dk_109 (dk_at dksX8_clears_3 7 rfl rfl)
theorem dX8_clears_79 : decode cX8_clears 79 = .ok (.lneg, 1) := dk_117 (dk_at dksX8_clears_3 8 rfl rfl)
theorem dX8_clears_80 : decode cX8_clears 80 = .ok (.invokevirtual 63, 3) := dk_182 0 63 (dk_at dksX8_clears_3 9 rfl rfl)
theorem dX8_clears_83 : decode cX8_clears 83 = .ok (.iinc 3 1, 3) := dk_132 3 1 (dk_at dksX8_clears_3 12 rfl rfl)
theorem dX8_clears_86 : decode cX8_clears 86 = .ok (.goto (-55), 3) := dk_167 255 201 (dk_at dksX8_clears_3 15 rfl rfl)
theorem dX8_clears_89 : decode cX8_clears 89 = .ok (.goto (-89), 3) := dk_167 255 167 (dk_at dksX8_clears_3 18 rfl rfl)
theorem dX8_clears_92 : decode cX8_clears 92 = .ok (.aload_n 0, 1) := dk_42 (dk_at dksX8_clears_3 21 rfl rfl)
theorem dX8_clears_93 : decode cX8_clears 93 = .ok (.getfield 24, 3) := dk_180 0 24 (dk_at dksX8_clears_4 0 rfl rfl)
theorem dX8_clears_96 : decode cX8_clears 96 = .ok (.getfield 45, 3) := dk_180 0 45 (dk_at dksX8_clears_4 3 rfl rfl)
theorem dX8_clears_99 : decode cX8_clears 99 = .ok (.iload_n 1, 1) := dk_27 (dk_at dksX8_clears_4 6 rfl rfl)
theorem dX8_clears_100 : decode cX8_clears 100 = .ok (.aaload, 1) := dk_50 (dk_at dksX8_clears_4 7 rfl rfl)
theorem dX8_clears_101 : decode cX8_clears 101 = .ok (.iload_n 1, 1) := dk_27 (dk_at dksX8_clears_4 8 rfl rfl)
theorem dX8_clears_102 : decode cX8_clears 102 = .ok (.laload, 1) := dk_47 (dk_at dksX8_clears_4 9 rfl rfl)
theorem dX8_clears_103 : decode cX8_clears 103 = .ok (.lconst 0, 1) := dk_9 (dk_at dksX8_clears_4 10 rfl rfl)
theorem dX8_clears_104 : decode cX8_clears 104 = .ok (.lcmp, 1) := dk_148 (dk_at dksX8_clears_4 11 rfl rfl)
theorem dX8_clears_105 : decode cX8_clears 105 = .ok (.ifCond .ge 11, 3) := dk_156 0 11 (dk_at dksX8_clears_4 12 rfl rfl)
theorem dX8_clears_108 : decode cX8_clears 108 = .ok (.aload_n 0, 1) := dk_42 (dk_at dksX8_clears_4 15 rfl rfl)
theorem dX8_clears_109 : decode cX8_clears 109 = .ok (.iconst 2, 1) := dk_5 (dk_at dksX8_clears_4 16 rfl rfl)
theorem dX8_clears_110 : decode cX8_clears 110 = .ok (.iload_n 1, 1) := dk_27 (dk_at dksX8_clears_4 17 rfl rfl)
theorem dX8_clears_111 : decode cX8_clears 111 = .ok (.iconst (-1), 1) := dk_2 (dk_at dksX8_clears_4 18 rfl rfl)
theorem dX8_clears_112 : decode cX8_clears 112 = .ok (.lconst 0, 1) := dk_9 (dk_at dksX8_clears_4 19 rfl rfl)
theorem dX8_clears_113 : decode cX8_clears 113 = .ok (.invokevirtual 63, 3) := dk_182 0 63 (dk_at dksX8_clears_4 20 rfl rfl)
theorem dX8_clears_116 : decode cX8_clears 116 = .ok (.iconst 0, 1) := dk_3 (dk_at dksX8_clears_4 23 rfl rfl)
theorem dX8_clears_117 : decode cX8_clears 117 = .ok (.istore_n 2, 1) := dk_61 (dk_at dksX8_clears_5 0 rfl rfl)
theorem dX8_clears_118 : decode cX8_clears 118 = .ok (.iload_n 2, 1) := dk_28 (dk_at dksX8_clears_5 1 rfl rfl)
theorem dX8_clears_119 : decode cX8_clears 119 = .ok (.iload_n 1, 1) := dk_27 (dk_at dksX8_clears_5 2 rfl rfl)
theorem dX8_clears_120 : decode cX8_clears 120 = .ok (.if_icmp .ge 50, 3) := dk_162 0 50 (dk_at dksX8_clears_5 3 rfl rfl)
theorem dX8_clears_123 : decode cX8_clears 123 = .ok (.aload_n 0, 1) := dk_42 (dk_at dksX8_clears_5 6 rfl rfl)
theorem dX8_clears_124 : decode cX8_clears 124 = .ok (.getfield 24, 3) := dk_180 0 24 (dk_at dksX8_clears_5 7 rfl rfl)
theorem dX8_clears_127 : decode cX8_clears 127 = .ok (.getfield 45, 3) := dk_180 0 45 (dk_at dksX8_clears_5 10 rfl rfl)
theorem dX8_clears_130 : decode cX8_clears 130 = .ok (.iload_n 2, 1) := dk_28 (dk_at dksX8_clears_5 13 rfl rfl)
theorem dX8_clears_131 : decode cX8_clears 131 = .ok (.aaload, 1) := dk_50 (dk_at dksX8_clears_5 14 rfl rfl)
theorem dX8_clears_132 : decode cX8_clears 132 = .ok (.iload_n 1, 1) := dk_27 (dk_at dksX8_clears_5 15 rfl rfl)
theorem dX8_clears_133 : decode cX8_clears 133 = .ok (.laload, 1) := dk_47 (dk_at dksX8_clears_5 16 rfl rfl)
theorem dX8_clears_134 : decode cX8_clears 134 = .ok (.aload_n 0, 1) := dk_42 (dk_at dksX8_clears_5 17 rfl rfl)
theorem dX8_clears_135 : decode cX8_clears 135 = .ok (.getfield 24, 3) := dk_180 0 24 (dk_at dksX8_clears_5 18 rfl rfl)
theorem dX8_clears_138 : decode cX8_clears 138 = .ok (.getfield 45, 3) := dk_180 0 45 (dk_at dksX8_clears_5 21 rfl rfl)
theorem dX8_clears_141 : decode cX8_clears 141 = .ok (.iload_n 1, 1) := dk_27 (dk_at dksX8_clears_6 0 rfl rfl)
theorem dX8_clears_142 : decode cX8_clears 142 = .ok (.aaload, 1) := dk_50 (dk_at dksX8_clears_6 1 rfl rfl)
theorem dX8_clears_143 : decode cX8_clears 143 = .ok (.iload_n 1, 1) := dk_27 (dk_at dksX8_clears_6 2 rfl rfl)
theorem dX8_clears_144 : decode cX8_clears 144 = .ok (.laload, 1) := dk_47 (dk_at dksX8_clears_6 3 rfl rfl)
theorem dX8_clears_145 : decode cX8_clears 145 = .ok (.invokestatic 66, 3) := dk_184 0 66 (dk_at dksX8_clears_6 4 rfl rfl)
theorem dX8_clears_148 : decode cX8_clears 148 = .ok (.lneg, 1) := dk_117 (dk_at dksX8_clears_6 7 rfl rfl)
theorem dX8_clears_149 : decode cX8_clears 149 = .ok (.lstore_n 3, 1) := dk_66 (dk_at dksX8_clears_6 8 rfl rfl)
theorem dX8_clears_150 : decode cX8_clears 150 = .ok (.lload_n 3, 1) := dk_33 (dk_at dksX8_clears_6 9 rfl rfl)
theorem dX8_clears_151 : decode cX8_clears 151 = .ok (.lconst 0, 1) := dk_9 (dk_at dksX8_clears_6 10 rfl rfl)
theorem dX8_clears_152 : decode cX8_clears 152 = .ok (.lcmp, 1) := dk_148 (dk_at dksX8_clears_6 11 rfl rfl)
theorem dX8_clears_153 : decode cX8_clears 153 = .ok (.ifCond .eq 11, 3) := dk_153 0 11 (dk_at dksX8_clears_6 12 rfl rfl)
theorem dX8_clears_156 : decode cX8_clears 156 = .ok (.aload_n 0, 1) := dk_42 (dk_at dksX8_clears_6 15 rfl rfl)
theorem dX8_clears_157 : decode cX8_clears 157 = .ok (.iconst 1, 1) := dk_4 (dk_at dksX8_clears_6 16 rfl rfl)
theorem dX8_clears_158 : decode cX8_clears 158 = .ok (.iload_n 2, 1) := dk_28 (dk_at dksX8_clears_6 17 rfl rfl)
theorem dX8_clears_159 : decode cX8_clears 159 = .ok (.iload_n 1, 1) := dk_27 (dk_at dksX8_clears_6 18 rfl rfl)
theorem dX8_clears_160 : decode cX8_clears 160 = .ok (.lload_n 3, 1) := dk_33 (dk_at dksX8_clears_6 19 rfl rfl)
theorem dX8_clears_161 : decode cX8_clears 161 = .ok (.invokevirtual 63, 3) := dk_182 0 63 (dk_at dksX8_clears_6 20 rfl rfl)
theorem dX8_clears_164 : decode cX8_clears 164 = .ok (.iinc 2 1, 3) := dk_132 2 1 (dk_at dksX8_clears_7 0 rfl rfl)
theorem dX8_clears_167 : decode cX8_clears 167 = .ok (.goto (-49), 3) := dk_167 255 207 (dk_at dksX8_clears_7 3 rfl rfl)
theorem dX8_clears_170 : decode cX8_clears 170 = .ok (.return_, 1) := dk_177 (dk_at dksX8_clears_7 6 rfl rfl)
abbrev cX8_isMoreBelow : ByteArray := prog_7_method_3_code
def yX8_isMoreBelow : MethodName := ⟨RX8, "isMoreBelow", "(I)Z"⟩
def dkwX8_isMoreBelow_1 : List UInt8 := [153, 0, 5, 4, 172, 132, 2, 1, 167, 255, 230, 3, 172]
abbrev dktX8_isMoreBelow_1 : List UInt8 := dkwX8_isMoreBelow_1 ++ []
def dkwX8_isMoreBelow_0 : List UInt8 := [27, 4, 96, 61, 28, 6, 162, 0, 27, 42, 180, 0, 24, 180, 0, 45, 28, 50, 27, 47, 9, 148]
abbrev dktX8_isMoreBelow_0 : List UInt8 := dkwX8_isMoreBelow_0 ++ dktX8_isMoreBelow_1
theorem dksX8_isMoreBelow_0 : cX8_isMoreBelow.data.toList.drop 0 = dktX8_isMoreBelow_0 := by decide +kernel
theorem dksX8_isMoreBelow_1 : cX8_isMoreBelow.data.toList.drop 22 = dktX8_isMoreBelow_1 := dk_seg dksX8_isMoreBelow_0 22 rfl rfl
theorem dX8_isMoreBelow_0 : decode cX8_isMoreBelow 0 = .ok (.iload_n 1, 1) := dk_27 (dk_at dksX8_isMoreBelow_0 0 rfl rfl)
theorem dX8_isMoreBelow_1 : decode cX8_isMoreBelow 1 = .ok (.iconst 1, 1) := dk_4 (dk_at dksX8_isMoreBelow_0 1 rfl rfl)
theorem dX8_isMoreBelow_2 : decode cX8_isMoreBelow 2 = .ok (.iadd, 1) := dk_96 (dk_at dksX8_isMoreBelow_0 2 rfl rfl)
theorem dX8_isMoreBelow_3 : decode cX8_isMoreBelow 3 = .ok (.istore_n 2, 1) := dk_61 (dk_at dksX8_isMoreBelow_0 3 rfl rfl)
theorem dX8_isMoreBelow_4 : decode cX8_isMoreBelow 4 = .ok (.iload_n 2, 1) := dk_28 (dk_at dksX8_isMoreBelow_0 4 rfl rfl)
theorem dX8_isMoreBelow_5 : decode cX8_isMoreBelow 5 = .ok (.iconst 3, 1) := dk_6 (dk_at dksX8_isMoreBelow_0 5 rfl rfl)
theorem dX8_isMoreBelow_6 : decode cX8_isMoreBelow 6 = .ok (.if_icmp .ge 27, 3) := dk_162 0 27 (dk_at dksX8_isMoreBelow_0 6 rfl rfl)
theorem dX8_isMoreBelow_9 : decode cX8_isMoreBelow 9 = .ok (.aload_n 0, 1) := dk_42 (dk_at dksX8_isMoreBelow_0 9 rfl rfl)
theorem dX8_isMoreBelow_10 : decode cX8_isMoreBelow 10 = .ok (.getfield 24, 3) := dk_180 0 24 (dk_at dksX8_isMoreBelow_0 10 rfl rfl)
theorem dX8_isMoreBelow_13 : decode cX8_isMoreBelow 13 = .ok (.getfield 45, 3) := dk_180 0 45 (dk_at dksX8_isMoreBelow_0 13 rfl rfl)
theorem dX8_isMoreBelow_16 : decode cX8_isMoreBelow 16 = .ok (.iload_n 2, 1) := dk_28 (dk_at dksX8_isMoreBelow_0 16 rfl rfl)
theorem dX8_isMoreBelow_17 : decode cX8_isMoreBelow 17 = .ok (.aaload, 1) := dk_50 (dk_at dksX8_isMoreBelow_0 17 rfl rfl)
theorem dX8_isMoreBelow_18 : decode cX8_isMoreBelow 18 = .ok (.iload_n 1, 1) := dk_27 (dk_at dksX8_isMoreBelow_0 18 rfl rfl)
theorem dX8_isMoreBelow_19 : decode cX8_isMoreBelow 19 = .ok (.laload, 1) := dk_47 (dk_at dksX8_isMoreBelow_0 19 rfl rfl)
theorem dX8_isMoreBelow_20 : decode cX8_isMoreBelow 20 = .ok (.lconst 0, 1) := dk_9 (dk_at dksX8_isMoreBelow_0 20 rfl rfl)
theorem dX8_isMoreBelow_21 : decode cX8_isMoreBelow 21 = .ok (.lcmp, 1) := dk_148 (dk_at dksX8_isMoreBelow_0 21 rfl rfl)
theorem dX8_isMoreBelow_22 : decode cX8_isMoreBelow 22 = .ok (.ifCond .eq 5, 3) := dk_153 0 5 (dk_at dksX8_isMoreBelow_1 0 rfl rfl)
theorem dX8_isMoreBelow_25 : decode cX8_isMoreBelow 25 = .ok (.iconst 1, 1) := dk_4 (dk_at dksX8_isMoreBelow_1 3 rfl rfl)
theorem dX8_isMoreBelow_26 : decode cX8_isMoreBelow 26 = .ok (.ireturn, 1) := dk_172 (dk_at dksX8_isMoreBelow_1 4 rfl rfl)
theorem dX8_isMoreBelow_27 : decode cX8_isMoreBelow 27 = .ok (.iinc 2 1, 3) := dk_132 2 1 (dk_at dksX8_isMoreBelow_1 5 rfl rfl)
theorem dX8_isMoreBelow_30 : decode cX8_isMoreBelow 30 = .ok (.goto (-26), 3) := dk_167 255 230 (dk_at dksX8_isMoreBelow_1 8 rfl rfl)
theorem dX8_isMoreBelow_33 : decode cX8_isMoreBelow 33 = .ok (.iconst 0, 1) := dk_3 (dk_at dksX8_isMoreBelow_1 11 rfl rfl)
theorem dX8_isMoreBelow_34 : decode cX8_isMoreBelow 34 = .ok (.ireturn, 1) := dk_172 (dk_at dksX8_isMoreBelow_1 12 rfl rfl)
abbrev cX8_least : ByteArray := prog_7_method_4_code
def yX8_least : MethodName := ⟨RX8, "least", "(I)I"⟩
def dkwX8_least_3 : List UInt8 := [167, 255, 193, 28, 172]
abbrev dktX8_least_3 : List UInt8 := dkwX8_least_3 ++ []
def dkwX8_least_2 : List UInt8 := [180, 0, 24, 180, 0, 45, 28, 50, 27, 47, 184, 0, 49, 148, 156, 0, 5, 29, 61, 132, 3, 1]
abbrev dktX8_least_2 : List UInt8 := dkwX8_least_2 ++ dktX8_least_3
def dkwX8_least_1 : List UInt8 := [153, 0, 42, 28, 2, 159, 0, 35, 42, 180, 0, 24, 180, 0, 45, 29, 50, 27, 47, 184, 0, 49, 42]
abbrev dktX8_least_1 : List UInt8 := dkwX8_least_1 ++ dktX8_least_2
def dkwX8_least_0 : List UInt8 := [2, 61, 27, 62, 29, 6, 162, 0, 64, 42, 180, 0, 24, 180, 0, 45, 29, 50, 27, 47, 9, 148]
abbrev dktX8_least_0 : List UInt8 := dkwX8_least_0 ++ dktX8_least_1
theorem dksX8_least_0 : cX8_least.data.toList.drop 0 = dktX8_least_0 := by decide +kernel
theorem dksX8_least_1 : cX8_least.data.toList.drop 22 = dktX8_least_1 := dk_seg dksX8_least_0 22 rfl rfl
theorem dksX8_least_2 : cX8_least.data.toList.drop 45 = dktX8_least_2 := dk_seg dksX8_least_1 23 rfl rfl
theorem dksX8_least_3 : cX8_least.data.toList.drop 67 = dktX8_least_3 := dk_seg dksX8_least_2 22 rfl rfl
theorem dX8_least_0 : decode cX8_least 0 = .ok (.iconst (-1), 1) := dk_2 (dk_at dksX8_least_0 0 rfl rfl)
theorem dX8_least_1 : decode cX8_least 1 = .ok (.istore_n 2, 1) := dk_61 (dk_at dksX8_least_0 1 rfl rfl)
theorem dX8_least_2 : decode cX8_least 2 = .ok (.iload_n 1, 1) := dk_27 (dk_at dksX8_least_0 2 rfl rfl)
theorem dX8_least_3 : decode cX8_least 3 = .ok (.istore_n 3, 1) := dk_62 (dk_at dksX8_least_0 3 rfl rfl)
theorem dX8_least_4 : decode cX8_least 4 = .ok (.iload_n 3, 1) := dk_29 (dk_at dksX8_least_0 4 rfl rfl)
theorem dX8_least_5 : decode cX8_least 5 = .ok (.iconst 3, 1) := dk_6 (dk_at dksX8_least_0 5 rfl rfl)
theorem dX8_least_6 : decode cX8_least 6 = .ok (.if_icmp .ge 64, 3) := dk_162 0 64 (dk_at dksX8_least_0 6 rfl rfl)
theorem dX8_least_9 : decode cX8_least 9 = .ok (.aload_n 0, 1) := dk_42 (dk_at dksX8_least_0 9 rfl rfl)
theorem dX8_least_10 : decode cX8_least 10 = .ok (.getfield 24, 3) := dk_180 0 24 (dk_at dksX8_least_0 10 rfl rfl)
theorem dX8_least_13 : decode cX8_least 13 = .ok (.getfield 45, 3) := dk_180 0 45 (dk_at dksX8_least_0 13 rfl rfl)
theorem dX8_least_16 : decode cX8_least 16 = .ok (.iload_n 3, 1) := dk_29 (dk_at dksX8_least_0 16 rfl rfl)
theorem dX8_least_17 : decode cX8_least 17 = .ok (.aaload, 1) := dk_50 (dk_at dksX8_least_0 17 rfl rfl)
theorem dX8_least_18 : decode cX8_least 18 = .ok (.iload_n 1, 1) := dk_27 (dk_at dksX8_least_0 18 rfl rfl)
theorem dX8_least_19 : decode cX8_least 19 = .ok (.laload, 1) := dk_47 (dk_at dksX8_least_0 19 rfl rfl)
theorem dX8_least_20 : decode cX8_least 20 = .ok (.lconst 0, 1) := dk_9 (dk_at dksX8_least_0 20 rfl rfl)
theorem dX8_least_21 : decode cX8_least 21 = .ok (.lcmp, 1) := dk_148 (dk_at dksX8_least_0 21 rfl rfl)
theorem dX8_least_22 : decode cX8_least 22 = .ok (.ifCond .eq 42, 3) := dk_153 0 42 (dk_at dksX8_least_1 0 rfl rfl)
theorem dX8_least_25 : decode cX8_least 25 = .ok (.iload_n 2, 1) := dk_28 (dk_at dksX8_least_1 3 rfl rfl)
theorem dX8_least_26 : decode cX8_least 26 = .ok (.iconst (-1), 1) := dk_2 (dk_at dksX8_least_1 4 rfl rfl)
theorem dX8_least_27 : decode cX8_least 27 = .ok (.if_icmp .eq 35, 3) := dk_159 0 35 (dk_at dksX8_least_1 5 rfl rfl)
theorem dX8_least_30 : decode cX8_least 30 = .ok (.aload_n 0, 1) := dk_42 (dk_at dksX8_least_1 8 rfl rfl)
theorem dX8_least_31 : decode cX8_least 31 = .ok (.getfield 24, 3) := dk_180 0 24 (dk_at dksX8_least_1 9 rfl rfl)
theorem dX8_least_34 : decode cX8_least 34 = .ok (.getfield 45, 3) := dk_180 0 45 (dk_at dksX8_least_1 12 rfl rfl)
theorem dX8_least_37 : decode cX8_least 37 = .ok (.iload_n 3, 1) := dk_29 (dk_at dksX8_least_1 15 rfl rfl)
theorem dX8_least_38 : decode cX8_least 38 = .ok (.aaload, 1) := dk_50 (dk_at dksX8_least_1 16 rfl rfl)
theorem dX8_least_39 : decode cX8_least 39 = .ok (.iload_n 1, 1) := dk_27 (dk_at dksX8_least_1 17 rfl rfl)
theorem dX8_least_40 : decode cX8_least 40 = .ok (.laload, 1) := dk_47 (dk_at dksX8_least_1 18 rfl rfl)
theorem dX8_least_41 : decode cX8_least 41 = .ok (.invokestatic 49, 3) := dk_184 0 49 (dk_at dksX8_least_1 19 rfl rfl)
theorem dX8_least_44 : decode cX8_least 44 = .ok (.aload_n 0, 1) := dk_42 (dk_at dksX8_least_1 22 rfl rfl)
theorem dX8_least_45 : decode cX8_least 45 = .ok (.getfield 24, 3) := dk_180 0 24 (dk_at dksX8_least_2 0 rfl rfl)
theorem dX8_least_48 : decode cX8_least 48 = .ok (.getfield 45, 3) := dk_180 0 45 (dk_at dksX8_least_2 3 rfl rfl)
theorem dX8_least_51 : decode cX8_least 51 = .ok (.iload_n 2, 1) := dk_28 (dk_at dksX8_least_2 6 rfl rfl)
theorem dX8_least_52 : decode cX8_least 52 = .ok (.aaload, 1) := dk_50 (dk_at dksX8_least_2 7 rfl rfl)
theorem dX8_least_53 : decode cX8_least 53 = .ok (.iload_n 1, 1) := dk_27 (dk_at dksX8_least_2 8 rfl rfl)
theorem dX8_least_54 : decode cX8_least 54 = .ok (.laload, 1) := dk_47 (dk_at dksX8_least_2 9 rfl rfl)
theorem dX8_least_55 : decode cX8_least 55 = .ok (.invokestatic 49, 3) := dk_184 0 49 (dk_at dksX8_least_2 10 rfl rfl)
theorem dX8_least_58 : decode cX8_least 58 = .ok (.lcmp, 1) := dk_148 (dk_at dksX8_least_2 13 rfl rfl)
theorem dX8_least_59 : decode cX8_least 59 = .ok (.ifCond .ge 5, 3) := dk_156 0 5 (dk_at dksX8_least_2 14 rfl rfl)
theorem dX8_least_62 : decode cX8_least 62 = .ok (.iload_n 3, 1) := dk_29 (dk_at dksX8_least_2 17 rfl rfl)
theorem dX8_least_63 : decode cX8_least 63 = .ok (.istore_n 2, 1) := dk_61 (dk_at dksX8_least_2 18 rfl rfl)
theorem dX8_least_64 : decode cX8_least 64 = .ok (.iinc 3 1, 3) := dk_132 3 1 (dk_at dksX8_least_2 19 rfl rfl)
theorem dX8_least_67 : decode cX8_least 67 = .ok (.goto (-63), 3) := dk_167 255 193 (dk_at dksX8_least_3 0 rfl rfl)
theorem dX8_least_70 : decode cX8_least 70 = .ok (.iload_n 2, 1) := dk_28 (dk_at dksX8_least_3 3 rfl rfl)
theorem dX8_least_71 : decode cX8_least 71 = .ok (.ireturn, 1) := dk_172 (dk_at dksX8_least_3 4 rfl rfl)
abbrev cX8_does : ByteArray := prog_7_method_2_code
def yX8_does : MethodName := ⟨RX8, "does", "(IIIJ)V"⟩
def dkwX8_does_1 : List UInt8 := [180, 0, 12, 25, 6, 182, 0, 41, 87, 177]
abbrev dktX8_does_1 : List UInt8 := dkwX8_does_1 ++ []
def dkwX8_does_0 : List UInt8 := [187, 0, 32, 89, 27, 28, 29, 22, 4, 183, 0, 34, 58, 6, 25, 6, 42, 180, 0, 24, 182, 0, 37, 42]
abbrev dktX8_does_0 : List UInt8 := dkwX8_does_0 ++ dktX8_does_1
theorem dksX8_does_0 : cX8_does.data.toList.drop 0 = dktX8_does_0 := by decide +kernel
theorem dksX8_does_1 : cX8_does.data.toList.drop 24 = dktX8_does_1 := dk_seg dksX8_does_0 24 rfl rfl
theorem dX8_does_0 : decode cX8_does 0 = .ok (.new 32, 3) := dk_187 0 32 (dk_at dksX8_does_0 0 rfl rfl)
theorem dX8_does_3 : decode cX8_does 3 = .ok (.dup, 1) := dk_89 (dk_at dksX8_does_0 3 rfl rfl)
theorem dX8_does_4 : decode cX8_does 4 = .ok (.iload_n 1, 1) := dk_27 (dk_at dksX8_does_0 4 rfl rfl)
theorem dX8_does_5 : decode cX8_does 5 = .ok (.iload_n 2, 1) := dk_28 (dk_at dksX8_does_0 5 rfl rfl)
theorem dX8_does_6 : decode cX8_does 6 = .ok (.iload_n 3, 1) := dk_29 (dk_at dksX8_does_0 6 rfl rfl)
theorem dX8_does_7 : decode cX8_does 7 = .ok (.lload 4, 2) := dk_22 4 (dk_at dksX8_does_0 7 rfl rfl)
theorem dX8_does_9 : decode cX8_does 9 = .ok (.invokespecial 34, 3) := dk_183 0 34 (dk_at dksX8_does_0 9 rfl rfl)
theorem dX8_does_12 : decode cX8_does 12 = .ok (.astore 6, 2) := dk_58 6 (dk_at dksX8_does_0 12 rfl rfl)
theorem dX8_does_14 : decode cX8_does 14 = .ok (.aload 6, 2) := dk_25 6 (dk_at dksX8_does_0 14 rfl rfl)
theorem dX8_does_16 : decode cX8_does 16 = .ok (.aload_n 0, 1) := dk_42 (dk_at dksX8_does_0 16 rfl rfl)
theorem dX8_does_17 : decode cX8_does 17 = .ok (.getfield 24, 3) := dk_180 0 24 (dk_at dksX8_does_0 17 rfl rfl)
theorem dX8_does_20 : decode cX8_does 20 = .ok (.invokevirtual 37, 3) := dk_182 0 37 (dk_at dksX8_does_0 20 rfl rfl)
theorem dX8_does_23 : decode cX8_does 23 = .ok (.aload_n 0, 1) := dk_42 (dk_at dksX8_does_0 23 rfl rfl)
theorem dX8_does_24 : decode cX8_does 24 = .ok (.getfield 12, 3) := dk_180 0 12 (dk_at dksX8_does_1 0 rfl rfl)
theorem dX8_does_27 : decode cX8_does 27 = .ok (.aload 6, 2) := dk_25 6 (dk_at dksX8_does_1 3 rfl rfl)
theorem dX8_does_29 : decode cX8_does 29 = .ok (.invokevirtual 41, 3) := dk_182 0 41 (dk_at dksX8_does_1 5 rfl rfl)
theorem dX8_does_32 : decode cX8_does 32 = .ok (.pop, 1) := dk_87 (dk_at dksX8_does_1 8 rfl rfl)
theorem dX8_does_33 : decode cX8_does 33 = .ok (.return_, 1) := dk_177 (dk_at dksX8_does_1 9 rfl rfl)
theorem q145 : (Jvm.Cond.initialized "CoincideBench$Hermite") ∈ lw_all := lw_g (lw_at lw_m1 27 rfl) rfl
theorem q209 : (Jvm.Cond.fieldLinkNest "CoincideBench$Hermite" (45 : Nat) "CoincideBench$Rows" "at" "[[J" "CoincideBench") ∈ lw_tbl := lw_at lw_m1 91 rfl
theorem q695 : (Jvm.Cond.selects "CoincideBench$Hermite" ({ cls := "java/lang/Object", name := "equals", desc := "(Ljava/lang/Object;)Z" } : Jvm.MethodName) ({ cls := "java/lang/Object", name := "equals", desc := "(Ljava/lang/Object;)Z" } : Jvm.MethodName)) ∈ lw_all := lw_g (lw_at lw_m3 97 rfl) rfl
theorem q831 : (Jvm.Cond.selects "CoincideBench$Hermite" ({ cls := "java/lang/Object", name := "getClass", desc := "()Ljava/lang/Class;" } : Jvm.MethodName) ({ cls := "java/lang/Object", name := "getClass", desc := "()Ljava/lang/Class;" } : Jvm.MethodName)) ∈ lw_all := lw_g (lw_at lw_m3 233 rfl) rfl
theorem q958 : (Jvm.Cond.instantiable "CoincideBench$Hermite" (2 : Nat)) ∈ lw_all := lw_g (lw_at lw_m4 120 rfl) rfl
theorem q960 : (Jvm.Cond.instanceMethod ({ cls := "CoincideBench$Hermite", name := "<init>", desc := "(LCoincideBench$Rows;)V" } : Jvm.MethodName)) ∈ lw_all := lw_g (lw_at lw_m4 122 rfl) rfl
theorem q961 : (Jvm.Cond.code ({ cls := "CoincideBench$Hermite", name := "<init>", desc := "(LCoincideBench$Rows;)V" } : Jvm.MethodName) prog_7_method_1_code (3 : Nat) (Option.none : Option Jvm.ClassFile.FieldType)) ∈ lw_all := lw_g (lw_at lw_m4 123 rfl) rfl
theorem q962 : (Jvm.Cond.methodLink "CoincideBench$Hermite" (3 : Nat) ({ cls := "java/lang/Object", name := "<init>", desc := "()V" } : Jvm.MethodName)) ∈ lw_all := lw_g (lw_at lw_m4 124 rfl) rfl
theorem q963 : (Jvm.Cond.classLink "CoincideBench$Hermite" (9 : Nat) "java/util/ArrayList") ∈ lw_all := lw_g (lw_at lw_m4 125 rfl) rfl
theorem q964 : (Jvm.Cond.methodLink "CoincideBench$Hermite" (11 : Nat) ({ cls := "java/util/ArrayList", name := "<init>", desc := "()V" } : Jvm.MethodName)) ∈ lw_all := lw_g (lw_at lw_m4 126 rfl) rfl
theorem q967 : (Jvm.Cond.methodLink "CoincideBench$Hermite" (18 : Nat) ({ cls := "CoincideBench$Rows", name := "copy", desc := "()LCoincideBench$Rows;" } : Jvm.MethodName)) ∈ lw_all := lw_g (lw_at lw_m4 129 rfl) rfl
theorem q971 : (Jvm.Cond.methodLink "CoincideBench$Hermite" (28 : Nat) ({ cls := "CoincideBench$Hermite", name := "clears", desc := "(I)V" } : Jvm.MethodName)) ∈ lw_all := lw_g (lw_at lw_m4 133 rfl) rfl
theorem q972 : (Jvm.Cond.privateMethod ({ cls := "CoincideBench$Hermite", name := "clears", desc := "(I)V" } : Jvm.MethodName)) ∈ lw_tbl := lw_at lw_m4 134 rfl
theorem q973 : (Jvm.Cond.instanceMethod ({ cls := "CoincideBench$Hermite", name := "clears", desc := "(I)V" } : Jvm.MethodName)) ∈ lw_all := lw_g (lw_at lw_m4 135 rfl) rfl
theorem q974 : (Jvm.Cond.code ({ cls := "CoincideBench$Hermite", name := "clears", desc := "(I)V" } : Jvm.MethodName) prog_7_method_5_code (5 : Nat) (Option.none : Option Jvm.ClassFile.FieldType)) ∈ lw_all := lw_g (lw_at lw_m4 136 rfl) rfl
theorem q975 : (Jvm.Cond.methodLink "CoincideBench$Hermite" (55 : Nat) ({ cls := "CoincideBench$Hermite", name := "isMoreBelow", desc := "(I)Z" } : Jvm.MethodName)) ∈ lw_all := lw_g (lw_at lw_m4 137 rfl) rfl
theorem q976 : (Jvm.Cond.privateMethod ({ cls := "CoincideBench$Hermite", name := "isMoreBelow", desc := "(I)Z" } : Jvm.MethodName)) ∈ lw_tbl := lw_at lw_m4 138 rfl
theorem q977 : (Jvm.Cond.instanceMethod ({ cls := "CoincideBench$Hermite", name := "isMoreBelow", desc := "(I)Z" } : Jvm.MethodName)) ∈ lw_all := lw_g (lw_at lw_m4 139 rfl) rfl
theorem q978 : (Jvm.Cond.code ({ cls := "CoincideBench$Hermite", name := "isMoreBelow", desc := "(I)Z" } : Jvm.MethodName) prog_7_method_3_code (3 : Nat) (Option.some Jvm.ClassFile.FieldType.boolean)) ∈ lw_all := lw_g (lw_at lw_m4 140 rfl) rfl
theorem q979 : (Jvm.Cond.methodLink "CoincideBench$Hermite" (59 : Nat) ({ cls := "CoincideBench$Hermite", name := "least", desc := "(I)I" } : Jvm.MethodName)) ∈ lw_all := lw_g (lw_at lw_m4 141 rfl) rfl
theorem q980 : (Jvm.Cond.privateMethod ({ cls := "CoincideBench$Hermite", name := "least", desc := "(I)I" } : Jvm.MethodName)) ∈ lw_tbl := lw_at lw_m4 142 rfl
theorem q981 : (Jvm.Cond.instanceMethod ({ cls := "CoincideBench$Hermite", name := "least", desc := "(I)I" } : Jvm.MethodName)) ∈ lw_all := lw_g (lw_at lw_m4 143 rfl) rfl
theorem q982 : (Jvm.Cond.code ({ cls := "CoincideBench$Hermite", name := "least", desc := "(I)I" } : Jvm.MethodName) prog_7_method_4_code (4 : Nat) (Option.some Jvm.ClassFile.FieldType.int)) ∈ lw_all := lw_g (lw_at lw_m4 144 rfl) rfl
theorem q983 : (Jvm.Cond.methodLink "CoincideBench$Hermite" (49 : Nat) ({ cls := "java/lang/Math", name := "abs", desc := "(J)J" } : Jvm.MethodName)) ∈ lw_all := lw_g (lw_at lw_m4 145 rfl) rfl
theorem q984 : (Jvm.Cond.methodLink "CoincideBench$Hermite" (63 : Nat) ({ cls := "CoincideBench$Hermite", name := "does", desc := "(IIIJ)V" } : Jvm.MethodName)) ∈ lw_all := lw_g (lw_at lw_m4 146 rfl) rfl
theorem q985 : (Jvm.Cond.privateMethod ({ cls := "CoincideBench$Hermite", name := "does", desc := "(IIIJ)V" } : Jvm.MethodName)) ∈ lw_tbl := lw_at lw_m4 147 rfl
theorem q986 : (Jvm.Cond.instanceMethod ({ cls := "CoincideBench$Hermite", name := "does", desc := "(IIIJ)V" } : Jvm.MethodName)) ∈ lw_all := lw_g (lw_at lw_m4 148 rfl) rfl
theorem q987 : (Jvm.Cond.code ({ cls := "CoincideBench$Hermite", name := "does", desc := "(IIIJ)V" } : Jvm.MethodName) prog_7_method_2_code (7 : Nat) (Option.none : Option Jvm.ClassFile.FieldType)) ∈ lw_all := lw_g (lw_at lw_m4 149 rfl) rfl
theorem q988 : (Jvm.Cond.classLink "CoincideBench$Hermite" (32 : Nat) "CoincideBench$Step") ∈ lw_all := lw_g (lw_at lw_m4 150 rfl) rfl
theorem q990 : (Jvm.Cond.methodLink "CoincideBench$Hermite" (34 : Nat) ({ cls := "CoincideBench$Step", name := "<init>", desc := "(IIIJ)V" } : Jvm.MethodName)) ∈ lw_all := lw_g (lw_at lw_m4 152 rfl) rfl
theorem q1011 : (Jvm.Cond.methodLink "CoincideBench$Hermite" (37 : Nat) ({ cls := "CoincideBench$Step", name := "goes", desc := "(LCoincideBench$Rows;)V" } : Jvm.MethodName)) ∈ lw_all := lw_g (lw_at lw_m4 173 rfl) rfl
theorem q1027 : (Jvm.Cond.methodLink "CoincideBench$Hermite" (41 : Nat) ({ cls := "java/util/ArrayList", name := "add", desc := "(Ljava/lang/Object;)Z" } : Jvm.MethodName)) ∈ lw_all := lw_g (lw_at lw_m4 189 rfl) rfl
theorem q1028 : (Jvm.Cond.methodLink "CoincideBench$Hermite" (66 : Nat) ({ cls := "java/lang/Math", name := "floorDiv", desc := "(JJ)J" } : Jvm.MethodName)) ∈ lw_all := lw_g (lw_at lw_m4 190 rfl) rfl
theorem q1031 : (Jvm.Cond.fieldLink "CoincideBench$Hermite" (24 : Nat) "CoincideBench$Hermite" "rows" "LCoincideBench$Rows;") ∈ lw_all := lw_g (lw_at lw_m4 193 rfl) rfl
theorem q1033 : (Jvm.Cond.fieldLink "CoincideBench$Hermite" (12 : Nat) "CoincideBench$Hermite" "steps" "Ljava/util/ArrayList;") ∈ lw_all := lw_g (lw_at lw_m4 195 rfl) rfl
theorem q1035 : (Jvm.Cond.laysFinal "CoincideBench$Hermite" "CoincideBench$Hermite" "rows" "LCoincideBench$Rows;") ∈ lw_all := lw_g (lw_at lw_m4 197 rfl) rfl
theorem q1036 : (Jvm.Cond.soleField "CoincideBench$Hermite" "rows") ∈ lw_all := lw_g (lw_at lw_m4 198 rfl) rfl
theorem q1037 : (Jvm.Cond.laysFinal "CoincideBench$Hermite" "CoincideBench$Hermite" "steps" "Ljava/util/ArrayList;") ∈ lw_all := lw_g (lw_at lw_m4 199 rfl) rfl
theorem q1038 : (Jvm.Cond.soleField "CoincideBench$Hermite" "steps") ∈ lw_all := lw_g (lw_at lw_m4 200 rfl) rfl
theorem q1039 : (Jvm.Cond.superclass "CoincideBench$Hermite" "java/lang/Object") ∈ lw_all := lw_g (lw_at lw_m4 201 rfl) rfl
theorem q2207 : (Jvm.Cond.castable "CoincideBench$Hermite" "java/lang/Object") ∈ lw_tbl := lw_at lw_m9 169 rfl
theorem in_X8 : ∀ w ∈ wsX80, w ∈ lw_all := lw_in wsX80 [1035, 1037] (by decide +kernel) (by decide +kernel)
