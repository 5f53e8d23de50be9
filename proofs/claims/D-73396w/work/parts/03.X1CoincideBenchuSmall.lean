/-! CoincideBench$Small -/
set_option maxRecDepth 100000
def RX1 : String := "CoincideBench$Small"
def TX1 : u_T := fun k => match k with
  | 0 => ("CoincideBench$Small", "form", "LCoincideBench$Rows;", true)
  | 1 => ("CoincideBench$Small", "v", "[J", true)
  | _ => ("CoincideBench$Small", "most", "J", false)
def tyX1 : Nat → FieldType := fun k => match k with
  | 0 => .object "CoincideBench$Rows"
  | 1 => .array .long
  | _ => .long
abbrev wsX10 : List Cond := u_ws RX1 TX1 3
theorem nmX1 : ∀ a, a < 3 → ∀ b, b < 3 → a ≠ b → (TX1 a).2.1 ≠ (TX1 b).2.1 := by decide +kernel
theorem tyX1_ok : ∀ k, k < 3 → parseFieldDescriptor (TX1 k).2.2.1 = some (tyX1 k) := by decide +kernel
abbrev cX1_init : ByteArray := prog_14_method_1_code
def yX1_init : MethodName := ⟨RX1, "<init>", "(J)V"⟩
def dkwX1_init_1 : List UInt8 := [182, 0, 22, 177]
abbrev dktX1_init_1 : List UInt8 := dkwX1_init_1 ++ []
def dkwX1_init_0 : List UInt8 := [42, 183, 0, 3, 42, 187, 0, 9, 89, 183, 0, 11, 181, 0, 12, 42, 6, 188, 11, 181, 0, 18, 42, 31]
abbrev dktX1_init_0 : List UInt8 := dkwX1_init_0 ++ dktX1_init_1
theorem dksX1_init_0 : cX1_init.data.toList.drop 0 = dktX1_init_0 := by decide +kernel
theorem dksX1_init_1 : cX1_init.data.toList.drop 24 = dktX1_init_1 := dk_seg dksX1_init_0 24 rfl rfl
theorem dX1_init_0 : decode cX1_init 0 = .ok (.aload_n 0, 1) := dk_42 (dk_at dksX1_init_0 0 rfl rfl)
theorem dX1_init_1 : decode cX1_init 1 = .ok (.invokespecial 3, 3) := dk_183 0 3 (dk_at dksX1_init_0 1 rfl rfl)
theorem dX1_init_4 : decode cX1_init 4 = .ok (.aload_n 0, 1) := dk_42 (dk_at dksX1_init_0 4 rfl rfl)
theorem dX1_init_5 : decode cX1_init 5 = .ok (.new 9, 3) := dk_187 0 9 (dk_at dksX1_init_0 5 rfl rfl)
theorem dX1_init_8 : decode cX1_init 8 = .ok (.dup, 1) := dk_89 (dk_at dksX1_init_0 8 rfl rfl)
theorem dX1_init_9 : decode cX1_init 9 = .ok (.invokespecial 11, 3) := dk_183 0 11 (dk_at dksX1_init_0 9 rfl rfl)
theorem dX1_init_12 : decode cX1_init 12 = .ok (.putfield 12, 3) := dk_181 0 12 (dk_at dksX1_init_0 12 rfl rfl)
theorem dX1_init_15 : decode cX1_init 15 = .ok (.aload_n 0, 1) := dk_42 (dk_at dksX1_init_0 15 rfl rfl)
theorem dX1_init_16 : decode cX1_init 16 = .ok (.iconst 3, 1) := dk_6 (dk_at dksX1_init_0 16 rfl rfl)
theorem dX1_init_17 : decode cX1_init 17 = .ok (.newarray .long, 2) := dk_188_11 (dk_at dksX1_init_0 17 rfl rfl)
theorem dX1_init_19 : decode cX1_init 19 = .ok (.putfield 18, 3) := dk_181 0 18 (dk_at dksX1_init_0 19 rfl rfl)
theorem dX1_init_22 : decode cX1_init 22 = .ok (.aload_n 0, 1) := dk_42 (dk_at dksX1_init_0 22 rfl rfl)
theorem dX1_init_23 : decode cX1_init 23 = .ok (.lload_n 1, 1) := dk_31 (dk_at dksX1_init_0 23 rfl rfl)
theorem dX1_init_24 : decode cX1_init 24 = .ok (.invokevirtual 22, 3) := dk_182 0 22 (dk_at dksX1_init_1 0 rfl rfl)
theorem dX1_init_27 : decode cX1_init 27 = .ok (.return_, 1) := dk_177 (dk_at dksX1_init_1 3 rfl rfl)
abbrev cX1_begins : ByteArray := prog_14_method_2_code
def yX1_begins : MethodName := ⟨RX1, "begins", "(J)V"⟩
def dkwX1_begins_2 : List UInt8 := [132, 4, 1, 167, 255, 224, 132, 3, 1, 167, 255, 210, 177]
abbrev dktX1_begins_2 : List UInt8 := dkwX1_begins_2 ++ []
def dkwX1_begins_1 : List UInt8 := [180, 0, 12, 180, 0, 30, 29, 50, 21, 4, 29, 21, 4, 160, 0, 7, 31, 167, 0, 4, 9, 80]
abbrev dktX1_begins_1 : List UInt8 := dkwX1_begins_1 ++ dktX1_begins_2
def dkwX1_begins_0 : List UInt8 := [42, 31, 181, 0, 26, 3, 62, 29, 6, 162, 0, 47, 3, 54, 4, 21, 4, 6, 162, 0, 32, 42]
abbrev dktX1_begins_0 : List UInt8 := dkwX1_begins_0 ++ dktX1_begins_1
theorem dksX1_begins_0 : cX1_begins.data.toList.drop 0 = dktX1_begins_0 := by decide +kernel
theorem dksX1_begins_1 : cX1_begins.data.toList.drop 22 = dktX1_begins_1 := dk_seg dksX1_begins_0 22 rfl rfl
theorem dksX1_begins_2 : cX1_begins.data.toList.drop 44 = dktX1_begins_2 := dk_seg dksX1_begins_1 22 rfl rfl
theorem dX1_begins_0 : decode cX1_begins 0 = .ok (.aload_n 0, 1) := dk_42 (dk_at dksX1_begins_0 0 rfl rfl)
theorem dX1_begins_1 : decode cX1_begins 1 = .ok (.lload_n 1, 1) := dk_31 (dk_at dksX1_begins_0 1 rfl rfl)
theorem dX1_begins_2 : decode cX1_begins 2 = .ok (.putfield 26, 3) := dk_181 0 26 (dk_at dksX1_begins_0 2 rfl rfl)
theorem dX1_begins_5 : decode cX1_begins 5 = .ok (.iconst 0, 1) := dk_3 (dk_at dksX1_begins_0 5 rfl rfl)
theorem dX1_begins_6 : decode cX1_begins 6 = .ok (.istore_n 3, 1) := dk_62 (dk_at dksX1_begins_0 6 rfl rfl)
theorem dX1_begins_7 : decode cX1_begins 7 = .ok (.iload_n 3, 1) := dk_29 (dk_at dksX1_begins_0 7 rfl rfl)
theorem dX1_begins_8 : decode cX1_begins 8 = .ok (.iconst 3, 1) := dk_6 (dk_at dksX1_begins_0 8 rfl rfl)
theorem dX1_begins_9 : decode cX1_begins 9 = .ok (.if_icmp .ge 47, 3) := dk_162 0 47 (dk_at dksX1_begins_0 9 rfl rfl)
theorem dX1_begins_12 : decode cX1_begins 12 = .ok (.iconst 0, 1) := dk_3 (dk_at dksX1_begins_0 12 rfl rfl)
theorem dX1_begins_13 : decode cX1_begins 13 = .ok (.istore 4, 2) := dk_54 4 (dk_at dksX1_begins_0 13 rfl rfl)
theorem dX1_begins_15 : decode cX1_begins 15 = .ok (.iload 4, 2) := dk_21 4 (dk_at dksX1_begins_0 15 rfl rfl)
theorem dX1_begins_17 : decode cX1_begins 17 = .ok (.iconst 3, 1) := dk_6 (dk_at dksX1_begins_0 17 rfl rfl)
theorem dX1_begins_18 : decode cX1_begins 18 = .ok (.if_icmp .ge 32, 3) := dk_162 0 32 (dk_at dksX1_begins_0 18 rfl rfl)
theorem dX1_begins_21 : decode cX1_begins 21 = .ok (.aload_n 0, 1) := dk_42 (dk_at dksX1_begins_0 21 rfl rfl)
theorem dX1_begins_22 : decode cX1_begins 22 = .ok (.getfield 12, 3) := dk_180 0 12 (dk_at dksX1_begins_1 0 rfl rfl)
theorem dX1_begins_25 : decode cX1_begins 25 = .ok (.getfield 30, 3) := dk_180 0 30 (dk_at dksX1_begins_1 3 rfl rfl)
theorem dX1_begins_28 : decode cX1_begins 28 = .ok (.iload_n 3, 1) := dk_29 (dk_at dksX1_begins_1 6 rfl rfl)
theorem dX1_begins_29 : decode cX1_begins 29 = .ok (.aaload, 1) := dk_50 (dk_at dksX1_begins_1 7 rfl rfl)
theorem dX1_begins_30 : decode cX1_begins 30 = .ok (.iload 4, 2) := dk_21 4 (dk_at dksX1_begins_1 8 rfl rfl)
theorem dX1_begins_32 : decode cX1_begins 32 = .ok (.iload_n 3, 1) := dk_29 (dk_at dksX1_begins_1 10 rfl rfl)
theorem dX1_begins_33 : decode cX1_begins 33 = .ok (.iload 4, 2) := dk_21 4 (dk_at dksX1_begins_1 11 rfl rfl)
theorem dX1_begins_35 : decode cX1_begins 35 = .ok (.if_icmp .ne 7, 3) := dk_160 0 7 (dk_at dksX1_begins_1 13 rfl rfl)
theorem dX1_begins_38 : decode cX1_begins 38 = .ok (.lload_n 1, 1) := dk_31 (dk_at dksX1_begins_1 16 rfl rfl)
theorem dX1_begins_39 : decode cX1_begins 39 = .ok (.goto 4, 3) := dk_167 0 4 (dk_at dksX1_begins_1 17 rfl rfl)
theorem dX1_begins_42 : decode cX1_begins 42 = .ok (.lconst 0, 1) := dk_9 (dk_at dksX1_begins_1 20 rfl rfl)
theorem dX1_begins_43 : decode cX1_begins 43 = .ok (.lastore, 1) := dk_80 (dk_at dksX1_begins_1 21 rfl rfl)
theorem dX1_begins_44 : decode cX1_begins 44 = .ok (.iinc 4 1, 3) := dk_132 4 1 (dk_at dksX1_begins_2 0 rfl rfl)
theorem dX1_begins_47 : decode cX1_begins 47 = .ok (.goto (-32), 3) := dk_167 255 224 (dk_at dksX1_begins_2 3 rfl rfl)
theorem dX1_begins_50 : decode cX1_begins 50 = .ok (.iinc 3 1, 3) := dk_132 3 1 (dk_at dksX1_begins_2 6 rfl rfl)
theorem dX1_begins_53 : decode cX1_begins 53 = .ok (.goto (-46), 3) := dk_167 255 210 (dk_at dksX1_begins_2 9 rfl rfl)
theorem dX1_begins_56 : decode cX1_begins 56 = .ok (.return_, 1) := dk_177 (dk_at dksX1_begins_2 12 rfl rfl)
abbrev cX1_takes : ByteArray := prog_14_method_3_code
def yX1_takes : MethodName := ⟨RX1, "takes", "(JJJ)V"⟩
def dkwX1_takes_3 : List UInt8 := [132, 7, 1, 167, 255, 229, 42, 182, 0, 44, 177]
abbrev dktX1_takes_3 : List UInt8 := dkwX1_takes_3 ++ []
def dkwX1_takes_2 : List UInt8 := [6, 162, 0, 27, 42, 180, 0, 18, 21, 7, 47, 9, 148, 153, 0, 9, 42, 21, 7, 182, 0, 40]
abbrev dktX1_takes_2 : List UInt8 := dkwX1_takes_2 ++ dktX1_takes_3
def dkwX1_takes_1 : List UInt8 := [184, 0, 34, 80, 42, 180, 0, 18, 5, 22, 5, 42, 180, 0, 26, 184, 0, 34, 80, 3, 54, 7, 21, 7]
abbrev dktX1_takes_1 : List UInt8 := dkwX1_takes_1 ++ dktX1_takes_2
def dkwX1_takes_0 : List UInt8 := [42, 180, 0, 18, 3, 31, 42, 180, 0, 26, 184, 0, 34, 80, 42, 180, 0, 18, 4, 33, 42, 180, 0, 26]
abbrev dktX1_takes_0 : List UInt8 := dkwX1_takes_0 ++ dktX1_takes_1
theorem dksX1_takes_0 : cX1_takes.data.toList.drop 0 = dktX1_takes_0 := by decide +kernel
theorem dksX1_takes_1 : cX1_takes.data.toList.drop 24 = dktX1_takes_1 := dk_seg dksX1_takes_0 24 rfl rfl
theorem dksX1_takes_2 : cX1_takes.data.toList.drop 48 = dktX1_takes_2 := dk_seg dksX1_takes_1 24 rfl rfl
theorem dksX1_takes_3 : cX1_takes.data.toList.drop 70 = dktX1_takes_3 := dk_seg dksX1_takes_2 22 rfl rfl
theorem dX1_takes_0 : decode cX1_takes 0 = .ok (.aload_n 0, 1) := dk_42 (dk_at dksX1_takes_0 0 rfl rfl)
theorem dX1_takes_1 : decode cX1_takes 1 = .ok (.getfield 18, 3) := dk_180 0 18 (dk_at dksX1_takes_0 1 rfl rfl)
theorem dX1_takes_4 : decode cX1_takes 4 = .ok (.iconst 0, 1) := dk_3 (dk_at dksX1_takes_0 4 rfl rfl)
theorem dX1_takes_5 : decode cX1_takes 5 = .ok (.lload_n 1, 1) := dk_31 (dk_at dksX1_takes_0 5 rfl rfl)
theorem dX1_takes_6 : decode cX1_takes 6 = .ok (.aload_n 0, 1) := dk_42 (dk_at dksX1_takes_0 6 rfl rfl)
theorem dX1_takes_7 : decode cX1_takes 7 = .ok (.getfield 26, 3) := dk_180 0 26 (dk_at dksX1_takes_0 7 rfl rfl)
theorem dX1_takes_10 : decode cX1_takes 10 = .ok (.invokestatic 34, 3) := dk_184 0 34 (dk_at dksX1_takes_0 10 rfl rfl)
theorem dX1_takes_13 : decode cX1_takes 13 = .ok (.lastore, 1) := dk_80 (dk_at dksX1_takes_0 13 rfl rfl)
theorem dX1_takes_14 : decode cX1_takes 14 = .ok (.aload_n 0, 1) := dk_42 (dk_at dksX1_takes_0 14 rfl rfl)
theorem dX1_takes_15 : decode cX1_takes 15 = .ok (.getfield 18, 3) := dk_180 0 18 (dk_at dksX1_takes_0 15 rfl rfl)
theorem dX1_takes_18 : decode cX1_takes 18 = .ok (.iconst 1, 1) := dk_4 (dk_at dksX1_takes_0 18 rfl rfl)
theorem dX1_takes_19 : decode cX1_takes 19 = .ok (.lload_n 3, 1) := dk_33 (dk_at dksX1_takes_0 19 rfl rfl)
theorem dX1_takes_20 : decode cX1_takes 20 = .ok (.aload_n 0, 1) := dk_42 (dk_at dksX1_takes_0 20 rfl rfl)
theorem dX1_takes_21 : decode cX1_takes 21 = .ok (.getfield 26, 3) := dk_180 0 26 (dk_at dksX1_takes_0 21 rfl rfl)
theorem dX1_takes_24 : decode cX1_takes 24 = .ok (.invokestatic 34, 3) := dk_184 0 34 (dk_at dksX1_takes_1 0 rfl rfl)
theorem dX1_takes_27 : decode cX1_takes 27 = .ok (.lastore, 1) := dk_80 (dk_at dksX1_takes_1 3 rfl rfl)
theorem dX1_takes_28 : decode cX1_takes 28 = .ok (.aload_n 0, 1) := dk_42 (dk_at dksX1_takes_1 4 rfl rfl)
theorem dX1_takes_29 : decode cX1_takes 29 = .ok (.getfield 18, 3) := dk_180 0 18 (dk_at dksX1_takes_1 5 rfl rfl)
theorem dX1_takes_32 : decode cX1_takes 32 = .ok (.iconst 2, 1) := dk_5 (dk_at dksX1_takes_1 8 rfl rfl)
theorem dX1_takes_33 : decode cX1_takes 33 = .ok (.lload 5, 2) := dk_22 5 (dk_at dksX1_takes_1 9 rfl rfl)
theorem dX1_takes_35 : decode cX1_takes 35 = .ok (.aload_n 0, 1) := dk_42 (dk_at dksX1_takes_1 11 rfl rfl)
theorem dX1_takes_36 : decode cX1_takes 36 = .ok (.getfield 26, 3) := dk_180 0 26 (dk_at dksX1_takes_1 12 rfl rfl)
theorem dX1_takes_39 : decode cX1_takes 39 = .ok (.invokestatic 34, 3) := dk_184 0 34 (dk_at dksX1_takes_1 15 rfl rfl)
theorem dX1_takes_42 : decode cX1_takes 42 = .ok (.lastore, 1) := dk_80 (dk_at dksX1_takes_1 18 rfl rfl)
theorem dX1_takes_43 : decode cX1_takes 43 = .ok (.iconst 0, 1) := dk_3 (dk_at dksX1_takes_1 19 rfl rfl)
theorem dX1_takes_44 : decode cX1_takes 44 = .ok (.istore 7, 2) := dk_54 7 (dk_at dksX1_takes_1 20 rfl rfl)
theorem dX1_takes_46 : decode cX1_takes 46 = .ok (.iload 7, 2) := dk_21 7 (dk_at dksX1_takes_1 22 rfl rfl)
theorem dX1_takes_48 : decode cX1_takes 48 = .ok (.iconst 3, 1) := dk_6 (dk_at dksX1_takes_2 0 rfl rfl)
theorem dX1_takes_49 : decode cX1_takes 49 = .ok (.if_icmp .ge 27, 3) := dk_162 0 27 (dk_at dksX1_takes_2 1 rfl rfl)
theorem dX1_takes_52 : decode cX1_takes 52 = .ok (.aload_n 0, 1) := dk_42 (dk_at dksX1_takes_2 4 rfl rfl)
theorem dX1_takes_53 : decode cX1_takes 53 = .ok (.getfield 18, 3) := dk_180 0 18 (dk_at dksX1_takes_2 5 rfl rfl)
theorem dX1_takes_56 : decode cX1_takes 56 = .ok (.iload 7, 2) := dk_21 7 (dk_at dksX1_takes_2 8 rfl rfl)
theorem dX1_takes_58 : decode cX1_takes 58 = .ok (.laload, 1) := dk_47 (dk_at dksX1_takes_2 10 rfl rfl)
theorem dX1_takes_59 : decode cX1_takes 59 = .ok (.lconst 0, 1) := dk_9 (dk_at dksX1_takes_2 11 rfl rfl)
theorem dX1_takes_60 : decode cX1_takes 60 = .ok (.lcmp, 1) := dk_148 (dk_at dksX1_takes_2 12 rfl rfl)
theorem dX1_takes_61 : decode cX1_takes 61 = .ok (.ifCond .eq 9, 3) := dk_153 0 9 (dk_at dksX1_takes_2 13 rfl rfl)
theorem dX1_takes_64 : decode cX1_takes 64 = .ok (.aload_n 0, 1) := dk_42 (dk_at dksX1_takes_2 16 rfl rfl)
theorem dX1_takes_65 : decode cX1_takes 65 = .ok (.iload 7, 2) := dk_21 7 (dk_at dksX1_takes_2 17 rfl rfl)
theorem dX1_takes_67 : decode cX1_takes 67 = .ok (.invokevirtual 40, 3) := dk_182 0 40 (dk_at dksX1_takes_2 19 rfl rfl)
theorem dX1_takes_70 : decode cX1_takes 70 = .ok (.iinc 7 1, 3) := dk_132 7 1 (dk_at dksX1_takes_3 0 rfl rfl)
theorem dX1_takes_73 : decode cX1_takes 73 = .ok (.goto (-27), 3) := dk_167 255 229 (dk_at dksX1_takes_3 3 rfl rfl)
theorem dX1_takes_76 : decode cX1_takes 76 = .ok (.aload_n 0, 1) := dk_42 (dk_at dksX1_takes_3 6 rfl rfl)
theorem dX1_takes_77 : decode cX1_takes 77 = .ok (.invokevirtual 44, 3) := dk_182 0 44 (dk_at dksX1_takes_3 7 rfl rfl)
theorem dX1_takes_80 : decode cX1_takes 80 = .ok (.return_, 1) := dk_177 (dk_at dksX1_takes_3 10 rfl rfl)
abbrev cX1_joins : ByteArray := prog_14_method_5_code
def yX1_joins : MethodName := ⟨RX1, "joins", "(I)V"⟩
def dkwX1_joins_4 : List UInt8 := [184, 0, 34, 80, 132, 5, 1, 167, 255, 193, 167, 255, 165, 177]
abbrev dktX1_joins_4 : List UInt8 := dkwX1_joins_4 ++ []
def dkwX1_joins_3 : List UInt8 := [180, 0, 18, 21, 5, 21, 5, 27, 160, 0, 8, 22, 6, 167, 0, 12, 22, 6, 42, 180, 0, 26]
abbrev dktX1_joins_3 : List UInt8 := dkwX1_joins_3 ++ dktX1_joins_4
def dkwX1_joins_2 : List UInt8 := [180, 0, 18, 21, 5, 47, 105, 101, 55, 6, 44, 21, 5, 42, 180, 0, 18, 21, 5, 47, 80, 42]
abbrev dktX1_joins_2 : List UInt8 := dkwX1_joins_2 ++ dktX1_joins_3
def dkwX1_joins_1 : List UInt8 := [42, 180, 0, 18, 27, 47, 109, 66, 27, 54, 5, 21, 5, 6, 162, 0, 63, 44, 21, 5, 47, 33, 42]
abbrev dktX1_joins_1 : List UInt8 := dkwX1_joins_1 ++ dktX1_joins_2
def dkwX1_joins_0 : List UInt8 := [42, 180, 0, 12, 180, 0, 30, 27, 50, 77, 42, 180, 0, 18, 27, 47, 9, 148, 153, 0, 86, 44, 27, 47]
abbrev dktX1_joins_0 : List UInt8 := dkwX1_joins_0 ++ dktX1_joins_1
theorem dksX1_joins_0 : cX1_joins.data.toList.drop 0 = dktX1_joins_0 := by decide +kernel
theorem dksX1_joins_1 : cX1_joins.data.toList.drop 24 = dktX1_joins_1 := dk_seg dksX1_joins_0 24 rfl rfl
theorem dksX1_joins_2 : cX1_joins.data.toList.drop 47 = dktX1_joins_2 := dk_seg dksX1_joins_1 23 rfl rfl
theorem dksX1_joins_3 : cX1_joins.data.toList.drop 69 = dktX1_joins_3 := dk_seg dksX1_joins_2 22 rfl rfl
theorem dksX1_joins_4 : cX1_joins.data.toList.drop 91 = dktX1_joins_4 := dk_seg dksX1_joins_3 22 rfl rfl
theorem dX1_joins_0 : decode cX1_joins 0 = .ok (.aload_n 0, 1) := dk_42 (dk_at dksX1_joins_0 0 rfl rfl)
theorem dX1_joins_1 : decode cX1_joins 1 = .ok (.getfield 12, 3) := dk_180 0 12 (dk_at dksX1_joins_0 1 rfl rfl)
theorem dX1_joins_4 : decode cX1_joins 4 = .ok (.getfield 30, 3) := dk_180 0 30 (dk_at dksX1_joins_0 4 rfl rfl)
theorem dX1_joins_7 : decode cX1_joins 7 = .ok (.iload_n 1, 1) := dk_27 (dk_at dksX1_joins_0 7 rfl rfl)
theorem dX1_joins_8 : decode cX1_joins 8 = .ok (.aaload, 1) := dk_50 (dk_at dksX1_joins_0 8 rfl rfl)
theorem dX1_joins_9 : decode cX1_joins 9 = .ok (.astore_n 2, 1) := dk_77 (dk_at dksX1_joins_0 9 rfl rfl)
theorem dX1_joins_10 : decode cX1_joins 10 = .ok (.aload_n 0, 1) := dk_42 (dk_at dksX1_joins_0 10 rfl rfl)
theorem dX1_joins_11 : decode cX1_joins 11 = .ok (.getfield 18, 3) := dk_180 0 18 (dk_at dksX1_joins_0 11 rfl rfl)
theorem dX1_joins_14 : decode cX1_joins 14 = .ok (.iload_n 1, 1) := dk_27 (dk_at dksX1_joins_0 14 rfl rfl)
theorem dX1_joins_15 : decode cX1_joins 15 = .ok (.laload, 1) := dk_47 (dk_at dksX1_joins_0 15 rfl rfl)
theorem dX1_joins_16 : decode cX1_joins 16 = .ok (.lconst 0, 1) := dk_9 (dk_at dksX1_joins_0 16 rfl rfl)
theorem dX1_joins_17 : decode cX1_joins 17 = .ok (.lcmp, 1) := dk_148 (dk_at dksX1_joins_0 17 rfl rfl)
theorem dX1_joins_18 : decode cX1_joins 18 = .ok (.ifCond .eq 86, 3) := dk_153 0 86 (dk_at dksX1_joins_0 18 rfl rfl)
theorem dX1_joins_21 : decode cX1_joins 21 = .ok (.aload_n 2, 1) := dk_44 (dk_at dksX1_joins_0 21 rfl rfl)
theorem dX1_joins_22 : decode cX1_joins 22 = .ok (.iload_n 1, 1) := dk_27 (dk_at dksX1_joins_0 22 rfl rfl)
theorem dX1_joins_23 : decode cX1_joins 23 = .ok (.laload, 1) := dk_47 (dk_at dksX1_joins_0 23 rfl rfl)
theorem dX1_joins_24 : decode cX1_joins 24 = .ok (.aload_n 0, 1) := dk_42 (dk_at dksX1_joins_1 0 rfl rfl)
theorem dX1_joins_25 : decode cX1_joins 25 = .ok (.getfield 18, 3) := dk_180 0 18 (dk_at dksX1_joins_1 1 rfl rfl)
theorem dX1_joins_28 : decode cX1_joins 28 = .ok (.iload_n 1, 1) := dk_27 (dk_at dksX1_joins_1 4 rfl rfl)
theorem dX1_joins_29 : decode cX1_joins 29 = .ok (.laload, 1) := dk_47 (dk_at dksX1_joins_1 5 rfl rfl)
theorem dX1_joins_30 : decode cX1_joins 30 = .ok (.ldiv, 1) := dk_109 (dk_at dksX1_joins_1 6 rfl rfl)
theorem dX1_joins_31 : decode cX1_joins 31 = .ok (.lstore_n 3, 1) := dk_66 (dk_at dksX1_joins_1 7 rfl rfl)
theorem dX1_joins_32 : decode cX1_joins 32 = .ok (.iload_n 1, 1) := dk_27 (dk_at dksX1_joins_1 8 rfl rfl)
theorem dX1_joins_33 : decode cX1_joins 33 = .ok (.istore 5, 2) := dk_54 5 (dk_at dksX1_joins_1 9 rfl rfl)
theorem dX1_joins_35 : decode cX1_joins 35 = .ok (.iload 5, 2) := dk_21 5 (dk_at dksX1_joins_1 11 rfl rfl)
theorem dX1_joins_37 : decode cX1_joins 37 = .ok (.iconst 3, 1) := dk_6 (dk_at dksX1_joins_1 13 rfl rfl)
theorem dX1_joins_38 : decode cX1_joins 38 = .ok (.if_icmp .ge 63, 3) := dk_162 0 63 (dk_at dksX1_joins_1 14 rfl rfl)
theorem dX1_joins_41 : decode cX1_joins 41 = .ok (.aload_n 2, 1) := dk_44 (dk_at dksX1_joins_1 17 rfl rfl)
theorem dX1_joins_42 : decode cX1_joins 42 = .ok (.iload 5, 2) := dk_21 5 (dk_at dksX1_joins_1 18 rfl rfl)
theorem dX1_joins_44 : decode cX1_joins 44 = .ok (.laload, 1) := dk_47 (dk_at dksX1_joins_1 20 rfl rfl)
theorem dX1_joins_45 : decode cX1_joins 45 = .ok (.lload_n 3, 1) := dk_33 (dk_at dksX1_joins_1 21 rfl rfl)
theorem dX1_joins_46 : decode cX1_joins 46 = .ok (.aload_n 0, 1) := dk_42 (dk_at dksX1_joins_1 22 rfl rfl)
theorem dX1_joins_47 : decode cX1_joins 47 = .ok (.getfield 18, 3) := dk_180 0 18 (dk_at dksX1_joins_2 0 rfl rfl)
theorem dX1_joins_50 : decode cX1_joins 50 = .ok (.iload 5, 2) := dk_21 5 (dk_at dksX1_joins_2 3 rfl rfl)
theorem dX1_joins_52 : decode cX1_joins 52 = .ok (.laload, 1) := dk_47 (dk_at dksX1_joins_2 5 rfl rfl)
theorem dX1_joins_53 : decode cX1_joins 53 = .ok (.lmul, 1) := dk_105 (dk_at dksX1_joins_2 6 rfl rfl)
theorem dX1_joins_54 : decode cX1_joins 54 = .ok (.lsub, 1) := dk_101 (dk_at dksX1_joins_2 7 rfl rfl)
theorem dX1_joins_55 : decode cX1_joins 55 = .ok (.lstore 6, 2) := dk_55 6 (dk_at dksX1_joins_2 8 rfl rfl)
theorem dX1_joins_57 : decode cX1_joins 57 = .ok (.aload_n 2, 1) := dk_44 (dk_at dksX1_joins_2 10 rfl rfl)
theorem dX1_joins_58 : decode cX1_joins 58 = .ok (.iload 5, 2) := dk_21 5 (dk_at dksX1_joins_2 11 rfl rfl)
theorem dX1_joins_60 : decode cX1_joins 60 = .ok (.aload_n 0, 1) := dk_42 (dk_at dksX1_joins_2 13 rfl rfl)
theorem dX1_joins_61 : decode cX1_joins 61 = .ok (.getfield 18, 3) := dk_180 0 18 (dk_at dksX1_joins_2 14 rfl rfl)
theorem dX1_joins_64 : decode cX1_joins 64 = .ok (.iload 5, 2) := dk_21 5 (dk_at dksX1_joins_2 17 rfl rfl)
theorem dX1_joins_66 : decode cX1_joins 66 = .ok (.laload, 1) := dk_47 (dk_at dksX1_joins_2 19 rfl rfl)
theorem dX1_joins_67 : decode cX1_joins 67 = .ok (.lastore, 1) := dk_80 (dk_at dksX1_joins_2 20 rfl rfl)
theorem dX1_joins_68 : decode cX1_joins 68 = .ok (.aload_n 0, 1) := dk_42 (dk_at dksX1_joins_2 21 rfl rfl)
theorem dX1_joins_69 : decode cX1_joins 69 = .ok (.getfield 18, 3) := dk_180 0 18 (dk_at dksX1_joins_3 0 rfl rfl)
theorem dX1_joins_72 : decode cX1_joins 72 = .ok (.iload 5, 2) := dk_21 5 (dk_at dksX1_joins_3 3 rfl rfl)
theorem dX1_joins_74 : decode cX1_joins 74 = .ok (.iload 5, 2) := dk_21 5 (dk_at dksX1_joins_3 5 rfl rfl)
theorem dX1_joins_76 : decode cX1_joins 76 = .ok (.iload_n 1, 1) := dk_27 (dk_at dksX1_joins_3 7 rfl rfl)
theorem dX1_joins_77 : decode cX1_joins 77 = .ok (.if_icmp .ne 8, 3) := dk_160 0 8 (dk_at dksX1_joins_3 8 rfl rfl)
theorem dX1_joins_80 : decode cX1_joins 80 = .ok (.lload 6, 2) := dk_22 6 (dk_at dksX1_joins_3 11 rfl rfl)
theorem dX1_joins_82 : decode cX1_joins 82 = .ok (.goto 12, 3) := dk_167 0 12 (dk_at dksX1_joins_3 13 rfl rfl)
theorem dX1_joins_85 : decode cX1_joins 85 = .ok (.lload 6, 2) := dk_22 6 (dk_at dksX1_joins_3 16 rfl rfl)
theorem dX1_joins_87 : decode cX1_joins 87 = .ok (.aload_n 0, 1) := dk_42 (dk_at dksX1_joins_3 18 rfl rfl)
theorem dX1_joins_88 : decode cX1_joins 88 = .ok (.getfield 26, 3) := dk_180 0 26 (dk_at dksX1_joins_3 19 rfl rfl)
theorem dX1_joins_91 : decode cX1_joins 91 = .ok (.invokestatic 34, 3) := dk_184 0 34 (dk_at dksX1_joins_4 0 rfl rfl)
theorem dX1_joins_94 : decode cX1_joins 94 = .ok (.lastore, 1) := dk_80 (dk_at dksX1_joins_4 3 rfl rfl)
theorem dX1_joins_95 : decode cX1_joins 95 = .ok (.iinc 5 1, 3) := dk_132 5 1 (dk_at dksX1_joins_4 4 rfl rfl)
theorem dX1_joins_98 : decode cX1_joins 98 = .ok (.goto (-63), 3) := dk_167 255 193 (dk_at dksX1_joins_4 7 rfl rfl)
theorem dX1_joins_101 : decode cX1_joins 101 = .ok (.goto (-91), 3) := dk_167 255 165 (dk_at dksX1_joins_4 10 rfl rfl)
theorem dX1_joins_104 : decode cX1_joins 104 = .ok (.return_, 1) := dk_177 (dk_at dksX1_joins_4 13 rfl rfl)
abbrev cX1_orders : ByteArray := prog_14_method_6_code
def yX1_orders : MethodName := ⟨RX1, "orders", "()V"⟩
def dkwX1_orders_4 : List UInt8 := [167, 255, 165, 177]
abbrev dktX1_orders_4 : List UInt8 := dkwX1_orders_4 ++ []
def dkwX1_orders_3 : List UInt8 := [27, 50, 21, 5, 47, 105, 101, 80, 132, 5, 1, 167, 255, 218, 132, 2, 1, 167, 255, 178, 132, 1, 1]
abbrev dktX1_orders_3 : List UInt8 := dkwX1_orders_3 ++ dktX1_orders_4
def dkwX1_orders_2 : List UInt8 := [162, 0, 38, 42, 180, 0, 12, 180, 0, 30, 28, 50, 21, 5, 92, 47, 33, 42, 180, 0, 12, 180, 0, 30]
abbrev dktX1_orders_2 : List UInt8 := dkwX1_orders_2 ++ dktX1_orders_3
def dkwX1_orders_1 : List UInt8 := [47, 42, 180, 0, 12, 180, 0, 30, 27, 50, 27, 47, 184, 0, 51, 66, 27, 54, 5, 21, 5, 6]
abbrev dktX1_orders_1 : List UInt8 := dkwX1_orders_1 ++ dktX1_orders_2
def dkwX1_orders_0 : List UInt8 := [3, 60, 27, 6, 162, 0, 92, 3, 61, 28, 27, 162, 0, 79, 42, 180, 0, 12, 180, 0, 30, 28, 50, 27]
abbrev dktX1_orders_0 : List UInt8 := dkwX1_orders_0 ++ dktX1_orders_1
theorem dksX1_orders_0 : cX1_orders.data.toList.drop 0 = dktX1_orders_0 := by decide +kernel
theorem dksX1_orders_1 : cX1_orders.data.toList.drop 24 = dktX1_orders_1 := dk_seg dksX1_orders_0 24 rfl rfl
theorem dksX1_orders_2 : cX1_orders.data.toList.drop 46 = dktX1_orders_2 := dk_seg dksX1_orders_1 22 rfl rfl
theorem dksX1_orders_3 : cX1_orders.data.toList.drop 70 = dktX1_orders_3 := dk_seg dksX1_orders_2 24 rfl rfl
theorem dksX1_orders_4 : cX1_orders.data.toList.drop 93 = dktX1_orders_4 := dk_seg dksX1_orders_3 23 rfl rfl
theorem dX1_orders_0 : decode cX1_orders 0 = .ok (.iconst 0, 1) := dk_3 (dk_at dksX1_orders_0 0 rfl rfl)
theorem dX1_orders_1 : decode cX1_orders 1 = .ok (.istore_n 1, 1) := dk_60 (dk_at dksX1_orders_0 1 rfl rfl)
theorem dX1_orders_2 : decode cX1_orders 2 = .ok (.iload_n 1, 1) := dk_27 (dk_at dksX1_orders_0 2 rfl rfl)
theorem dX1_orders_3 : decode cX1_orders 3 = .ok (.iconst 3, 1) := dk_6 (dk_at dksX1_orders_0 3 rfl rfl)
theorem dX1_orders_4 : decode cX1_orders 4 = .ok (.if_icmp .ge 92, 3) := dk_162 0 92 (dk_at dksX1_orders_0 4 rfl rfl)
theorem dX1_orders_7 : decode cX1_orders 7 = .ok (.iconst 0, 1) := dk_3 (dk_at dksX1_orders_0 7 rfl rfl)
theorem dX1_orders_8 : decode cX1_orders 8 = .ok (.istore_n 2, 1) := dk_61 (dk_at dksX1_orders_0 8 rfl rfl)
theorem dX1_orders_9 : decode cX1_orders 9 = .ok (.iload_n 2, 1) := dk_28 (dk_at dksX1_orders_0 9 rfl rfl)
theorem dX1_orders_10 : decode cX1_orders 10 = .ok (.iload_n 1, 1) := dk_27 (dk_at dksX1_orders_0 10 rfl rfl)
theorem dX1_orders_11 : decode cX1_orders 11 = .ok (.if_icmp .ge 79, 3) := dk_162 0 79 (dk_at dksX1_orders_0 11 rfl rfl)
theorem dX1_orders_14 : decode cX1_orders 14 = .ok (.aload_n 0, 1) := dk_42 (dk_at dksX1_orders_0 14 rfl rfl)
theorem dX1_orders_15 : decode cX1_orders 15 = .ok (.getfield 12, 3) := dk_180 0 12 (dk_at dksX1_orders_0 15 rfl rfl)
theorem dX1_orders_18 : decode cX1_orders 18 = .ok (.getfield 30, 3) := dk_180 0 30 (dk_at dksX1_orders_0 18 rfl rfl)
theorem dX1_orders_21 : decode cX1_orders 21 = .ok (.iload_n 2, 1) := dk_28 (dk_at dksX1_orders_0 21 rfl rfl)
theorem dX1_orders_22 : decode cX1_orders 22 = .ok (.aaload, 1) := dk_50 (dk_at dksX1_orders_0 22 rfl rfl)
theorem dX1_orders_23 : decode cX1_orders 23 = .ok (.iload_n 1, 1) := dk_27 (dk_at dksX1_orders_0 23 rfl rfl)
theorem dX1_orders_24 : decode cX1_orders 24 = .ok (.laload, 1) := dk_47 (dk_at dksX1_orders_1 0 rfl rfl)
theorem dX1_orders_25 : decode cX1_orders 25 = .ok (.aload_n 0, 1) := dk_42 (dk_at dksX1_orders_1 1 rfl rfl)
theorem dX1_orders_26 : decode cX1_orders 26 = .ok (.getfield 12, 3) := dk_180 0 12 (dk_at dksX1_orders_1 2 rfl rfl)
theorem dX1_orders_29 : decode cX1_orders 29 = .ok (.getfield 30, 3) := dk_180 0 30 (dk_at dksX1_orders_1 5 rfl rfl)
theorem dX1_orders_32 : decode cX1_orders 32 = .ok (.iload_n 1, 1) := dk_27 (dk_at dksX1_orders_1 8 rfl rfl)
theorem dX1_orders_33 : decode cX1_orders 33 = .ok (.aaload, 1) := dk_50 (dk_at dksX1_orders_1 9 rfl rfl)
theorem dX1_orders_34 : decode cX1_orders 34 = .ok (.iload_n 1, 1) := dk_27 (dk_at dksX1_orders_1 10 rfl rfl)
theorem dX1_orders_35 : decode cX1_orders 35 = .ok (.laload, 1) := dk_47 (dk_at dksX1_orders_1 11 rfl rfl)
theorem dX1_orders_36 : decode cX1_orders 36 = .ok (.invokestatic 51, 3) := dk_184 0 51 (dk_at dksX1_orders_1 12 rfl rfl)
theorem dX1_orders_39 : decode cX1_orders 39 = .ok (.lstore_n 3, 1) := dk_66 (dk_at dksX1_orders_1 15 rfl rfl)
theorem dX1_orders_40 : decode cX1_orders 40 = .ok (.iload_n 1, 1) := dk_27 (dk_at dksX1_orders_1 16 rfl rfl)
theorem dX1_orders_41 : decode cX1_orders 41 = .ok (.istore 5, 2) := dk_54 5 (dk_at dksX1_orders_1 17 rfl rfl)
theorem dX1_orders_43 : decode cX1_orders 43 = .ok (.iload 5, 2) := dk_21 5 (dk_at dksX1_orders_1 19 rfl rfl)
theorem dX1_orders_45 : decode cX1_orders 45 = .ok (.iconst 3, 1) := dk_6 (dk_at dksX1_orders_1 21 rfl rfl)
theorem dX1_orders_46 : decode cX1_orders 46 = .ok (.if_icmp .ge 38, 3) := dk_162 0 38 (dk_at dksX1_orders_2 0 rfl rfl)
theorem dX1_orders_49 : decode cX1_orders 49 = .ok (.aload_n 0, 1) := dk_42 (dk_at dksX1_orders_2 3 rfl rfl)
theorem dX1_orders_50 : decode cX1_orders 50 = .ok (.getfield 12, 3) := dk_180 0 12 (dk_at dksX1_orders_2 4 rfl rfl)
theorem dX1_orders_53 : decode cX1_orders 53 = .ok (.getfield 30, 3) := dk_180 0 30 (dk_at dksX1_orders_2 7 rfl rfl)
theorem dX1_orders_56 : decode cX1_orders 56 = .ok (.iload_n 2, 1) := dk_28 (dk_at dksX1_orders_2 10 rfl rfl)
theorem dX1_orders_57 : decode cX1_orders 57 = .ok (.aaload, 1) := dk_50 (dk_at dksX1_orders_2 11 rfl rfl)
theorem dX1_orders_58 : decode cX1_orders 58 = .ok (.iload 5, 2) := dk_21 5 (dk_at dksX1_orders_2 12 rfl rfl)
theorem dX1_orders_60 : decode cX1_orders 60 = .ok (.dup2, 1) := dk_92 (dk_at dksX1_orders_2 14 rfl rfl)
theorem dX1_orders_61 : decode cX1_orders 61 = .ok (.laload, 1) := dk_47 (dk_at dksX1_orders_2 15 rfl rfl)
theorem dX1_orders_62 : decode cX1_orders 62 = .ok (.lload_n 3, 1) := dk_33 (dk_at dksX1_orders_2 16 rfl rfl)
theorem dX1_orders_63 : decode cX1_orders 63 = .ok (.aload_n 0, 1) := dk_42 (dk_at dksX1_orders_2 17 rfl rfl)
theorem dX1_orders_64 : decode cX1_orders 64 = .ok (.getfield 12, 3) := dk_180 0 12 (dk_at dksX1_orders_2 18 rfl rfl)
theorem dX1_orders_67 : decode cX1_orders 67 = .ok (.getfield 30, 3) := dk_180 0 30 (dk_at dksX1_orders_2 21 rfl rfl)
theorem dX1_orders_70 : decode cX1_orders 70 = .ok (.iload_n 1, 1) := dk_27 (dk_at dksX1_orders_3 0 rfl rfl)
theorem dX1_orders_71 : decode cX1_orders 71 = .ok (.aaload, 1) := dk_50 (dk_at dksX1_orders_3 1 rfl rfl)
theorem dX1_orders_72 : decode cX1_orders 72 = .ok (.iload 5, 2) := dk_21 5 (dk_at dksX1_orders_3 2 rfl rfl)
theorem dX1_orders_74 : decode cX1_orders 74 = .ok (.laload, 1) := dk_47 (dk_at dksX1_orders_3 4 rfl rfl)
theorem dX1_orders_75 : decode cX1_orders 75 = .ok (.lmul, 1) := dk_105 (dk_at dksX1_orders_3 5 rfl rfl)
theorem dX1_orders_76 : decode cX1_orders 76 = .ok (.lsub, 1) := dk_101 (dk_at dksX1_orders_3 6 rfl rfl)
theorem dX1_orders_77 : decode cX1_orders 77 = .ok (.lastore, 1) := dk_80 (dk_at dksX1_orders_3 7 rfl rfl)
theorem dX1_orders_78 : decode cX1_orders 78 = .ok (.iinc 5 1, 3) := dk_132 5 1 (dk_at dksX1_orders_3 8 rfl rfl)
theorem dX1_orders_81 : decode cX1_orders 81 = .ok (.goto (-38), 3) := dk_167 255 218 (dk_at dksX1_orders_3 11 rfl rfl)
theorem dX1_orders_84 : decode cX1_orders 84 = .ok (.iinc 2 1, 3) := dk_132 2 1 (dk_at dksX1_orders_3 14 rfl rfl)
theorem dX1_orders_87 : decode cX1_orders 87 = .ok (.goto (-78), 3) := dk_167 255 178 (dk_at dksX1_orders_3 17 rfl rfl)
theorem dX1_orders_90 : decode cX1_orders 90 = .ok (.iinc 1 1, 3) := dk_132 1 1 (dk_at dksX1_orders_3 20 rfl rfl)
theorem dX1_orders_93 : decode cX1_orders 93 = .ok (.goto (-91), 3) := dk_167 255 165 (dk_at dksX1_orders_4 0 rfl rfl)
theorem dX1_orders_96 : decode cX1_orders 96 = .ok (.return_, 1) := dk_177 (dk_at dksX1_orders_4 3 rfl rfl)
abbrev cX1_dual : ByteArray := prog_14_method_7_code
def yX1_dual : MethodName := ⟨RX1, "dual", "()LCoincideBench$Rows;"⟩
def dkwX1_dual_5 : List UInt8 := [109, 80, 132, 3, 1, 167, 255, 180, 132, 2, 1, 167, 255, 141, 43, 176]
abbrev dktX1_dual_5 : List UInt8 := dkwX1_dual_5 ++ []
def dkwX1_dual_4 : List UInt8 := [167, 255, 220, 43, 180, 0, 30, 28, 50, 29, 22, 4, 117, 42, 180, 0, 12, 180, 0, 30, 29, 50, 29, 47]
abbrev dktX1_dual_4 : List UInt8 := dkwX1_dual_4 ++ dktX1_dual_5
def dkwX1_dual_3 : List UInt8 := [21, 6, 47, 42, 180, 0, 12, 180, 0, 30, 21, 6, 50, 29, 47, 105, 97, 55, 4, 132, 6, 1]
abbrev dktX1_dual_3 : List UInt8 := dkwX1_dual_3 ++ dktX1_dual_4
def dkwX1_dual_2 : List UInt8 := [162, 0, 77, 9, 55, 4, 28, 54, 6, 21, 6, 29, 162, 0, 36, 22, 4, 43, 180, 0, 30, 28, 50]
abbrev dktX1_dual_2 : List UInt8 := dkwX1_dual_2 ++ dktX1_dual_3
def dkwX1_dual_1 : List UInt8 := [180, 0, 26, 42, 180, 0, 12, 180, 0, 30, 28, 50, 28, 47, 109, 80, 28, 4, 96, 62, 29, 6]
abbrev dktX1_dual_1 : List UInt8 := dkwX1_dual_1 ++ dktX1_dual_2
def dkwX1_dual_0 : List UInt8 := [187, 0, 9, 89, 183, 0, 11, 76, 3, 61, 28, 6, 162, 0, 116, 43, 180, 0, 30, 28, 50, 28, 42]
abbrev dktX1_dual_0 : List UInt8 := dkwX1_dual_0 ++ dktX1_dual_1
theorem dksX1_dual_0 : cX1_dual.data.toList.drop 0 = dktX1_dual_0 := by decide +kernel
theorem dksX1_dual_1 : cX1_dual.data.toList.drop 23 = dktX1_dual_1 := dk_seg dksX1_dual_0 23 rfl rfl
theorem dksX1_dual_2 : cX1_dual.data.toList.drop 45 = dktX1_dual_2 := dk_seg dksX1_dual_1 22 rfl rfl
theorem dksX1_dual_3 : cX1_dual.data.toList.drop 68 = dktX1_dual_3 := dk_seg dksX1_dual_2 23 rfl rfl
theorem dksX1_dual_4 : cX1_dual.data.toList.drop 90 = dktX1_dual_4 := dk_seg dksX1_dual_3 22 rfl rfl
theorem dksX1_dual_5 : cX1_dual.data.toList.drop 114 = dktX1_dual_5 := dk_seg dksX1_dual_4 24 rfl rfl
theorem dX1_dual_0 : decode cX1_dual 0 = .ok (.new 9, 3) := dk_187 0 9 (dk_at dksX1_dual_0 0 rfl rfl)
theorem dX1_dual_3 : decode cX1_dual 3 = .ok (.dup, 1) := dk_89 (dk_at dksX1_dual_0 3 rfl rfl)
theorem dX1_dual_4 : decode cX1_dual 4 = .ok (.invokespecial 11, 3) := dk_183 0 11 (dk_at dksX1_dual_0 4 rfl rfl)
theorem dX1_dual_7 : decode cX1_dual 7 = .ok (.astore_n 1, 1) := dk_76 (dk_at dksX1_dual_0 7 rfl rfl)
theorem dX1_dual_8 : decode cX1_dual 8 = .ok (.iconst 0, 1) := dk_3 (dk_at dksX1_dual_0 8 rfl rfl)
theorem dX1_dual_9 : decode cX1_dual 9 = .ok (.istore_n 2, 1) := dk_61 (dk_at dksX1_dual_0 9 rfl rfl)
theorem dX1_dual_10 : decode cX1_dual 10 = .ok (.iload_n 2, 1) := dk_28 (dk_at dksX1_dual_0 10 rfl rfl)
theorem dX1_dual_11 : decode cX1_dual 11 = .ok (.iconst 3, 1) := dk_6 (dk_at dksX1_dual_0 11 rfl rfl)
theorem dX1_dual_12 : decode cX1_dual 12 = .ok (.if_icmp .ge 116, 3) := dk_162 0 116 (dk_at dksX1_dual_0 12 rfl rfl)
theorem dX1_dual_15 : decode cX1_dual 15 = .ok (.aload_n 1, 1) := dk_43 (dk_at dksX1_dual_0 15 rfl rfl)
theorem dX1_dual_16 : decode cX1_dual 16 = .ok (.getfield 30, 3) := dk_180 0 30 (dk_at dksX1_dual_0 16 rfl rfl)
theorem dX1_dual_19 : decode cX1_dual 19 = .ok (.iload_n 2, 1) := dk_28 (dk_at dksX1_dual_0 19 rfl rfl)
theorem dX1_dual_20 : decode cX1_dual 20 = .ok (.aaload, 1) := dk_50 (dk_at dksX1_dual_0 20 rfl rfl)
theorem dX1_dual_21 : decode cX1_dual 21 = .ok (.iload_n 2, 1) := dk_28 (dk_at dksX1_dual_0 21 rfl rfl)
theorem dX1_dual_22 : decode cX1_dual 22 = .ok (.aload_n 0, 1) := dk_42 (dk_at dksX1_dual_0 22 rfl rfl)
theorem dX1_dual_23 : decode cX1_dual 23 = .ok (.getfield 26, 3) := dk_180 0 26 (dk_at dksX1_dual_1 0 rfl rfl)
theorem dX1_dual_26 : decode cX1_dual 26 = .ok (.aload_n 0, 1) := dk_42 (dk_at dksX1_dual_1 3 rfl rfl)
theorem dX1_dual_27 : decode cX1_dual 27 = .ok (.getfield 12, 3) := dk_180 0 12 (dk_at dksX1_dual_1 4 rfl rfl)
theorem dX1_dual_30 : decode cX1_dual 30 = .ok (.getfield 30, 3) := dk_180 0 30 (dk_at dksX1_dual_1 7 rfl rfl)
theorem dX1_dual_33 : decode cX1_dual 33 = .ok (.iload_n 2, 1) := dk_28 (dk_at dksX1_dual_1 10 rfl rfl)
theorem dX1_dual_34 : decode cX1_dual 34 = .ok (.aaload, 1) := dk_50 (dk_at dksX1_dual_1 11 rfl rfl)
theorem dX1_dual_35 : decode cX1_dual 35 = .ok (.iload_n 2, 1) := dk_28 (dk_at dksX1_dual_1 12 rfl rfl)
theorem dX1_dual_36 : decode cX1_dual 36 = .ok (.laload, 1) := dk_47 (dk_at dksX1_dual_1 13 rfl rfl)
theorem dX1_dual_37 : decode cX1_dual 37 = .ok (.ldiv, 1) := dk_109 (dk_at dksX1_dual_1 14 rfl rfl)
theorem dX1_dual_38 : decode cX1_dual 38 = .ok (.lastore, 1) := dk_80 (dk_at dksX1_dual_1 15 rfl rfl)
theorem dX1_dual_39 : decode cX1_dual 39 = .ok (.iload_n 2, 1) := dk_28 (dk_at dksX1_dual_1 16 rfl rfl)
theorem dX1_dual_40 : decode cX1_dual 40 = .ok (.iconst 1, 1) := dk_4 (dk_at dksX1_dual_1 17 rfl rfl)
theorem dX1_dual_41 : decode cX1_dual 41 = .ok (.iadd, 1) := dk_96 (dk_at dksX1_dual_1 18 rfl rfl)
theorem dX1_dual_42 : decode cX1_dual 42 = .ok (.istore_n 3, 1) := dk_62 (dk_at dksX1_dual_1 19 rfl rfl)
theorem dX1_dual_43 : decode cX1_dual 43 = .ok (.iload_n 3, 1) := dk_29 (dk_at dksX1_dual_1 20 rfl rfl)
theorem dX1_dual_44 : decode cX1_dual 44 = .ok (.iconst 3, 1) := dk_6 (dk_at dksX1_dual_1 21 rfl rfl)
theorem dX1_dual_45 : decode cX1_dual 45 = .ok (.if_icmp .ge 77, 3) := dk_162 0 77 (dk_at dksX1_dual_2 0 rfl rfl)
theorem dX1_dual_48 : decode cX1_dual 48 = .ok (.lconst 0, 1) := dk_9 (dk_at dksX1_dual_2 3 rfl rfl)
theorem dX1_dual_49 : decode cX1_dual 49 = .ok (.lstore 4, 2) := dk_55 4 (dk_at dksX1_dual_2 4 rfl rfl)
theorem dX1_dual_51 : decode cX1_dual 51 = .ok (.iload_n 2, 1) := dk_28 (dk_at dksX1_dual_2 6 rfl rfl)
theorem dX1_dual_52 : decode cX1_dual 52 = .ok (.istore 6, 2) := dk_54 6 (dk_at dksX1_dual_2 7 rfl rfl)
theorem dX1_dual_54 : decode cX1_dual 54 = .ok (.iload 6, 2) := dk_21 6 (dk_at dksX1_dual_2 9 rfl rfl)
theorem dX1_dual_56 : decode cX1_dual 56 = .ok (.iload_n 3, 1) := dk_29 (dk_at dksX1_dual_2 11 rfl rfl)
theorem dX1_dual_57 : decode cX1_dual 57 = .ok (.if_icmp .ge 36, 3) := dk_162 0 36 (dk_at dksX1_dual_2 12 rfl rfl)
theorem dX1_dual_60 : decode cX1_dual 60 = .ok (.lload 4, 2) := dk_22 4 (dk_at dksX1_dual_2 15 rfl rfl)
theorem dX1_dual_62 : decode cX1_dual 62 = .ok (.aload_n 1, 1) := dk_43 (dk_at dksX1_dual_2 17 rfl rfl)
theorem dX1_dual_63 : decode cX1_dual 63 = .ok (.getfield 30, 3) := dk_180 0 30 (dk_at dksX1_dual_2 18 rfl rfl)
theorem dX1_dual_66 : decode cX1_dual 66 = .ok (.iload_n 2, 1) := dk_28 (dk_at dksX1_dual_2 21 rfl rfl)
theorem dX1_dual_67 : decode cX1_dual 67 = .ok (.aaload, 1) := dk_50 (dk_at dksX1_dual_2 22 rfl rfl)
theorem dX1_dual_68 : decode cX1_dual 68 = .ok (.iload 6, 2) := dk_21 6 (dk_at dksX1_dual_3 0 rfl rfl)
theorem dX1_dual_70 : decode cX1_dual 70 = .ok (.laload, 1) := dk_47 (dk_at dksX1_dual_3 2 rfl rfl)
theorem dX1_dual_71 : decode cX1_dual 71 = .ok (.aload_n 0, 1) := dk_42 (dk_at dksX1_dual_3 3 rfl rfl)
theorem dX1_dual_72 : decode cX1_dual 72 = .ok (.getfield 12, 3) := dk_180 0 12 (dk_at dksX1_dual_3 4 rfl rfl)
theorem dX1_dual_75 : decode cX1_dual 75 = .ok (.getfield 30, 3) := dk_180 0 30 (dk_at dksX1_dual_3 7 rfl rfl)
theorem dX1_dual_78 : decode cX1_dual 78 = .ok (.iload 6, 2) := dk_21 6 (dk_at dksX1_dual_3 10 rfl rfl)
theorem dX1_dual_80 : decode cX1_dual 80 = .ok (.aaload, 1) := dk_50 (dk_at dksX1_dual_3 12 rfl rfl)
theorem dX1_dual_81 : decode cX1_dual 81 = .ok (.iload_n 3, 1) := dk_29 (dk_at dksX1_dual_3 13 rfl rfl)
theorem dX1_dual_82 : decode cX1_dual 82 = .ok (.laload, 1) := dk_47 (dk_at dksX1_dual_3 14 rfl rfl)
theorem dX1_dual_83 : decode cX1_dual 83 = .ok (.lmul, 1) := dk_105 (dk_at dksX1_dual_3 15 rfl rfl)
theorem dX1_dual_84 : decode cX1_dual 84 = .ok (.ladd, 1) := dk_97 (dk_at dksX1_dual_3 16 rfl rfl)
theorem dX1_dual_85 : decode cX1_dual 85 = .ok (.lstore 4, 2) := dk_55 4 (dk_at dksX1_dual_3 17 rfl rfl)
theorem dX1_dual_87 : decode cX1_dual 87 = .ok (.iinc 6 1, 3) := dk_132 6 1 (dk_at dksX1_dual_3 19 rfl rfl)
theorem dX1_dual_90 : decode cX1_dual 90 = .ok (.goto (-36), 3) := dk_167 255 220 (dk_at dksX1_dual_4 0 rfl rfl)
theorem dX1_dual_93 : decode cX1_dual 93 = .ok (.aload_n 1, 1) := dk_43 (dk_at dksX1_dual_4 3 rfl rfl)
theorem dX1_dual_94 : decode cX1_dual 94 = .ok (.getfield 30, 3) := dk_180 0 30 (dk_at dksX1_dual_4 4 rfl rfl)
theorem dX1_dual_97 : decode cX1_dual 97 = .ok (.iload_n 2, 1) := dk_28 (dk_at dksX1_dual_4 7 rfl rfl)
theorem dX1_dual_98 : decode cX1_dual 98 = .ok (.aaload, 1) := dk_50 (dk_at dksX1_dual_4 8 rfl rfl)
theorem dX1_dual_99 : decode cX1_dual 99 = .ok (.iload_n 3, 1) := dk_29 (dk_at dksX1_dual_4 9 rfl rfl)
theorem dX1_dual_100 : decode cX1_dual 100 = .ok (.lload 4, 2) := dk_22 4 (dk_at dksX1_dual_4 10 rfl rfl)
theorem dX1_dual_102 : decode cX1_dual 102 = .ok (.lneg, 1) := dk_117 (dk_at dksX1_dual_4 12 rfl rfl)
theorem dX1_dual_103 : decode cX1_dual 103 = .ok (.aload_n 0, 1) := dk_42 (dk_at dksX1_dual_4 13 rfl rfl)
theorem dX1_dual_104 : decode cX1_dual 104 = .ok (.getfield 12, 3) := dk_180 0 12 (dk_at dksX1_dual_4 14 rfl rfl)
theorem dX1_dual_107 : decode cX1_dual 107 = .ok (.getfield 30, 3) := dk_180 0 30 (dk_at dksX1_dual_4 17 rfl rfl)
theorem dX1_dual_110 : decode cX1_dual 110 = .ok (.iload_n 3, 1) := dk_29 (dk_at dksX1_dual_4 20 rfl rfl)
theorem dX1_dual_111 : decode cX1_dual 111 = .ok (.aaload, 1) := dk_50 (dk_at dksX1_dual_4 21 rfl rfl)
theorem dX1_dual_112 : decode cX1_dual 112 = .ok (.iload_n 3, 1) := dk_29 (dk_at dksX1_dual_4 22 rfl rfl)
theorem dX1_dual_113 : decode cX1_dual 113 = .ok (.laload, 1) := dk_47 (dk_at dksX1_dual_4 23 rfl rfl)
theorem dX1_dual_114 : decode cX1_dual 114 = .ok (.ldiv, 1) := dk_109 (dk_at dksX1_dual_5 0 rfl rfl)
theorem dX1_dual_115 : decode cX1_dual 115 = .ok (.lastore, 1) := dk_80 (dk_at dksX1_dual_5 1 rfl rfl)
theorem dX1_dual_116 : decode cX1_dual 116 = .ok (.iinc 3 1, 3) := dk_132 3 1 (dk_at dksX1_dual_5 2 rfl rfl)
theorem dX1_dual_119 : decode cX1_dual 119 = .ok (.goto (-76), 3) := dk_167 255 180 (dk_at dksX1_dual_5 5 rfl rfl)
theorem dX1_dual_122 : decode cX1_dual 122 = .ok (.iinc 2 1, 3) := dk_132 2 1 (dk_at dksX1_dual_5 8 rfl rfl)
theorem dX1_dual_125 : decode cX1_dual 125 = .ok (.goto (-115), 3) := dk_167 255 141 (dk_at dksX1_dual_5 11 rfl rfl)
theorem dX1_dual_128 : decode cX1_dual 128 = .ok (.aload_n 1, 1) := dk_43 (dk_at dksX1_dual_5 14 rfl rfl)
theorem dX1_dual_129 : decode cX1_dual 129 = .ok (.areturn, 1) := dk_176 (dk_at dksX1_dual_5 15 rfl rfl)
abbrev cX1_takesAll : ByteArray := prog_14_method_4_code
def yX1_takesAll : MethodName := ⟨RX1, "takesAll", "(LCoincideBench$Rows;)V"⟩
def dkwX1_takesAll_1 : List UInt8 := [43, 180, 0, 30, 28, 50, 5, 47, 182, 0, 47, 132, 2, 1, 167, 255, 220, 177]
abbrev dktX1_takesAll_1 : List UInt8 := dkwX1_takesAll_1 ++ []
def dkwX1_takesAll_0 : List UInt8 := [3, 61, 28, 6, 162, 0, 37, 42, 43, 180, 0, 30, 28, 50, 3, 47, 43, 180, 0, 30, 28, 50, 4, 47]
abbrev dktX1_takesAll_0 : List UInt8 := dkwX1_takesAll_0 ++ dktX1_takesAll_1
theorem dksX1_takesAll_0 : cX1_takesAll.data.toList.drop 0 = dktX1_takesAll_0 := by decide +kernel
theorem dksX1_takesAll_1 : cX1_takesAll.data.toList.drop 24 = dktX1_takesAll_1 := dk_seg dksX1_takesAll_0 24 rfl rfl
theorem dX1_takesAll_0 : decode cX1_takesAll 0 = .ok (.iconst 0, 1) := dk_3 (dk_at dksX1_takesAll_0 0 rfl rfl)
theorem dX1_takesAll_1 : decode cX1_takesAll 1 = .ok (.istore_n 2, 1) := dk_61 (dk_at dksX1_takesAll_0 1 rfl rfl)
theorem dX1_takesAll_2 : decode cX1_takesAll 2 = .ok (.iload_n 2, 1) := dk_28 (dk_at dksX1_takesAll_0 2 rfl rfl)
theorem dX1_takesAll_3 : decode cX1_takesAll 3 = .ok (.iconst 3, 1) := dk_6 (dk_at dksX1_takesAll_0 3 rfl rfl)
theorem dX1_takesAll_4 : decode cX1_takesAll 4 = .ok (.if_icmp .ge 37, 3) := dk_162 0 37 (dk_at dksX1_takesAll_0 4 rfl rfl)
theorem dX1_takesAll_7 : decode cX1_takesAll 7 = .ok (.aload_n 0, 1) := dk_42 (dk_at dksX1_takesAll_0 7 rfl rfl)
theorem dX1_takesAll_8 : decode cX1_takesAll 8 = .ok (.aload_n 1, 1) := dk_43 (dk_at dksX1_takesAll_0 8 rfl rfl)
theorem dX1_takesAll_9 : decode cX1_takesAll 9 = .ok (.getfield 30, 3) := dk_180 0 30 (dk_at dksX1_takesAll_0 9 rfl rfl)
theorem dX1_takesAll_12 : decode cX1_takesAll 12 = .ok (.iload_n 2, 1) := dk_28 (dk_at dksX1_takesAll_0 12 rfl rfl)
theorem dX1_takesAll_13 : decode cX1_takesAll 13 = .ok (.aaload, 1) := dk_50 (dk_at dksX1_takesAll_0 13 rfl rfl)
theorem dX1_takesAll_14 : decode cX1_takesAll 14 = .ok (.iconst 0, 1) := dk_3 (dk_at dksX1_takesAll_0 14 rfl rfl)
theorem dX1_takesAll_15 : decode cX1_takesAll 15 = .ok (.laload, 1) := dk_47 (dk_at dksX1_takesAll_0 15 rfl rfl)
theorem dX1_takesAll_16 : decode cX1_takesAll 16 = .ok (.aload_n 1, 1) := dk_43 (dk_at dksX1_takesAll_0 16 rfl rfl)
theorem dX1_takesAll_17 : decode cX1_takesAll 17 = .ok (.getfield 30, 3) := dk_180 0 30 (dk_at dksX1_takesAll_0 17 rfl rfl)
theorem dX1_takesAll_20 : decode cX1_takesAll 20 = .ok (.iload_n 2, 1) := dk_28 (dk_at dksX1_takesAll_0 20 rfl rfl)
theorem dX1_takesAll_21 : decode cX1_takesAll 21 = .ok (.aaload, 1) := dk_50 (dk_at dksX1_takesAll_0 21 rfl rfl)
theorem dX1_takesAll_22 : decode cX1_takesAll 22 = .ok (.iconst 1, 1) := dk_4 (dk_at dksX1_takesAll_0 22 rfl rfl)
theorem dX1_takesAll_23 : decode cX1_takesAll 23 = .ok (.laload, 1) := dk_47 (dk_at dksX1_takesAll_0 23 rfl rfl)
theorem dX1_takesAll_24 : decode cX1_takesAll 24 = .ok (.aload_n 1, 1) := dk_43 (dk_at dksX1_takesAll_1 0 rfl rfl)
theorem dX1_takesAll_25 : decode cX1_takesAll 25 = .ok (.getfield 30, 3) := dk_180 0 30 (dk_at dksX1_takesAll_1 1 rfl rfl)
theorem dX1_takesAll_28 : decode cX1_takesAll 28 = .ok (.iload_n 2, 1) := dk_28 (dk_at dksX1_takesAll_1 4 rfl rfl)
theorem dX1_takesAll_29 : decode cX1_takesAll 29 = .ok (.aaload, 1) := dk_50 (dk_at dksX1_takesAll_1 5 rfl rfl)
theorem dX1_takesAll_30 : decode cX1_takesAll 30 = .ok (.iconst 2, 1) := dk_5 (dk_at dksX1_takesAll_1 6 rfl rfl)
theorem dX1_takesAll_31 : decode cX1_takesAll 31 = .ok (.laload, 1) := dk_47 (dk_at dksX1_takesAll_1 7 rfl rfl)
theorem dX1_takesAll_32 : decode cX1_takesAll 32 = .ok (.invokevirtual 47, 3) := dk_182 0 47 (dk_at dksX1_takesAll_1 8 rfl rfl)
theorem dX1_takesAll_35 : decode cX1_takesAll 35 = .ok (.iinc 2 1, 3) := dk_132 2 1 (dk_at dksX1_takesAll_1 11 rfl rfl)
theorem dX1_takesAll_38 : decode cX1_takesAll 38 = .ok (.goto (-36), 3) := dk_167 255 220 (dk_at dksX1_takesAll_1 14 rfl rfl)
theorem dX1_takesAll_41 : decode cX1_takesAll 41 = .ok (.return_, 1) := dk_177 (dk_at dksX1_takesAll_1 17 rfl rfl)
theorem q123 : (Jvm.Cond.initialized "CoincideBench$Small") ∈ lw_all := lw_g (lw_at lw_m1 5 rfl) rfl
theorem q192 : (Jvm.Cond.instantiable "CoincideBench$Small" (3 : Nat)) ∈ lw_all := lw_g (lw_at lw_m1 74 rfl) rfl
theorem q194 : (Jvm.Cond.instanceMethod ({ cls := "CoincideBench$Small", name := "<init>", desc := "(J)V" } : Jvm.MethodName)) ∈ lw_all := lw_g (lw_at lw_m1 76 rfl) rfl
theorem q195 : (Jvm.Cond.code ({ cls := "CoincideBench$Small", name := "<init>", desc := "(J)V" } : Jvm.MethodName) prog_14_method_1_code (3 : Nat) (Option.none : Option Jvm.ClassFile.FieldType)) ∈ lw_all := lw_g (lw_at lw_m1 77 rfl) rfl
theorem q196 : (Jvm.Cond.methodLink "CoincideBench$Small" (3 : Nat) ({ cls := "java/lang/Object", name := "<init>", desc := "()V" } : Jvm.MethodName)) ∈ lw_all := lw_g (lw_at lw_m1 78 rfl) rfl
theorem q197 : (Jvm.Cond.classLink "CoincideBench$Small" (9 : Nat) "CoincideBench$Rows") ∈ lw_all := lw_g (lw_at lw_m1 79 rfl) rfl
theorem q199 : (Jvm.Cond.methodLinkNest "CoincideBench$Small" (11 : Nat) ({ cls := "CoincideBench$Rows", name := "<init>", desc := "()V" } : Jvm.MethodName) "CoincideBench") ∈ lw_tbl := lw_at lw_m1 81 rfl
theorem q207 : (Jvm.Cond.fieldLinkNest "CoincideBench$Small" (30 : Nat) "CoincideBench$Rows" "at" "[[J" "CoincideBench") ∈ lw_tbl := lw_at lw_m1 89 rfl
theorem q218 : (Jvm.Cond.methodLink "CoincideBench$Small" (22 : Nat) ({ cls := "CoincideBench$Small", name := "begins", desc := "(J)V" } : Jvm.MethodName)) ∈ lw_all := lw_g (lw_at lw_m1 100 rfl) rfl
theorem q219 : (Jvm.Cond.instanceMethod ({ cls := "CoincideBench$Small", name := "begins", desc := "(J)V" } : Jvm.MethodName)) ∈ lw_all := lw_g (lw_at lw_m1 101 rfl) rfl
theorem q220 : (Jvm.Cond.selects "CoincideBench$Small" ({ cls := "CoincideBench$Small", name := "begins", desc := "(J)V" } : Jvm.MethodName) ({ cls := "CoincideBench$Small", name := "begins", desc := "(J)V" } : Jvm.MethodName)) ∈ lw_all := lw_g (lw_at lw_m1 102 rfl) rfl
theorem q221 : (Jvm.Cond.code ({ cls := "CoincideBench$Small", name := "begins", desc := "(J)V" } : Jvm.MethodName) prog_14_method_2_code (5 : Nat) (Option.none : Option Jvm.ClassFile.FieldType)) ∈ lw_all := lw_g (lw_at lw_m1 103 rfl) rfl
theorem q222 : (Jvm.Cond.fieldLink "CoincideBench$Small" (12 : Nat) "CoincideBench$Small" "form" "LCoincideBench$Rows;") ∈ lw_all := lw_g (lw_at lw_m1 104 rfl) rfl
theorem q224 : (Jvm.Cond.fieldLink "CoincideBench$Small" (18 : Nat) "CoincideBench$Small" "v" "[J") ∈ lw_all := lw_g (lw_at lw_m1 106 rfl) rfl
theorem q225 : (Jvm.Cond.fieldLink "CoincideBench$Small" (26 : Nat) "CoincideBench$Small" "most" "J") ∈ lw_all := lw_g (lw_at lw_m1 107 rfl) rfl
theorem q226 : (Jvm.Cond.laysFinal "CoincideBench$Small" "CoincideBench$Small" "form" "LCoincideBench$Rows;") ∈ lw_all := lw_g (lw_at lw_m1 108 rfl) rfl
theorem q227 : (Jvm.Cond.soleField "CoincideBench$Small" "form") ∈ lw_all := lw_g (lw_at lw_m1 109 rfl) rfl
theorem q228 : (Jvm.Cond.laysFinal "CoincideBench$Small" "CoincideBench$Small" "v" "[J") ∈ lw_all := lw_g (lw_at lw_m1 110 rfl) rfl
theorem q229 : (Jvm.Cond.soleField "CoincideBench$Small" "v") ∈ lw_all := lw_g (lw_at lw_m1 111 rfl) rfl
theorem q230 : (Jvm.Cond.lays "CoincideBench$Small" "CoincideBench$Small" "most" "J") ∈ lw_all := lw_g (lw_at lw_m1 112 rfl) rfl
theorem q231 : (Jvm.Cond.soleField "CoincideBench$Small" "most") ∈ lw_all := lw_g (lw_at lw_m1 113 rfl) rfl
theorem q232 : (Jvm.Cond.superclass "CoincideBench$Small" "java/lang/Object") ∈ lw_all := lw_g (lw_at lw_m1 114 rfl) rfl
theorem q701 : (Jvm.Cond.selects "CoincideBench$Small" ({ cls := "java/lang/Object", name := "equals", desc := "(Ljava/lang/Object;)Z" } : Jvm.MethodName) ({ cls := "java/lang/Object", name := "equals", desc := "(Ljava/lang/Object;)Z" } : Jvm.MethodName)) ∈ lw_all := lw_g (lw_at lw_m3 103 rfl) rfl
theorem q837 : (Jvm.Cond.selects "CoincideBench$Small" ({ cls := "java/lang/Object", name := "getClass", desc := "()Ljava/lang/Class;" } : Jvm.MethodName) ({ cls := "java/lang/Object", name := "getClass", desc := "()Ljava/lang/Class;" } : Jvm.MethodName)) ∈ lw_all := lw_g (lw_at lw_m3 239 rfl) rfl
theorem q1125 : (Jvm.Cond.instanceMethod ({ cls := "CoincideBench$Small", name := "takes", desc := "(JJJ)V" } : Jvm.MethodName)) ∈ lw_all := lw_g (lw_at lw_m5 47 rfl) rfl
theorem q1126 : (Jvm.Cond.selects "CoincideBench$Small" ({ cls := "CoincideBench$Small", name := "takes", desc := "(JJJ)V" } : Jvm.MethodName) ({ cls := "CoincideBench$Small", name := "takes", desc := "(JJJ)V" } : Jvm.MethodName)) ∈ lw_all := lw_g (lw_at lw_m5 48 rfl) rfl
theorem q1127 : (Jvm.Cond.code ({ cls := "CoincideBench$Small", name := "takes", desc := "(JJJ)V" } : Jvm.MethodName) prog_14_method_3_code (8 : Nat) (Option.none : Option Jvm.ClassFile.FieldType)) ∈ lw_all := lw_g (lw_at lw_m5 49 rfl) rfl
theorem q1128 : (Jvm.Cond.methodLink "CoincideBench$Small" (34 : Nat) ({ cls := "java/lang/Math", name := "floorMod", desc := "(JJ)J" } : Jvm.MethodName)) ∈ lw_all := lw_g (lw_at lw_m5 50 rfl) rfl
theorem q1131 : (Jvm.Cond.methodLink "CoincideBench$Small" (40 : Nat) ({ cls := "CoincideBench$Small", name := "joins", desc := "(I)V" } : Jvm.MethodName)) ∈ lw_all := lw_g (lw_at lw_m5 53 rfl) rfl
theorem q1132 : (Jvm.Cond.privateMethod ({ cls := "CoincideBench$Small", name := "joins", desc := "(I)V" } : Jvm.MethodName)) ∈ lw_tbl := lw_at lw_m5 54 rfl
theorem q1133 : (Jvm.Cond.instanceMethod ({ cls := "CoincideBench$Small", name := "joins", desc := "(I)V" } : Jvm.MethodName)) ∈ lw_all := lw_g (lw_at lw_m5 55 rfl) rfl
theorem q1134 : (Jvm.Cond.code ({ cls := "CoincideBench$Small", name := "joins", desc := "(I)V" } : Jvm.MethodName) prog_14_method_5_code (8 : Nat) (Option.none : Option Jvm.ClassFile.FieldType)) ∈ lw_all := lw_g (lw_at lw_m5 56 rfl) rfl
theorem q1135 : (Jvm.Cond.methodLink "CoincideBench$Small" (44 : Nat) ({ cls := "CoincideBench$Small", name := "orders", desc := "()V" } : Jvm.MethodName)) ∈ lw_all := lw_g (lw_at lw_m5 57 rfl) rfl
theorem q1136 : (Jvm.Cond.privateMethod ({ cls := "CoincideBench$Small", name := "orders", desc := "()V" } : Jvm.MethodName)) ∈ lw_tbl := lw_at lw_m5 58 rfl
theorem q1137 : (Jvm.Cond.instanceMethod ({ cls := "CoincideBench$Small", name := "orders", desc := "()V" } : Jvm.MethodName)) ∈ lw_all := lw_g (lw_at lw_m5 59 rfl) rfl
theorem q1138 : (Jvm.Cond.code ({ cls := "CoincideBench$Small", name := "orders", desc := "()V" } : Jvm.MethodName) prog_14_method_6_code (6 : Nat) (Option.none : Option Jvm.ClassFile.FieldType)) ∈ lw_all := lw_g (lw_at lw_m5 60 rfl) rfl
theorem q1139 : (Jvm.Cond.methodLink "CoincideBench$Small" (51 : Nat) ({ cls := "java/lang/Math", name := "floorDiv", desc := "(JJ)J" } : Jvm.MethodName)) ∈ lw_all := lw_g (lw_at lw_m5 61 rfl) rfl
theorem q1141 : (Jvm.Cond.instanceMethod ({ cls := "CoincideBench$Small", name := "dual", desc := "()LCoincideBench$Rows;" } : Jvm.MethodName)) ∈ lw_all := lw_g (lw_at lw_m5 63 rfl) rfl
theorem q1142 : (Jvm.Cond.selects "CoincideBench$Small" ({ cls := "CoincideBench$Small", name := "dual", desc := "()LCoincideBench$Rows;" } : Jvm.MethodName) ({ cls := "CoincideBench$Small", name := "dual", desc := "()LCoincideBench$Rows;" } : Jvm.MethodName)) ∈ lw_all := lw_g (lw_at lw_m5 64 rfl) rfl
theorem q1143 : (Jvm.Cond.code ({ cls := "CoincideBench$Small", name := "dual", desc := "()LCoincideBench$Rows;" } : Jvm.MethodName) prog_14_method_7_code (7 : Nat) (Option.some (Jvm.ClassFile.FieldType.object "CoincideBench$Rows"))) ∈ lw_all := lw_g (lw_at lw_m5 65 rfl) rfl
theorem q1145 : (Jvm.Cond.instanceMethod ({ cls := "CoincideBench$Small", name := "takesAll", desc := "(LCoincideBench$Rows;)V" } : Jvm.MethodName)) ∈ lw_all := lw_g (lw_at lw_m5 67 rfl) rfl
theorem q1146 : (Jvm.Cond.selects "CoincideBench$Small" ({ cls := "CoincideBench$Small", name := "takesAll", desc := "(LCoincideBench$Rows;)V" } : Jvm.MethodName) ({ cls := "CoincideBench$Small", name := "takesAll", desc := "(LCoincideBench$Rows;)V" } : Jvm.MethodName)) ∈ lw_all := lw_g (lw_at lw_m5 68 rfl) rfl
theorem q1147 : (Jvm.Cond.code ({ cls := "CoincideBench$Small", name := "takesAll", desc := "(LCoincideBench$Rows;)V" } : Jvm.MethodName) prog_14_method_4_code (3 : Nat) (Option.none : Option Jvm.ClassFile.FieldType)) ∈ lw_all := lw_g (lw_at lw_m5 69 rfl) rfl
theorem q1148 : (Jvm.Cond.methodLink "CoincideBench$Small" (47 : Nat) ({ cls := "CoincideBench$Small", name := "takes", desc := "(JJJ)V" } : Jvm.MethodName)) ∈ lw_all := lw_g (lw_at lw_m5 70 rfl) rfl
theorem q2197 : (Jvm.Cond.castable "CoincideBench$Small" "java/lang/Object") ∈ lw_tbl := lw_at lw_m9 159 rfl
theorem in_X1 : ∀ w ∈ wsX10, w ∈ lw_all := lw_in wsX10 [226, 228, 230] (by decide +kernel) (by decide +kernel)
