/-! CoincideBench$Reduced -/
set_option maxRecDepth 100000
def RX11 : String := "CoincideBench$Reduced"
def TX11 : u_T := fun k => match k with
  | 0 => ("CoincideBench$Reduced", "rows", "LCoincideBench$Rows;", true)
  | _ => ("CoincideBench$Reduced", "bettered", "I", false)
def tyX11 : Nat → FieldType := fun k => match k with
  | 0 => .object "CoincideBench$Rows"
  | _ => .int
abbrev wsX110 : List Cond := u_ws RX11 TX11 2
theorem nmX11 : ∀ a, a < 2 → ∀ b, b < 2 → a ≠ b → (TX11 a).2.1 ≠ (TX11 b).2.1 := by decide +kernel
theorem tyX11_ok : ∀ k, k < 2 → parseFieldDescriptor (TX11 k).2.2.1 = some (tyX11 k) := by decide +kernel
abbrev cX11_init : ByteArray := prog_11_method_1_code
def yX11_init : MethodName := ⟨RX11, "<init>", "(LCoincideBench$Rows;)V"⟩
def dkwX11_init_2 : List UInt8 := [132, 2, 1, 167, 255, 243, 177]
abbrev dktX11_init_2 : List UInt8 := dkwX11_init_2 ++ []
def dkwX11_init_1 : List UInt8 := [154, 255, 246, 42, 4, 3, 182, 0, 24, 154, 255, 237, 3, 61, 28, 6, 162, 0, 14, 42, 28, 182, 0, 28]
abbrev dktX11_init_1 : List UInt8 := dkwX11_init_1 ++ dktX11_init_2
def dkwX11_init_0 : List UInt8 := [42, 183, 0, 3, 42, 43, 182, 0, 9, 181, 0, 15, 42, 182, 0, 21, 42, 5, 4, 182, 0, 24]
abbrev dktX11_init_0 : List UInt8 := dkwX11_init_0 ++ dktX11_init_1
theorem dksX11_init_0 : cX11_init.data.toList.drop 0 = dktX11_init_0 := by decide +kernel
theorem dksX11_init_1 : cX11_init.data.toList.drop 22 = dktX11_init_1 := dk_seg dksX11_init_0 22 rfl rfl
theorem dksX11_init_2 : cX11_init.data.toList.drop 46 = dktX11_init_2 := dk_seg dksX11_init_1 24 rfl rfl
theorem dX11_init_0 : decode cX11_init 0 = .ok (.aload_n 0, 1) := dk_42 (dk_at dksX11_init_0 0 rfl rfl)
theorem dX11_init_1 : decode cX11_init 1 = .ok (.invokespecial 3, 3) := dk_183 0 3 (dk_at dksX11_init_0 1 rfl rfl)
theorem dX11_init_4 : decode cX11_init 4 = .ok (.aload_n 0, 1) := dk_42 (dk_at dksX11_init_0 4 rfl rfl)
theorem dX11_init_5 : decode cX11_init 5 = .ok (.aload_n 1, 1) := dk_43 (dk_at dksX11_init_0 5 rfl rfl)
theorem dX11_init_6 : decode cX11_init 6 = .ok (.invokevirtual 9, 3) := dk_182 0 9 (dk_at dksX11_init_0 6 rfl rfl)
theorem dX11_init_9 : decode cX11_init 9 = .ok (.putfield 15, 3) := dk_181 0 15 (dk_at dksX11_init_0 9 rfl rfl)
theorem dX11_init_12 : decode cX11_init 12 = .ok (.aload_n 0, 1) := dk_42 (dk_at dksX11_init_0 12 rfl rfl)
theorem dX11_init_13 : decode cX11_init 13 = .ok (.invokevirtual 21, 3) := dk_182 0 21 (dk_at dksX11_init_0 13 rfl rfl)
theorem dX11_init_16 : decode cX11_init 16 = .ok (.aload_n 0, 1) := dk_42 (dk_at dksX11_init_0 16 rfl rfl)
theorem dX11_init_17 : decode cX11_init 17 = .ok (.iconst 2, 1) := dk_5 (dk_at dksX11_init_0 17 rfl rfl)
theorem dX11_init_18 : decode cX11_init 18 = .ok (.iconst 1, 1) := dk_4 (dk_at dksX11_init_0 18 rfl rfl)
theorem dX11_init_19 : decode cX11_init 19 = .ok (.invokevirtual 24, 3) := dk_182 0 24 (dk_at dksX11_init_0 19 rfl rfl)
theorem dX11_init_22 : decode cX11_init 22 = .ok (.ifCond .ne (-10), 3) := dk_154 255 246 (dk_at dksX11_init_1 0 rfl rfl)
theorem dX11_init_25 : decode cX11_init 25 = .ok (.aload_n 0, 1) := dk_42 (dk_at dksX11_init_1 3 rfl rfl)
theorem dX11_init_26 : decode cX11_init 26 = .ok (.iconst 1, 1) := dk_4 (dk_at dksX11_init_1 4 rfl rfl)
theorem dX11_init_27 : decode cX11_init 27 = .ok (.iconst 0, 1) := dk_3 (dk_at dksX11_init_1 5 rfl rfl)
theorem dX11_init_28 : decode cX11_init 28 = .ok (.invokevirtual 24, 3) := dk_182 0 24 (dk_at dksX11_init_1 6 rfl rfl)
theorem dX11_init_31 : decode cX11_init 31 = .ok (.ifCond .ne (-19), 3) := dk_154 255 237 (dk_at dksX11_init_1 9 rfl rfl)
theorem dX11_init_34 : decode cX11_init 34 = .ok (.iconst 0, 1) := dk_3 (dk_at dksX11_init_1 12 rfl rfl)
theorem dX11_init_35 : decode cX11_init 35 = .ok (.istore_n 2, 1) := dk_61 (dk_at dksX11_init_1 13 rfl rfl)
theorem dX11_init_36 : decode cX11_init 36 = .ok (.iload_n 2, 1) := dk_28 (dk_at dksX11_init_1 14 rfl rfl)
theorem dX11_init_37 : decode cX11_init 37 = .ok (.iconst 3, 1) := dk_6 (dk_at dksX11_init_1 15 rfl rfl)
theorem dX11_init_38 : decode cX11_init 38 = .ok (.if_icmp .ge 14, 3) := dk_162 0 14 (dk_at dksX11_init_1 16 rfl rfl)
theorem dX11_init_41 : decode cX11_init 41 = .ok (.aload_n 0, 1) := dk_42 (dk_at dksX11_init_1 19 rfl rfl)
theorem dX11_init_42 : decode cX11_init 42 = .ok (.iload_n 2, 1) := dk_28 (dk_at dksX11_init_1 20 rfl rfl)
theorem dX11_init_43 : decode cX11_init 43 = .ok (.invokevirtual 28, 3) := dk_182 0 28 (dk_at dksX11_init_1 21 rfl rfl)
theorem dX11_init_46 : decode cX11_init 46 = .ok (.iinc 2 1, 3) := dk_132 2 1 (dk_at dksX11_init_2 0 rfl rfl)
theorem dX11_init_49 : decode cX11_init 49 = .ok (.goto (-13), 3) := dk_167 255 243 (dk_at dksX11_init_2 3 rfl rfl)
theorem dX11_init_52 : decode cX11_init 52 = .ok (.return_, 1) := dk_177 (dk_at dksX11_init_2 6 rfl rfl)
abbrev cX11_orders : ByteArray := prog_11_method_3_code
def yX11_orders : MethodName := ⟨RX11, "orders", "()V"⟩
def dkwX11_orders_1 : List UInt8 := [42, 180, 0, 15, 28, 28, 4, 100, 182, 0, 43, 132, 2, 255, 167, 255, 227, 132, 1, 1, 167, 255, 214, 177]
abbrev dktX11_orders_1 : List UInt8 := dkwX11_orders_1 ++ []
def dkwX11_orders_0 : List UInt8 := [4, 60, 27, 6, 162, 0, 43, 27, 61, 28, 158, 0, 31, 42, 28, 28, 4, 100, 182, 0, 40, 153, 0, 20]
abbrev dktX11_orders_0 : List UInt8 := dkwX11_orders_0 ++ dktX11_orders_1
theorem dksX11_orders_0 : cX11_orders.data.toList.drop 0 = dktX11_orders_0 := by decide +kernel
theorem dksX11_orders_1 : cX11_orders.data.toList.drop 24 = dktX11_orders_1 := dk_seg dksX11_orders_0 24 rfl rfl
theorem dX11_orders_0 : decode cX11_orders 0 = .ok (.iconst 1, 1) := dk_4 (dk_at dksX11_orders_0 0 rfl rfl)
theorem dX11_orders_1 : decode cX11_orders 1 = .ok (.istore_n 1, 1) := dk_60 (dk_at dksX11_orders_0 1 rfl rfl)
theorem dX11_orders_2 : decode cX11_orders 2 = .ok (.iload_n 1, 1) := dk_27 (dk_at dksX11_orders_0 2 rfl rfl)
theorem dX11_orders_3 : decode cX11_orders 3 = .ok (.iconst 3, 1) := dk_6 (dk_at dksX11_orders_0 3 rfl rfl)
theorem dX11_orders_4 : decode cX11_orders 4 = .ok (.if_icmp .ge 43, 3) := dk_162 0 43 (dk_at dksX11_orders_0 4 rfl rfl)
theorem dX11_orders_7 : decode cX11_orders 7 = .ok (.iload_n 1, 1) := dk_27 (dk_at dksX11_orders_0 7 rfl rfl)
theorem dX11_orders_8 : decode cX11_orders 8 = .ok (.istore_n 2, 1) := dk_61 (dk_at dksX11_orders_0 8 rfl rfl)
theorem dX11_orders_9 : decode cX11_orders 9 = .ok (.iload_n 2, 1) := dk_28 (dk_at dksX11_orders_0 9 rfl rfl)
theorem dX11_orders_10 : decode cX11_orders 10 = .ok (.ifCond .le 31, 3) := dk_158 0 31 (dk_at dksX11_orders_0 10 rfl rfl)
theorem dX11_orders_13 : decode cX11_orders 13 = .ok (.aload_n 0, 1) := dk_42 (dk_at dksX11_orders_0 13 rfl rfl)
theorem dX11_orders_14 : decode cX11_orders 14 = .ok (.iload_n 2, 1) := dk_28 (dk_at dksX11_orders_0 14 rfl rfl)
theorem dX11_orders_15 : decode cX11_orders 15 = .ok (.iload_n 2, 1) := dk_28 (dk_at dksX11_orders_0 15 rfl rfl)
theorem dX11_orders_16 : decode cX11_orders 16 = .ok (.iconst 1, 1) := dk_4 (dk_at dksX11_orders_0 16 rfl rfl)
theorem dX11_orders_17 : decode cX11_orders 17 = .ok (.isub, 1) := dk_100 (dk_at dksX11_orders_0 17 rfl rfl)
theorem dX11_orders_18 : decode cX11_orders 18 = .ok (.invokevirtual 40, 3) := dk_182 0 40 (dk_at dksX11_orders_0 18 rfl rfl)
theorem dX11_orders_21 : decode cX11_orders 21 = .ok (.ifCond .eq 20, 3) := dk_153 0 20 (dk_at dksX11_orders_0 21 rfl rfl)
theorem dX11_orders_24 : decode cX11_orders 24 = .ok (.aload_n 0, 1) := dk_42 (dk_at dksX11_orders_1 0 rfl rfl)
theorem dX11_orders_25 : decode cX11_orders 25 = .ok (.getfield 15, 3) := dk_180 0 15 (dk_at dksX11_orders_1 1 rfl rfl)
theorem dX11_orders_28 : decode cX11_orders 28 = .ok (.iload_n 2, 1) := dk_28 (dk_at dksX11_orders_1 4 rfl rfl)
theorem dX11_orders_29 : decode cX11_orders 29 = .ok (.iload_n 2, 1) := dk_28 (dk_at dksX11_orders_1 5 rfl rfl)
theorem dX11_orders_30 : decode cX11_orders 30 = .ok (.iconst 1, 1) := dk_4 (dk_at dksX11_orders_1 6 rfl rfl)
theorem dX11_orders_31 : decode cX11_orders 31 = .ok (.isub, 1) := dk_100 (dk_at dksX11_orders_1 7 rfl rfl)
theorem dX11_orders_32 : decode cX11_orders 32 = .ok (.invokevirtual 43, 3) := dk_182 0 43 (dk_at dksX11_orders_1 8 rfl rfl)
theorem dX11_orders_35 : decode cX11_orders 35 = .ok (.iinc 2 (-1), 3) := dk_132 2 255 (dk_at dksX11_orders_1 11 rfl rfl)
theorem dX11_orders_38 : decode cX11_orders 38 = .ok (.goto (-29), 3) := dk_167 255 227 (dk_at dksX11_orders_1 14 rfl rfl)
theorem dX11_orders_41 : decode cX11_orders 41 = .ok (.iinc 1 1, 3) := dk_132 1 1 (dk_at dksX11_orders_1 17 rfl rfl)
theorem dX11_orders_44 : decode cX11_orders 44 = .ok (.goto (-42), 3) := dk_167 255 214 (dk_at dksX11_orders_1 20 rfl rfl)
theorem dX11_orders_47 : decode cX11_orders 47 = .ok (.return_, 1) := dk_177 (dk_at dksX11_orders_1 23 rfl rfl)
abbrev cX11_isAhead : ByteArray := prog_11_method_2_code
def yX11_isAhead : MethodName := ⟨RX11, "isAhead", "(II)Z"⟩
def dkwX11_isAhead_5 : List UInt8 := [3, 172]
abbrev dktX11_isAhead_5 : List UInt8 := dkwX11_isAhead_5 ++ []
def dkwX11_isAhead_4 : List UInt8 := [180, 0, 36, 28, 50, 21, 7, 47, 148, 156, 0, 7, 4, 167, 0, 4, 3, 172, 132, 7, 1, 167, 255, 185]
abbrev dktX11_isAhead_4 : List UInt8 := dkwX11_isAhead_4 ++ dktX11_isAhead_5
def dkwX11_isAhead_3 : List UInt8 := [21, 7, 47, 148, 153, 0, 37, 42, 180, 0, 15, 180, 0, 36, 27, 50, 21, 7, 47, 42, 180, 0, 15]
abbrev dktX11_isAhead_3 : List UInt8 := dkwX11_isAhead_3 ++ dktX11_isAhead_4
def dkwX11_isAhead_2 : List UInt8 := [162, 0, 71, 42, 180, 0, 15, 180, 0, 36, 27, 50, 21, 7, 47, 42, 180, 0, 15, 180, 0, 36, 28, 50]
abbrev dktX11_isAhead_2 : List UInt8 := dkwX11_isAhead_2 ++ dktX11_isAhead_3
def dkwX11_isAhead_1 : List UInt8 := [153, 0, 16, 33, 22, 5, 148, 156, 0, 7, 4, 167, 0, 4, 3, 172, 3, 54, 7, 21, 7, 6]
abbrev dktX11_isAhead_1 : List UInt8 := dkwX11_isAhead_1 ++ dktX11_isAhead_2
def dkwX11_isAhead_0 : List UInt8 := [42, 180, 0, 15, 27, 182, 0, 32, 66, 42, 180, 0, 15, 28, 182, 0, 32, 55, 5, 33, 22, 5, 148]
abbrev dktX11_isAhead_0 : List UInt8 := dkwX11_isAhead_0 ++ dktX11_isAhead_1
theorem dksX11_isAhead_0 : cX11_isAhead.data.toList.drop 0 = dktX11_isAhead_0 := by decide +kernel
theorem dksX11_isAhead_1 : cX11_isAhead.data.toList.drop 23 = dktX11_isAhead_1 := dk_seg dksX11_isAhead_0 23 rfl rfl
theorem dksX11_isAhead_2 : cX11_isAhead.data.toList.drop 45 = dktX11_isAhead_2 := dk_seg dksX11_isAhead_1 22 rfl rfl
theorem dksX11_isAhead_3 : cX11_isAhead.data.toList.drop 69 = dktX11_isAhead_3 := dk_seg dksX11_isAhead_2 24 rfl rfl
theorem dksX11_isAhead_4 : cX11_isAhead.data.toList.drop 92 = dktX11_isAhead_4 := dk_seg dksX11_isAhead_3 23 rfl rfl
theorem dksX11_isAhead_5 : cX11_isAhead.data.toList.drop 116 = dktX11_isAhead_5 := dk_seg dksX11_isAhead_4 24 rfl rfl
theorem dX11_isAhead_0 : decode cX11_isAhead 0 = .ok (.aload_n 0, 1) := dk_42 (dk_at dksX11_isAhead_0 0 rfl rfl)
theorem dX11_isAhead_1 : decode cX11_isAhead 1 = .ok (.getfield 15, 3) := dk_180 0 15 (dk_at dksX11_isAhead_0 1 rfl rfl)
theorem dX11_isAhead_4 : decode cX11_isAhead 4 = .ok (.iload_n 1, 1) := dk_27 (dk_at dksX11_isAhead_0 4 rfl rfl)
theorem dX11_isAhead_5 : decode cX11_isAhead 5 = .ok (.invokevirtual 32, 3) := dk_182 0 32 (dk_at dksX11_isAhead_0 5 rfl rfl)
theorem dX11_isAhead_8 : decode cX11_isAhead 8 = .ok (.lstore_n 3, 1) := dk_66 (dk_at dksX11_isAhead_0 8 rfl rfl)
theorem dX11_isAhead_9 : decode cX11_isAhead 9 = .ok (.aload_n 0, 1) := dk_42 (dk_at dksX11_isAhead_0 9 rfl rfl)
theorem dX11_isAhead_10 : decode cX11_isAhead 10 = .ok (.getfield 15, 3) := dk_180 0 15 (dk_at dksX11_isAhead_0 10 rfl rfl)
theorem dX11_isAhead_13 : decode cX11_isAhead 13 = .ok (.iload_n 2, 1) := dk_28 (dk_at dksX11_isAhead_0 13 rfl rfl)
theorem dX11_isAhead_14 : decode cX11_isAhead 14 = .ok (.invokevirtual 32, 3) := dk_182 0 32 (dk_at dksX11_isAhead_0 14 rfl rfl)
theorem dX11_isAhead_17 : decode cX11_isAhead 17 = .ok (.lstore 5, 2) := dk_55 5 (dk_at dksX11_isAhead_0 17 rfl rfl)
theorem dX11_isAhead_19 : decode cX11_isAhead 19 = .ok (.lload_n 3, 1) := dk_33 (dk_at dksX11_isAhead_0 19 rfl rfl)
theorem dX11_isAhead_20 : decode cX11_isAhead 20 = .ok (.lload 5, 2) := dk_22 5 (dk_at dksX11_isAhead_0 20 rfl rfl)
theorem dX11_isAhead_22 : decode cX11_isAhead 22 = .ok (.lcmp, 1) := dk_148 (dk_at dksX11_isAhead_0 22 rfl rfl)
theorem dX11_isAhead_23 : decode cX11_isAhead 23 = .ok (.ifCond .eq 16, 3) := dk_153 0 16 (dk_at dksX11_isAhead_1 0 rfl rfl)
theorem dX11_isAhead_26 : decode cX11_isAhead 26 = .ok (.lload_n 3, 1) := dk_33 (dk_at dksX11_isAhead_1 3 rfl rfl)
theorem dX11_isAhead_27 : decode cX11_isAhead 27 = .ok (.lload 5, 2) := dk_22 5 (dk_at dksX11_isAhead_1 4 rfl rfl)
theorem dX11_isAhead_29 : decode cX11_isAhead 29 = .ok (.lcmp, 1) := dk_148 (dk_at dksX11_isAhead_1 6 rfl rfl)
theorem dX11_isAhead_30 : decode cX11_isAhead 30 = .ok (.ifCond .ge 7, 3) := dk_156 0 7 (dk_at dksX11_isAhead_1 7 rfl rfl)
theorem dX11_isAhead_33 : decode cX11_isAhead 33 = .ok (.iconst 1, 1) := dk_4 (dk_at dksX11_isAhead_1 10 rfl rfl)
theorem dX11_isAhead_34 : decode cX11_isAhead 34 = .ok (.goto 4, 3) := dk_167 0 4 (dk_at dksX11_isAhead_1 11 rfl rfl)
theorem dX11_isAhead_37 : decode cX11_isAhead 37 = .ok (.iconst 0, 1) := dk_3 (dk_at dksX11_isAhead_1 14 rfl rfl)
theorem dX11_isAhead_38 : decode cX11_isAhead 38 = .ok (.ireturn, 1) := dk_172 (dk_at dksX11_isAhead_1 15 rfl rfl)
theorem dX11_isAhead_39 : decode cX11_isAhead 39 = .ok (.iconst 0, 1) := dk_3 (dk_at dksX11_isAhead_1 16 rfl rfl)
theorem dX11_isAhead_40 : decode cX11_isAhead 40 = .ok (.istore 7, 2) := dk_54 7 (dk_at dksX11_isAhead_1 17 rfl rfl)
theorem dX11_isAhead_42 : decode cX11_isAhead 42 = .ok (.iload 7, 2) := dk_21 7 (dk_at dksX11_isAhead_1 19 rfl rfl)
theorem dX11_isAhead_44 : decode cX11_isAhead 44 = .ok (.iconst 3, 1) := dk_6 (dk_at dksX11_isAhead_1 21 rfl rfl)
theorem dX11_isAhead_45 : decode cX11_isAhead 45 = .ok (.if_icmp .ge 71, 3) := dk_162 0 71 (dk_at dksX11_isAhead_2 0 rfl rfl)
theorem dX11_isAhead_48 : decode cX11_isAhead 48 = .ok (.aload_n 0, 1) := dk_42 (dk_at dksX11_isAhead_2 3 rfl rfl)
theorem dX11_isAhead_49 : decode cX11_isAhead 49 = .ok (.getfield 15, 3) := dk_180 0 15 (dk_at dksX11_isAhead_2 4 rfl rfl)
theorem dX11_isAhead_52 : decode cX11_isAhead 52 = .ok (.getfield 36, 3) := dk_180 0 36 (dk_at dksX11_isAhead_2 7 rfl rfl)
theorem dX11_isAhead_55 : decode cX11_isAhead 55 = .ok (.iload_n 1, 1) := dk_27 (dk_at dksX11_isAhead_2 10 rfl rfl)
theorem dX11_isAhead_56 : decode cX11_isAhead 56 = .ok (.aaload, 1) := dk_50 (dk_at dksX11_isAhead_2 11 rfl rfl)
theorem dX11_isAhead_57 : decode cX11_isAhead 57 = .ok (.iload 7, 2) := dk_21 7 (dk_at dksX11_isAhead_2 12 rfl rfl)
theorem dX11_isAhead_59 : decode cX11_isAhead 59 = .ok (.laload, 1) := dk_47 (dk_at dksX11_isAhead_2 14 rfl rfl)
theorem dX11_isAhead_60 : decode cX11_isAhead 60 = .ok (.aload_n 0, 1) := dk_42 (dk_at dksX11_isAhead_2 15 rfl rfl)
theorem dX11_isAhead_61 : decode cX11_isAhead 61 = .ok (.getfield 15, 3) := dk_180 0 15 (dk_at dksX11_isAhead_2 16 rfl rfl)
theorem dX11_isAhead_64 : decode cX11_isAhead 64 = .ok (.getfield 36, 3) := dk_180 0 36 (dk_at dksX11_isAhead_2 19 rfl rfl)
theorem dX11_isAhead_67 : decode cX11_isAhead 67 = .ok (.iload_n 2, 1) := dk_28 (dk_at dksX11_isAhead_2 22 rfl rfl)
theorem dX11_isAhead_68 : decode cX11_isAhead 68 = .ok (.aaload, 1) := dk_50 (dk_at dksX11_isAhead_2 23 rfl rfl)
theorem dX11_isAhead_69 : decode cX11_isAhead 69 = .ok (.iload 7, 2) := dk_21 7 (dk_at dksX11_isAhead_3 0 rfl rfl)
theorem dX11_isAhead_71 : decode cX11_isAhead 71 = .ok (.laload, 1) := dk_47 (dk_at dksX11_isAhead_3 2 rfl rfl)
theorem dX11_isAhead_72 : decode cX11_isAhead 72 = .ok (.lcmp, 1) := dk_148 (dk_at dksX11_isAhead_3 3 rfl rfl)
theorem dX11_isAhead_73 : decode cX11_isAhead 73 = .ok (.ifCond .eq 37, 3) := dk_153 0 37 (dk_at dksX11_isAhead_3 4 rfl rfl)
theorem dX11_isAhead_76 : decode cX11_isAhead 76 = .ok (.aload_n 0, 1) := dk_42 (dk_at dksX11_isAhead_3 7 rfl rfl)
theorem dX11_isAhead_77 : decode cX11_isAhead 77 = .ok (.getfield 15, 3) := dk_180 0 15 (dk_at dksX11_isAhead_3 8 rfl rfl)
theorem dX11_isAhead_80 : decode cX11_isAhead 80 = .ok (.getfield 36, 3) := dk_180 0 36 (dk_at dksX11_isAhead_3 11 rfl rfl)
theorem dX11_isAhead_83 : decode cX11_isAhead 83 = .ok (.iload_n 1, 1) := dk_27 (dk_at dksX11_isAhead_3 14 rfl rfl)
theorem dX11_isAhead_84 : decode cX11_isAhead 84 = .ok (.aaload, 1) := dk_50 (dk_at dksX11_isAhead_3 15 rfl rfl)
theorem dX11_isAhead_85 : decode cX11_isAhead 85 = .ok (.iload 7, 2) := dk_21 7 (dk_at dksX11_isAhead_3 16 rfl rfl)
theorem dX11_isAhead_87 : decode cX11_isAhead 87 = .ok (.laload, 1) := dk_47 (dk_at dksX11_isAhead_3 18 rfl rfl)
theorem dX11_isAhead_88 : decode cX11_isAhead 88 = .ok (.aload_n 0, 1) := dk_42 (dk_at dksX11_isAhead_3 19 rfl rfl)
theorem dX11_isAhead_89 : decode cX11_isAhead 89 = .ok (.getfield 15, 3) := dk_180 0 15 (dk_at dksX11_isAhead_3 20 rfl rfl)
theorem dX11_isAhead_92 : decode cX11_isAhead 92 = .ok (.getfield 36, 3) := dk_180 0 36 (dk_at dksX11_isAhead_4 0 rfl rfl)
theorem dX11_isAhead_95 : decode cX11_isAhead 95 = .ok (.iload_n 2, 1) := dk_28 (dk_at dksX11_isAhead_4 3 rfl rfl)
theorem dX11_isAhead_96 : decode cX11_isAhead 96 = .ok (.aaload, 1) := dk_50 (dk_at dksX11_isAhead_4 4 rfl rfl)
theorem dX11_isAhead_97 : decode cX11_isAhead 97 = .ok (.iload 7, 2) := dk_21 7 (dk_at dksX11_isAhead_4 5 rfl rfl)
theorem dX11_isAhead_99 : decode cX11_isAhead 99 = .ok (.laload, 1) := dk_47 (dk_at dksX11_isAhead_4 7 rfl rfl)
theorem dX11_isAhead_100 : decode cX11_isAhead 100 = .ok (.lcmp, 1) := dk_148 (dk_at dksX11_isAhead_4 8 rfl rfl)
theorem dX11_isAhead_101 : decode cX11_isAhead 101 = .ok (.ifCond .ge 7, 3) := dk_156 0 7 (dk_at dksX11_isAhead_4 9 rfl rfl)
theorem dX11_isAhead_104 : decode cX11_isAhead 104 = .ok (.iconst 1, 1) := dk_4 (dk_at dksX11_isAhead_4 12 rfl rfl)
theorem dX11_isAhead_105 : decode cX11_isAhead 105 = .ok (.goto 4, 3) := dk_167 0 4 (dk_at dksX11_isAhead_4 13 rfl rfl)
theorem dX11_isAhead_108 : decode cX11_isAhead 108 = .ok (.iconst 0, 1) := dk_3 (dk_at dksX11_isAhead_4 16 rfl rfl)
theorem dX11_isAhead_109 : decode cX11_isAhead 109 = .ok (.ireturn, 1) := dk_172 (dk_at dksX11_isAhead_4 17 rfl rfl)
theorem dX11_isAhead_110 : decode cX11_isAhead 110 = .ok (.iinc 7 1, 3) := dk_132 7 1 (dk_at dksX11_isAhead_4 18 rfl rfl)
theorem dX11_isAhead_113 : decode cX11_isAhead 113 = .ok (.goto (-71), 3) := dk_167 255 185 (dk_at dksX11_isAhead_4 21 rfl rfl)
theorem dX11_isAhead_116 : decode cX11_isAhead 116 = .ok (.iconst 0, 1) := dk_3 (dk_at dksX11_isAhead_5 0 rfl rfl)
theorem dX11_isAhead_117 : decode cX11_isAhead 117 = .ok (.ireturn, 1) := dk_172 (dk_at dksX11_isAhead_5 1 rfl rfl)
abbrev cX11_betters : ByteArray := prog_11_method_5_code
def yX11_betters : MethodName := ⟨RX11, "betters", "(II)Z"⟩
def dkwX11_betters_5 : List UInt8 := [89, 180, 0, 55, 4, 96, 181, 0, 55, 4, 172]
abbrev dktX11_betters_5 : List UInt8 := dkwX11_betters_5 ++ []
def dkwX11_betters_4 : List UInt8 := [21, 5, 133, 182, 0, 51, 21, 6, 153, 0, 15, 42, 180, 0, 15, 27, 4, 21, 6, 133, 182, 0, 51, 42]
abbrev dktX11_betters_4 : List UInt8 := dkwX11_betters_4 ++ dktX11_betters_5
def dkwX11_betters_3 : List UInt8 := [132, 7, 1, 167, 255, 199, 21, 5, 154, 0, 10, 21, 6, 154, 0, 5, 3, 172, 42, 180, 0, 15, 27, 3]
abbrev dktX11_betters_3 : List UInt8 := dkwX11_betters_3 ++ dktX11_betters_4
def dkwX11_betters_2 : List UInt8 := [148, 155, 0, 6, 167, 0, 14, 22, 9, 66, 21, 7, 54, 5, 21, 8, 54, 6, 132, 8, 1, 167, 255, 215]
abbrev dktX11_betters_2 : List UInt8 := dkwX11_betters_2 ++ dktX11_betters_3
def dkwX11_betters_1 : List UInt8 := [28, 116, 54, 8, 21, 8, 28, 163, 0, 41, 42, 27, 21, 7, 21, 8, 182, 0, 47, 55, 9, 22, 9, 33]
abbrev dktX11_betters_1 : List UInt8 := dkwX11_betters_1 ++ dktX11_betters_2
def dkwX11_betters_0 : List UInt8 := [42, 180, 0, 15, 27, 182, 0, 32, 66, 3, 54, 5, 3, 54, 6, 2, 54, 7, 21, 7, 4, 163, 0, 57]
abbrev dktX11_betters_0 : List UInt8 := dkwX11_betters_0 ++ dktX11_betters_1
theorem dksX11_betters_0 : cX11_betters.data.toList.drop 0 = dktX11_betters_0 := by decide +kernel
theorem dksX11_betters_1 : cX11_betters.data.toList.drop 24 = dktX11_betters_1 := dk_seg dksX11_betters_0 24 rfl rfl
theorem dksX11_betters_2 : cX11_betters.data.toList.drop 48 = dktX11_betters_2 := dk_seg dksX11_betters_1 24 rfl rfl
theorem dksX11_betters_3 : cX11_betters.data.toList.drop 72 = dktX11_betters_3 := dk_seg dksX11_betters_2 24 rfl rfl
theorem dksX11_betters_4 : cX11_betters.data.toList.drop 96 = dktX11_betters_4 := dk_seg dksX11_betters_3 24 rfl rfl
theorem dksX11_betters_5 : cX11_betters.data.toList.drop 120 = dktX11_betters_5 := dk_seg dksX11_betters_4 24 rfl rfl
theorem dX11_betters_0 : decode cX11_betters 0 = .ok (.aload_n 0, 1) := dk_42 (dk_at dksX11_betters_0 0 rfl rfl)
theorem dX11_betters_1 : decode cX11_betters 1 = .ok (.getfield 15, 3) := dk_180 0 15 (dk_at dksX11_betters_0 1 rfl rfl)
theorem dX11_betters_4 : decode cX11_betters 4 = .ok (.iload_n 1, 1) := dk_27 (dk_at dksX11_betters_0 4 rfl rfl)
theorem dX11_betters_5 : decode cX11_betters 5 = .ok (.invokevirtual 32, 3) := dk_182 0 32 (dk_at dksX11_betters_0 5 rfl rfl)
theorem dX11_betters_8 : decode cX11_betters 8 = .ok (.lstore_n 3, 1) := dk_66 (dk_at dksX11_betters_0 8 rfl rfl)
theorem dX11_betters_9 : decode cX11_betters 9 = .ok (.iconst 0, 1) := dk_3 (dk_at dksX11_betters_0 9 rfl rfl)
theorem dX11_betters_10 : decode cX11_betters 10 = .ok (.istore 5, 2) := dk_54 5 (dk_at dksX11_betters_0 10 rfl rfl)
theorem dX11_betters_12 : decode cX11_betters 12 = .ok (.iconst 0, 1) := dk_3 (dk_at dksX11_betters_0 12 rfl rfl)
theorem dX11_betters_13 : decode cX11_betters 13 = .ok (.istore 6, 2) := dk_54 6 (dk_at dksX11_betters_0 13 rfl rfl)
theorem dX11_betters_15 : decode cX11_betters 15 = .ok (.iconst (-1), 1) := dk_2 (dk_at dksX11_betters_0 15 rfl rfl)
theorem dX11_betters_16 : decode cX11_betters 16 = .ok (.istore 7, 2) := dk_54 7 (dk_at dksX11_betters_0 16 rfl rfl)
theorem dX11_betters_18 : decode cX11_betters 18 = .ok (.iload 7, 2) := dk_21 7 (dk_at dksX11_betters_0 18 rfl rfl)
theorem dX11_betters_20 : decode cX11_betters 20 = .ok (.iconst 1, 1) := dk_4 (dk_at dksX11_betters_0 20 rfl rfl)
theorem dX11_betters_21 : decode cX11_betters 21 = .ok (.if_icmp .gt 57, 3) := dk_163 0 57 (dk_at dksX11_betters_0 21 rfl rfl)
theorem dX11_betters_24 : decode cX11_betters 24 = .ok (.iload_n 2, 1) := dk_28 (dk_at dksX11_betters_1 0 rfl rfl)
theorem dX11_betters_25 : decode cX11_betters 25 = .ok (.ineg, 1) := dk_116 (dk_at dksX11_betters_1 1 rfl rfl)
theorem dX11_betters_26 : decode cX11_betters 26 = .ok (.istore 8, 2) := dk_54 8 (dk_at dksX11_betters_1 2 rfl rfl)
theorem dX11_betters_28 : decode cX11_betters 28 = .ok (.iload 8, 2) := dk_21 8 (dk_at dksX11_betters_1 4 rfl rfl)
theorem dX11_betters_30 : decode cX11_betters 30 = .ok (.iload_n 2, 1) := dk_28 (dk_at dksX11_betters_1 6 rfl rfl)
theorem dX11_betters_31 : decode cX11_betters 31 = .ok (.if_icmp .gt 41, 3) := dk_163 0 41 (dk_at dksX11_betters_1 7 rfl rfl)
theorem dX11_betters_34 : decode cX11_betters 34 = .ok (.aload_n 0, 1) := dk_42 (dk_at dksX11_betters_1 10 rfl rfl)
theorem dX11_betters_35 : decode cX11_betters 35 = .ok (.iload_n 1, 1) := dk_27 (dk_at dksX11_betters_1 11 rfl rfl)
theorem dX11_betters_36 : decode cX11_betters 36 = .ok (.iload 7, 2) := dk_21 7 (dk_at dksX11_betters_1 12 rfl rfl)
theorem dX11_betters_38 : decode cX11_betters 38 = .ok (.iload 8, 2) := dk_21 8 (dk_at dksX11_betters_1 14 rfl rfl)
theorem dX11_betters_40 : decode cX11_betters 40 = .ok (.invokevirtual 47, 3) := dk_182 0 47 (dk_at dksX11_betters_1 16 rfl rfl)
theorem dX11_betters_43 : decode cX11_betters 43 = .ok (.lstore 9, 2) := dk_55 9 (dk_at dksX11_betters_1 19 rfl rfl)
theorem dX11_betters_45 : decode cX11_betters 45 = .ok (.lload 9, 2) := dk_22 9 (dk_at dksX11_betters_1 21 rfl rfl)
theorem dX11_betters_47 : decode cX11_betters 47 = .ok (.lload_n 3, 1) := dk_33 (dk_at dksX11_betters_1 23 rfl rfl)
theorem dX11_betters_48 : decode cX11_betters 48 = .ok (.lcmp, 1) := dk_148 (dk_at dksX11_betters_2 0 rfl rfl)
theorem dX11_betters_49 : decode cX11_betters 49 = .ok (.ifCond .lt 6, 3) := dk_155 0 6 (dk_at dksX11_betters_2 1 rfl rfl)
theorem dX11_betters_52 : decode cX11_betters 52 = .ok (.goto 14, 3) := dk_167 0 14 (dk_at dksX11_betters_2 4 rfl rfl)
theorem dX11_betters_55 : decode cX11_betters 55 = .ok (.lload 9, 2) := dk_22 9 (dk_at dksX11_betters_2 7 rfl rfl)
theorem dX11_betters_57 : decode cX11_betters 57 = .ok (.lstore_n 3, 1) := dk_66 (dk_at dksX11_betters_2 9 rfl rfl)
theorem dX11_betters_58 : decode cX11_betters 58 = .ok (.iload 7, 2) := dk_21 7 (dk_at dksX11_betters_2 10 rfl rfl)
theorem dX11_betters_60 : decode cX11_betters 60 = .ok (.istore 5, 2) := dk_54 5 (dk_at dksX11_betters_2 12 rfl rfl)
theorem dX11_betters_62 : decode cX11_betters 62 = .ok (.iload 8, 2) := dk_21 8 (dk_at dksX11_betters_2 14 rfl rfl)
theorem dX11_betters_64 : decode cX11_betters 64 = .ok (.istore 6, 2) := dk_54 6 (dk_at dksX11_betters_2 16 rfl rfl)
theorem dX11_betters_66 : decode cX11_betters 66 = .ok (.iinc 8 1, 3) := dk_132 8 1 (dk_at dksX11_betters_2 18 rfl rfl)
theorem dX11_betters_69 : decode cX11_betters 69 = .ok (.goto (-41), 3) := dk_167 255 215 (dk_at dksX11_betters_2 21 rfl rfl)
theorem dX11_betters_72 : decode cX11_betters 72 = .ok (.iinc 7 1, 3) := dk_132 7 1 (dk_at dksX11_betters_3 0 rfl rfl)
theorem dX11_betters_75 : decode cX11_betters 75 = .ok (.goto (-57), 3) := dk_167 255 199 (dk_at dksX11_betters_3 3 rfl rfl)
theorem dX11_betters_78 : decode cX11_betters 78 = .ok (.iload 5, 2) := dk_21 5 (dk_at dksX11_betters_3 6 rfl rfl)
theorem dX11_betters_80 : decode cX11_betters 80 = .ok (.ifCond .ne 10, 3) := dk_154 0 10 (dk_at dksX11_betters_3 8 rfl rfl)
theorem dX11_betters_83 : decode cX11_betters 83 = .ok (.iload 6, 2) := dk_21 6 (dk_at dksX11_betters_3 11 rfl rfl)
theorem dX11_betters_85 : decode cX11_betters 85 = .ok (.ifCond .ne 5, 3) := dk_154 0 5 (dk_at dksX11_betters_3 13 rfl rfl)
theorem dX11_betters_88 : decode cX11_betters 88 = .ok (.iconst 0, 1) := dk_3 (dk_at dksX11_betters_3 16 rfl rfl)
theorem dX11_betters_89 : decode cX11_betters 89 = .ok (.ireturn, 1) := dk_172 (dk_at dksX11_betters_3 17 rfl rfl)
theorem dX11_betters_90 : decode cX11_betters 90 = .ok (.aload_n 0, 1) := dk_42 (dk_at dksX11_betters_3 18 rfl rfl)
theorem dX11_betters_91 : decode cX11_betters 91 = .ok (.getfield 15, 3) := dk_180 0 15 (dk_at dksX11_betters_3 19 rfl rfl)
theorem dX11_betters_94 : decode cX11_betters 94 = .ok (.iload_n 1, 1) := dk_27 (dk_at dksX11_betters_3 22 rfl rfl)
theorem dX11_betters_95 : decode cX11_betters 95 = .ok (.iconst 0, 1) := dk_3 (dk_at dksX11_betters_3 23 rfl rfl)
theorem dX11_betters_96 : decode cX11_betters 96 = .ok (.iload 5, 2) := dk_21 5 (dk_at dksX11_betters_4 0 rfl rfl)
theorem dX11_betters_98 : decode cX11_betters 98 = .ok (.i2l, 1) := dk_133 (dk_at dksX11_betters_4 2 rfl rfl)
theorem dX11_betters_99 : decode cX11_betters 99 = .ok (.invokevirtual 51, 3) := dk_182 0 51 (dk_at dksX11_betters_4 3 rfl rfl)
theorem dX11_betters_102 : decode cX11_betters 102 = .ok (.iload 6, 2) := dk_21 6 (dk_at dksX11_betters_4 6 rfl rfl)
theorem dX11_betters_104 : decode cX11_betters 104 = .ok (.ifCond .eq 15, 3) := dk_153 0 15 (dk_at dksX11_betters_4 8 rfl rfl)
theorem dX11_betters_107 : decode cX11_betters 107 = .ok (.aload_n 0, 1) := dk_42 (dk_at dksX11_betters_4 11 rfl rfl)
theorem dX11_betters_108 : decode cX11_betters 108 = .ok (.getfield 15, 3) := dk_180 0 15 (dk_at dksX11_betters_4 12 rfl rfl)
theorem dX11_betters_111 : decode cX11_betters 111 = .ok (.iload_n 1, 1) := dk_27 (dk_at dksX11_betters_4 15 rfl rfl)
theorem dX11_betters_112 : decode cX11_betters 112 = .ok (.iconst 1, 1) := dk_4 (dk_at dksX11_betters_4 16 rfl rfl)
theorem dX11_betters_113 : decode cX11_betters 113 = .ok (.iload 6, 2) := dk_21 6 (dk_at dksX11_betters_4 17 rfl rfl)
theorem dX11_betters_115 : decode cX11_betters 115 = .ok (.i2l, 1) := dk_133 (dk_at dksX11_betters_4 19 rfl rfl)
theorem dX11_betters_116 : decode cX11_betters 116 = .ok (.invokevirtual 51, 3) := dk_182 0 51 (dk_at dksX11_betters_4 20 rfl rfl)
theorem dX11_betters_119 : decode cX11_betters 119 = .ok (.aload_n 0, 1) := dk_42 (dk_at dksX11_betters_4 23 rfl rfl)
theorem dX11_betters_120 : decode cX11_betters 120 = .ok (.dup, 1) := dk_89 (dk_at dksX11_betters_5 0 rfl rfl)
theorem dX11_betters_121 : decode cX11_betters 121 = .ok (.getfield 55, 3) := dk_180 0 55 (dk_at dksX11_betters_5 1 rfl rfl)
theorem dX11_betters_124 : decode cX11_betters 124 = .ok (.iconst 1, 1) := dk_4 (dk_at dksX11_betters_5 4 rfl rfl)
theorem dX11_betters_125 : decode cX11_betters 125 = .ok (.iadd, 1) := dk_96 (dk_at dksX11_betters_5 5 rfl rfl)
theorem dX11_betters_126 : decode cX11_betters 126 = .ok (.putfield 55, 3) := dk_181 0 55 (dk_at dksX11_betters_5 6 rfl rfl)
theorem dX11_betters_129 : decode cX11_betters 129 = .ok (.iconst 1, 1) := dk_4 (dk_at dksX11_betters_5 9 rfl rfl)
theorem dX11_betters_130 : decode cX11_betters 130 = .ok (.ireturn, 1) := dk_172 (dk_at dksX11_betters_5 10 rfl rfl)
abbrev cX11_squareWith : ByteArray := prog_11_method_4_code
def yX11_squareWith : MethodName := ⟨RX11, "squareWith", "(III)J"⟩
def dkwX11_squareWith_3 : List UInt8 := [132, 6, 1, 167, 255, 191, 22, 4, 173]
abbrev dktX11_squareWith_3 : List UInt8 := dkwX11_squareWith_3 ++ []
def dkwX11_squareWith_2 : List UInt8 := [180, 0, 36, 4, 50, 21, 6, 47, 105, 97, 55, 7, 22, 4, 22, 7, 22, 7, 105, 97, 55, 4]
abbrev dktX11_squareWith_2 : List UInt8 := dkwX11_squareWith_2 ++ dktX11_squareWith_3
def dkwX11_squareWith_1 : List UInt8 := [28, 133, 42, 180, 0, 15, 180, 0, 36, 3, 50, 21, 6, 47, 105, 97, 29, 133, 42, 180, 0, 15]
abbrev dktX11_squareWith_1 : List UInt8 := dkwX11_squareWith_1 ++ dktX11_squareWith_2
def dkwX11_squareWith_0 : List UInt8 := [9, 55, 4, 3, 54, 6, 21, 6, 6, 162, 0, 65, 42, 180, 0, 15, 180, 0, 36, 27, 50, 21, 6, 47]
abbrev dktX11_squareWith_0 : List UInt8 := dkwX11_squareWith_0 ++ dktX11_squareWith_1
theorem dksX11_squareWith_0 : cX11_squareWith.data.toList.drop 0 = dktX11_squareWith_0 := by decide +kernel
theorem dksX11_squareWith_1 : cX11_squareWith.data.toList.drop 24 = dktX11_squareWith_1 := dk_seg dksX11_squareWith_0 24 rfl rfl
theorem dksX11_squareWith_2 : cX11_squareWith.data.toList.drop 46 = dktX11_squareWith_2 := dk_seg dksX11_squareWith_1 22 rfl rfl
theorem dksX11_squareWith_3 : cX11_squareWith.data.toList.drop 68 = dktX11_squareWith_3 := dk_seg dksX11_squareWith_2 22 rfl rfl
theorem dX11_squareWith_0 : decode cX11_squareWith 0 = .ok (.lconst 0, 1) := dk_9 (dk_at dksX11_squareWith_0 0 rfl rfl)
theorem dX11_squareWith_1 : decode cX11_squareWith 1 = .ok (.lstore 4, 2) := dk_55 4 (dk_at dksX11_squareWith_0 1 rfl rfl)
theorem dX11_squareWith_3 : decode cX11_squareWith 3 = .ok (.iconst 0, 1) := dk_3 (dk_at dksX11_squareWith_0 3 rfl rfl)
theorem dX11_squareWith_4 : decode cX11_squareWith 4 = .ok (.istore 6, 2) := dk_54 6 (dk_at dksX11_squareWith_0 4 rfl rfl)
theorem dX11_squareWith_6 : decode cX11_squareWith 6 = .ok (.iload 6, 2) := dk_21 6 (dk_at dksX11_squareWith_0 6 rfl rfl)
theorem dX11_squareWith_8 : decode cX11_squareWith 8 = .ok (.iconst 3, 1) := dk_6 (dk_at dksX11_squareWith_0 8 rfl rfl)
theorem dX11_squareWith_9 : decode cX11_squareWith 9 = .ok (.if_icmp .ge 65, 3) := dk_162 0 65 (dk_at dksX11_squareWith_0 9 rfl rfl)
theorem dX11_squareWith_12 : decode cX11_squareWith 12 = .ok (.aload_n 0, 1) := dk_42 (dk_at dksX11_squareWith_0 12 rfl rfl)
theorem dX11_squareWith_13 : decode cX11_squareWith 13 = .ok (.getfield 15, 3) := dk_180 0 15 (dk_at dksX11_squareWith_0 13 rfl rfl)
theorem dX11_squareWith_16 : decode cX11_squareWith 16 = .ok (.getfield 36, 3) := dk_180 0 36 (dk_at dksX11_squareWith_0 16 rfl rfl)
theorem dX11_squareWith_19 : decode cX11_squareWith 19 = .ok (.iload_n 1, 1) := dk_27 (dk_at dksX11_squareWith_0 19 rfl rfl)
theorem dX11_squareWith_20 : decode cX11_squareWith 20 = .ok (.aaload, 1) := dk_50 (dk_at dksX11_squareWith_0 20 rfl rfl)
theorem dX11_squareWith_21 : decode cX11_squareWith 21 = .ok (.iload 6, 2) := dk_21 6 (dk_at dksX11_squareWith_0 21 rfl rfl)
theorem dX11_squareWith_23 : decode cX11_squareWith 23 = .ok (.laload, 1) := dk_47 (dk_at dksX11_squareWith_0 23 rfl rfl)
theorem dX11_squareWith_24 : decode cX11_squareWith 24 = .ok (.iload_n 2, 1) := dk_28 (dk_at dksX11_squareWith_1 0 rfl rfl)
theorem dX11_squareWith_25 : decode cX11_squareWith 25 = .ok (.i2l, 1) := dk_133 (dk_at dksX11_squareWith_1 1 rfl rfl)
theorem dX11_squareWith_26 : decode cX11_squareWith 26 = .ok (.aload_n 0, 1) := dk_42 (dk_at dksX11_squareWith_1 2 rfl rfl)
theorem dX11_squareWith_27 : decode cX11_squareWith 27 = .ok (.getfield 15, 3) := dk_180 0 15 (dk_at dksX11_squareWith_1 3 rfl rfl)
theorem dX11_squareWith_30 : decode cX11_squareWith 30 = .ok (.getfield 36, 3) := dk_180 0 36 (dk_at dksX11_squareWith_1 6 rfl rfl)
theorem dX11_squareWith_33 : decode cX11_squareWith 33 = .ok (.iconst 0, 1) := dk_3 (dk_at dksX11_squareWith_1 9 rfl rfl)
theorem dX11_squareWith_34 : decode cX11_squareWith 34 = .ok (.aaload, 1) := dk_50 (dk_at dksX11_squareWith_1 10 rfl rfl)
theorem dX11_squareWith_35 : decode cX11_squareWith 35 = .ok (.iload 6, 2) := dk_21 6 (dk_at dksX11_squareWith_1 11 rfl rfl)
theorem dX11_squareWith_37 : decode cX11_squareWith 37 = .ok (.laload, 1) := dk_47 (dk_at dksX11_squareWith_1 13 rfl rfl)
theorem dX11_squareWith_38 : decode cX11_squareWith 38 = .ok (.lmul, 1) := dk_105 (dk_at dksX11_squareWith_1 14 rfl rfl)
theorem dX11_squareWith_39 : decode cX11_squareWith 39 = .ok (.ladd, 1) := dk_97 (dk_at dksX11_squareWith_1 15 rfl rfl)
theorem dX11_squareWith_40 : decode cX11_squareWith 40 = .ok (.iload_n 3, 1) := dk_29 (dk_at dksX11_squareWith_1 16 rfl rfl)
theorem dX11_squareWith_41 : decode cX11_squareWith 41 = .ok (.i2l, 1) := dk_133 (dk_at dksX11_squareWith_1 17 rfl rfl)
theorem dX11_squareWith_42 : decode cX11_squareWith 42 = .ok (.aload_n 0, 1) := dk_42 (dk_at dksX11_squareWith_1 18 rfl rfl)
theorem dX11_squareWith_43 : decode cX11_squareWith 43 = .ok (.getfield 15, 3) := dk_180 0 15 (dk_at dksX11_squareWith_1 19 rfl rfl)
theorem dX11_squareWith_46 : decode cX11_squareWith 46 = .ok (.getfield 36, 3) := dk_180 0 36 (dk_at dksX11_squareWith_2 0 rfl rfl)
theorem dX11_squareWith_49 : decode cX11_squareWith 49 = .ok (.iconst 1, 1) := dk_4 (dk_at dksX11_squareWith_2 3 rfl rfl)
theorem dX11_squareWith_50 : decode cX11_squareWith 50 = .ok (.aaload, 1) := dk_50 (dk_at dksX11_squareWith_2 4 rfl rfl)
theorem dX11_squareWith_51 : decode cX11_squareWith 51 = .ok (.iload 6, 2) := dk_21 6 (dk_at dksX11_squareWith_2 5 rfl rfl)
theorem dX11_squareWith_53 : decode cX11_squareWith 53 = .ok (.laload, 1) := dk_47 (dk_at dksX11_squareWith_2 7 rfl rfl)
theorem dX11_squareWith_54 : decode cX11_squareWith 54 = .ok (.lmul, 1) := dk_105 (dk_at dksX11_squareWith_2 8 rfl rfl)
theorem dX11_squareWith_55 : decode cX11_squareWith 55 = .ok (.ladd, 1) := dk_97 (dk_at dksX11_squareWith_2 9 rfl rfl)
theorem dX11_squareWith_56 : decode cX11_squareWith 56 = .ok (.lstore 7, 2) := dk_55 7 (dk_at dksX11_squareWith_2 10 rfl rfl)
theorem dX11_squareWith_58 : decode cX11_squareWith 58 = .ok (.lload 4, 2) := dk_22 4 (dk_at dksX11_squareWith_2 12 rfl rfl)
theorem dX11_squareWith_60 : decode cX11_squareWith 60 = .ok (.lload 7, 2) := dk_22 7 (dk_at dksX11_squareWith_2 14 rfl rfl)
theorem dX11_squareWith_62 : decode cX11_squareWith 62 = .ok (.lload 7, 2) := dk_22 7 (dk_at dksX11_squareWith_2 16 rfl rfl)
theorem dX11_squareWith_64 : decode cX11_squareWith 64 = .ok (.lmul, 1) := dk_105 (dk_at dksX11_squareWith_2 18 rfl rfl)
theorem dX11_squareWith_65 : decode cX11_squareWith 65 = .ok (.ladd, 1) := dk_97 (dk_at dksX11_squareWith_2 19 rfl rfl)
theorem dX11_squareWith_66 : decode cX11_squareWith 66 = .ok (.lstore 4, 2) := dk_55 4 (dk_at dksX11_squareWith_2 20 rfl rfl)
theorem dX11_squareWith_68 : decode cX11_squareWith 68 = .ok (.iinc 6 1, 3) := dk_132 6 1 (dk_at dksX11_squareWith_3 0 rfl rfl)
theorem dX11_squareWith_71 : decode cX11_squareWith 71 = .ok (.goto (-65), 3) := dk_167 255 191 (dk_at dksX11_squareWith_3 3 rfl rfl)
theorem dX11_squareWith_74 : decode cX11_squareWith 74 = .ok (.lload 4, 2) := dk_22 4 (dk_at dksX11_squareWith_3 6 rfl rfl)
theorem dX11_squareWith_76 : decode cX11_squareWith 76 = .ok (.lreturn, 1) := dk_173 (dk_at dksX11_squareWith_3 8 rfl rfl)
abbrev cX11_turnsOver : ByteArray := prog_11_method_6_code
def yX11_turnsOver : MethodName := ⟨RX11, "turnsOver", "(I)V"⟩
def dkwX11_turnsOver_2 : List UInt8 := [182, 0, 59, 177, 132, 2, 1, 167, 255, 204, 177]
abbrev dktX11_turnsOver_2 : List UInt8 := dkwX11_turnsOver_2 ++ []
def dkwX11_turnsOver_1 : List UInt8 := [167, 0, 28, 42, 180, 0, 15, 180, 0, 36, 27, 50, 28, 47, 9, 148, 156, 0, 11, 42, 180, 0, 15, 27]
abbrev dktX11_turnsOver_1 : List UInt8 := dkwX11_turnsOver_1 ++ dktX11_turnsOver_2
def dkwX11_turnsOver_0 : List UInt8 := [3, 61, 28, 6, 162, 0, 53, 42, 180, 0, 15, 180, 0, 36, 27, 50, 28, 47, 9, 148, 154, 0, 6]
abbrev dktX11_turnsOver_0 : List UInt8 := dkwX11_turnsOver_0 ++ dktX11_turnsOver_1
theorem dksX11_turnsOver_0 : cX11_turnsOver.data.toList.drop 0 = dktX11_turnsOver_0 := by decide +kernel
theorem dksX11_turnsOver_1 : cX11_turnsOver.data.toList.drop 23 = dktX11_turnsOver_1 := dk_seg dksX11_turnsOver_0 23 rfl rfl
theorem dksX11_turnsOver_2 : cX11_turnsOver.data.toList.drop 47 = dktX11_turnsOver_2 := dk_seg dksX11_turnsOver_1 24 rfl rfl
theorem dX11_turnsOver_0 : decode cX11_turnsOver 0 = .ok (.iconst 0, 1) := dk_3 (dk_at dksX11_turnsOver_0 0 rfl rfl)
theorem dX11_turnsOver_1 : decode cX11_turnsOver 1 = .ok (.istore_n 2, 1) := dk_61 (dk_at dksX11_turnsOver_0 1 rfl rfl)
theorem dX11_turnsOver_2 : decode cX11_turnsOver 2 = .ok (.iload_n 2, 1) := dk_28 (dk_at dksX11_turnsOver_0 2 rfl rfl)
theorem dX11_turnsOver_3 : decode cX11_turnsOver 3 = .ok (.iconst 3, 1) := dk_6 (dk_at dksX11_turnsOver_0 3 rfl rfl)
theorem dX11_turnsOver_4 : decode cX11_turnsOver 4 = .ok (.if_icmp .ge 53, 3) := dk_162 0 53 (dk_at dksX11_turnsOver_0 4 rfl rfl)
theorem dX11_turnsOver_7 : decode cX11_turnsOver 7 = .ok (.aload_n 0, 1) := dk_42 (dk_at dksX11_turnsOver_0 7 rfl rfl)
theorem dX11_turnsOver_8 : decode cX11_turnsOver 8 = .ok (.getfield 15, 3) := dk_180 0 15 (dk_at dksX11_turnsOver_0 8 rfl rfl)
theorem dX11_turnsOver_11 : decode cX11_turnsOver 11 = .ok (.getfield 36, 3) := dk_180 0 36 (dk_at dksX11_turnsOver_0 11 rfl rfl)
theorem dX11_turnsOver_14 : decode cX11_turnsOver 14 = .ok (.iload_n 1, 1) := dk_27 (dk_at dksX11_turnsOver_0 14 rfl rfl)
theorem dX11_turnsOver_15 : decode cX11_turnsOver 15 = .ok (.aaload, 1) := dk_50 (dk_at dksX11_turnsOver_0 15 rfl rfl)
theorem dX11_turnsOver_16 : decode cX11_turnsOver 16 = .ok (.iload_n 2, 1) := dk_28 (dk_at dksX11_turnsOver_0 16 rfl rfl)
theorem dX11_turnsOver_17 : decode cX11_turnsOver 17 = .ok (.laload, 1) := dk_47 (dk_at dksX11_turnsOver_0 17 rfl rfl)
theorem dX11_turnsOver_18 : decode cX11_turnsOver 18 = .ok (.lconst 0, 1) := dk_9 (dk_at dksX11_turnsOver_0 18 rfl rfl)
theorem dX11_turnsOver_19 : decode cX11_turnsOver 19 = .ok (.lcmp, 1) := dk_148 (dk_at dksX11_turnsOver_0 19 rfl rfl)
theorem dX11_turnsOver_20 : decode cX11_turnsOver 20 = .ok (.ifCond .ne 6, 3) := dk_154 0 6 (dk_at dksX11_turnsOver_0 20 rfl rfl)
theorem dX11_turnsOver_23 : decode cX11_turnsOver 23 = .ok (.goto 28, 3) := dk_167 0 28 (dk_at dksX11_turnsOver_1 0 rfl rfl)
theorem dX11_turnsOver_26 : decode cX11_turnsOver 26 = .ok (.aload_n 0, 1) := dk_42 (dk_at dksX11_turnsOver_1 3 rfl rfl)
theorem dX11_turnsOver_27 : decode cX11_turnsOver 27 = .ok (.getfield 15, 3) := dk_180 0 15 (dk_at dksX11_turnsOver_1 4 rfl rfl)
theorem dX11_turnsOver_30 : decode cX11_turnsOver 30 = .ok (.getfield 36, 3) := dk_180 0 36 (dk_at dksX11_turnsOver_1 7 rfl rfl)
theorem dX11_turnsOver_33 : decode cX11_turnsOver 33 = .ok (.iload_n 1, 1) := dk_27 (dk_at dksX11_turnsOver_1 10 rfl rfl)
theorem dX11_turnsOver_34 : decode cX11_turnsOver 34 = .ok (.aaload, 1) := dk_50 (dk_at dksX11_turnsOver_1 11 rfl rfl)
theorem dX11_turnsOver_35 : decode cX11_turnsOver 35 = .ok (.iload_n 2, 1) := dk_28 (dk_at dksX11_turnsOver_1 12 rfl rfl)
theorem dX11_turnsOver_36 : decode cX11_turnsOver 36 = .ok (.laload, 1) := dk_47 (dk_at dksX11_turnsOver_1 13 rfl rfl)
theorem dX11_turnsOver_37 : decode cX11_turnsOver 37 = .ok (.lconst 0, 1) := dk_9 (dk_at dksX11_turnsOver_1 14 rfl rfl)
theorem dX11_turnsOver_38 : decode cX11_turnsOver 38 = .ok (.lcmp, 1) := dk_148 (dk_at dksX11_turnsOver_1 15 rfl rfl)
theorem dX11_turnsOver_39 : decode cX11_turnsOver 39 = .ok (.ifCond .ge 11, 3) := dk_156 0 11 (dk_at dksX11_turnsOver_1 16 rfl rfl)
theorem dX11_turnsOver_42 : decode cX11_turnsOver 42 = .ok (.aload_n 0, 1) := dk_42 (dk_at dksX11_turnsOver_1 19 rfl rfl)
theorem dX11_turnsOver_43 : decode cX11_turnsOver 43 = .ok (.getfield 15, 3) := dk_180 0 15 (dk_at dksX11_turnsOver_1 20 rfl rfl)
theorem dX11_turnsOver_46 : decode cX11_turnsOver 46 = .ok (.iload_n 1, 1) := dk_27 (dk_at dksX11_turnsOver_1 23 rfl rfl)
theorem dX11_turnsOver_47 : decode cX11_turnsOver 47 = .ok (.invokevirtual 59, 3) := dk_182 0 59 (dk_at dksX11_turnsOver_2 0 rfl rfl)
theorem dX11_turnsOver_50 : decode cX11_turnsOver 50 = .ok (.return_, 1) := dk_177 (dk_at dksX11_turnsOver_2 3 rfl rfl)
theorem dX11_turnsOver_51 : decode cX11_turnsOver 51 = .ok (.iinc 2 1, 3) := dk_132 2 1 (dk_at dksX11_turnsOver_2 4 rfl rfl)
theorem dX11_turnsOver_54 : decode cX11_turnsOver 54 = .ok (.goto (-52), 3) := dk_167 255 204 (dk_at dksX11_turnsOver_2 7 rfl rfl)
theorem dX11_turnsOver_57 : decode cX11_turnsOver 57 = .ok (.return_, 1) := dk_177 (dk_at dksX11_turnsOver_2 10 rfl rfl)
abbrev cX11_kissing : ByteArray := prog_11_method_7_code
def yX11_kissing : MethodName := ⟨RX11, "kissing", "()I"⟩
def dkwX11_kissing_6 : List UInt8 := [167, 255, 137, 132, 4, 1, 167, 255, 122, 29, 172]
abbrev dktX11_kissing_6 : List UInt8 := dkwX11_kissing_6 ++ []
def dkwX11_kissing_5 : List UInt8 := [29, 22, 7, 31, 148, 154, 0, 7, 4, 167, 0, 4, 3, 96, 62, 132, 6, 1, 167, 255, 152, 132, 5, 1]
abbrev dktX11_kissing_5 : List UInt8 := dkwX11_kissing_5 ++ dktX11_kissing_6
def dkwX11_kissing_4 : List UInt8 := [50, 21, 9, 47, 105, 97, 55, 10, 22, 7, 22, 10, 22, 10, 105, 97, 55, 7, 132, 9, 1, 167, 255, 185]
abbrev dktX11_kissing_4 : List UInt8 := dkwX11_kissing_4 ++ dktX11_kissing_5
def dkwX11_kissing_3 : List UInt8 := [180, 0, 15, 180, 0, 36, 4, 50, 21, 9, 47, 105, 97, 21, 6, 133, 42, 180, 0, 15, 180, 0, 36, 5]
abbrev dktX11_kissing_3 : List UInt8 := dkwX11_kissing_3 ++ dktX11_kissing_4
def dkwX11_kissing_2 : List UInt8 := [162, 0, 71, 21, 4, 133, 42, 180, 0, 15, 180, 0, 36, 3, 50, 21, 9, 47, 105, 21, 5, 133, 42]
abbrev dktX11_kissing_2 : List UInt8 := dkwX11_kissing_2 ++ dktX11_kissing_3
def dkwX11_kissing_1 : List UInt8 := [21, 5, 4, 163, 0, 119, 2, 54, 6, 21, 6, 4, 163, 0, 104, 9, 55, 7, 3, 54, 9, 21, 9, 6]
abbrev dktX11_kissing_1 : List UInt8 := dkwX11_kissing_1 ++ dktX11_kissing_2
def dkwX11_kissing_0 : List UInt8 := [42, 180, 0, 15, 3, 182, 0, 32, 64, 3, 62, 2, 54, 4, 21, 4, 4, 163, 0, 134, 2, 54, 5]
abbrev dktX11_kissing_0 : List UInt8 := dkwX11_kissing_0 ++ dktX11_kissing_1
theorem dksX11_kissing_0 : cX11_kissing.data.toList.drop 0 = dktX11_kissing_0 := by decide +kernel
theorem dksX11_kissing_1 : cX11_kissing.data.toList.drop 23 = dktX11_kissing_1 := dk_seg dksX11_kissing_0 23 rfl rfl
theorem dksX11_kissing_2 : cX11_kissing.data.toList.drop 47 = dktX11_kissing_2 := dk_seg dksX11_kissing_1 24 rfl rfl
theorem dksX11_kissing_3 : cX11_kissing.data.toList.drop 70 = dktX11_kissing_3 := dk_seg dksX11_kissing_2 23 rfl rfl
theorem dksX11_kissing_4 : cX11_kissing.data.toList.drop 94 = dktX11_kissing_4 := dk_seg dksX11_kissing_3 24 rfl rfl
theorem dksX11_kissing_5 : cX11_kissing.data.toList.drop 118 = dktX11_kissing_5 := dk_seg dksX11_kissing_4 24 rfl rfl
theorem dksX11_kissing_6 : cX11_kissing.data.toList.drop 142 = dktX11_kissing_6 := dk_seg dksX11_kissing_5 24 rfl rfl
theorem dX11_kissing_0 : decode cX11_kissing 0 = .ok (.aload_n 0, 1) := dk_42 (dk_at dksX11_kissing_0 0 rfl rfl)
theorem dX11_kissing_1 : decode cX11_kissing 1 = .ok (.getfield 15, 3) := dk_180 0 15 (dk_at dksX11_kissing_0 1 rfl rfl)
theorem dX11_kissing_4 : decode cX11_kissing 4 = .ok (.iconst 0, 1) := dk_3 (dk_at dksX11_kissing_0 4 rfl rfl)
theorem dX11_kissing_5 : decode cX11_kissing 5 = .ok (.invokevirtual 32, 3) := dk_182 0 32 (dk_at dksX11_kissing_0 5 rfl rfl)
theorem dX11_kissing_8 : decode cX11_kissing 8 = .ok (.lstore_n 1, 1) := dk_64 (dk_at dksX11_kissing_0 8 rfl rfl)
theorem dX11_kissing_9 : decode cX11_kissing 9 = .ok (.iconst 0, 1) := dk_3 (dk_at dksX11_kissing_0 9 rfl rfl)
theorem dX11_kissing_10 : decode cX11_kissing 10 = .ok (.istore_n 3, 1) := dk_62 (dk_at dksX11_kissing_0 10 rfl rfl)
theorem dX11_kissing_11 : decode cX11_kissing 11 = .ok (.iconst (-1), 1) := dk_2 (dk_at dksX11_kissing_0 11 rfl rfl)
theorem dX11_kissing_12 : decode cX11_kissing 12 = .ok (.istore 4, 2) := dk_54 4 (dk_at dksX11_kissing_0 12 rfl rfl)
theorem dX11_kissing_14 : decode cX11_kissing 14 = .ok (.iload 4, 2) := dk_21 4 (dk_at dksX11_kissing_0 14 rfl rfl)
theorem dX11_kissing_16 : decode cX11_kissing 16 = .ok (.iconst 1, 1) := dk_4 (dk_at dksX11_kissing_0 16 rfl rfl)
theorem dX11_kissing_17 : decode cX11_kissing 17 = .ok (.if_icmp .gt 134, 3) := dk_163 0 134 (dk_at dksX11_kissing_0 17 rfl rfl)
theorem dX11_kissing_20 : decode cX11_kissing 20 = .ok (.iconst (-1), 1) := dk_2 (dk_at dksX11_kissing_0 20 rfl rfl)
theorem dX11_kissing_21 : decode cX11_kissing 21 = .ok (.istore 5, 2) := dk_54 5 (dk_at dksX11_kissing_0 21 rfl rfl)
theorem dX11_kissing_23 : decode cX11_kissing 23 = .ok (.iload 5, 2) := dk_21 5 (dk_at dksX11_kissing_1 0 rfl rfl)
theorem dX11_kissing_25 : decode cX11_kissing 25 = .ok (.iconst 1, 1) := dk_4 (dk_at dksX11_kissing_1 2 rfl rfl)
theorem dX11_kissing_26 : decode cX11_kissing 26 = .ok (.if_icmp .gt 119, 3) := dk_163 0 119 (dk_at dksX11_kissing_1 3 rfl rfl)
theorem dX11_kissing_29 : decode cX11_kissing 29 = .ok (.iconst (-1), 1) := dk_2 (dk_at dksX11_kissing_1 6 rfl rfl)
theorem dX11_kissing_30 : decode cX11_kissing 30 = .ok (.istore 6, 2) := dk_54 6 (dk_at dksX11_kissing_1 7 rfl rfl)
theorem dX11_kissing_32 : decode cX11_kissing 32 = .ok (.iload 6, 2) := dk_21 6 (dk_at dksX11_kissing_1 9 rfl rfl)
theorem dX11_kissing_34 : decode cX11_kissing 34 = .ok (.iconst 1, 1) := dk_4 (dk_at dksX11_kissing_1 11 rfl rfl)
theorem dX11_kissing_35 : decode cX11_kissing 35 = .ok (.if_icmp .gt 104, 3) := dk_163 0 104 (dk_at dksX11_kissing_1 12 rfl rfl)
theorem dX11_kissing_38 : decode cX11_kissing 38 = .ok (.lconst 0, 1) := dk_9 (dk_at dksX11_kissing_1 15 rfl rfl)
theorem dX11_kissing_39 : decode cX11_kissing 39 = .ok (.lstore 7, 2) := dk_55 7 (dk_at dksX11_kissing_1 16 rfl rfl)
theorem dX11_kissing_41 : decode cX11_kissing 41 = .ok (.iconst 0, 1) := dk_3 (dk_at dksX11_kissing_1 18 rfl rfl)
theorem dX11_kissing_42 : decode cX11_kissing 42 = .ok (.istore 9, 2) := dk_54 9 (dk_at dksX11_kissing_1 19 rfl rfl)
theorem dX11_kissing_44 : decode cX11_kissing 44 = .ok (.iload 9, 2) := dk_21 9 (dk_at dksX11_kissing_1 21 rfl rfl)
theorem dX11_kissing_46 : decode cX11_kissing 46 = .ok (.iconst 3, 1) := dk_6 (dk_at dksX11_kissing_1 23 rfl rfl)
theorem dX11_kissing_47 : decode cX11_kissing 47 = .ok (.if_icmp .ge 71, 3) := dk_162 0 71 (dk_at dksX11_kissing_2 0 rfl rfl)
theorem dX11_kissing_50 : decode cX11_kissing 50 = .ok (.iload 4, 2) := dk_21 4 (dk_at dksX11_kissing_2 3 rfl rfl)
theorem dX11_kissing_52 : decode cX11_kissing 52 = .ok (.i2l, 1) := dk_133 (dk_at dksX11_kissing_2 5 rfl rfl)
theorem dX11_kissing_53 : decode cX11_kissing 53 = .ok (.aload_n 0, 1) := dk_42 (dk_at dksX11_kissing_2 6 rfl rfl)
theorem dX11_kissing_54 : decode cX11_kissing 54 = .ok (.getfield 15, 3) := dk_180 0 15 (dk_at dksX11_kissing_2 7 rfl rfl)
theorem dX11_kissing_57 : decode cX11_kissing 57 = .ok (.getfield 36, 3) := dk_180 0 36 (dk_at dksX11_kissing_2 10 rfl rfl)
theorem dX11_kissing_60 : decode cX11_kissing 60 = .ok (.iconst 0, 1) := dk_3 (dk_at dksX11_kissing_2 13 rfl rfl)
theorem dX11_kissing_61 : decode cX11_kissing 61 = .ok (.aaload, 1) := dk_50 (dk_at dksX11_kissing_2 14 rfl rfl)
theorem dX11_kissing_62 : decode cX11_kissing 62 = .ok (.iload 9, 2) := dk_21 9 (dk_at dksX11_kissing_2 15 rfl rfl)
theorem dX11_kissing_64 : decode cX11_kissing 64 = .ok (.laload, 1) := dk_47 (dk_at dksX11_kissing_2 17 rfl rfl)
theorem dX11_kissing_65 : decode cX11_kissing 65 = .ok (.lmul, 1) := dk_105 (dk_at dksX11_kissing_2 18 rfl rfl)
theorem dX11_kissing_66 : decode cX11_kissing 66 = .ok (.iload 5, 2) := dk_21 5 (dk_at dksX11_kissing_2 19 rfl rfl)
theorem dX11_kissing_68 : decode cX11_kissing 68 = .ok (.i2l, 1) := dk_133 (dk_at dksX11_kissing_2 21 rfl rfl)
theorem dX11_kissing_69 : decode cX11_kissing 69 = .ok (.aload_n 0, 1) := dk_42 (dk_at dksX11_kissing_2 22 rfl rfl)
theorem dX11_kissing_70 : decode cX11_kissing 70 = .ok (.getfield 15, 3) := dk_180 0 15 (dk_at dksX11_kissing_3 0 rfl rfl)
theorem dX11_kissing_73 : decode cX11_kissing 73 = .ok (.getfield 36, 3) := dk_180 0 36 (dk_at dksX11_kissing_3 3 rfl rfl)
theorem dX11_kissing_76 : decode cX11_kissing 76 = .ok (.iconst 1, 1) := dk_4 (dk_at dksX11_kissing_3 6 rfl rfl)
theorem dX11_kissing_77 : decode cX11_kissing 77 = .ok (.aaload, 1) := dk_50 (dk_at dksX11_kissing_3 7 rfl rfl)
theorem dX11_kissing_78 : decode cX11_kissing 78 = .ok (.iload 9, 2) := dk_21 9 (dk_at dksX11_kissing_3 8 rfl rfl)
theorem dX11_kissing_80 : decode cX11_kissing 80 = .ok (.laload, 1) := dk_47 (dk_at dksX11_kissing_3 10 rfl rfl)
theorem dX11_kissing_81 : decode cX11_kissing 81 = .ok (.lmul, 1) := dk_105 (dk_at dksX11_kissing_3 11 rfl rfl)
theorem dX11_kissing_82 : decode cX11_kissing 82 = .ok (.ladd, 1) := dk_97 (dk_at dksX11_kissing_3 12 rfl rfl)
theorem dX11_kissing_83 : decode cX11_kissing 83 = .ok (.iload 6, 2) := dk_21 6 (dk_at dksX11_kissing_3 13 rfl rfl)
theorem dX11_kissing_85 : decode cX11_kissing 85 = .ok (.i2l, 1) := dk_133 (dk_at dksX11_kissing_3 15 rfl rfl)
theorem dX11_kissing_86 : decode cX11_kissing 86 = .ok (.aload_n 0, 1) := dk_42 (dk_at dksX11_kissing_3 16 rfl rfl)
theorem dX11_kissing_87 : decode cX11_kissing 87 = .ok (.getfield 15, 3) := dk_180 0 15 (dk_at dksX11_kissing_3 17 rfl rfl)
theorem dX11_kissing_90 : decode cX11_kissing 90 = .ok (.getfield 36, 3) := dk_180 0 36 (dk_at dksX11_kissing_3 20 rfl rfl)
theorem dX11_kissing_93 : decode cX11_kissing 93 = .ok (.iconst 2, 1) := dk_5 (dk_at dksX11_kissing_3 23 rfl rfl)
theorem dX11_kissing_94 : decode cX11_kissing 94 = .ok (.aaload, 1) := dk_50 (dk_at dksX11_kissing_4 0 rfl rfl)
theorem dX11_kissing_95 : decode cX11_kissing 95 = .ok (.iload 9, 2) := dk_21 9 (dk_at dksX11_kissing_4 1 rfl rfl)
theorem dX11_kissing_97 : decode cX11_kissing 97 = .ok (.laload, 1) := dk_47 (dk_at dksX11_kissing_4 3 rfl rfl)
theorem dX11_kissing_98 : decode cX11_kissing 98 = .ok (.lmul, 1) := dk_105 (dk_at dksX11_kissing_4 4 rfl rfl)
theorem dX11_kissing_99 : decode cX11_kissing 99 = .ok (.ladd, 1) := dk_97 (dk_at dksX11_kissing_4 5 rfl rfl)
theorem dX11_kissing_100 : decode cX11_kissing 100 = .ok (.lstore 10, 2) := dk_55 10 (dk_at dksX11_kissing_4 6 rfl rfl)
theorem dX11_kissing_102 : decode cX11_kissing 102 = .ok (.lload 7, 2) := dk_22 7 (dk_at dksX11_kissing_4 8 rfl rfl)
theorem dX11_kissing_104 : decode cX11_kissing 104 = .ok (.lload 10, 2) := dk_22 10 (dk_at dksX11_kissing_4 10 rfl rfl)
theorem dX11_kissing_106 : decode cX11_kissing 106 = .ok (.lload 10, 2) := dk_22 10 (dk_at dksX11_kissing_4 12 rfl rfl)
theorem dX11_kissing_108 : decode cX11_kissing 108 = .ok (.lmul, 1) := dk_105 (dk_at dksX11_kissing_4 14 rfl rfl)
theorem dX11_kissing_109 : decode cX11_kissing 109 = .ok (.ladd, 1) := dk_97 (dk_at dksX11_kissing_4 15 rfl rfl)
theorem dX11_kissing_110 : decode cX11_kissing 110 = .ok (.lstore 7, 2) := dk_55 7 (dk_at dksX11_kissing_4 16 rfl rfl)
theorem dX11_kissing_112 : decode cX11_kissing 112 = .ok (.iinc 9 1, 3) := dk_132 9 1 (dk_at dksX11_kissing_4 18 rfl rfl)
theorem dX11_kissing_115 : decode cX11_kissing 115 = .ok (.goto (-71), 3) := dk_167 255 185 (dk_at dksX11_kissing_4 21 rfl rfl)
theorem dX11_kissing_118 : decode cX11_kissing 118 = .ok (.iload_n 3, 1) := dk_29 (dk_at dksX11_kissing_5 0 rfl rfl)
theorem dX11_kissing_119 : decode cX11_kissing 119 = .ok (.lload 7, 2) := dk_22 7 (dk_at dksX11_kissing_5 1 rfl rfl)
theorem dX11_kissing_121 : decode cX11_kissing 121 = .ok (.lload_n 1, 1) := dk_31 (dk_at dksX11_kissing_5 3 rfl rfl)
theorem dX11_kissing_122 : decode cX11_kissing 122 = .ok (.lcmp, 1) := dk_148 (dk_at dksX11_kissing_5 4 rfl rfl)
theorem dX11_kissing_123 : decode cX11_kissing 123 = .ok (.ifCond .ne 7, 3) := dk_154 0 7 (dk_at dksX11_kissing_5 5 rfl rfl)
theorem dX11_kissing_126 : decode cX11_kissing 126 = .ok (.iconst 1, 1) := dk_4 (dk_at dksX11_kissing_5 8 rfl rfl)
theorem dX11_kissing_127 : decode cX11_kissing 127 = .ok (.goto 4, 3) := dk_167 0 4 (dk_at dksX11_kissing_5 9 rfl rfl)
theorem dX11_kissing_130 : decode cX11_kissing 130 = .ok (.iconst 0, 1) := dk_3 (dk_at dksX11_kissing_5 12 rfl rfl)
theorem dX11_kissing_131 : decode cX11_kissing 131 = .ok (.iadd, 1) := dk_96 (dk_at dksX11_kissing_5 13 rfl rfl)
theorem dX11_kissing_132 : decode cX11_kissing 132 = .ok (.istore_n 3, 1) := dk_62 (dk_at dksX11_kissing_5 14 rfl rfl)
theorem dX11_kissing_133 : decode cX11_kissing 133 = .ok (.iinc 6 1, 3) := dk_132 6 1 (dk_at dksX11_kissing_5 15 rfl rfl)
theorem dX11_kissing_136 : decode cX11_kissing 136 = .ok (.goto (-104), 3) := dk_167 255 152 (dk_at dksX11_kissing_5 18 rfl rfl)
theorem dX11_kissing_139 : decode cX11_kissing 139 = .ok (.iinc 5 1, 3) := dk_132 5 1 (dk_at dksX11_kissing_5 21 rfl rfl)
theorem dX11_kissing_142 : decode cX11_kissing 142 = .ok (.goto (-119), 3) := dk_167 255 137 (dk_at dksX11_kissing_6 0 rfl rfl)
theorem dX11_kissing_145 : decode cX11_kissing 145 = .ok (.iinc 4 1, 3) := dk_132 4 1 (dk_at dksX11_kissing_6 3 rfl rfl)
theorem dX11_kissing_148 : decode cX11_kissing 148 = .ok (.goto (-134), 3) := dk_167 255 122 (dk_at dksX11_kissing_6 6 rfl rfl)
theorem dX11_kissing_151 : decode cX11_kissing 151 = .ok (.iload_n 3, 1) := dk_29 (dk_at dksX11_kissing_6 9 rfl rfl)
theorem dX11_kissing_152 : decode cX11_kissing 152 = .ok (.ireturn, 1) := dk_172 (dk_at dksX11_kissing_6 10 rfl rfl)
theorem q148 : (Jvm.Cond.initialized "CoincideBench$Reduced") ∈ lw_all := lw_g (lw_at lw_m1 30 rfl) rfl
theorem q208 : (Jvm.Cond.fieldLinkNest "CoincideBench$Reduced" (36 : Nat) "CoincideBench$Rows" "at" "[[J" "CoincideBench") ∈ lw_tbl := lw_at lw_m1 90 rfl
theorem q698 : (Jvm.Cond.selects "CoincideBench$Reduced" ({ cls := "java/lang/Object", name := "equals", desc := "(Ljava/lang/Object;)Z" } : Jvm.MethodName) ({ cls := "java/lang/Object", name := "equals", desc := "(Ljava/lang/Object;)Z" } : Jvm.MethodName)) ∈ lw_all := lw_g (lw_at lw_m3 100 rfl) rfl
theorem q834 : (Jvm.Cond.selects "CoincideBench$Reduced" ({ cls := "java/lang/Object", name := "getClass", desc := "()Ljava/lang/Class;" } : Jvm.MethodName) ({ cls := "java/lang/Object", name := "getClass", desc := "()Ljava/lang/Class;" } : Jvm.MethodName)) ∈ lw_all := lw_g (lw_at lw_m3 236 rfl) rfl
theorem q1222 : (Jvm.Cond.instantiable "CoincideBench$Reduced" (2 : Nat)) ∈ lw_all := lw_g (lw_at lw_m5 144 rfl) rfl
theorem q1224 : (Jvm.Cond.instanceMethod ({ cls := "CoincideBench$Reduced", name := "<init>", desc := "(LCoincideBench$Rows;)V" } : Jvm.MethodName)) ∈ lw_all := lw_g (lw_at lw_m5 146 rfl) rfl
theorem q1225 : (Jvm.Cond.code ({ cls := "CoincideBench$Reduced", name := "<init>", desc := "(LCoincideBench$Rows;)V" } : Jvm.MethodName) prog_11_method_1_code (3 : Nat) (Option.none : Option Jvm.ClassFile.FieldType)) ∈ lw_all := lw_g (lw_at lw_m5 147 rfl) rfl
theorem q1226 : (Jvm.Cond.methodLink "CoincideBench$Reduced" (3 : Nat) ({ cls := "java/lang/Object", name := "<init>", desc := "()V" } : Jvm.MethodName)) ∈ lw_all := lw_g (lw_at lw_m5 148 rfl) rfl
theorem q1227 : (Jvm.Cond.methodLink "CoincideBench$Reduced" (9 : Nat) ({ cls := "CoincideBench$Rows", name := "copy", desc := "()LCoincideBench$Rows;" } : Jvm.MethodName)) ∈ lw_all := lw_g (lw_at lw_m5 149 rfl) rfl
theorem q1228 : (Jvm.Cond.methodLink "CoincideBench$Reduced" (21 : Nat) ({ cls := "CoincideBench$Reduced", name := "orders", desc := "()V" } : Jvm.MethodName)) ∈ lw_all := lw_g (lw_at lw_m5 150 rfl) rfl
theorem q1229 : (Jvm.Cond.privateMethod ({ cls := "CoincideBench$Reduced", name := "orders", desc := "()V" } : Jvm.MethodName)) ∈ lw_tbl := lw_at lw_m5 151 rfl
theorem q1230 : (Jvm.Cond.instanceMethod ({ cls := "CoincideBench$Reduced", name := "orders", desc := "()V" } : Jvm.MethodName)) ∈ lw_all := lw_g (lw_at lw_m5 152 rfl) rfl
theorem q1231 : (Jvm.Cond.code ({ cls := "CoincideBench$Reduced", name := "orders", desc := "()V" } : Jvm.MethodName) prog_11_method_3_code (3 : Nat) (Option.none : Option Jvm.ClassFile.FieldType)) ∈ lw_all := lw_g (lw_at lw_m5 153 rfl) rfl
theorem q1232 : (Jvm.Cond.methodLink "CoincideBench$Reduced" (40 : Nat) ({ cls := "CoincideBench$Reduced", name := "isAhead", desc := "(II)Z" } : Jvm.MethodName)) ∈ lw_all := lw_g (lw_at lw_m5 154 rfl) rfl
theorem q1233 : (Jvm.Cond.privateMethod ({ cls := "CoincideBench$Reduced", name := "isAhead", desc := "(II)Z" } : Jvm.MethodName)) ∈ lw_tbl := lw_at lw_m5 155 rfl
theorem q1234 : (Jvm.Cond.instanceMethod ({ cls := "CoincideBench$Reduced", name := "isAhead", desc := "(II)Z" } : Jvm.MethodName)) ∈ lw_all := lw_g (lw_at lw_m5 156 rfl) rfl
theorem q1235 : (Jvm.Cond.code ({ cls := "CoincideBench$Reduced", name := "isAhead", desc := "(II)Z" } : Jvm.MethodName) prog_11_method_2_code (8 : Nat) (Option.some Jvm.ClassFile.FieldType.boolean)) ∈ lw_all := lw_g (lw_at lw_m5 157 rfl) rfl
theorem q1236 : (Jvm.Cond.methodLink "CoincideBench$Reduced" (32 : Nat) ({ cls := "CoincideBench$Rows", name := "square", desc := "(I)J" } : Jvm.MethodName)) ∈ lw_all := lw_g (lw_at lw_m5 158 rfl) rfl
theorem q1240 : (Jvm.Cond.methodLink "CoincideBench$Reduced" (43 : Nat) ({ cls := "CoincideBench$Rows", name := "exchanges", desc := "(II)V" } : Jvm.MethodName)) ∈ lw_all := lw_g (lw_at lw_m5 162 rfl) rfl
theorem q1241 : (Jvm.Cond.methodLink "CoincideBench$Reduced" (24 : Nat) ({ cls := "CoincideBench$Reduced", name := "betters", desc := "(II)Z" } : Jvm.MethodName)) ∈ lw_all := lw_g (lw_at lw_m5 163 rfl) rfl
theorem q1242 : (Jvm.Cond.privateMethod ({ cls := "CoincideBench$Reduced", name := "betters", desc := "(II)Z" } : Jvm.MethodName)) ∈ lw_tbl := lw_at lw_m5 164 rfl
theorem q1243 : (Jvm.Cond.instanceMethod ({ cls := "CoincideBench$Reduced", name := "betters", desc := "(II)Z" } : Jvm.MethodName)) ∈ lw_all := lw_g (lw_at lw_m5 165 rfl) rfl
theorem q1244 : (Jvm.Cond.code ({ cls := "CoincideBench$Reduced", name := "betters", desc := "(II)Z" } : Jvm.MethodName) prog_11_method_5_code (11 : Nat) (Option.some Jvm.ClassFile.FieldType.boolean)) ∈ lw_all := lw_g (lw_at lw_m5 166 rfl) rfl
theorem q1245 : (Jvm.Cond.methodLink "CoincideBench$Reduced" (47 : Nat) ({ cls := "CoincideBench$Reduced", name := "squareWith", desc := "(III)J" } : Jvm.MethodName)) ∈ lw_all := lw_g (lw_at lw_m5 167 rfl) rfl
theorem q1246 : (Jvm.Cond.privateMethod ({ cls := "CoincideBench$Reduced", name := "squareWith", desc := "(III)J" } : Jvm.MethodName)) ∈ lw_tbl := lw_at lw_m5 168 rfl
theorem q1247 : (Jvm.Cond.instanceMethod ({ cls := "CoincideBench$Reduced", name := "squareWith", desc := "(III)J" } : Jvm.MethodName)) ∈ lw_all := lw_g (lw_at lw_m5 169 rfl) rfl
theorem q1248 : (Jvm.Cond.code ({ cls := "CoincideBench$Reduced", name := "squareWith", desc := "(III)J" } : Jvm.MethodName) prog_11_method_4_code (9 : Nat) (Option.some Jvm.ClassFile.FieldType.long)) ∈ lw_all := lw_g (lw_at lw_m5 170 rfl) rfl
theorem q1249 : (Jvm.Cond.methodLink "CoincideBench$Reduced" (51 : Nat) ({ cls := "CoincideBench$Rows", name := "adds", desc := "(IIJ)V" } : Jvm.MethodName)) ∈ lw_all := lw_g (lw_at lw_m5 171 rfl) rfl
theorem q1250 : (Jvm.Cond.methodLink "CoincideBench$Reduced" (28 : Nat) ({ cls := "CoincideBench$Reduced", name := "turnsOver", desc := "(I)V" } : Jvm.MethodName)) ∈ lw_all := lw_g (lw_at lw_m5 172 rfl) rfl
theorem q1251 : (Jvm.Cond.privateMethod ({ cls := "CoincideBench$Reduced", name := "turnsOver", desc := "(I)V" } : Jvm.MethodName)) ∈ lw_tbl := lw_at lw_m5 173 rfl
theorem q1252 : (Jvm.Cond.instanceMethod ({ cls := "CoincideBench$Reduced", name := "turnsOver", desc := "(I)V" } : Jvm.MethodName)) ∈ lw_all := lw_g (lw_at lw_m5 174 rfl) rfl
theorem q1253 : (Jvm.Cond.code ({ cls := "CoincideBench$Reduced", name := "turnsOver", desc := "(I)V" } : Jvm.MethodName) prog_11_method_6_code (3 : Nat) (Option.none : Option Jvm.ClassFile.FieldType)) ∈ lw_all := lw_g (lw_at lw_m5 175 rfl) rfl
theorem q1254 : (Jvm.Cond.methodLink "CoincideBench$Reduced" (59 : Nat) ({ cls := "CoincideBench$Rows", name := "turnsOver", desc := "(I)V" } : Jvm.MethodName)) ∈ lw_all := lw_g (lw_at lw_m5 176 rfl) rfl
theorem q1255 : (Jvm.Cond.fieldLink "CoincideBench$Reduced" (15 : Nat) "CoincideBench$Reduced" "rows" "LCoincideBench$Rows;") ∈ lw_all := lw_g (lw_at lw_m5 177 rfl) rfl
theorem q1257 : (Jvm.Cond.fieldLink "CoincideBench$Reduced" (55 : Nat) "CoincideBench$Reduced" "bettered" "I") ∈ lw_all := lw_g (lw_at lw_m5 179 rfl) rfl
theorem q1259 : (Jvm.Cond.laysFinal "CoincideBench$Reduced" "CoincideBench$Reduced" "rows" "LCoincideBench$Rows;") ∈ lw_all := lw_g (lw_at lw_m5 181 rfl) rfl
theorem q1260 : (Jvm.Cond.soleField "CoincideBench$Reduced" "rows") ∈ lw_all := lw_g (lw_at lw_m5 182 rfl) rfl
theorem q1261 : (Jvm.Cond.lays "CoincideBench$Reduced" "CoincideBench$Reduced" "bettered" "I") ∈ lw_all := lw_g (lw_at lw_m5 183 rfl) rfl
theorem q1262 : (Jvm.Cond.soleField "CoincideBench$Reduced" "bettered") ∈ lw_all := lw_g (lw_at lw_m5 184 rfl) rfl
theorem q1263 : (Jvm.Cond.superclass "CoincideBench$Reduced" "java/lang/Object") ∈ lw_all := lw_g (lw_at lw_m5 185 rfl) rfl
theorem q1278 : (Jvm.Cond.privateMethod ({ cls := "CoincideBench$Reduced", name := "kissing", desc := "()I" } : Jvm.MethodName)) ∈ lw_tbl := lw_at lw_m5 200 rfl
theorem q1279 : (Jvm.Cond.instanceMethod ({ cls := "CoincideBench$Reduced", name := "kissing", desc := "()I" } : Jvm.MethodName)) ∈ lw_all := lw_g (lw_at lw_m5 201 rfl) rfl
theorem q1280 : (Jvm.Cond.code ({ cls := "CoincideBench$Reduced", name := "kissing", desc := "()I" } : Jvm.MethodName) prog_11_method_7_code (12 : Nat) (Option.some Jvm.ClassFile.FieldType.int)) ∈ lw_all := lw_g (lw_at lw_m5 202 rfl) rfl
theorem q2210 : (Jvm.Cond.castable "CoincideBench$Reduced" "java/lang/Object") ∈ lw_tbl := lw_at lw_m9 172 rfl
theorem in_X11 : ∀ w ∈ wsX110, w ∈ lw_all := lw_in wsX110 [1259, 1261] (by decide +kernel) (by decide +kernel)
