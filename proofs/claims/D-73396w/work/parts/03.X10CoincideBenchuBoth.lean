/-! CoincideBench$Both -/
set_option maxRecDepth 100000
def RX10 : String := "CoincideBench$Both"
def TX10 : u_T := fun k => match k with
  | 0 => ("CoincideBench$Both", "rows", "LCoincideBench$Rows;", true)
  | _ => ("CoincideBench$Both", "over", "J", true)
def tyX10 : Nat → FieldType := fun k => match k with
  | 0 => .object "CoincideBench$Rows"
  | _ => .long
abbrev wsX100 : List Cond := u_ws RX10 TX10 2
theorem nmX10 : ∀ a, a < 2 → ∀ b, b < 2 → a ≠ b → (TX10 a).2.1 ≠ (TX10 b).2.1 := by decide +kernel
theorem tyX10_ok : ∀ k, k < 2 → parseFieldDescriptor (TX10 k).2.2.1 = some (tyX10 k) := by decide +kernel
abbrev cX10_init : ByteArray := prog_3_method_1_code
def yX10_init : MethodName := ⟨RX10, "<init>", "(LCoincideBench$Rows;J)V"⟩
def dkwX10_init_1 : List UInt8 := [42, 32, 22, 4, 109, 181, 0, 29, 177]
abbrev dktX10_init_1 : List UInt8 := dkwX10_init_1 ++ []
def dkwX10_init_0 : List UInt8 := [42, 183, 0, 1, 43, 182, 0, 7, 32, 184, 0, 13, 55, 4, 42, 43, 22, 4, 182, 0, 19, 181, 0, 23]
abbrev dktX10_init_0 : List UInt8 := dkwX10_init_0 ++ dktX10_init_1
theorem dksX10_init_0 : cX10_init.data.toList.drop 0 = dktX10_init_0 := by decide +kernel
theorem dksX10_init_1 : cX10_init.data.toList.drop 24 = dktX10_init_1 := dk_seg dksX10_init_0 24 rfl rfl
theorem dX10_init_0 : decode cX10_init 0 = .ok (.aload_n 0, 1) := dk_42 (dk_at dksX10_init_0 0 rfl rfl)
theorem dX10_init_1 : decode cX10_init 1 = .ok (.invokespecial 1, 3) := dk_183 0 1 (dk_at dksX10_init_0 1 rfl rfl)
theorem dX10_init_4 : decode cX10_init 4 = .ok (.aload_n 1, 1) := dk_43 (dk_at dksX10_init_0 4 rfl rfl)
theorem dX10_init_5 : decode cX10_init 5 = .ok (.invokevirtual 7, 3) := dk_182 0 7 (dk_at dksX10_init_0 5 rfl rfl)
theorem dX10_init_8 : decode cX10_init 8 = .ok (.lload_n 2, 1) := dk_32 (dk_at dksX10_init_0 8 rfl rfl)
theorem dX10_init_9 : decode cX10_init 9 = .ok (.invokestatic 13, 3) := dk_184 0 13 (dk_at dksX10_init_0 9 rfl rfl)
theorem dX10_init_12 : decode cX10_init 12 = .ok (.lstore 4, 2) := dk_55 4 (dk_at dksX10_init_0 12 rfl rfl)
theorem dX10_init_14 : decode cX10_init 14 = .ok (.aload_n 0, 1) := dk_42 (dk_at dksX10_init_0 14 rfl rfl)
theorem dX10_init_15 : decode cX10_init 15 = .ok (.aload_n 1, 1) := dk_43 (dk_at dksX10_init_0 15 rfl rfl)
theorem dX10_init_16 : decode cX10_init 16 = .ok (.lload 4, 2) := dk_22 4 (dk_at dksX10_init_0 16 rfl rfl)
theorem dX10_init_18 : decode cX10_init 18 = .ok (.invokevirtual 19, 3) := dk_182 0 19 (dk_at dksX10_init_0 18 rfl rfl)
theorem dX10_init_21 : decode cX10_init 21 = .ok (.putfield 23, 3) := dk_181 0 23 (dk_at dksX10_init_0 21 rfl rfl)
theorem dX10_init_24 : decode cX10_init 24 = .ok (.aload_n 0, 1) := dk_42 (dk_at dksX10_init_1 0 rfl rfl)
theorem dX10_init_25 : decode cX10_init 25 = .ok (.lload_n 2, 1) := dk_32 (dk_at dksX10_init_1 1 rfl rfl)
theorem dX10_init_26 : decode cX10_init 26 = .ok (.lload 4, 2) := dk_22 4 (dk_at dksX10_init_1 2 rfl rfl)
theorem dX10_init_28 : decode cX10_init 28 = .ok (.ldiv, 1) := dk_109 (dk_at dksX10_init_1 4 rfl rfl)
theorem dX10_init_29 : decode cX10_init 29 = .ok (.putfield 29, 3) := dk_181 0 29 (dk_at dksX10_init_1 5 rfl rfl)
theorem dX10_init_32 : decode cX10_init 32 = .ok (.return_, 1) := dk_177 (dk_at dksX10_init_1 8 rfl rfl)
theorem q147 : (Jvm.Cond.initialized "CoincideBench$Both") ∈ lw_all := lw_g (lw_at lw_m1 29 rfl) rfl
theorem q691 : (Jvm.Cond.selects "CoincideBench$Both" ({ cls := "java/lang/Object", name := "equals", desc := "(Ljava/lang/Object;)Z" } : Jvm.MethodName) ({ cls := "java/lang/Object", name := "equals", desc := "(Ljava/lang/Object;)Z" } : Jvm.MethodName)) ∈ lw_all := lw_g (lw_at lw_m3 93 rfl) rfl
theorem q827 : (Jvm.Cond.selects "CoincideBench$Both" ({ cls := "java/lang/Object", name := "getClass", desc := "()Ljava/lang/Class;" } : Jvm.MethodName) ({ cls := "java/lang/Object", name := "getClass", desc := "()Ljava/lang/Class;" } : Jvm.MethodName)) ∈ lw_all := lw_g (lw_at lw_m3 229 rfl) rfl
theorem q1150 : (Jvm.Cond.instantiable "CoincideBench$Both" (2 : Nat)) ∈ lw_all := lw_g (lw_at lw_m5 72 rfl) rfl
theorem q1152 : (Jvm.Cond.instanceMethod ({ cls := "CoincideBench$Both", name := "<init>", desc := "(LCoincideBench$Rows;J)V" } : Jvm.MethodName)) ∈ lw_all := lw_g (lw_at lw_m5 74 rfl) rfl
theorem q1153 : (Jvm.Cond.code ({ cls := "CoincideBench$Both", name := "<init>", desc := "(LCoincideBench$Rows;J)V" } : Jvm.MethodName) prog_3_method_1_code (6 : Nat) (Option.none : Option Jvm.ClassFile.FieldType)) ∈ lw_all := lw_g (lw_at lw_m5 75 rfl) rfl
theorem q1154 : (Jvm.Cond.methodLink "CoincideBench$Both" (1 : Nat) ({ cls := "java/lang/Object", name := "<init>", desc := "()V" } : Jvm.MethodName)) ∈ lw_all := lw_g (lw_at lw_m5 76 rfl) rfl
theorem q1155 : (Jvm.Cond.methodLink "CoincideBench$Both" (7 : Nat) ({ cls := "CoincideBench$Rows", name := "common", desc := "()J" } : Jvm.MethodName)) ∈ lw_all := lw_g (lw_at lw_m5 77 rfl) rfl
theorem q1156 : (Jvm.Cond.methodLinkNest "CoincideBench$Both" (13 : Nat) ({ cls := "CoincideBench", name := "divisor", desc := "(JJ)J" } : Jvm.MethodName) "CoincideBench") ∈ lw_tbl := lw_at lw_m5 78 rfl
theorem q1157 : (Jvm.Cond.methodLink "CoincideBench$Both" (19 : Nat) ({ cls := "CoincideBench$Rows", name := "by", desc := "(J)LCoincideBench$Rows;" } : Jvm.MethodName)) ∈ lw_all := lw_g (lw_at lw_m5 79 rfl) rfl
theorem q1158 : (Jvm.Cond.fieldLink "CoincideBench$Both" (23 : Nat) "CoincideBench$Both" "rows" "LCoincideBench$Rows;") ∈ lw_all := lw_g (lw_at lw_m5 80 rfl) rfl
theorem q1160 : (Jvm.Cond.fieldLink "CoincideBench$Both" (29 : Nat) "CoincideBench$Both" "over" "J") ∈ lw_all := lw_g (lw_at lw_m5 82 rfl) rfl
theorem q1162 : (Jvm.Cond.laysFinal "CoincideBench$Both" "CoincideBench$Both" "rows" "LCoincideBench$Rows;") ∈ lw_all := lw_g (lw_at lw_m5 84 rfl) rfl
theorem q1163 : (Jvm.Cond.soleField "CoincideBench$Both" "rows") ∈ lw_all := lw_g (lw_at lw_m5 85 rfl) rfl
theorem q1164 : (Jvm.Cond.laysFinal "CoincideBench$Both" "CoincideBench$Both" "over" "J") ∈ lw_all := lw_g (lw_at lw_m5 86 rfl) rfl
theorem q1165 : (Jvm.Cond.soleField "CoincideBench$Both" "over") ∈ lw_all := lw_g (lw_at lw_m5 87 rfl) rfl
theorem q1166 : (Jvm.Cond.superclass "CoincideBench$Both" "java/lang/Object") ∈ lw_all := lw_g (lw_at lw_m5 88 rfl) rfl
theorem q2209 : (Jvm.Cond.castable "CoincideBench$Both" "java/lang/Object") ∈ lw_tbl := lw_at lw_m9 171 rfl
theorem in_X10 : ∀ w ∈ wsX100, w ∈ lw_all := lw_in wsX100 [1162, 1164] (by decide +kernel) (by decide +kernel)
