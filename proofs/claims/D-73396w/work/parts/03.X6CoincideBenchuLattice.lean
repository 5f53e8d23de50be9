/-! CoincideBench$Lattice -/
set_option maxRecDepth 100000
def RX6 : String := "CoincideBench$Lattice"
def TX6 : u_T := fun k => match k with
  | _ => ("CoincideBench$Lattice", "rows", "LCoincideBench$Rows;", false)
def tyX6 : Nat → FieldType := fun k => match k with
  | _ => .object "CoincideBench$Rows"
abbrev wsX60 : List Cond := u_ws RX6 TX6 1
theorem nmX6 : ∀ a, a < 1 → ∀ b, b < 1 → a ≠ b → (TX6 a).2.1 ≠ (TX6 b).2.1 := by decide +kernel
theorem tyX6_ok : ∀ k, k < 1 → parseFieldDescriptor (TX6 k).2.2.1 = some (tyX6 k) := by decide +kernel
abbrev cX6_isTurned : ByteArray := prog_9_method_4_code
def yX6_isTurned : MethodName := ⟨RX6, "isTurned", "()Z"⟩
theorem dX6_isTurned_0 : decode cX6_isTurned 0 = .ok (.iconst 0, 1) := by decide +kernel
theorem dX6_isTurned_1 : decode cX6_isTurned 1 = .ok (.ireturn, 1) := by decide +kernel
abbrev cX6_init : ByteArray := prog_9_method_1_code
def yX6_init : MethodName := ⟨RX6, "<init>", "()V"⟩
def dkwX6_init_0 : List UInt8 := [42, 183, 0, 1, 42, 187, 0, 7, 89, 183, 0, 9, 181, 0, 10, 177]
abbrev dktX6_init_0 : List UInt8 := dkwX6_init_0 ++ []
theorem dksX6_init_0 : cX6_init.data.toList.drop 0 = dktX6_init_0 := by decide +kernel
theorem dX6_init_0 : decode cX6_init 0 = .ok (.aload_n 0, 1) := dk_42 (dk_at dksX6_init_0 0 rfl rfl)
theorem dX6_init_1 : decode cX6_init 1 = .ok (.invokespecial 1, 3) := dk_183 0 1 (dk_at dksX6_init_0 1 rfl rfl)
theorem dX6_init_4 : decode cX6_init 4 = .ok (.aload_n 0, 1) := dk_42 (dk_at dksX6_init_0 4 rfl rfl)
theorem dX6_init_5 : decode cX6_init 5 = .ok (.new 7, 3) := dk_187 0 7 (dk_at dksX6_init_0 5 rfl rfl)
theorem dX6_init_8 : decode cX6_init 8 = .ok (.dup, 1) := dk_89 (dk_at dksX6_init_0 8 rfl rfl)
theorem dX6_init_9 : decode cX6_init 9 = .ok (.invokespecial 9, 3) := dk_183 0 9 (dk_at dksX6_init_0 9 rfl rfl)
theorem dX6_init_12 : decode cX6_init 12 = .ok (.putfield 10, 3) := dk_181 0 10 (dk_at dksX6_init_0 12 rfl rfl)
theorem dX6_init_15 : decode cX6_init 15 = .ok (.return_, 1) := dk_177 (dk_at dksX6_init_0 15 rfl rfl)
abbrev cX6_rows : ByteArray := prog_9_method_2_code
def yX6_rows : MethodName := ⟨RX6, "rows", "()LCoincideBench$Rows;"⟩
theorem dX6_rows_0 : decode cX6_rows 0 = .ok (.aload_n 0, 1) := by decide +kernel
theorem dX6_rows_1 : decode cX6_rows 1 = .ok (.getfield 10, 3) := by decide +kernel
theorem dX6_rows_4 : decode cX6_rows 4 = .ok (.areturn, 1) := by decide +kernel
abbrev cX6_over : ByteArray := prog_9_method_3_code
def yX6_over : MethodName := ⟨RX6, "over", "()J"⟩
theorem dX6_over_0 : decode cX6_over 0 = .ok (.lconst 1, 1) := by decide +kernel
theorem dX6_over_1 : decode cX6_over 1 = .ok (.lreturn, 1) := by decide +kernel
theorem q143 : (Jvm.Cond.initialized "CoincideBench$Lattice") ∈ lw_all := lw_g (lw_at lw_m1 25 rfl) rfl
theorem q696 : (Jvm.Cond.selects "CoincideBench$Lattice" ({ cls := "java/lang/Object", name := "equals", desc := "(Ljava/lang/Object;)Z" } : Jvm.MethodName) ({ cls := "java/lang/Object", name := "equals", desc := "(Ljava/lang/Object;)Z" } : Jvm.MethodName)) ∈ lw_all := lw_g (lw_at lw_m3 98 rfl) rfl
theorem q735 : (Jvm.Cond.instanceMethod ({ cls := "CoincideBench$Lattice", name := "isTurned", desc := "()Z" } : Jvm.MethodName)) ∈ lw_all := lw_g (lw_at lw_m3 137 rfl) rfl
theorem q736 : (Jvm.Cond.selects "CoincideBench$Lattice" ({ cls := "CoincideBench$Lattice", name := "isTurned", desc := "()Z" } : Jvm.MethodName) ({ cls := "CoincideBench$Lattice", name := "isTurned", desc := "()Z" } : Jvm.MethodName)) ∈ lw_all := lw_g (lw_at lw_m3 138 rfl) rfl
theorem q737 : (Jvm.Cond.sameMethod "CoincideBench$Lattice" "CoincideBench$Lattice" "isTurned" "()Z") ∈ lw_all := lw_g (lw_at lw_m3 139 rfl) rfl
theorem q741 : (Jvm.Cond.code ({ cls := "CoincideBench$Lattice", name := "isTurned", desc := "()Z" } : Jvm.MethodName) prog_9_method_4_code (1 : Nat) (Option.some Jvm.ClassFile.FieldType.boolean)) ∈ lw_all := lw_g (lw_at lw_m3 143 rfl) rfl
theorem q752 : (Jvm.Cond.instanceMethod ({ cls := "CoincideBench$Lattice", name := "<init>", desc := "()V" } : Jvm.MethodName)) ∈ lw_all := lw_g (lw_at lw_m3 154 rfl) rfl
theorem q753 : (Jvm.Cond.code ({ cls := "CoincideBench$Lattice", name := "<init>", desc := "()V" } : Jvm.MethodName) prog_9_method_1_code (1 : Nat) (Option.none : Option Jvm.ClassFile.FieldType)) ∈ lw_all := lw_g (lw_at lw_m3 155 rfl) rfl
theorem q754 : (Jvm.Cond.methodLink "CoincideBench$Lattice" (1 : Nat) ({ cls := "java/lang/Object", name := "<init>", desc := "()V" } : Jvm.MethodName)) ∈ lw_all := lw_g (lw_at lw_m3 156 rfl) rfl
theorem q755 : (Jvm.Cond.classLink "CoincideBench$Lattice" (7 : Nat) "CoincideBench$Rows") ∈ lw_all := lw_g (lw_at lw_m3 157 rfl) rfl
theorem q756 : (Jvm.Cond.methodLinkNest "CoincideBench$Lattice" (9 : Nat) ({ cls := "CoincideBench$Rows", name := "<init>", desc := "()V" } : Jvm.MethodName) "CoincideBench") ∈ lw_tbl := lw_at lw_m3 158 rfl
theorem q766 : (Jvm.Cond.fieldLink "CoincideBench$Lattice" (10 : Nat) "CoincideBench$Lattice" "rows" "LCoincideBench$Rows;") ∈ lw_all := lw_g (lw_at lw_m3 168 rfl) rfl
theorem q778 : (Jvm.Cond.soleField "CoincideBench$Lattice" "rows") ∈ lw_all := lw_g (lw_at lw_m3 180 rfl) rfl
theorem q784 : (Jvm.Cond.instantiable "CoincideBench$Lattice" (1 : Nat)) ∈ lw_all := lw_g (lw_at lw_m3 186 rfl) rfl
theorem q786 : (Jvm.Cond.lays "CoincideBench$Lattice" "CoincideBench$Lattice" "rows" "LCoincideBench$Rows;") ∈ lw_all := lw_g (lw_at lw_m3 188 rfl) rfl
theorem q787 : (Jvm.Cond.superclass "CoincideBench$Lattice" "java/lang/Object") ∈ lw_all := lw_g (lw_at lw_m3 189 rfl) rfl
theorem q832 : (Jvm.Cond.selects "CoincideBench$Lattice" ({ cls := "java/lang/Object", name := "getClass", desc := "()Ljava/lang/Class;" } : Jvm.MethodName) ({ cls := "java/lang/Object", name := "getClass", desc := "()Ljava/lang/Class;" } : Jvm.MethodName)) ∈ lw_all := lw_g (lw_at lw_m3 234 rfl) rfl
theorem q905 : (Jvm.Cond.instanceMethod ({ cls := "CoincideBench$Lattice", name := "rows", desc := "()LCoincideBench$Rows;" } : Jvm.MethodName)) ∈ lw_all := lw_g (lw_at lw_m4 67 rfl) rfl
theorem q906 : (Jvm.Cond.selects "CoincideBench$Lattice" ({ cls := "CoincideBench$Lattice", name := "rows", desc := "()LCoincideBench$Rows;" } : Jvm.MethodName) ({ cls := "CoincideBench$Lattice", name := "rows", desc := "()LCoincideBench$Rows;" } : Jvm.MethodName)) ∈ lw_all := lw_g (lw_at lw_m4 68 rfl) rfl
theorem q907 : (Jvm.Cond.sameMethod "CoincideBench$Lattice" "CoincideBench$Lattice" "rows" "()LCoincideBench$Rows;") ∈ lw_all := lw_g (lw_at lw_m4 69 rfl) rfl
theorem q940 : (Jvm.Cond.code ({ cls := "CoincideBench$Lattice", name := "rows", desc := "()LCoincideBench$Rows;" } : Jvm.MethodName) prog_9_method_2_code (1 : Nat) (Option.some (Jvm.ClassFile.FieldType.object "CoincideBench$Rows"))) ∈ lw_all := lw_g (lw_at lw_m4 102 rfl) rfl
theorem q946 : (Jvm.Cond.instanceMethod ({ cls := "CoincideBench$Lattice", name := "over", desc := "()J" } : Jvm.MethodName)) ∈ lw_all := lw_g (lw_at lw_m4 108 rfl) rfl
theorem q947 : (Jvm.Cond.selects "CoincideBench$Lattice" ({ cls := "CoincideBench$Lattice", name := "over", desc := "()J" } : Jvm.MethodName) ({ cls := "CoincideBench$Lattice", name := "over", desc := "()J" } : Jvm.MethodName)) ∈ lw_all := lw_g (lw_at lw_m4 109 rfl) rfl
theorem q948 : (Jvm.Cond.sameMethod "CoincideBench$Lattice" "CoincideBench$Lattice" "over" "()J") ∈ lw_all := lw_g (lw_at lw_m4 110 rfl) rfl
theorem q952 : (Jvm.Cond.code ({ cls := "CoincideBench$Lattice", name := "over", desc := "()J" } : Jvm.MethodName) prog_9_method_3_code (1 : Nat) (Option.some Jvm.ClassFile.FieldType.long)) ∈ lw_all := lw_g (lw_at lw_m4 114 rfl) rfl
theorem q2206 : (Jvm.Cond.castable "CoincideBench$Lattice" "java/lang/Object") ∈ lw_tbl := lw_at lw_m9 168 rfl
theorem in_X6 : ∀ w ∈ wsX60, w ∈ lw_all := lw_in wsX60 [786] (by decide +kernel) (by decide +kernel)
