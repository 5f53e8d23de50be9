/-! CoincideBench$Step -/
set_option maxRecDepth 100000
def RX9 : String := "CoincideBench$Step"
def TX9 : u_T := fun k => match k with
  | 0 => ("CoincideBench$Step", "kind", "I", true)
  | 1 => ("CoincideBench$Step", "row", "I", true)
  | 2 => ("CoincideBench$Step", "other", "I", true)
  | _ => ("CoincideBench$Step", "times", "J", true)
def tyX9 : Nat → FieldType := fun k => match k with
  | 0 => .int
  | 1 => .int
  | 2 => .int
  | _ => .long
abbrev wsX90 : List Cond := u_ws RX9 TX9 4
theorem nmX9 : ∀ a, a < 4 → ∀ b, b < 4 → a ≠ b → (TX9 a).2.1 ≠ (TX9 b).2.1 := by decide +kernel
theorem tyX9_ok : ∀ k, k < 4 → parseFieldDescriptor (TX9 k).2.2.1 = some (tyX9 k) := by decide +kernel
abbrev cX9_init : ByteArray := prog_15_method_1_code
def yX9_init : MethodName := ⟨RX9, "<init>", "(IIIJ)V"⟩
def dkwX9_init_1 : List UInt8 := [181, 0, 21, 177]
abbrev dktX9_init_1 : List UInt8 := dkwX9_init_1 ++ []
def dkwX9_init_0 : List UInt8 := [42, 183, 0, 3, 42, 27, 181, 0, 9, 42, 28, 181, 0, 15, 42, 29, 181, 0, 18, 42, 22, 4]
abbrev dktX9_init_0 : List UInt8 := dkwX9_init_0 ++ dktX9_init_1
theorem dksX9_init_0 : cX9_init.data.toList.drop 0 = dktX9_init_0 := by decide +kernel
theorem dksX9_init_1 : cX9_init.data.toList.drop 22 = dktX9_init_1 := dk_seg dksX9_init_0 22 rfl rfl
theorem dX9_init_0 : decode cX9_init 0 = .ok (.aload_n 0, 1) := dk_42 (dk_at dksX9_init_0 0 rfl rfl)
theorem dX9_init_1 : decode cX9_init 1 = .ok (.invokespecial 3, 3) := dk_183 0 3 (dk_at dksX9_init_0 1 rfl rfl)
theorem dX9_init_4 : decode cX9_init 4 = .ok (.aload_n 0, 1) := dk_42 (dk_at dksX9_init_0 4 rfl rfl)
theorem dX9_init_5 : decode cX9_init 5 = .ok (.iload_n 1, 1) := dk_27 (dk_at dksX9_init_0 5 rfl rfl)
theorem dX9_init_6 : decode cX9_init 6 = .ok (.putfield 9, 3) := dk_181 0 9 (dk_at dksX9_init_0 6 rfl rfl)
theorem dX9_init_9 : decode cX9_init 9 = .ok (.aload_n 0, 1) := dk_42 (dk_at dksX9_init_0 9 rfl rfl)
theorem dX9_init_10 : decode cX9_init 10 = .ok (.iload_n 2, 1) := dk_28 (dk_at dksX9_init_0 10 rfl rfl)
theorem dX9_init_11 : decode cX9_init 11 = .ok (.putfield 15, 3) := dk_181 0 15 (dk_at dksX9_init_0 11 rfl rfl)
theorem dX9_init_14 : decode cX9_init 14 = .ok (.aload_n 0, 1) := dk_42 (dk_at dksX9_init_0 14 rfl rfl)
theorem dX9_init_15 : decode cX9_init 15 = .ok (.iload_n 3, 1) := dk_29 (dk_at dksX9_init_0 15 rfl rfl)
theorem dX9_init_16 : decode cX9_init 16 = .ok (.putfield 18, 3) := dk_181 0 18 (dk_at dksX9_init_0 16 rfl rfl)
theorem dX9_init_19 : decode cX9_init 19 = .ok (.aload_n 0, 1) := dk_42 (dk_at dksX9_init_0 19 rfl rfl)
theorem dX9_init_20 : decode cX9_init 20 = .ok (.lload 4, 2) := dk_22 4 (dk_at dksX9_init_0 20 rfl rfl)
theorem dX9_init_22 : decode cX9_init 22 = .ok (.putfield 21, 3) := dk_181 0 21 (dk_at dksX9_init_1 0 rfl rfl)
theorem dX9_init_25 : decode cX9_init 25 = .ok (.return_, 1) := dk_177 (dk_at dksX9_init_1 3 rfl rfl)
abbrev cX9_goes : ByteArray := prog_15_method_2_code
def yX9_goes : MethodName := ⟨RX9, "goes", "(LCoincideBench$Rows;)V"⟩
def dkwX9_goes_2 : List UInt8 := [180, 0, 15, 42, 180, 0, 18, 182, 0, 35, 177]
abbrev dktX9_goes_2 : List UInt8 := dkwX9_goes_2 ++ []
def dkwX9_goes_1 : List UInt8 := [167, 0, 34, 42, 180, 0, 9, 5, 160, 0, 14, 43, 42, 180, 0, 15, 182, 0, 31, 167, 0, 15, 43, 42]
abbrev dktX9_goes_1 : List UInt8 := dkwX9_goes_1 ++ dktX9_goes_2
def dkwX9_goes_0 : List UInt8 := [42, 180, 0, 9, 4, 160, 0, 22, 43, 42, 180, 0, 15, 42, 180, 0, 18, 42, 180, 0, 21, 182, 0, 25]
abbrev dktX9_goes_0 : List UInt8 := dkwX9_goes_0 ++ dktX9_goes_1
theorem dksX9_goes_0 : cX9_goes.data.toList.drop 0 = dktX9_goes_0 := by decide +kernel
theorem dksX9_goes_1 : cX9_goes.data.toList.drop 24 = dktX9_goes_1 := dk_seg dksX9_goes_0 24 rfl rfl
theorem dksX9_goes_2 : cX9_goes.data.toList.drop 48 = dktX9_goes_2 := dk_seg dksX9_goes_1 24 rfl rfl
theorem dX9_goes_0 : decode cX9_goes 0 = .ok (.aload_n 0, 1) := dk_42 (dk_at dksX9_goes_0 0 rfl rfl)
theorem dX9_goes_1 : decode cX9_goes 1 = .ok (.getfield 9, 3) := dk_180 0 9 (dk_at dksX9_goes_0 1 rfl rfl)
theorem dX9_goes_4 : decode cX9_goes 4 = .ok (.iconst 1, 1) := dk_4 (dk_at dksX9_goes_0 4 rfl rfl)
theorem dX9_goes_5 : decode cX9_goes 5 = .ok (.if_icmp .ne 22, 3) := dk_160 0 22 (dk_at dksX9_goes_0 5 rfl rfl)
theorem dX9_goes_8 : decode cX9_goes 8 = .ok (.aload_n 1, 1) := dk_43 (dk_at dksX9_goes_0 8 rfl rfl)
theorem dX9_goes_9 : decode cX9_goes 9 = .ok (.aload_n 0, 1) := dk_42 (dk_at dksX9_goes_0 9 rfl rfl)
theorem dX9_goes_10 : decode cX9_goes 10 = .ok (.getfield 15, 3) := dk_180 0 15 (dk_at dksX9_goes_0 10 rfl rfl)
theorem dX9_goes_13 : decode cX9_goes 13 = .ok (.aload_n 0, 1) := dk_42 (dk_at dksX9_goes_0 13 rfl rfl)
theorem dX9_goes_14 : decode cX9_goes 14 = .ok (.getfield 18, 3) := dk_180 0 18 (dk_at dksX9_goes_0 14 rfl rfl)
theorem dX9_goes_17 : decode cX9_goes 17 = .ok (.aload_n 0, 1) := dk_42 (dk_at dksX9_goes_0 17 rfl rfl)
theorem dX9_goes_18 : decode cX9_goes 18 = .ok (.getfield 21, 3) := dk_180 0 21 (dk_at dksX9_goes_0 18 rfl rfl)
theorem dX9_goes_21 : decode cX9_goes 21 = .ok (.invokevirtual 25, 3) := dk_182 0 25 (dk_at dksX9_goes_0 21 rfl rfl)
theorem dX9_goes_24 : decode cX9_goes 24 = .ok (.goto 34, 3) := dk_167 0 34 (dk_at dksX9_goes_1 0 rfl rfl)
theorem dX9_goes_27 : decode cX9_goes 27 = .ok (.aload_n 0, 1) := dk_42 (dk_at dksX9_goes_1 3 rfl rfl)
theorem dX9_goes_28 : decode cX9_goes 28 = .ok (.getfield 9, 3) := dk_180 0 9 (dk_at dksX9_goes_1 4 rfl rfl)
theorem dX9_goes_31 : decode cX9_goes 31 = .ok (.iconst 2, 1) := dk_5 (dk_at dksX9_goes_1 7 rfl rfl)
theorem dX9_goes_32 : decode cX9_goes 32 = .ok (.if_icmp .ne 14, 3) := dk_160 0 14 (dk_at dksX9_goes_1 8 rfl rfl)
theorem dX9_goes_35 : decode cX9_goes 35 = .ok (.aload_n 1, 1) := dk_43 (dk_at dksX9_goes_1 11 rfl rfl)
theorem dX9_goes_36 : decode cX9_goes 36 = .ok (.aload_n 0, 1) := dk_42 (dk_at dksX9_goes_1 12 rfl rfl)
theorem dX9_goes_37 : decode cX9_goes 37 = .ok (.getfield 15, 3) := dk_180 0 15 (dk_at dksX9_goes_1 13 rfl rfl)
theorem dX9_goes_40 : decode cX9_goes 40 = .ok (.invokevirtual 31, 3) := dk_182 0 31 (dk_at dksX9_goes_1 16 rfl rfl)
theorem dX9_goes_43 : decode cX9_goes 43 = .ok (.goto 15, 3) := dk_167 0 15 (dk_at dksX9_goes_1 19 rfl rfl)
theorem dX9_goes_46 : decode cX9_goes 46 = .ok (.aload_n 1, 1) := dk_43 (dk_at dksX9_goes_1 22 rfl rfl)
theorem dX9_goes_47 : decode cX9_goes 47 = .ok (.aload_n 0, 1) := dk_42 (dk_at dksX9_goes_1 23 rfl rfl)
theorem dX9_goes_48 : decode cX9_goes 48 = .ok (.getfield 15, 3) := dk_180 0 15 (dk_at dksX9_goes_2 0 rfl rfl)
theorem dX9_goes_51 : decode cX9_goes 51 = .ok (.aload_n 0, 1) := dk_42 (dk_at dksX9_goes_2 3 rfl rfl)
theorem dX9_goes_52 : decode cX9_goes 52 = .ok (.getfield 18, 3) := dk_180 0 18 (dk_at dksX9_goes_2 4 rfl rfl)
theorem dX9_goes_55 : decode cX9_goes 55 = .ok (.invokevirtual 35, 3) := dk_182 0 35 (dk_at dksX9_goes_2 7 rfl rfl)
theorem dX9_goes_58 : decode cX9_goes 58 = .ok (.return_, 1) := dk_177 (dk_at dksX9_goes_2 10 rfl rfl)
theorem q146 : (Jvm.Cond.initialized "CoincideBench$Step") ∈ lw_all := lw_g (lw_at lw_m1 28 rfl) rfl
theorem q702 : (Jvm.Cond.selects "CoincideBench$Step" ({ cls := "java/lang/Object", name := "equals", desc := "(Ljava/lang/Object;)Z" } : Jvm.MethodName) ({ cls := "java/lang/Object", name := "equals", desc := "(Ljava/lang/Object;)Z" } : Jvm.MethodName)) ∈ lw_all := lw_g (lw_at lw_m3 104 rfl) rfl
theorem q838 : (Jvm.Cond.selects "CoincideBench$Step" ({ cls := "java/lang/Object", name := "getClass", desc := "()Ljava/lang/Class;" } : Jvm.MethodName) ({ cls := "java/lang/Object", name := "getClass", desc := "()Ljava/lang/Class;" } : Jvm.MethodName)) ∈ lw_all := lw_g (lw_at lw_m4 0 rfl) rfl
theorem q989 : (Jvm.Cond.instantiable "CoincideBench$Step" (4 : Nat)) ∈ lw_all := lw_g (lw_at lw_m4 151 rfl) rfl
theorem q991 : (Jvm.Cond.instanceMethod ({ cls := "CoincideBench$Step", name := "<init>", desc := "(IIIJ)V" } : Jvm.MethodName)) ∈ lw_all := lw_g (lw_at lw_m4 153 rfl) rfl
theorem q992 : (Jvm.Cond.code ({ cls := "CoincideBench$Step", name := "<init>", desc := "(IIIJ)V" } : Jvm.MethodName) prog_15_method_1_code (6 : Nat) (Option.none : Option Jvm.ClassFile.FieldType)) ∈ lw_all := lw_g (lw_at lw_m4 154 rfl) rfl
theorem q993 : (Jvm.Cond.methodLink "CoincideBench$Step" (3 : Nat) ({ cls := "java/lang/Object", name := "<init>", desc := "()V" } : Jvm.MethodName)) ∈ lw_all := lw_g (lw_at lw_m4 155 rfl) rfl
theorem q994 : (Jvm.Cond.fieldLink "CoincideBench$Step" (9 : Nat) "CoincideBench$Step" "kind" "I") ∈ lw_all := lw_g (lw_at lw_m4 156 rfl) rfl
theorem q996 : (Jvm.Cond.fieldLink "CoincideBench$Step" (15 : Nat) "CoincideBench$Step" "row" "I") ∈ lw_all := lw_g (lw_at lw_m4 158 rfl) rfl
theorem q998 : (Jvm.Cond.fieldLink "CoincideBench$Step" (18 : Nat) "CoincideBench$Step" "other" "I") ∈ lw_all := lw_g (lw_at lw_m4 160 rfl) rfl
theorem q1000 : (Jvm.Cond.fieldLink "CoincideBench$Step" (21 : Nat) "CoincideBench$Step" "times" "J") ∈ lw_all := lw_g (lw_at lw_m4 162 rfl) rfl
theorem q1002 : (Jvm.Cond.laysFinal "CoincideBench$Step" "CoincideBench$Step" "kind" "I") ∈ lw_all := lw_g (lw_at lw_m4 164 rfl) rfl
theorem q1003 : (Jvm.Cond.soleField "CoincideBench$Step" "kind") ∈ lw_all := lw_g (lw_at lw_m4 165 rfl) rfl
theorem q1004 : (Jvm.Cond.laysFinal "CoincideBench$Step" "CoincideBench$Step" "row" "I") ∈ lw_all := lw_g (lw_at lw_m4 166 rfl) rfl
theorem q1005 : (Jvm.Cond.soleField "CoincideBench$Step" "row") ∈ lw_all := lw_g (lw_at lw_m4 167 rfl) rfl
theorem q1006 : (Jvm.Cond.laysFinal "CoincideBench$Step" "CoincideBench$Step" "other" "I") ∈ lw_all := lw_g (lw_at lw_m4 168 rfl) rfl
theorem q1007 : (Jvm.Cond.soleField "CoincideBench$Step" "other") ∈ lw_all := lw_g (lw_at lw_m4 169 rfl) rfl
theorem q1008 : (Jvm.Cond.laysFinal "CoincideBench$Step" "CoincideBench$Step" "times" "J") ∈ lw_all := lw_g (lw_at lw_m4 170 rfl) rfl
theorem q1009 : (Jvm.Cond.soleField "CoincideBench$Step" "times") ∈ lw_all := lw_g (lw_at lw_m4 171 rfl) rfl
theorem q1010 : (Jvm.Cond.superclass "CoincideBench$Step" "java/lang/Object") ∈ lw_all := lw_g (lw_at lw_m4 172 rfl) rfl
theorem q1012 : (Jvm.Cond.instanceMethod ({ cls := "CoincideBench$Step", name := "goes", desc := "(LCoincideBench$Rows;)V" } : Jvm.MethodName)) ∈ lw_all := lw_g (lw_at lw_m4 174 rfl) rfl
theorem q1013 : (Jvm.Cond.selects "CoincideBench$Step" ({ cls := "CoincideBench$Step", name := "goes", desc := "(LCoincideBench$Rows;)V" } : Jvm.MethodName) ({ cls := "CoincideBench$Step", name := "goes", desc := "(LCoincideBench$Rows;)V" } : Jvm.MethodName)) ∈ lw_all := lw_g (lw_at lw_m4 175 rfl) rfl
theorem q1014 : (Jvm.Cond.code ({ cls := "CoincideBench$Step", name := "goes", desc := "(LCoincideBench$Rows;)V" } : Jvm.MethodName) prog_15_method_2_code (2 : Nat) (Option.none : Option Jvm.ClassFile.FieldType)) ∈ lw_all := lw_g (lw_at lw_m4 176 rfl) rfl
theorem q1015 : (Jvm.Cond.methodLink "CoincideBench$Step" (25 : Nat) ({ cls := "CoincideBench$Rows", name := "adds", desc := "(IIJ)V" } : Jvm.MethodName)) ∈ lw_all := lw_g (lw_at lw_m4 177 rfl) rfl
theorem q1019 : (Jvm.Cond.methodLink "CoincideBench$Step" (31 : Nat) ({ cls := "CoincideBench$Rows", name := "turnsOver", desc := "(I)V" } : Jvm.MethodName)) ∈ lw_all := lw_g (lw_at lw_m4 181 rfl) rfl
theorem q1023 : (Jvm.Cond.methodLink "CoincideBench$Step" (35 : Nat) ({ cls := "CoincideBench$Rows", name := "exchanges", desc := "(II)V" } : Jvm.MethodName)) ∈ lw_all := lw_g (lw_at lw_m4 185 rfl) rfl
theorem q2208 : (Jvm.Cond.castable "CoincideBench$Step" "java/lang/Object") ∈ lw_tbl := lw_at lw_m9 170 rfl
theorem in_X9 : ∀ w ∈ wsX90, w ∈ lw_all := lw_in wsX90 [1002, 1004, 1006, 1008] (by decide +kernel) (by decide +kernel)
