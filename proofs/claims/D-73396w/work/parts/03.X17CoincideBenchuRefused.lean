/-! CoincideBench$Refused -/
set_option maxRecDepth 100000
def RX17 : String := "CoincideBench$Refused"
def TX17 : u_T := fun k => match k with
  | 0 => ("java/lang/Throwable", "cause", "Ljava/lang/Throwable;", false)
  | 1 => ("java/lang/Throwable", "stackTrace", "[Ljava/lang/StackTraceElement;", false)
  | 2 => ("java/lang/Throwable", "suppressedExceptions", "Ljava/util/List;", false)
  | 3 => ("java/lang/Throwable", "detailMessage", "Ljava/lang/String;", false)
  | 4 => ("java/lang/Throwable", "backtrace", "Ljava/lang/Object;", false)
  | 5 => ("java/lang/Throwable", "depth", "I", false)
  | 6 => ("CoincideBench$Refused", "act", "I", true)
  | _ => ("CoincideBench$Refused", "lattice", "I", true)
def tyX17 : Nat → FieldType := fun k => match k with
  | 0 => .object "java/lang/Throwable"
  | 1 => .array (.object "java/lang/StackTraceElement")
  | 2 => .object "java/util/List"
  | 3 => .object "java/lang/String"
  | 4 => .object "java/lang/Object"
  | 5 => .int
  | 6 => .int
  | _ => .int
abbrev wsX170 : List Cond := u_ws RX17 TX17 8
theorem nmX17 : ∀ a, a < 8 → ∀ b, b < 8 → a ≠ b → (TX17 a).2.1 ≠ (TX17 b).2.1 := by decide +kernel
theorem tyX17_ok : ∀ k, k < 8 → parseFieldDescriptor (TX17 k).2.2.1 = some (tyX17 k) := by decide +kernel
abbrev cX17_init : ByteArray := prog_12_method_1_code
def yX17_init : MethodName := ⟨RX17, "<init>", "(IILCoincideBench$Hindrance;)V"⟩
def dkwX17_init_0 : List UInt8 := [42, 18, 1, 45, 183, 0, 3, 42, 27, 181, 0, 9, 42, 28, 181, 0, 15, 177]
abbrev dktX17_init_0 : List UInt8 := dkwX17_init_0 ++ []
theorem dksX17_init_0 : cX17_init.data.toList.drop 0 = dktX17_init_0 := by decide +kernel
theorem dX17_init_0 : decode cX17_init 0 = .ok (.aload_n 0, 1) := dk_42 (dk_at dksX17_init_0 0 rfl rfl)
theorem dX17_init_1 : decode cX17_init 1 = .ok (.ldc 1, 2) := dk_18 1 (dk_at dksX17_init_0 1 rfl rfl)
theorem dX17_init_3 : decode cX17_init 3 = .ok (.aload_n 3, 1) := dk_45 (dk_at dksX17_init_0 3 rfl rfl)
theorem dX17_init_4 : decode cX17_init 4 = .ok (.invokespecial 3, 3) := dk_183 0 3 (dk_at dksX17_init_0 4 rfl rfl)
theorem dX17_init_7 : decode cX17_init 7 = .ok (.aload_n 0, 1) := dk_42 (dk_at dksX17_init_0 7 rfl rfl)
theorem dX17_init_8 : decode cX17_init 8 = .ok (.iload_n 1, 1) := dk_27 (dk_at dksX17_init_0 8 rfl rfl)
theorem dX17_init_9 : decode cX17_init 9 = .ok (.putfield 9, 3) := dk_181 0 9 (dk_at dksX17_init_0 9 rfl rfl)
theorem dX17_init_12 : decode cX17_init 12 = .ok (.aload_n 0, 1) := dk_42 (dk_at dksX17_init_0 12 rfl rfl)
theorem dX17_init_13 : decode cX17_init 13 = .ok (.iload_n 2, 1) := dk_28 (dk_at dksX17_init_0 13 rfl rfl)
theorem dX17_init_14 : decode cX17_init 14 = .ok (.putfield 15, 3) := dk_181 0 15 (dk_at dksX17_init_0 14 rfl rfl)
theorem dX17_init_17 : decode cX17_init 17 = .ok (.return_, 1) := dk_177 (dk_at dksX17_init_0 17 rfl rfl)
abbrev cX17_hindrance : ByteArray := prog_12_method_2_code
def yX17_hindrance : MethodName := ⟨RX17, "hindrance", "()LCoincideBench$Hindrance;"⟩
def dkwX17_hindrance_0 : List UInt8 := [42, 182, 0, 18, 77, 44, 193, 0, 22, 153, 0, 12, 44, 192, 0, 22, 76, 43, 167, 0, 4, 1, 176]
abbrev dktX17_hindrance_0 : List UInt8 := dkwX17_hindrance_0 ++ []
theorem dksX17_hindrance_0 : cX17_hindrance.data.toList.drop 0 = dktX17_hindrance_0 := by decide +kernel
theorem dX17_hindrance_0 : decode cX17_hindrance 0 = .ok (.aload_n 0, 1) := dk_42 (dk_at dksX17_hindrance_0 0 rfl rfl)
theorem dX17_hindrance_1 : decode cX17_hindrance 1 = .ok (.invokevirtual 18, 3) := dk_182 0 18 (dk_at dksX17_hindrance_0 1 rfl rfl)
theorem dX17_hindrance_4 : decode cX17_hindrance 4 = .ok (.astore_n 2, 1) := dk_77 (dk_at dksX17_hindrance_0 4 rfl rfl)
theorem dX17_hindrance_5 : decode cX17_hindrance 5 = .ok (.aload_n 2, 1) := dk_44 (dk_at dksX17_hindrance_0 5 rfl rfl)
theorem dX17_hindrance_6 : decode cX17_hindrance 6 = .ok (.instanceof 22, 3) := dk_193 0 22 (dk_at dksX17_hindrance_0 6 rfl rfl)
theorem dX17_hindrance_9 : decode cX17_hindrance 9 = .ok (.ifCond .eq 12, 3) := dk_153 0 12 (dk_at dksX17_hindrance_0 9 rfl rfl)
theorem dX17_hindrance_12 : decode cX17_hindrance 12 = .ok (.aload_n 2, 1) := dk_44 (dk_at dksX17_hindrance_0 12 rfl rfl)
theorem dX17_hindrance_13 : decode cX17_hindrance 13 = .ok (.checkcast 22, 3) := dk_192 0 22 (dk_at dksX17_hindrance_0 13 rfl rfl)
theorem dX17_hindrance_16 : decode cX17_hindrance 16 = .ok (.astore_n 1, 1) := dk_76 (dk_at dksX17_hindrance_0 16 rfl rfl)
theorem dX17_hindrance_17 : decode cX17_hindrance 17 = .ok (.aload_n 1, 1) := dk_43 (dk_at dksX17_hindrance_0 17 rfl rfl)
theorem dX17_hindrance_18 : decode cX17_hindrance 18 = .ok (.goto 4, 3) := dk_167 0 4 (dk_at dksX17_hindrance_0 18 rfl rfl)
theorem dX17_hindrance_21 : decode cX17_hindrance 21 = .ok (.aconst_null, 1) := dk_1 (dk_at dksX17_hindrance_0 21 rfl rfl)
theorem dX17_hindrance_22 : decode cX17_hindrance 22 = .ok (.areturn, 1) := dk_176 (dk_at dksX17_hindrance_0 22 rfl rfl)
theorem q154 : (Jvm.Cond.initialized "CoincideBench$Refused") ∈ lw_all := lw_g (lw_at lw_m1 36 rfl) rfl
theorem q619 : (Jvm.Cond.selects "CoincideBench$Refused" ({ cls := "java/lang/Throwable", name := "fillInStackTrace", desc := "()Ljava/lang/Throwable;" } : Jvm.MethodName) ({ cls := "java/lang/Throwable", name := "fillInStackTrace", desc := "()Ljava/lang/Throwable;" } : Jvm.MethodName)) ∈ lw_all := lw_g (lw_at lw_m3 21 rfl) rfl
theorem q699 : (Jvm.Cond.selects "CoincideBench$Refused" ({ cls := "java/lang/Object", name := "equals", desc := "(Ljava/lang/Object;)Z" } : Jvm.MethodName) ({ cls := "java/lang/Object", name := "equals", desc := "(Ljava/lang/Object;)Z" } : Jvm.MethodName)) ∈ lw_all := lw_g (lw_at lw_m3 101 rfl) rfl
theorem q835 : (Jvm.Cond.selects "CoincideBench$Refused" ({ cls := "java/lang/Object", name := "getClass", desc := "()Ljava/lang/Class;" } : Jvm.MethodName) ({ cls := "java/lang/Object", name := "getClass", desc := "()Ljava/lang/Class;" } : Jvm.MethodName)) ∈ lw_all := lw_g (lw_at lw_m3 237 rfl) rfl
theorem q1467 : (Jvm.Cond.instantiable "CoincideBench$Refused" (8 : Nat)) ∈ lw_all := lw_g (lw_at lw_m6 149 rfl) rfl
theorem q1468 : (Jvm.Cond.castable "CoincideBench$Refused" "CoincideBench$Refused") ∈ lw_tbl := lw_at lw_m6 150 rfl
theorem q1469 : (Jvm.Cond.selects "CoincideBench$Refused" ({ cls := "java/lang/Throwable", name := "fillInStackTrace", desc := "(I)Ljava/lang/Throwable;" } : Jvm.MethodName) ({ cls := "java/lang/Throwable", name := "fillInStackTrace", desc := "(I)Ljava/lang/Throwable;" } : Jvm.MethodName)) ∈ lw_all := lw_g (lw_at lw_m6 151 rfl) rfl
theorem q1470 : (Jvm.Cond.lays "CoincideBench$Refused" "java/lang/Throwable" "cause" "Ljava/lang/Throwable;") ∈ lw_all := lw_g (lw_at lw_m6 152 rfl) rfl
theorem q1471 : (Jvm.Cond.lays "CoincideBench$Refused" "java/lang/Throwable" "stackTrace" "[Ljava/lang/StackTraceElement;") ∈ lw_all := lw_g (lw_at lw_m6 153 rfl) rfl
theorem q1472 : (Jvm.Cond.lays "CoincideBench$Refused" "java/lang/Throwable" "suppressedExceptions" "Ljava/util/List;") ∈ lw_all := lw_g (lw_at lw_m6 154 rfl) rfl
theorem q1473 : (Jvm.Cond.lays "CoincideBench$Refused" "java/lang/Throwable" "detailMessage" "Ljava/lang/String;") ∈ lw_all := lw_g (lw_at lw_m6 155 rfl) rfl
theorem q1474 : (Jvm.Cond.lays "CoincideBench$Refused" "java/lang/Throwable" "backtrace" "Ljava/lang/Object;") ∈ lw_all := lw_g (lw_at lw_m6 156 rfl) rfl
theorem q1476 : (Jvm.Cond.instanceMethod ({ cls := "CoincideBench$Refused", name := "<init>", desc := "(IILCoincideBench$Hindrance;)V" } : Jvm.MethodName)) ∈ lw_all := lw_g (lw_at lw_m6 158 rfl) rfl
theorem q1477 : (Jvm.Cond.code ({ cls := "CoincideBench$Refused", name := "<init>", desc := "(IILCoincideBench$Hindrance;)V" } : Jvm.MethodName) prog_12_method_1_code (4 : Nat) (Option.none : Option Jvm.ClassFile.FieldType)) ∈ lw_all := lw_g (lw_at lw_m6 159 rfl) rfl
theorem q1478 : (Jvm.Cond.stringRef "CoincideBench$Refused" (1 : Nat) "refused") ∈ lw_tbl := lw_at lw_m6 160 rfl
theorem q1479 : (Jvm.Cond.methodLink "CoincideBench$Refused" (3 : Nat) ({ cls := "java/lang/Exception", name := "<init>", desc := "(Ljava/lang/String;Ljava/lang/Throwable;)V" } : Jvm.MethodName)) ∈ lw_all := lw_g (lw_at lw_m6 161 rfl) rfl
theorem q1485 : (Jvm.Cond.fieldLink "CoincideBench$Refused" (9 : Nat) "CoincideBench$Refused" "act" "I") ∈ lw_all := lw_g (lw_at lw_m6 167 rfl) rfl
theorem q1487 : (Jvm.Cond.fieldLink "CoincideBench$Refused" (15 : Nat) "CoincideBench$Refused" "lattice" "I") ∈ lw_all := lw_g (lw_at lw_m6 169 rfl) rfl
theorem q1489 : (Jvm.Cond.laysFinal "CoincideBench$Refused" "CoincideBench$Refused" "act" "I") ∈ lw_all := lw_g (lw_at lw_m6 171 rfl) rfl
theorem q1490 : (Jvm.Cond.soleField "CoincideBench$Refused" "act") ∈ lw_all := lw_g (lw_at lw_m6 172 rfl) rfl
theorem q1491 : (Jvm.Cond.laysFinal "CoincideBench$Refused" "CoincideBench$Refused" "lattice" "I") ∈ lw_all := lw_g (lw_at lw_m6 173 rfl) rfl
theorem q1492 : (Jvm.Cond.soleField "CoincideBench$Refused" "lattice") ∈ lw_all := lw_g (lw_at lw_m6 174 rfl) rfl
theorem q1493 : (Jvm.Cond.lays "CoincideBench$Refused" "java/lang/Throwable" "depth" "I") ∈ lw_all := lw_g (lw_at lw_m6 175 rfl) rfl
theorem q1494 : (Jvm.Cond.superclass "CoincideBench$Refused" "java/lang/Exception") ∈ lw_all := lw_g (lw_at lw_m6 176 rfl) rfl
theorem q1514 : (Jvm.Cond.instanceMethod ({ cls := "CoincideBench$Refused", name := "hindrance", desc := "()LCoincideBench$Hindrance;" } : Jvm.MethodName)) ∈ lw_all := lw_g (lw_at lw_m6 196 rfl) rfl
theorem q1515 : (Jvm.Cond.selects "CoincideBench$Refused" ({ cls := "CoincideBench$Refused", name := "hindrance", desc := "()LCoincideBench$Hindrance;" } : Jvm.MethodName) ({ cls := "CoincideBench$Refused", name := "hindrance", desc := "()LCoincideBench$Hindrance;" } : Jvm.MethodName)) ∈ lw_all := lw_g (lw_at lw_m6 197 rfl) rfl
theorem q1516 : (Jvm.Cond.code ({ cls := "CoincideBench$Refused", name := "hindrance", desc := "()LCoincideBench$Hindrance;" } : Jvm.MethodName) prog_12_method_2_code (3 : Nat) (Option.some (Jvm.ClassFile.FieldType.object "CoincideBench$Hindrance"))) ∈ lw_all := lw_g (lw_at lw_m6 198 rfl) rfl
theorem q1517 : (Jvm.Cond.methodLink "CoincideBench$Refused" (18 : Nat) ({ cls := "CoincideBench$Refused", name := "getCause", desc := "()Ljava/lang/Throwable;" } : Jvm.MethodName)) ∈ lw_all := lw_g (lw_at lw_m6 199 rfl) rfl
theorem q1518 : (Jvm.Cond.sameMethod "CoincideBench$Refused" "java/lang/Throwable" "getCause" "()Ljava/lang/Throwable;") ∈ lw_all := lw_g (lw_at lw_m6 200 rfl) rfl
theorem q1520 : (Jvm.Cond.selects "CoincideBench$Refused" ({ cls := "CoincideBench$Refused", name := "getCause", desc := "()Ljava/lang/Throwable;" } : Jvm.MethodName) ({ cls := "java/lang/Throwable", name := "getCause", desc := "()Ljava/lang/Throwable;" } : Jvm.MethodName)) ∈ lw_all := lw_g (lw_at lw_m6 202 rfl) rfl
theorem q1523 : (Jvm.Cond.classLink "CoincideBench$Refused" (22 : Nat) "CoincideBench$Hindrance") ∈ lw_all := lw_g (lw_at lw_m6 205 rfl) rfl
theorem q2215 : (Jvm.Cond.castable "CoincideBench$Refused" "java/lang/Object") ∈ lw_tbl := lw_at lw_m9 177 rfl
theorem in_X17 : ∀ w ∈ wsX170, w ∈ lw_all := lw_in wsX170 [1470, 1471, 1472, 1473, 1474, 1493, 1489, 1491] (by decide +kernel) (by decide +kernel)
