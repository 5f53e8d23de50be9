theorem q128 : (Jvm.Cond.initialized "CoincideBench$Token") ∈ lw_all := lw_g (lw_at lw_m1 10 rfl) rfl
set_option maxRecDepth 100000
theorem q360 : (Jvm.Cond.laysStatic "CoincideBench$Token" "END" "LCoincideBench$Token;") ∈ lw_tbl := lw_at lw_m2 2 rfl
theorem q552 : (Jvm.Cond.laysStatic "CoincideBench$Token" "WORD" "LCoincideBench$Token;") ∈ lw_tbl := lw_at lw_m2 194 rfl
theorem q557 : (Jvm.Cond.laysStatic "CoincideBench$Token" "NUMBER" "LCoincideBench$Token;") ∈ lw_tbl := lw_at lw_m2 199 rfl
theorem q559 : (Jvm.Cond.laysStatic "CoincideBench$Token" "SEMI" "LCoincideBench$Token;") ∈ lw_tbl := lw_at lw_m2 201 rfl
theorem q561 : (Jvm.Cond.laysStatic "CoincideBench$Token" "DASH" "LCoincideBench$Token;") ∈ lw_tbl := lw_at lw_m2 203 rfl
theorem q563 : (Jvm.Cond.laysStatic "CoincideBench$Token" "BAD" "LCoincideBench$Token;") ∈ lw_tbl := lw_at lw_m2 205 rfl
theorem q703 : (Jvm.Cond.selects "CoincideBench$Token" ({ cls := "java/lang/Object", name := "equals", desc := "(Ljava/lang/Object;)Z" } : Jvm.MethodName) ({ cls := "java/lang/Enum", name := "equals", desc := "(Ljava/lang/Object;)Z" } : Jvm.MethodName)) ∈ lw_all := lw_g (lw_at lw_m3 105 rfl) rfl
theorem q839 : (Jvm.Cond.selects "CoincideBench$Token" ({ cls := "java/lang/Object", name := "getClass", desc := "()Ljava/lang/Class;" } : Jvm.MethodName) ({ cls := "java/lang/Object", name := "getClass", desc := "()Ljava/lang/Class;" } : Jvm.MethodName)) ∈ lw_all := lw_g (lw_at lw_m4 1 rfl) rfl
theorem q2201 : (Jvm.Cond.castable "CoincideBench$Token" "java/lang/Object") ∈ lw_tbl := lw_at lw_m9 163 rfl
