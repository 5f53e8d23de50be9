theorem q2223 : (Jvm.Cond.castable "[I" "java/lang/Object") ∈ lw_tbl := lw_at lw_m9 185 rfl
set_option maxRecDepth 100000
