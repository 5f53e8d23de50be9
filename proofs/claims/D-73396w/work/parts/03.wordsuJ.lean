theorem q2224 : (Jvm.Cond.castable "[J" "java/lang/Object") ∈ lw_tbl := lw_at lw_m9 186 rfl
set_option maxRecDepth 100000
