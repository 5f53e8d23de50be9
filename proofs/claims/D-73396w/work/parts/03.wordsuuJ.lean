theorem q2221 : (Jvm.Cond.castable "[[J" "java/lang/Object") ∈ lw_tbl := lw_at lw_m9 183 rfl
set_option maxRecDepth 100000
