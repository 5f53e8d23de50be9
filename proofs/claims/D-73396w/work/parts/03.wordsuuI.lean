theorem q2225 : (Jvm.Cond.castable "[[I" "java/lang/Object") ∈ lw_tbl := lw_at lw_m9 187 rfl
set_option maxRecDepth 100000
