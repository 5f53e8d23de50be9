/-! java/lang/Math -/
set_option maxRecDepth 100000
def RJ9 : String := "java/lang/Math"
abbrev cJ9_max : ByteArray := prog_30_method_65_code
def yJ9_max : MethodName := ⟨RJ9, "max", "(II)I"⟩
def dkwJ9_max_0 : List UInt8 := [26, 27, 161, 0, 7, 26, 167, 0, 4, 27, 172]
abbrev dktJ9_max_0 : List UInt8 := dkwJ9_max_0 ++ []
theorem dksJ9_max_0 : cJ9_max.data.toList.drop 0 = dktJ9_max_0 := by decide +kernel
theorem dJ9_max_0 : decode cJ9_max 0 = .ok (.iload_n 0, 1) := dk_26 (dk_at dksJ9_max_0 0 rfl rfl)
theorem dJ9_max_1 : decode cJ9_max 1 = .ok (.iload_n 1, 1) := dk_27 (dk_at dksJ9_max_0 1 rfl rfl)
theorem dJ9_max_2 : decode cJ9_max 2 = .ok (.if_icmp .lt 7, 3) := dk_161 0 7 (dk_at dksJ9_max_0 2 rfl rfl)
theorem dJ9_max_5 : decode cJ9_max 5 = .ok (.iload_n 0, 1) := dk_26 (dk_at dksJ9_max_0 5 rfl rfl)
theorem dJ9_max_6 : decode cJ9_max 6 = .ok (.goto 4, 3) := dk_167 0 4 (dk_at dksJ9_max_0 6 rfl rfl)
theorem dJ9_max_9 : decode cJ9_max 9 = .ok (.iload_n 1, 1) := dk_27 (dk_at dksJ9_max_0 9 rfl rfl)
theorem dJ9_max_10 : decode cJ9_max 10 = .ok (.ireturn, 1) := dk_172 (dk_at dksJ9_max_0 10 rfl rfl)
abbrev cJ9_min : ByteArray := prog_30_method_69_code
def yJ9_min : MethodName := ⟨RJ9, "min", "(II)I"⟩
def dkwJ9_min_0 : List UInt8 := [26, 27, 163, 0, 7, 26, 167, 0, 4, 27, 172]
abbrev dktJ9_min_0 : List UInt8 := dkwJ9_min_0 ++ []
theorem dksJ9_min_0 : cJ9_min.data.toList.drop 0 = dktJ9_min_0 := by decide +kernel
theorem dJ9_min_0 : decode cJ9_min 0 = .ok (.iload_n 0, 1) := dk_26 (dk_at dksJ9_min_0 0 rfl rfl)
theorem dJ9_min_1 : decode cJ9_min 1 = .ok (.iload_n 1, 1) := dk_27 (dk_at dksJ9_min_0 1 rfl rfl)
theorem dJ9_min_2 : decode cJ9_min 2 = .ok (.if_icmp .gt 7, 3) := dk_163 0 7 (dk_at dksJ9_min_0 2 rfl rfl)
theorem dJ9_min_5 : decode cJ9_min 5 = .ok (.iload_n 0, 1) := dk_26 (dk_at dksJ9_min_0 5 rfl rfl)
theorem dJ9_min_6 : decode cJ9_min 6 = .ok (.goto 4, 3) := dk_167 0 4 (dk_at dksJ9_min_0 6 rfl rfl)
theorem dJ9_min_9 : decode cJ9_min 9 = .ok (.iload_n 1, 1) := dk_27 (dk_at dksJ9_min_0 9 rfl rfl)
theorem dJ9_min_10 : decode cJ9_min 10 = .ok (.ireturn, 1) := dk_172 (dk_at dksJ9_min_0 10 rfl rfl)
abbrev cJ9_abs : ByteArray := prog_30_method_61_code
def yJ9_abs : MethodName := ⟨RJ9, "abs", "(J)J"⟩
def dkwJ9_abs_0 : List UInt8 := [30, 9, 148, 156, 0, 8, 30, 117, 167, 0, 4, 30, 173]
abbrev dktJ9_abs_0 : List UInt8 := dkwJ9_abs_0 ++ []
theorem dksJ9_abs_0 : cJ9_abs.data.toList.drop 0 = dktJ9_abs_0 := by decide +kernel
theorem dJ9_abs_0 : decode cJ9_abs 0 = .ok (.lload_n 0, 1) := dk_30 (dk_at dksJ9_abs_0 0 rfl rfl)
theorem dJ9_abs_1 : decode cJ9_abs 1 = .ok (.lconst 0, 1) := dk_9 (dk_at dksJ9_abs_0 1 rfl rfl)
theorem dJ9_abs_2 : decode cJ9_abs 2 = .ok (.lcmp, 1) := dk_148 (dk_at dksJ9_abs_0 2 rfl rfl)
theorem dJ9_abs_3 : decode cJ9_abs 3 = .ok (.ifCond .ge 8, 3) := dk_156 0 8 (dk_at dksJ9_abs_0 3 rfl rfl)
theorem dJ9_abs_6 : decode cJ9_abs 6 = .ok (.lload_n 0, 1) := dk_30 (dk_at dksJ9_abs_0 6 rfl rfl)
theorem dJ9_abs_7 : decode cJ9_abs 7 = .ok (.lneg, 1) := dk_117 (dk_at dksJ9_abs_0 7 rfl rfl)
theorem dJ9_abs_8 : decode cJ9_abs 8 = .ok (.goto 4, 3) := dk_167 0 4 (dk_at dksJ9_abs_0 8 rfl rfl)
theorem dJ9_abs_11 : decode cJ9_abs 11 = .ok (.lload_n 0, 1) := dk_30 (dk_at dksJ9_abs_0 11 rfl rfl)
theorem dJ9_abs_12 : decode cJ9_abs 12 = .ok (.lreturn, 1) := dk_173 (dk_at dksJ9_abs_0 12 rfl rfl)
abbrev cJ9_floorDiv : ByteArray := prog_30_method_49_code
def yJ9_floorDiv : MethodName := ⟨RJ9, "floorDiv", "(JJ)J"⟩
def dkwJ9_floorDiv_1 : List UInt8 := [10, 101, 173, 22, 4, 173]
abbrev dktJ9_floorDiv_1 : List UInt8 := dkwJ9_floorDiv_1 ++ []
def dkwJ9_floorDiv_0 : List UInt8 := [30, 32, 109, 55, 4, 30, 32, 131, 9, 148, 156, 0, 17, 22, 4, 32, 105, 30, 148, 153, 0, 8, 22, 4]
abbrev dktJ9_floorDiv_0 : List UInt8 := dkwJ9_floorDiv_0 ++ dktJ9_floorDiv_1
theorem dksJ9_floorDiv_0 : cJ9_floorDiv.data.toList.drop 0 = dktJ9_floorDiv_0 := by decide +kernel
theorem dksJ9_floorDiv_1 : cJ9_floorDiv.data.toList.drop 24 = dktJ9_floorDiv_1 := dk_seg dksJ9_floorDiv_0 24 rfl rfl
theorem dJ9_floorDiv_0 : decode cJ9_floorDiv 0 = .ok (.lload_n 0, 1) := dk_30 (dk_at dksJ9_floorDiv_0 0 rfl rfl)
theorem dJ9_floorDiv_1 : decode cJ9_floorDiv 1 = .ok (.lload_n 2, 1) := dk_32 (dk_at dksJ9_floorDiv_0 1 rfl rfl)
theorem dJ9_floorDiv_2 : decode cJ9_floorDiv 2 = .ok (.ldiv, 1) := dk_109 (dk_at dksJ9_floorDiv_0 2 rfl rfl)
theorem dJ9_floorDiv_3 : decode cJ9_floorDiv 3 = .ok (.lstore 4, 2) := dk_55 4 (dk_at dksJ9_floorDiv_0 3 rfl rfl)
theorem dJ9_floorDiv_5 : decode cJ9_floorDiv 5 = .ok (.lload_n 0, 1) := dk_30 (dk_at dksJ9_floorDiv_0 5 rfl rfl)
theorem dJ9_floorDiv_6 : decode cJ9_floorDiv 6 = .ok (.lload_n 2, 1) := dk_32 (dk_at dksJ9_floorDiv_0 6 rfl rfl)
theorem dJ9_floorDiv_7 : decode cJ9_floorDiv 7 = .ok (.lxor, 1) := dk_131 (dk_at dksJ9_floorDiv_0 7 rfl rfl)
theorem dJ9_floorDiv_8 : decode cJ9_floorDiv 8 = .ok (.lconst 0, 1) := dk_9 (dk_at dksJ9_floorDiv_0 8 rfl rfl)
theorem dJ9_floorDiv_9 : decode cJ9_floorDiv 9 = .ok (.lcmp, 1) := dk_148 (dk_at dksJ9_floorDiv_0 9 rfl rfl)
theorem dJ9_floorDiv_10 : decode cJ9_floorDiv 10 = .ok (.ifCond .ge 17, 3) := dk_156 0 17 (dk_at dksJ9_floorDiv_0 10 rfl rfl)
theorem dJ9_floorDiv_13 : decode cJ9_floorDiv 13 = .ok (.lload 4, 2) := dk_22 4 (dk_at dksJ9_floorDiv_0 13 rfl rfl)
theorem dJ9_floorDiv_15 : decode cJ9_floorDiv 15 = .ok (.lload_n 2, 1) := dk_32 (dk_at dksJ9_floorDiv_0 15 rfl rfl)
theorem dJ9_floorDiv_16 : decode cJ9_floorDiv 16 = .ok (.lmul, 1) := dk_105 (dk_at dksJ9_floorDiv_0 16 rfl rfl)
theorem dJ9_floorDiv_17 : decode cJ9_floorDiv 17 = .ok (.lload_n 0, 1) := dk_30 (dk_at dksJ9_floorDiv_0 17 rfl rfl)
theorem dJ9_floorDiv_18 : decode cJ9_floorDiv 18 = .ok (.lcmp, 1) := dk_148 (dk_at dksJ9_floorDiv_0 18 rfl rfl)
theorem dJ9_floorDiv_19 : decode cJ9_floorDiv 19 = .ok (.ifCond .eq 8, 3) := dk_153 0 8 (dk_at dksJ9_floorDiv_0 19 rfl rfl)
theorem dJ9_floorDiv_22 : decode cJ9_floorDiv 22 = .ok (.lload 4, 2) := dk_22 4 (dk_at dksJ9_floorDiv_0 22 rfl rfl)
theorem dJ9_floorDiv_24 : decode cJ9_floorDiv 24 = .ok (.lconst 1, 1) := dk_10 (dk_at dksJ9_floorDiv_1 0 rfl rfl)
theorem dJ9_floorDiv_25 : decode cJ9_floorDiv 25 = .ok (.lsub, 1) := dk_101 (dk_at dksJ9_floorDiv_1 1 rfl rfl)
theorem dJ9_floorDiv_26 : decode cJ9_floorDiv 26 = .ok (.lreturn, 1) := dk_173 (dk_at dksJ9_floorDiv_1 2 rfl rfl)
theorem dJ9_floorDiv_27 : decode cJ9_floorDiv 27 = .ok (.lload 4, 2) := dk_22 4 (dk_at dksJ9_floorDiv_1 3 rfl rfl)
theorem dJ9_floorDiv_29 : decode cJ9_floorDiv 29 = .ok (.lreturn, 1) := dk_173 (dk_at dksJ9_floorDiv_1 5 rfl rfl)
abbrev cJ9_floorMod : ByteArray := prog_30_method_52_code
def yJ9_floorMod : MethodName := ⟨RJ9, "floorMod", "(JJ)J"⟩
def dkwJ9_floorMod_1 : List UInt8 := [173, 22, 4, 173]
abbrev dktJ9_floorMod_1 : List UInt8 := dkwJ9_floorMod_1 ++ []
def dkwJ9_floorMod_0 : List UInt8 := [30, 32, 113, 55, 4, 30, 32, 131, 9, 148, 156, 0, 15, 22, 4, 9, 148, 153, 0, 8, 22, 4, 32, 97]
abbrev dktJ9_floorMod_0 : List UInt8 := dkwJ9_floorMod_0 ++ dktJ9_floorMod_1
theorem dksJ9_floorMod_0 : cJ9_floorMod.data.toList.drop 0 = dktJ9_floorMod_0 := by decide +kernel
theorem dksJ9_floorMod_1 : cJ9_floorMod.data.toList.drop 24 = dktJ9_floorMod_1 := dk_seg dksJ9_floorMod_0 24 rfl rfl
theorem dJ9_floorMod_0 : decode cJ9_floorMod 0 = .ok (.lload_n 0, 1) := dk_30 (dk_at dksJ9_floorMod_0 0 rfl rfl)
theorem dJ9_floorMod_1 : decode cJ9_floorMod 1 = .ok (.lload_n 2, 1) := dk_32 (dk_at dksJ9_floorMod_0 1 rfl rfl)
theorem dJ9_floorMod_2 : decode cJ9_floorMod 2 = .ok (.lrem, 1) := dk_113 (dk_at dksJ9_floorMod_0 2 rfl rfl)
theorem dJ9_floorMod_3 : decode cJ9_floorMod 3 = .ok (.lstore 4, 2) := dk_55 4 (dk_at dksJ9_floorMod_0 3 rfl rfl)
theorem dJ9_floorMod_5 : decode cJ9_floorMod 5 = .ok (.lload_n 0, 1) := dk_30 (dk_at dksJ9_floorMod_0 5 rfl rfl)
theorem dJ9_floorMod_6 : decode cJ9_floorMod 6 = .ok (.lload_n 2, 1) := dk_32 (dk_at dksJ9_floorMod_0 6 rfl rfl)
theorem dJ9_floorMod_7 : decode cJ9_floorMod 7 = .ok (.lxor, 1) := dk_131 (dk_at dksJ9_floorMod_0 7 rfl rfl)
theorem dJ9_floorMod_8 : decode cJ9_floorMod 8 = .ok (.lconst 0, 1) := dk_9 (dk_at dksJ9_floorMod_0 8 rfl rfl)
theorem dJ9_floorMod_9 : decode cJ9_floorMod 9 = .ok (.lcmp, 1) := dk_148 (dk_at dksJ9_floorMod_0 9 rfl rfl)
theorem dJ9_floorMod_10 : decode cJ9_floorMod 10 = .ok (.ifCond .ge 15, 3) := dk_156 0 15 (dk_at dksJ9_floorMod_0 10 rfl rfl)
theorem dJ9_floorMod_13 : decode cJ9_floorMod 13 = .ok (.lload 4, 2) := dk_22 4 (dk_at dksJ9_floorMod_0 13 rfl rfl)
theorem dJ9_floorMod_15 : decode cJ9_floorMod 15 = .ok (.lconst 0, 1) := dk_9 (dk_at dksJ9_floorMod_0 15 rfl rfl)
theorem dJ9_floorMod_16 : decode cJ9_floorMod 16 = .ok (.lcmp, 1) := dk_148 (dk_at dksJ9_floorMod_0 16 rfl rfl)
theorem dJ9_floorMod_17 : decode cJ9_floorMod 17 = .ok (.ifCond .eq 8, 3) := dk_153 0 8 (dk_at dksJ9_floorMod_0 17 rfl rfl)
theorem dJ9_floorMod_20 : decode cJ9_floorMod 20 = .ok (.lload 4, 2) := dk_22 4 (dk_at dksJ9_floorMod_0 20 rfl rfl)
theorem dJ9_floorMod_22 : decode cJ9_floorMod 22 = .ok (.lload_n 2, 1) := dk_32 (dk_at dksJ9_floorMod_0 22 rfl rfl)
theorem dJ9_floorMod_23 : decode cJ9_floorMod 23 = .ok (.ladd, 1) := dk_97 (dk_at dksJ9_floorMod_0 23 rfl rfl)
theorem dJ9_floorMod_24 : decode cJ9_floorMod 24 = .ok (.lreturn, 1) := dk_173 (dk_at dksJ9_floorMod_1 0 rfl rfl)
theorem dJ9_floorMod_25 : decode cJ9_floorMod 25 = .ok (.lload 4, 2) := dk_22 4 (dk_at dksJ9_floorMod_1 1 rfl rfl)
theorem dJ9_floorMod_27 : decode cJ9_floorMod 27 = .ok (.lreturn, 1) := dk_173 (dk_at dksJ9_floorMod_1 3 rfl rfl)
theorem q134 : (Jvm.Cond.initialized "java/lang/Math") ∈ lw_all := lw_g (lw_at lw_m1 16 rfl) rfl
theorem q414 : (Jvm.Cond.static ({ cls := "java/lang/Math", name := "max", desc := "(II)I" } : Jvm.MethodName)) ∈ lw_all := lw_g (lw_at lw_m2 56 rfl) rfl
theorem q415 : (Jvm.Cond.code ({ cls := "java/lang/Math", name := "max", desc := "(II)I" } : Jvm.MethodName) prog_30_method_65_code (2 : Nat) (Option.some Jvm.ClassFile.FieldType.int)) ∈ lw_all := lw_g (lw_at lw_m2 57 rfl) rfl
theorem q432 : (Jvm.Cond.static ({ cls := "java/lang/Math", name := "min", desc := "(II)I" } : Jvm.MethodName)) ∈ lw_all := lw_g (lw_at lw_m2 74 rfl) rfl
theorem q433 : (Jvm.Cond.code ({ cls := "java/lang/Math", name := "min", desc := "(II)I" } : Jvm.MethodName) prog_30_method_69_code (2 : Nat) (Option.some Jvm.ClassFile.FieldType.int)) ∈ lw_all := lw_g (lw_at lw_m2 75 rfl) rfl
theorem q797 : (Jvm.Cond.static ({ cls := "java/lang/Math", name := "abs", desc := "(J)J" } : Jvm.MethodName)) ∈ lw_all := lw_g (lw_at lw_m3 199 rfl) rfl
theorem q798 : (Jvm.Cond.code ({ cls := "java/lang/Math", name := "abs", desc := "(J)J" } : Jvm.MethodName) prog_30_method_61_code (2 : Nat) (Option.some Jvm.ClassFile.FieldType.long)) ∈ lw_all := lw_g (lw_at lw_m3 200 rfl) rfl
theorem q1029 : (Jvm.Cond.static ({ cls := "java/lang/Math", name := "floorDiv", desc := "(JJ)J" } : Jvm.MethodName)) ∈ lw_all := lw_g (lw_at lw_m4 191 rfl) rfl
theorem q1030 : (Jvm.Cond.code ({ cls := "java/lang/Math", name := "floorDiv", desc := "(JJ)J" } : Jvm.MethodName) prog_30_method_49_code (6 : Nat) (Option.some Jvm.ClassFile.FieldType.long)) ∈ lw_all := lw_g (lw_at lw_m4 192 rfl) rfl
theorem q1129 : (Jvm.Cond.static ({ cls := "java/lang/Math", name := "floorMod", desc := "(JJ)J" } : Jvm.MethodName)) ∈ lw_all := lw_g (lw_at lw_m5 51 rfl) rfl
theorem q1130 : (Jvm.Cond.code ({ cls := "java/lang/Math", name := "floorMod", desc := "(JJ)J" } : Jvm.MethodName) prog_30_method_52_code (6 : Nat) (Option.some Jvm.ClassFile.FieldType.long)) ∈ lw_all := lw_g (lw_at lw_m5 52 rfl) rfl
