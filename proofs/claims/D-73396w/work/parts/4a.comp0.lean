/-! walks of the component (printed by gen/walkc.py) -/
set_option maxRecDepth 100000
def m_X0_isIn_18 (f : Nat) (y0 : Int32) : Option Int32 := gd (zb y0) <|
    some y0
def m_X0_isIn_17 (f : Nat)  : Option Int32 := m_X0_isIn_18 f (0 : Int32)
def m_X0_isIn (f : Nat) (x0 : Int64) (x2 : Int64) (x4 : Int64) : Option Int32 := if x0 < x2 then
    m_X0_isIn_17 f 
    else if x4 < x0 then
    m_X0_isIn_17 f 
    else m_X0_isIn_18 f (1 : Int32)
abbrev rm_X0_isIn : Room := { frames := 0, cells := 0, slots := 0, locals := 0 }
theorem cw_X0_isIn {R : Room} {s : State} {args : Array Value} {own : String} {idx : Nat} (hts : ∀ w ∈ lw_all, w.before args s = true) (hl : Cond.methodLink own idx yX0_isIn ∈ lw_all) (hR : rm_X0_isIn.frames + 1 ≤ R.frames ∧ 8 + (6 + 11) + rm_X0_isIn.locals ≤ R.locals) : CallB R s args own idx yX0_isIn cX0_isIn 6 (Option.some Jvm.ClassFile.FieldType.boolean) (ws_ yX0_isIn cX0_isIn 6 (Option.some Jvm.ClassFile.FieldType.boolean)) rm_X0_isIn 0 0 3 ∧ (Cond.static yX0_isIn).before args s = true := va_cwS 3 hts (lw_S hl q298 q119 q299) rfl rfl rfl (by decide +kernel) hR
set_option maxHeartbeats 4000000 in
set_option maxRecDepth 100000 in
theorem w_X0_isIn (l : Launch) {f : Nat} {x0 : Int64} {x2 : Int64} {x4 : Int64} {r0 : Int32} (hm : m_X0_isIn f x0 x2 x4 = some r0) : Met l yX0_isIn (ws_ yX0_isIn cX0_isIn 6 (Option.some Jvm.ClassFile.FieldType.boolean)) rm_X0_isIn (va_Pc [.long x0, .long x2, .long x4] (fun _ => True)) (vp_Si (fun r => r = r0)) 0 0 (fun _ => False) := by
  refine Met.ofW (cc := cX0_isIn) (maxL := 6) (ret := (Option.some Jvm.ClassFile.FieldType.boolean)) (by decide) rfl ?_
  intro p e s m args below meth c s₁ B hml hv
  have hx := B.exec
  have hb := B.bytes
  have hr := B.returns
  have hts := atoms_spec (ws := (ws_ yX0_isIn cX0_isIn 6 (Option.some Jvm.ClassFile.FieldType.boolean))) B.pre
  have hts : ∀ w ∈ lw_all, w.before args s = true := fun w h => hts w (List.mem_cons_of_mem _ h)
  have hown : s.vm.findClass RX0 = some m.cls := findClass_of_methodNamed B.named
  have hlocks := B.notSynchronized
  obtain ⟨hav, hv⟩ := hv
  generalize hQ : MQ below (vp_Si (fun r => r = r0)) args s 0 0 (fun _ => False) = QQ
  have hent := lg_entry_eq m [.long x0, .long x2, .long x4] 6
  rw [← hav] at hent
  rw [hent]
  have hl := lv_entry ([.long x0, .long x2, .long x4]) (n := 6) (Nat.le_of_ble_eq_true rfl)
  generalize (lg_sl ([.long x0, .long x2, .long x4]) ++ List.replicate (6 - (lg_sl ([.long x0, .long x2, .long x4])).length) Slot.unset).toArray = ls at hl ⊢
  have hl : lv_has ls 6 [(0, .long x0), (2, .long x2), (4, .long x4)] := hl
  change W p l e rm_X0_isIn s m args below meth c s.heap [] 0 0 QQ (F0 m 0 ls [])
  have hB18 : ∀ (y0 : Int32) (ls : Array Slot), m_X0_isIn_18 f y0 = some r0 → lv_has ls 6 [] → W p l e rm_X0_isIn s m args below meth c s.heap [] 0 0 QQ (F0 m 18 ls [.int y0]) := by
    intro y0 ls hm hl
    rw [m_X0_isIn_18] at hm
    obtain ⟨g1, hm⟩ := gdE hm
    rw [← hQ]
    exact W.zret (v := y0) hx hb hr (zb_nar g1) (fun t ht hW => ⟨y0, rfl, ret1 hm, ht⟩) (fun q h => absurd h List.not_mem_nil) dX0_isIn_18
  have hB17 : ∀  (ls : Array Slot), m_X0_isIn_17 f  = some r0 → lv_has ls 6 [] → W p l e rm_X0_isIn s m args below meth c s.heap [] 0 0 QQ (F0 m 17 ls []) := by
    intro ls hm hl
    rw [m_X0_isIn_17] at hm
    refine lv_iconst (v := 0) hx hb dX0_isIn_17 (by decide) ?_
    exact hB18 (0 : Int32) _ hm (lv_sub hl [] rfl)
  rw [m_X0_isIn] at hm
  refine lv_lload_n hx hb dX0_isIn_0 rfl (lv_at hl 0 rfl) ?_
  refine lv_lload_n hx hb dX0_isIn_1 rfl (lv_at hl 1 rfl) ?_
  refine lc_lt (tgt := 17) hx hb dX0_isIn_2 dX0_isIn_3 (by decide) (fun c1 => ?_) (fun c1 => ?_)
  · have hm := ifT hm c1
    exact hB17  _ hm (lv_sub hl [] rfl)
  · have hm := ifF hm c1
    refine lv_lload_n hx hb dX0_isIn_6 rfl (lv_at hl 0 rfl) ?_
    refine lv_lload hx hb dX0_isIn_7 (lv_at hl 2 rfl) ?_
    refine lc_gt (tgt := 17) hx hb dX0_isIn_9 dX0_isIn_10 (by decide) (fun c2 => ?_) (fun c2 => ?_)
    · have hm := ifT hm c2
      exact hB17  _ hm (lv_sub hl [] rfl)
    · have hm := ifF hm c2
      refine lv_iconst (v := 1) hx hb dX0_isIn_13 (by decide) ?_
      refine lv_goto (tgt := 18) hx hb dX0_isIn_14 (by decide) ?_
      exact hB18 (1 : Int32) _ hm (lv_sub hl [] rfl)
def m_J9_abs_12 (f : Nat) (y0 : Int64) : Option Int64 := some y0
def m_J9_abs (f : Nat) (x0 : Int64) : Option Int64 := if (0 : Int64) ≤ x0 then
    m_J9_abs_12 f x0
    else m_J9_abs_12 f (-x0)
abbrev rm_J9_abs : Room := { frames := 0, cells := 0, slots := 0, locals := 0 }
theorem cw_J9_abs {R : Room} {s : State} {args : Array Value} {own : String} {idx : Nat} (hts : ∀ w ∈ lw_all, w.before args s = true) (hl : Cond.methodLink own idx yJ9_abs ∈ lw_all) (hR : rm_J9_abs.frames + 1 ≤ R.frames ∧ 8 + (2 + 11) + rm_J9_abs.locals ≤ R.locals) : CallB R s args own idx yJ9_abs cJ9_abs 2 (Option.some Jvm.ClassFile.FieldType.long) (ws_ yJ9_abs cJ9_abs 2 (Option.some Jvm.ClassFile.FieldType.long)) rm_J9_abs 0 0 1 ∧ (Cond.static yJ9_abs).before args s = true := va_cwS 1 hts (lw_S hl q797 q134 q798) rfl rfl rfl (by decide +kernel) hR
set_option maxHeartbeats 4000000 in
set_option maxRecDepth 100000 in
theorem w_J9_abs (l : Launch) {f : Nat} {x0 : Int64} {r0 : Int64} (hm : m_J9_abs f x0 = some r0) : Met l yJ9_abs (ws_ yJ9_abs cJ9_abs 2 (Option.some Jvm.ClassFile.FieldType.long)) rm_J9_abs (va_Pc [.long x0] (fun _ => True)) (vp_Sl (fun r => r = r0)) 0 0 (fun _ => False) := by
  refine metOfWF (cc := cJ9_abs) (maxL := 2) (ret := (Option.some Jvm.ClassFile.FieldType.long)) (by decide +kernel) rfl ?_
  intro p e s m args below meth c s₁ B hml hv
  have hx := B.exec
  have hb := B.bytes
  have hr := B.returns
  have hts := atoms_spec (ws := (ws_ yJ9_abs cJ9_abs 2 (Option.some Jvm.ClassFile.FieldType.long))) B.pre
  have hts : ∀ w ∈ lw_all, w.before args s = true := fun w h => hts w (List.mem_cons_of_mem _ h)
  have hown : s.vm.findClass RJ9 = some m.cls := findClass_of_methodNamed B.named
  have hlocks := B.notSynchronized
  obtain ⟨hav, hv⟩ := hv
  generalize hQ : MQ below (vp_Sl (fun r => r = r0)) args s 0 0 (fun _ => False) = QQ
  have hent := lg_entry_eq m [.long x0] 2
  rw [← hav] at hent
  rw [hent]
  have hl := lv_entry ([.long x0]) (n := 2) (Nat.le_of_ble_eq_true rfl)
  generalize (lg_sl ([.long x0]) ++ List.replicate (2 - (lg_sl ([.long x0])).length) Slot.unset).toArray = ls at hl ⊢
  have hl : lv_has ls 2 [(0, .long x0)] := hl
  change W p l e rm_J9_abs s m args below meth c s.heap [] 0 0 QQ (F0 m 0 ls [])
  have hB12 : ∀ (y0 : Int64) (ls : Array Slot), m_J9_abs_12 f y0 = some r0 → lv_has ls 2 [] → W p l e rm_J9_abs s m args below meth c s.heap [] 0 0 QQ (F0 m 12 ls [.long y0]) := by
    intro y0 ls hm hl
    rw [m_J9_abs_12] at hm
    rw [← hQ]
    exact W.lret (v := y0) hx hb hr (fun t ht hW => ⟨y0, rfl, ret1 hm, ht⟩) (fun q h => absurd h List.not_mem_nil) dJ9_abs_12
  rw [m_J9_abs] at hm
  refine lv_lload_n hx hb dJ9_abs_0 rfl (lv_at hl 0 rfl) ?_
  refine lv_lconst (v := 0) hx hb dJ9_abs_1 (by decide) ?_
  refine lc_ge (tgt := 11) hx hb dJ9_abs_2 dJ9_abs_3 (by decide) (fun c1 => ?_) (fun c1 => ?_)
  · have hm := ifT hm c1
    refine lv_lload_n hx hb dJ9_abs_11 rfl (lv_at hl 0 rfl) ?_
    exact hB12 x0 _ hm (lv_sub hl [] rfl)
  · have hm := ifF hm c1
    refine lv_lload_n hx hb dJ9_abs_6 rfl (lv_at hl 0 rfl) ?_
    refine lv_lneg hx hb dJ9_abs_7 ?_
    refine lv_goto (tgt := 12) hx hb dJ9_abs_8 (by decide) ?_
    exact hB12 (-x0) _ hm (lv_sub hl [] rfl)
def m_X0_divisor_20 (f : Nat) (y0 : Int64) : Option Int64 := some y0
def dvr (f : Nat) : Nat → Int64 → Int64 → Option Int64
  | 0, _, _ => none
  | d + 1, x0, x2 => if ¬ x2 = (0 : Int64) then
    gd (nzL x2) <|
    bd (dvr f d x2 (rmL x0 x2)) fun r3 =>
    m_X0_divisor_20 f r3
    else bd (m_J9_abs f x0) fun r4 =>
    m_X0_divisor_20 f r4
def m_X0_divisor (f : Nat) (x0 x2 : Int64) : Option Int64 := dvr f 100 x0 x2
abbrev rmd (d : Nat) : Room := { frames := d + 1, cells := 0, slots := 0, locals := 40 * (d + 1) }
abbrev rm_X0_divisor : Room := rmd 100
theorem cwd {R : Room} {s : State} {args : Array Value} {own : String} {idx : Nat} (d : Nat) (hts : ∀ w ∈ lw_all, w.before args s = true) (hl : Cond.methodLink own idx yX0_divisor ∈ lw_all) (hR : (rmd d).frames + 1 ≤ R.frames ∧ 8 + (4 + 11) + (rmd d).locals ≤ R.locals) : CallB R s args own idx yX0_divisor cX0_divisor 4 (Option.some Jvm.ClassFile.FieldType.long) (ws_ yX0_divisor cX0_divisor 4 (Option.some Jvm.ClassFile.FieldType.long)) (rmd d) 0 0 2 ∧ (Cond.static yX0_divisor).before args s = true := va_cwS 2 hts (lw_S hl q931 q119 q932) rfl rfl rfl (by decide +kernel) hR
theorem cw_X0_divisor {R : Room} {s : State} {args : Array Value} {own : String} {idx : Nat} (hts : ∀ w ∈ lw_all, w.before args s = true) (hl : Cond.methodLink own idx yX0_divisor ∈ lw_all) (hR : rm_X0_divisor.frames + 1 ≤ R.frames ∧ 8 + (4 + 11) + rm_X0_divisor.locals ≤ R.locals) : CallB R s args own idx yX0_divisor cX0_divisor 4 (Option.some Jvm.ClassFile.FieldType.long) (ws_ yX0_divisor cX0_divisor 4 (Option.some Jvm.ClassFile.FieldType.long)) rm_X0_divisor 0 0 2 ∧ (Cond.static yX0_divisor).before args s = true := cwd 100 hts hl hR
set_option maxHeartbeats 4000000 in
set_option maxRecDepth 100000 in
theorem w_dvr (l : Launch) {f : Nat} : ∀ (d : Nat) (x0 x2 r0 : Int64), dvr f d x0 x2 = some r0 → Met l yX0_divisor (ws_ yX0_divisor cX0_divisor 4 (Option.some Jvm.ClassFile.FieldType.long)) (rmd d) (va_Pc [.long x0, .long x2] (fun _ => True)) (vp_Sl (fun r => r = r0)) 0 0 (fun _ => False) := by
  intro d
  induction d with
  | zero => intro x0 x2 r0 hm; rw [dvr] at hm; exact noE hm
  | succ d ih =>
  intro x0 x2 r0 hm
  refine Met.ofW (cc := cX0_divisor) (maxL := 4) (ret := (Option.some Jvm.ClassFile.FieldType.long)) (by decide) rfl ?_
  intro p e s m args below meth c s₁ B hml hv
  have hx := B.exec
  have hb := B.bytes
  have hr := B.returns
  have hts := atoms_spec (ws := (ws_ yX0_divisor cX0_divisor 4 (Option.some Jvm.ClassFile.FieldType.long))) B.pre
  have hts : ∀ w ∈ lw_all, w.before args s = true := fun w h => hts w (List.mem_cons_of_mem _ h)
  have hown : s.vm.findClass RX0 = some m.cls := findClass_of_methodNamed B.named
  have hlocks := B.notSynchronized
  obtain ⟨hav, hv⟩ := hv
  generalize hQ : MQ below (vp_Sl (fun r => r = r0)) args s 0 0 (fun _ => False) = QQ
  have hent := lg_entry_eq m [.long x0, .long x2] 4
  rw [← hav] at hent
  rw [hent]
  have hl := lv_entry ([.long x0, .long x2]) (n := 4) (Nat.le_of_ble_eq_true rfl)
  generalize (lg_sl ([.long x0, .long x2]) ++ List.replicate (4 - (lg_sl ([.long x0, .long x2])).length) Slot.unset).toArray = ls at hl ⊢
  have hl : lv_has ls 4 [(0, .long x0), (2, .long x2)] := hl
  change W p l e (rmd (d + 1)) s m args below meth c s.heap [] 0 0 QQ (F0 m 0 ls [])
  have hB20 : ∀ (y0 : Int64) (ls : Array Slot), m_X0_divisor_20 f y0 = some r0 → lv_has ls 4 [] → W p l e (rmd (d + 1)) s m args below meth c s.heap [] 0 0 QQ (F0 m 20 ls [.long y0]) := by
    intro y0 ls hm hl
    rw [m_X0_divisor_20] at hm
    rw [← hQ]
    exact W.lret (v := y0) hx hb hr (fun t ht hW => ⟨y0, rfl, ret1 hm, ht⟩) (fun q h => absurd h List.not_mem_nil) dX0_divisor_20
  rw [dvr] at hm
  refine lv_lload_n hx hb dX0_divisor_0 rfl (lv_at hl 1 rfl) ?_
  refine lv_lconst (v := 0) hx hb dX0_divisor_1 (by decide) ?_
  refine lc_ne (tgt := 13) hx hb dX0_divisor_2 dX0_divisor_3 (by decide) (fun c1 => ?_) (fun c1 => ?_)
  · have hm := ifT hm c1
    refine lv_lload_n hx hb dX0_divisor_13 rfl (lv_at hl 1 rfl) ?_
    refine lv_lload_n hx hb dX0_divisor_14 rfl (lv_at hl 0 rfl) ?_
    refine lv_lload_n hx hb dX0_divisor_15 rfl (lv_at hl 1 rfl) ?_
    obtain ⟨g2, hm⟩ := gdE hm
    refine w_lrem hx hb dX0_divisor_16 (nzL_ne g2) ?_
    obtain ⟨r3, er3, hm⟩ := bdE hm
    refine scl (va_runS (As := [.long x2, .long (rmL x0 x2)]) (rest := []) ⟨hx, hb, hml, hown, hts⟩ (ih _ _ _ er3) (cwd d hts q934 ⟨show d + 1 + 1 ≤ d + 1 + 1 by omega, show 8 + (4 + 11) + 40 * (d + 1) ≤ 40 * (d + 1 + 1) by omega⟩) (pre_s _) rfl rfl hl.1 rfl (lv_room (Nat.le_of_ble_eq_true rfl)) dX0_divisor_17 ⟨Nat.le_of_ble_eq_true rfl, Nat.le_of_ble_eq_true rfl⟩) ?_
    exact hB20 r3 _ hm (lv_sub hl [] rfl)
  · have hm := ifT' hm c1
    refine lv_lload_n hx hb dX0_divisor_6 rfl (lv_at hl 0 rfl) ?_
    obtain ⟨r4, er4, hm⟩ := bdE hm
    refine scl (va_runS (As := [.long x0]) (rest := []) ⟨hx, hb, hml, hown, hts⟩ (w_J9_abs l er4) (cw_J9_abs hts q933 ⟨show 0 + 1 ≤ d + 1 + 1 by omega, show 8 + (2 + 11) + 0 ≤ 40 * (d + 1 + 1) by omega⟩) (pre_s _) rfl rfl hl.1 rfl (lv_room (Nat.le_of_ble_eq_true rfl)) dX0_divisor_7 ⟨Nat.le_of_ble_eq_true rfl, Nat.le_of_ble_eq_true rfl⟩) ?_
    refine lv_goto (tgt := 20) hx hb dX0_divisor_10 (by decide) ?_
    exact hB20 r4 _ hm (lv_sub hl [] rfl)
theorem w_X0_divisor (l : Launch) {f : Nat} {x0 x2 r0 : Int64} (hm : m_X0_divisor f x0 x2 = some r0) : Met l yX0_divisor (ws_ yX0_divisor cX0_divisor 4 (Option.some Jvm.ClassFile.FieldType.long)) rm_X0_divisor (va_Pc [.long x0, .long x2] (fun _ => True)) (vp_Sl (fun r => r = r0)) 0 0 (fun _ => False) := w_dvr l 100 x0 x2 r0 hm
def m_X0_multiple (f : Nat) (x0 : Int64) (x2 : Int64) : Option Int64 := bd (m_X0_divisor f x0 x2) fun r1 =>
    gd (nzL r1) <|
    some ((x0 / r1) * x2)
abbrev rm_X0_multiple : Room := { frames := 102, cells := 0, slots := 0, locals := 4063 }
theorem cw_X0_multiple {R : Room} {s : State} {args : Array Value} {own : String} {idx : Nat} (hts : ∀ w ∈ lw_all, w.before args s = true) (hl : Cond.methodLink own idx yX0_multiple ∈ lw_all) (hR : rm_X0_multiple.frames + 1 ≤ R.frames ∧ 8 + (4 + 11) + rm_X0_multiple.locals ≤ R.locals) : CallB R s args own idx yX0_multiple cX0_multiple 4 (Option.some Jvm.ClassFile.FieldType.long) (ws_ yX0_multiple cX0_multiple 4 (Option.some Jvm.ClassFile.FieldType.long)) rm_X0_multiple 0 0 2 ∧ (Cond.static yX0_multiple).before args s = true := va_cwS 2 hts (lw_S hl q1113 q119 q1114) rfl rfl rfl (by decide +kernel) hR
set_option maxHeartbeats 4000000 in
set_option maxRecDepth 100000 in
theorem w_X0_multiple (l : Launch) {f : Nat} {x0 : Int64} {x2 : Int64} {r0 : Int64} (hm : m_X0_multiple f x0 x2 = some r0) : Met l yX0_multiple (ws_ yX0_multiple cX0_multiple 4 (Option.some Jvm.ClassFile.FieldType.long)) rm_X0_multiple (va_Pc [.long x0, .long x2] (fun _ => True)) (vp_Sl (fun r => r = r0)) 0 0 (fun _ => False) := by
  refine Met.ofW (cc := cX0_multiple) (maxL := 4) (ret := (Option.some Jvm.ClassFile.FieldType.long)) (by decide) rfl ?_
  intro p e s m args below meth c s₁ B hml hv
  have hx := B.exec
  have hb := B.bytes
  have hr := B.returns
  have hts := atoms_spec (ws := (ws_ yX0_multiple cX0_multiple 4 (Option.some Jvm.ClassFile.FieldType.long))) B.pre
  have hts : ∀ w ∈ lw_all, w.before args s = true := fun w h => hts w (List.mem_cons_of_mem _ h)
  have hown : s.vm.findClass RX0 = some m.cls := findClass_of_methodNamed B.named
  have hlocks := B.notSynchronized
  obtain ⟨hav, hv⟩ := hv
  generalize hQ : MQ below (vp_Sl (fun r => r = r0)) args s 0 0 (fun _ => False) = QQ
  have hent := lg_entry_eq m [.long x0, .long x2] 4
  rw [← hav] at hent
  rw [hent]
  have hl := lv_entry ([.long x0, .long x2]) (n := 4) (Nat.le_of_ble_eq_true rfl)
  generalize (lg_sl ([.long x0, .long x2]) ++ List.replicate (4 - (lg_sl ([.long x0, .long x2])).length) Slot.unset).toArray = ls at hl ⊢
  have hl : lv_has ls 4 [(0, .long x0), (2, .long x2)] := hl
  change W p l e rm_X0_multiple s m args below meth c s.heap [] 0 0 QQ (F0 m 0 ls [])
  rw [m_X0_multiple] at hm
  refine lv_lload_n hx hb dX0_multiple_0 rfl (lv_at hl 0 rfl) ?_
  refine lv_lload_n hx hb dX0_multiple_1 rfl (lv_at hl 0 rfl) ?_
  refine lv_lload_n hx hb dX0_multiple_2 rfl (lv_at hl 1 rfl) ?_
  obtain ⟨r1, er1, hm⟩ := bdE hm
  refine scl (va_runS (As := [.long x0, .long x2]) (rest := [.long x0]) ⟨hx, hb, hml, hown, hts⟩ (w_X0_divisor l er1) (cw_X0_divisor hts q934 ⟨Nat.le_of_ble_eq_true rfl, Nat.le_of_ble_eq_true rfl⟩) (pre_s _) rfl rfl hl.1 rfl (lv_room (Nat.le_of_ble_eq_true rfl)) dX0_multiple_3 ⟨Nat.le_of_ble_eq_true rfl, Nat.le_of_ble_eq_true rfl⟩) ?_
  obtain ⟨g2, hm⟩ := gdE hm
  refine lv_ldiv hx hb dX0_multiple_6 (nzL_ne g2) ?_
  refine lv_lload_n hx hb dX0_multiple_7 rfl (lv_at hl 1 rfl) ?_
  refine lv_lmul hx hb dX0_multiple_8 ?_
  rw [← hQ]
  exact W.lret (v := ((x0 / r1) * x2)) hx hb hr (fun t ht hW => ⟨((x0 / r1) * x2), rfl, ret1 hm, ht⟩) (fun q h => absurd h List.not_mem_nil) dX0_multiple_9
def m_X0_part_10 (f : Nat) (x0 : Int64) (x2 : Int64) (y0 : Int64) : Option Int64 := bd (m_X0_divisor f x0 x2) fun r1 =>
    gd (nzL r1) <|
    some (y0 / r1)
def m_X0_part (f : Nat) (x0 : Int64) (x2 : Int64) (x4 : Int32) : Option Int64 := if ¬ x4 = 0 then
    m_X0_part_10 f x0 x2 x2
    else m_X0_part_10 f x0 x2 x0
abbrev rm_X0_part : Room := { frames := 102, cells := 0, slots := 0, locals := 4063 }
theorem cw_X0_part {R : Room} {s : State} {args : Array Value} {own : String} {idx : Nat} (hts : ∀ w ∈ lw_all, w.before args s = true) (hl : Cond.methodLink own idx yX0_part ∈ lw_all) (hR : rm_X0_part.frames + 1 ≤ R.frames ∧ 8 + (5 + 11) + rm_X0_part.locals ≤ R.locals) : CallB R s args own idx yX0_part cX0_part 5 (Option.some Jvm.ClassFile.FieldType.long) (ws_ yX0_part cX0_part 5 (Option.some Jvm.ClassFile.FieldType.long)) rm_X0_part 0 0 3 ∧ (Cond.static yX0_part).before args s = true := va_cwS 3 hts (lw_S hl q1062 q119 q1063) rfl rfl rfl (by decide +kernel) hR
set_option maxHeartbeats 4000000 in
set_option maxRecDepth 100000 in
theorem w_X0_part (l : Launch) {f : Nat} {x0 : Int64} {x2 : Int64} {x4 : Int32} {r0 : Int64} (hm : m_X0_part f x0 x2 x4 = some r0) : Met l yX0_part (ws_ yX0_part cX0_part 5 (Option.some Jvm.ClassFile.FieldType.long)) rm_X0_part (va_Pc [.long x0, .long x2, .int x4] (fun _ => True)) (vp_Sl (fun r => r = r0)) 0 0 (fun _ => False) := by
  refine Met.ofW (cc := cX0_part) (maxL := 5) (ret := (Option.some Jvm.ClassFile.FieldType.long)) (by decide) rfl ?_
  intro p e s m args below meth c s₁ B hml hv
  have hx := B.exec
  have hb := B.bytes
  have hr := B.returns
  have hts := atoms_spec (ws := (ws_ yX0_part cX0_part 5 (Option.some Jvm.ClassFile.FieldType.long))) B.pre
  have hts : ∀ w ∈ lw_all, w.before args s = true := fun w h => hts w (List.mem_cons_of_mem _ h)
  have hown : s.vm.findClass RX0 = some m.cls := findClass_of_methodNamed B.named
  have hlocks := B.notSynchronized
  obtain ⟨hav, hv⟩ := hv
  generalize hQ : MQ below (vp_Sl (fun r => r = r0)) args s 0 0 (fun _ => False) = QQ
  have hent := lg_entry_eq m [.long x0, .long x2, .int x4] 5
  rw [← hav] at hent
  rw [hent]
  have hl := lv_entry ([.long x0, .long x2, .int x4]) (n := 5) (Nat.le_of_ble_eq_true rfl)
  generalize (lg_sl ([.long x0, .long x2, .int x4]) ++ List.replicate (5 - (lg_sl ([.long x0, .long x2, .int x4])).length) Slot.unset).toArray = ls at hl ⊢
  have hl : lv_has ls 5 [(0, .long x0), (2, .long x2), (4, .int x4)] := hl
  change W p l e rm_X0_part s m args below meth c s.heap [] 0 0 QQ (F0 m 0 ls [])
  have hB10 : ∀ (x0 : Int64) (x2 : Int64) (y0 : Int64) (ls : Array Slot), m_X0_part_10 f x0 x2 y0 = some r0 → lv_has ls 5 [(0, .long x0), (2, .long x2)] → W p l e rm_X0_part s m args below meth c s.heap [] 0 0 QQ (F0 m 10 ls [.long y0]) := by
    intro x0 x2 y0 ls hm hl
    rw [m_X0_part_10] at hm
    refine lv_lload_n hx hb dX0_part_10 rfl (lv_at hl 0 rfl) ?_
    refine lv_lload_n hx hb dX0_part_11 rfl (lv_at hl 1 rfl) ?_
    obtain ⟨r1, er1, hm⟩ := bdE hm
    refine scl (va_runS (As := [.long x0, .long x2]) (rest := [.long y0]) ⟨hx, hb, hml, hown, hts⟩ (w_X0_divisor l er1) (cw_X0_divisor hts q934 ⟨Nat.le_of_ble_eq_true rfl, Nat.le_of_ble_eq_true rfl⟩) (pre_s _) rfl rfl hl.1 rfl (lv_room (Nat.le_of_ble_eq_true rfl)) dX0_part_12 ⟨Nat.le_of_ble_eq_true rfl, Nat.le_of_ble_eq_true rfl⟩) ?_
    obtain ⟨g2, hm⟩ := gdE hm
    refine lv_ldiv hx hb dX0_part_15 (nzL_ne g2) ?_
    rw [← hQ]
    exact W.lret (v := (y0 / r1)) hx hb hr (fun t ht hW => ⟨(y0 / r1), rfl, ret1 hm, ht⟩) (fun q h => absurd h List.not_mem_nil) dX0_part_16
  rw [m_X0_part] at hm
  refine lv_iload hx hb dX0_part_0 (lv_at hl 2 rfl) ?_
  refine lv_if_ne (tgt := 9) hx hb dX0_part_2 (by decide) (fun c1 => ?_) (fun c1 => ?_)
  · have hm := ifT hm c1
    refine lv_lload_n hx hb dX0_part_9 rfl (lv_at hl 1 rfl) ?_
    exact hB10 x0 x2 x2 _ hm (lv_sub hl [0, 1] rfl)
  · have hm := ifT' hm c1
    refine lv_lload_n hx hb dX0_part_5 rfl (lv_at hl 0 rfl) ?_
    refine lv_goto (tgt := 10) hx hb dX0_part_6 (by decide) ?_
    exact hB10 x0 x2 x0 _ hm (lv_sub hl [0, 1] rfl)
def m_X0_isPart (f : Nat) (x0 : Int32) : Option Int32 := bd (m_X0_isIn f (Int32.toInt64 x0) (0 : Int64) (1 : Int64)) fun r1 =>
    gd (zb r1) <|
    some r1
abbrev rm_X0_isPart : Room := { frames := 1, cells := 0, slots := 0, locals := 25 }
theorem cw_X0_isPart {R : Room} {s : State} {args : Array Value} {own : String} {idx : Nat} (hts : ∀ w ∈ lw_all, w.before args s = true) (hl : Cond.methodLink own idx yX0_isPart ∈ lw_all) (hR : rm_X0_isPart.frames + 1 ≤ R.frames ∧ 8 + (1 + 11) + rm_X0_isPart.locals ≤ R.locals) : CallB R s args own idx yX0_isPart cX0_isPart 1 (Option.some Jvm.ClassFile.FieldType.boolean) (ws_ yX0_isPart cX0_isPart 1 (Option.some Jvm.ClassFile.FieldType.boolean)) rm_X0_isPart 0 0 1 ∧ (Cond.static yX0_isPart).before args s = true := va_cwS 1 hts (lw_S hl q1057 q119 q1058) rfl rfl rfl (by decide +kernel) hR
set_option maxHeartbeats 4000000 in
set_option maxRecDepth 100000 in
theorem w_X0_isPart (l : Launch) {f : Nat} {x0 : Int32} {r0 : Int32} (hm : m_X0_isPart f x0 = some r0) : Met l yX0_isPart (ws_ yX0_isPart cX0_isPart 1 (Option.some Jvm.ClassFile.FieldType.boolean)) rm_X0_isPart (va_Pc [.int x0] (fun _ => True)) (vp_Si (fun r => r = r0)) 0 0 (fun _ => False) := by
  refine Met.ofW (cc := cX0_isPart) (maxL := 1) (ret := (Option.some Jvm.ClassFile.FieldType.boolean)) (by decide) rfl ?_
  intro p e s m args below meth c s₁ B hml hv
  have hx := B.exec
  have hb := B.bytes
  have hr := B.returns
  have hts := atoms_spec (ws := (ws_ yX0_isPart cX0_isPart 1 (Option.some Jvm.ClassFile.FieldType.boolean))) B.pre
  have hts : ∀ w ∈ lw_all, w.before args s = true := fun w h => hts w (List.mem_cons_of_mem _ h)
  have hown : s.vm.findClass RX0 = some m.cls := findClass_of_methodNamed B.named
  have hlocks := B.notSynchronized
  obtain ⟨hav, hv⟩ := hv
  generalize hQ : MQ below (vp_Si (fun r => r = r0)) args s 0 0 (fun _ => False) = QQ
  have hent := lg_entry_eq m [.int x0] 1
  rw [← hav] at hent
  rw [hent]
  have hl := lv_entry ([.int x0]) (n := 1) (Nat.le_of_ble_eq_true rfl)
  generalize (lg_sl ([.int x0]) ++ List.replicate (1 - (lg_sl ([.int x0])).length) Slot.unset).toArray = ls at hl ⊢
  have hl : lv_has ls 1 [(0, .int x0)] := hl
  change W p l e rm_X0_isPart s m args below meth c s.heap [] 0 0 QQ (F0 m 0 ls [])
  rw [m_X0_isPart] at hm
  refine lv_iload_n hx hb dX0_isPart_0 rfl (lv_at hl 0 rfl) ?_
  refine lv_i2l hx hb dX0_isPart_1 rfl ?_
  refine lv_lconst (v := 0) hx hb dX0_isPart_2 (by decide) ?_
  refine lv_lconst (v := 1) hx hb dX0_isPart_3 (by decide) ?_
  obtain ⟨r1, er1, hm⟩ := bdE hm
  refine sci (va_runS (As := [.long (Int32.toInt64 x0), .long (0 : Int64), .long (1 : Int64)]) (rest := []) ⟨hx, hb, hml, hown, hts⟩ (w_X0_isIn l er1) (cw_X0_isIn hts q297 ⟨Nat.le_of_ble_eq_true rfl, Nat.le_of_ble_eq_true rfl⟩) (pre_s _) rfl rfl hl.1 rfl (lv_room (Nat.le_of_ble_eq_true rfl)) dX0_isPart_4 ⟨Nat.le_of_ble_eq_true rfl, Nat.le_of_ble_eq_true rfl⟩) ?_
  obtain ⟨g2, hm⟩ := gdE hm
  rw [← hQ]
  exact W.zret (v := r1) hx hb hr (zb_nar g2) (fun t ht hW => ⟨r1, rfl, ret1 hm, ht⟩) (fun q h => absurd h List.not_mem_nil) dX0_isPart_7
def m_X0_isSide (f : Nat) (x0 : Int32) : Option Int32 := bd (m_X0_isIn f (Int32.toInt64 x0) (0 : Int64) (2 : Int64)) fun r1 =>
    gd (zb r1) <|
    some r1
abbrev rm_X0_isSide : Room := { frames := 1, cells := 0, slots := 0, locals := 25 }
theorem cw_X0_isSide {R : Room} {s : State} {args : Array Value} {own : String} {idx : Nat} (hts : ∀ w ∈ lw_all, w.before args s = true) (hl : Cond.methodLink own idx yX0_isSide ∈ lw_all) (hR : rm_X0_isSide.frames + 1 ≤ R.frames ∧ 8 + (1 + 11) + rm_X0_isSide.locals ≤ R.locals) : CallB R s args own idx yX0_isSide cX0_isSide 1 (Option.some Jvm.ClassFile.FieldType.boolean) (ws_ yX0_isSide cX0_isSide 1 (Option.some Jvm.ClassFile.FieldType.boolean)) rm_X0_isSide 0 0 1 ∧ (Cond.static yX0_isSide).before args s = true := va_cwS 1 hts (lw_S hl q897 q119 q898) rfl rfl rfl (by decide +kernel) hR
set_option maxHeartbeats 4000000 in
set_option maxRecDepth 100000 in
theorem w_X0_isSide (l : Launch) {f : Nat} {x0 : Int32} {r0 : Int32} (hm : m_X0_isSide f x0 = some r0) : Met l yX0_isSide (ws_ yX0_isSide cX0_isSide 1 (Option.some Jvm.ClassFile.FieldType.boolean)) rm_X0_isSide (va_Pc [.int x0] (fun _ => True)) (vp_Si (fun r => r = r0)) 0 0 (fun _ => False) := by
  refine Met.ofW (cc := cX0_isSide) (maxL := 1) (ret := (Option.some Jvm.ClassFile.FieldType.boolean)) (by decide) rfl ?_
  intro p e s m args below meth c s₁ B hml hv
  have hx := B.exec
  have hb := B.bytes
  have hr := B.returns
  have hts := atoms_spec (ws := (ws_ yX0_isSide cX0_isSide 1 (Option.some Jvm.ClassFile.FieldType.boolean))) B.pre
  have hts : ∀ w ∈ lw_all, w.before args s = true := fun w h => hts w (List.mem_cons_of_mem _ h)
  have hown : s.vm.findClass RX0 = some m.cls := findClass_of_methodNamed B.named
  have hlocks := B.notSynchronized
  obtain ⟨hav, hv⟩ := hv
  generalize hQ : MQ below (vp_Si (fun r => r = r0)) args s 0 0 (fun _ => False) = QQ
  have hent := lg_entry_eq m [.int x0] 1
  rw [← hav] at hent
  rw [hent]
  have hl := lv_entry ([.int x0]) (n := 1) (Nat.le_of_ble_eq_true rfl)
  generalize (lg_sl ([.int x0]) ++ List.replicate (1 - (lg_sl ([.int x0])).length) Slot.unset).toArray = ls at hl ⊢
  have hl : lv_has ls 1 [(0, .int x0)] := hl
  change W p l e rm_X0_isSide s m args below meth c s.heap [] 0 0 QQ (F0 m 0 ls [])
  rw [m_X0_isSide] at hm
  refine lv_iload_n hx hb dX0_isSide_0 rfl (lv_at hl 0 rfl) ?_
  refine lv_i2l hx hb dX0_isSide_1 rfl ?_
  refine lv_lconst (v := 0) hx hb dX0_isSide_2 (by decide) ?_
  refine lv_ldc2 hx hb hown (hts _ q899) dX0_isSide_3 ?_
  obtain ⟨r1, er1, hm⟩ := bdE hm
  refine sci (va_runS (As := [.long (Int32.toInt64 x0), .long (0 : Int64), .long (2 : Int64)]) (rest := []) ⟨hx, hb, hml, hown, hts⟩ (w_X0_isIn l er1) (cw_X0_isIn hts q297 ⟨Nat.le_of_ble_eq_true rfl, Nat.le_of_ble_eq_true rfl⟩) (pre_s _) rfl rfl hl.1 rfl (lv_room (Nat.le_of_ble_eq_true rfl)) dX0_isSide_6 ⟨Nat.le_of_ble_eq_true rfl, Nat.le_of_ble_eq_true rfl⟩) ?_
  obtain ⟨g2, hm⟩ := gdE hm
  rw [← hQ]
  exact W.zret (v := r1) hx hb hr (zb_nar g2) (fun t ht hW => ⟨r1, rfl, ret1 hm, ht⟩) (fun q h => absurd h List.not_mem_nil) dX0_isSide_9
def m_X0_isPoint_59 (f : Nat) (y0 : Int32) : Option Int32 := gd (zb y0) <|
    some y0
def m_X0_isPoint_58 (f : Nat)  : Option Int32 := m_X0_isPoint_59 f (0 : Int32)
def m_X0_isPoint (f : Nat) (x0 : Int32) (x1 : Int32) (x2 : Int32) (x3 : Int32) : Option Int32 := bd (m_X0_isIn f (Int32.toInt64 x0) (-999 : Int64) (999 : Int64)) fun r1 =>
    if r1 = 0 then
    m_X0_isPoint_58 f 
    else bd (m_X0_isIn f (Int32.toInt64 x1) (-999 : Int64) (999 : Int64)) fun r3 =>
    if r3 = 0 then
    m_X0_isPoint_58 f 
    else bd (m_X0_isIn f (Int32.toInt64 x2) (-999 : Int64) (999 : Int64)) fun r5 =>
    if r5 = 0 then
    m_X0_isPoint_58 f 
    else bd (m_X0_isIn f (Int32.toInt64 x3) (1 : Int64) (36 : Int64)) fun r7 =>
    if r7 = 0 then
    m_X0_isPoint_58 f 
    else m_X0_isPoint_59 f (1 : Int32)
abbrev rm_X0_isPoint : Room := { frames := 1, cells := 0, slots := 0, locals := 25 }
theorem cw_X0_isPoint {R : Room} {s : State} {args : Array Value} {own : String} {idx : Nat} (hts : ∀ w ∈ lw_all, w.before args s = true) (hl : Cond.methodLink own idx yX0_isPoint ∈ lw_all) (hR : rm_X0_isPoint.frames + 1 ≤ R.frames ∧ 8 + (4 + 11) + rm_X0_isPoint.locals ≤ R.locals) : CallB R s args own idx yX0_isPoint cX0_isPoint 4 (Option.some Jvm.ClassFile.FieldType.boolean) (ws_ yX0_isPoint cX0_isPoint 4 (Option.some Jvm.ClassFile.FieldType.boolean)) rm_X0_isPoint 0 0 4 ∧ (Cond.static yX0_isPoint).before args s = true := va_cwS 4 hts (lw_S hl q1080 q119 q1081) rfl rfl rfl (by decide +kernel) hR
set_option maxHeartbeats 4000000 in
set_option maxRecDepth 100000 in
theorem w_X0_isPoint (l : Launch) {f : Nat} {x0 : Int32} {x1 : Int32} {x2 : Int32} {x3 : Int32} {r0 : Int32} (hm : m_X0_isPoint f x0 x1 x2 x3 = some r0) : Met l yX0_isPoint (ws_ yX0_isPoint cX0_isPoint 4 (Option.some Jvm.ClassFile.FieldType.boolean)) rm_X0_isPoint (va_Pc [.int x0, .int x1, .int x2, .int x3] (fun _ => True)) (vp_Si (fun r => r = r0)) 0 0 (fun _ => False) := by
  refine Met.ofW (cc := cX0_isPoint) (maxL := 4) (ret := (Option.some Jvm.ClassFile.FieldType.boolean)) (by decide) rfl ?_
  intro p e s m args below meth c s₁ B hml hv
  have hx := B.exec
  have hb := B.bytes
  have hr := B.returns
  have hts := atoms_spec (ws := (ws_ yX0_isPoint cX0_isPoint 4 (Option.some Jvm.ClassFile.FieldType.boolean))) B.pre
  have hts : ∀ w ∈ lw_all, w.before args s = true := fun w h => hts w (List.mem_cons_of_mem _ h)
  have hown : s.vm.findClass RX0 = some m.cls := findClass_of_methodNamed B.named
  have hlocks := B.notSynchronized
  obtain ⟨hav, hv⟩ := hv
  generalize hQ : MQ below (vp_Si (fun r => r = r0)) args s 0 0 (fun _ => False) = QQ
  have hent := lg_entry_eq m [.int x0, .int x1, .int x2, .int x3] 4
  rw [← hav] at hent
  rw [hent]
  have hl := lv_entry ([.int x0, .int x1, .int x2, .int x3]) (n := 4) (Nat.le_of_ble_eq_true rfl)
  generalize (lg_sl ([.int x0, .int x1, .int x2, .int x3]) ++ List.replicate (4 - (lg_sl ([.int x0, .int x1, .int x2, .int x3])).length) Slot.unset).toArray = ls at hl ⊢
  have hl : lv_has ls 4 [(0, .int x0), (1, .int x1), (2, .int x2), (3, .int x3)] := hl
  change W p l e rm_X0_isPoint s m args below meth c s.heap [] 0 0 QQ (F0 m 0 ls [])
  have hB59 : ∀ (y0 : Int32) (ls : Array Slot), m_X0_isPoint_59 f y0 = some r0 → lv_has ls 4 [] → W p l e rm_X0_isPoint s m args below meth c s.heap [] 0 0 QQ (F0 m 59 ls [.int y0]) := by
    intro y0 ls hm hl
    rw [m_X0_isPoint_59] at hm
    obtain ⟨g1, hm⟩ := gdE hm
    rw [← hQ]
    exact W.zret (v := y0) hx hb hr (zb_nar g1) (fun t ht hW => ⟨y0, rfl, ret1 hm, ht⟩) (fun q h => absurd h List.not_mem_nil) dX0_isPoint_59
  have hB58 : ∀  (ls : Array Slot), m_X0_isPoint_58 f  = some r0 → lv_has ls 4 [] → W p l e rm_X0_isPoint s m args below meth c s.heap [] 0 0 QQ (F0 m 58 ls []) := by
    intro ls hm hl
    rw [m_X0_isPoint_58] at hm
    refine lv_iconst (v := 0) hx hb dX0_isPoint_58 (by decide) ?_
    exact hB59 (0 : Int32) _ hm (lv_sub hl [] rfl)
  rw [m_X0_isPoint] at hm
  refine lv_iload_n hx hb dX0_isPoint_0 rfl (lv_at hl 0 rfl) ?_
  refine lv_i2l hx hb dX0_isPoint_1 rfl ?_
  refine lv_ldc2 hx hb hown (hts _ q1082) dX0_isPoint_2 ?_
  refine lv_ldc2 hx hb hown (hts _ q1083) dX0_isPoint_5 ?_
  obtain ⟨r1, er1, hm⟩ := bdE hm
  refine sci (va_runS (As := [.long (Int32.toInt64 x0), .long (-999 : Int64), .long (999 : Int64)]) (rest := []) ⟨hx, hb, hml, hown, hts⟩ (w_X0_isIn l er1) (cw_X0_isIn hts q297 ⟨Nat.le_of_ble_eq_true rfl, Nat.le_of_ble_eq_true rfl⟩) (pre_s _) rfl rfl hl.1 rfl (lv_room (Nat.le_of_ble_eq_true rfl)) dX0_isPoint_8 ⟨Nat.le_of_ble_eq_true rfl, Nat.le_of_ble_eq_true rfl⟩) ?_
  refine lv_if_eq (tgt := 58) hx hb dX0_isPoint_11 (by decide) (fun c2 => ?_) (fun c2 => ?_)
  · have hm := ifT hm c2
    exact hB58  _ hm (lv_sub hl [] rfl)
  · have hm := ifF hm c2
    refine lv_iload_n hx hb dX0_isPoint_14 rfl (lv_at hl 1 rfl) ?_
    refine lv_i2l hx hb dX0_isPoint_15 rfl ?_
    refine lv_ldc2 hx hb hown (hts _ q1082) dX0_isPoint_16 ?_
    refine lv_ldc2 hx hb hown (hts _ q1083) dX0_isPoint_19 ?_
    obtain ⟨r3, er3, hm⟩ := bdE hm
    refine sci (va_runS (As := [.long (Int32.toInt64 x1), .long (-999 : Int64), .long (999 : Int64)]) (rest := []) ⟨hx, hb, hml, hown, hts⟩ (w_X0_isIn l er3) (cw_X0_isIn hts q297 ⟨Nat.le_of_ble_eq_true rfl, Nat.le_of_ble_eq_true rfl⟩) (pre_s _) rfl rfl hl.1 rfl (lv_room (Nat.le_of_ble_eq_true rfl)) dX0_isPoint_22 ⟨Nat.le_of_ble_eq_true rfl, Nat.le_of_ble_eq_true rfl⟩) ?_
    refine lv_if_eq (tgt := 58) hx hb dX0_isPoint_25 (by decide) (fun c4 => ?_) (fun c4 => ?_)
    · have hm := ifT hm c4
      exact hB58  _ hm (lv_sub hl [] rfl)
    · have hm := ifF hm c4
      refine lv_iload_n hx hb dX0_isPoint_28 rfl (lv_at hl 2 rfl) ?_
      refine lv_i2l hx hb dX0_isPoint_29 rfl ?_
      refine lv_ldc2 hx hb hown (hts _ q1082) dX0_isPoint_30 ?_
      refine lv_ldc2 hx hb hown (hts _ q1083) dX0_isPoint_33 ?_
      obtain ⟨r5, er5, hm⟩ := bdE hm
      refine sci (va_runS (As := [.long (Int32.toInt64 x2), .long (-999 : Int64), .long (999 : Int64)]) (rest := []) ⟨hx, hb, hml, hown, hts⟩ (w_X0_isIn l er5) (cw_X0_isIn hts q297 ⟨Nat.le_of_ble_eq_true rfl, Nat.le_of_ble_eq_true rfl⟩) (pre_s _) rfl rfl hl.1 rfl (lv_room (Nat.le_of_ble_eq_true rfl)) dX0_isPoint_36 ⟨Nat.le_of_ble_eq_true rfl, Nat.le_of_ble_eq_true rfl⟩) ?_
      refine lv_if_eq (tgt := 58) hx hb dX0_isPoint_39 (by decide) (fun c6 => ?_) (fun c6 => ?_)
      · have hm := ifT hm c6
        exact hB58  _ hm (lv_sub hl [] rfl)
      · have hm := ifF hm c6
        refine lv_iload_n hx hb dX0_isPoint_42 rfl (lv_at hl 3 rfl) ?_
        refine lv_i2l hx hb dX0_isPoint_43 rfl ?_
        refine lv_lconst (v := 1) hx hb dX0_isPoint_44 (by decide) ?_
        refine lv_ldc2 hx hb hown (hts _ q1084) dX0_isPoint_45 ?_
        obtain ⟨r7, er7, hm⟩ := bdE hm
        refine sci (va_runS (As := [.long (Int32.toInt64 x3), .long (1 : Int64), .long (36 : Int64)]) (rest := []) ⟨hx, hb, hml, hown, hts⟩ (w_X0_isIn l er7) (cw_X0_isIn hts q297 ⟨Nat.le_of_ble_eq_true rfl, Nat.le_of_ble_eq_true rfl⟩) (pre_s _) rfl rfl hl.1 rfl (lv_room (Nat.le_of_ble_eq_true rfl)) dX0_isPoint_48 ⟨Nat.le_of_ble_eq_true rfl, Nat.le_of_ble_eq_true rfl⟩) ?_
        refine lv_if_eq (tgt := 58) hx hb dX0_isPoint_51 (by decide) (fun c8 => ?_) (fun c8 => ?_)
        · have hm := ifT hm c8
          exact hB58  _ hm (lv_sub hl [] rfl)
        · have hm := ifF hm c8
          refine lv_iconst (v := 1) hx hb dX0_isPoint_54 (by decide) ?_
          refine lv_goto (tgt := 59) hx hb dX0_isPoint_55 (by decide) ?_
          exact hB59 (1 : Int32) _ hm (lv_sub hl [] rfl)
def m_X0_isNormal_44 (f : Nat) (y0 : Int32) : Option Int32 := gd (zb y0) <|
    some y0
def m_X0_isNormal_43 (f : Nat)  : Option Int32 := m_X0_isNormal_44 f (0 : Int32)
def m_X0_isNormal_17 (f : Nat) (x0 : Int32) (x1 : Int32) (x2 : Int32) (y0 : Int32) : Option Int32 := if y0 ≤ 0 then
    m_X0_isNormal_43 f 
    else bd (m_X0_divisor f (Int32.toInt64 x0) (Int32.toInt64 x1)) fun r2 =>
    bd (m_X0_divisor f r2 (Int32.toInt64 x2)) fun r3 =>
    if ¬ r3 = (1 : Int64) then
    m_X0_isNormal_43 f 
    else m_X0_isNormal_44 f (1 : Int32)
def m_X0_isNormal (f : Nat) (x0 : Int32) (x1 : Int32) (x2 : Int32) : Option Int32 := if x0 = 0 then
    if x1 = 0 then
    m_X0_isNormal_17 f x0 x1 x2 x2
    else m_X0_isNormal_17 f x0 x1 x2 x1
    else m_X0_isNormal_17 f x0 x1 x2 x0
abbrev rm_X0_isNormal : Room := { frames := 102, cells := 0, slots := 0, locals := 4063 }
theorem cw_X0_isNormal {R : Room} {s : State} {args : Array Value} {own : String} {idx : Nat} (hts : ∀ w ∈ lw_all, w.before args s = true) (hl : Cond.methodLink own idx yX0_isNormal ∈ lw_all) (hR : rm_X0_isNormal.frames + 1 ≤ R.frames ∧ 8 + (4 + 11) + rm_X0_isNormal.locals ≤ R.locals) : CallB R s args own idx yX0_isNormal cX0_isNormal 4 (Option.some Jvm.ClassFile.FieldType.boolean) (ws_ yX0_isNormal cX0_isNormal 4 (Option.some Jvm.ClassFile.FieldType.boolean)) rm_X0_isNormal 0 0 3 ∧ (Cond.static yX0_isNormal).before args s = true := va_cwS 3 hts (lw_S hl q1321 q119 q1322) rfl rfl rfl (by decide +kernel) hR
set_option maxHeartbeats 4000000 in
set_option maxRecDepth 100000 in
theorem w_X0_isNormal (l : Launch) {f : Nat} {x0 : Int32} {x1 : Int32} {x2 : Int32} {r0 : Int32} (hm : m_X0_isNormal f x0 x1 x2 = some r0) : Met l yX0_isNormal (ws_ yX0_isNormal cX0_isNormal 4 (Option.some Jvm.ClassFile.FieldType.boolean)) rm_X0_isNormal (va_Pc [.int x0, .int x1, .int x2] (fun _ => True)) (vp_Si (fun r => r = r0)) 0 0 (fun _ => False) := by
  refine Met.ofW (cc := cX0_isNormal) (maxL := 4) (ret := (Option.some Jvm.ClassFile.FieldType.boolean)) (by decide) rfl ?_
  intro p e s m args below meth c s₁ B hml hv
  have hx := B.exec
  have hb := B.bytes
  have hr := B.returns
  have hts := atoms_spec (ws := (ws_ yX0_isNormal cX0_isNormal 4 (Option.some Jvm.ClassFile.FieldType.boolean))) B.pre
  have hts : ∀ w ∈ lw_all, w.before args s = true := fun w h => hts w (List.mem_cons_of_mem _ h)
  have hown : s.vm.findClass RX0 = some m.cls := findClass_of_methodNamed B.named
  have hlocks := B.notSynchronized
  obtain ⟨hav, hv⟩ := hv
  generalize hQ : MQ below (vp_Si (fun r => r = r0)) args s 0 0 (fun _ => False) = QQ
  have hent := lg_entry_eq m [.int x0, .int x1, .int x2] 4
  rw [← hav] at hent
  rw [hent]
  have hl := lv_entry ([.int x0, .int x1, .int x2]) (n := 4) (Nat.le_of_ble_eq_true rfl)
  generalize (lg_sl ([.int x0, .int x1, .int x2]) ++ List.replicate (4 - (lg_sl ([.int x0, .int x1, .int x2])).length) Slot.unset).toArray = ls at hl ⊢
  have hl : lv_has ls 4 [(0, .int x0), (1, .int x1), (2, .int x2)] := hl
  change W p l e rm_X0_isNormal s m args below meth c s.heap [] 0 0 QQ (F0 m 0 ls [])
  have hB44 : ∀ (y0 : Int32) (ls : Array Slot), m_X0_isNormal_44 f y0 = some r0 → lv_has ls 4 [] → W p l e rm_X0_isNormal s m args below meth c s.heap [] 0 0 QQ (F0 m 44 ls [.int y0]) := by
    intro y0 ls hm hl
    rw [m_X0_isNormal_44] at hm
    obtain ⟨g1, hm⟩ := gdE hm
    rw [← hQ]
    exact W.zret (v := y0) hx hb hr (zb_nar g1) (fun t ht hW => ⟨y0, rfl, ret1 hm, ht⟩) (fun q h => absurd h List.not_mem_nil) dX0_isNormal_44
  have hB43 : ∀  (ls : Array Slot), m_X0_isNormal_43 f  = some r0 → lv_has ls 4 [] → W p l e rm_X0_isNormal s m args below meth c s.heap [] 0 0 QQ (F0 m 43 ls []) := by
    intro ls hm hl
    rw [m_X0_isNormal_43] at hm
    refine lv_iconst (v := 0) hx hb dX0_isNormal_43 (by decide) ?_
    exact hB44 (0 : Int32) _ hm (lv_sub hl [] rfl)
  have hB17 : ∀ (x0 : Int32) (x1 : Int32) (x2 : Int32) (y0 : Int32) (ls : Array Slot), m_X0_isNormal_17 f x0 x1 x2 y0 = some r0 → lv_has ls 4 [(0, .int x0), (1, .int x1), (2, .int x2)] → W p l e rm_X0_isNormal s m args below meth c s.heap [] 0 0 QQ (F0 m 17 ls [.int y0]) := by
    intro x0 x1 x2 y0 ls hm hl
    rw [m_X0_isNormal_17] at hm
    refine lv_istore_n (lv' := [(3, .int y0), (0, .int x0), (1, .int x1), (2, .int x2)]) hx hb dX0_isNormal_17 rfl hl (by decide) rfl (fun ls hl => ?_)
    refine lv_iload_n hx hb dX0_isNormal_18 rfl (lv_at hl 0 rfl) ?_
    refine lv_if_le (tgt := 43) hx hb dX0_isNormal_19 (by decide) (fun c1 => ?_) (fun c1 => ?_)
    · have hm := ifT hm c1
      exact hB43  _ hm (lv_sub hl [] rfl)
    · have hm := ifF hm c1
      refine lv_iload_n hx hb dX0_isNormal_22 rfl (lv_at hl 1 rfl) ?_
      refine lv_i2l hx hb dX0_isNormal_23 rfl ?_
      refine lv_iload_n hx hb dX0_isNormal_24 rfl (lv_at hl 2 rfl) ?_
      refine lv_i2l hx hb dX0_isNormal_25 rfl ?_
      obtain ⟨r2, er2, hm⟩ := bdE hm
      refine scl (va_runS (As := [.long (Int32.toInt64 x0), .long (Int32.toInt64 x1)]) (rest := []) ⟨hx, hb, hml, hown, hts⟩ (w_X0_divisor l er2) (cw_X0_divisor hts q934 ⟨Nat.le_of_ble_eq_true rfl, Nat.le_of_ble_eq_true rfl⟩) (pre_s _) rfl rfl hl.1 rfl (lv_room (Nat.le_of_ble_eq_true rfl)) dX0_isNormal_26 ⟨Nat.le_of_ble_eq_true rfl, Nat.le_of_ble_eq_true rfl⟩) ?_
      refine lv_iload_n hx hb dX0_isNormal_29 rfl (lv_at hl 3 rfl) ?_
      refine lv_i2l hx hb dX0_isNormal_30 rfl ?_
      obtain ⟨r3, er3, hm⟩ := bdE hm
      refine scl (va_runS (As := [.long r2, .long (Int32.toInt64 x2)]) (rest := []) ⟨hx, hb, hml, hown, hts⟩ (w_X0_divisor l er3) (cw_X0_divisor hts q934 ⟨Nat.le_of_ble_eq_true rfl, Nat.le_of_ble_eq_true rfl⟩) (pre_s _) rfl rfl hl.1 rfl (lv_room (Nat.le_of_ble_eq_true rfl)) dX0_isNormal_31 ⟨Nat.le_of_ble_eq_true rfl, Nat.le_of_ble_eq_true rfl⟩) ?_
      refine lv_lconst (v := 1) hx hb dX0_isNormal_34 (by decide) ?_
      refine lc_ne (tgt := 43) hx hb dX0_isNormal_35 dX0_isNormal_36 (by decide) (fun c4 => ?_) (fun c4 => ?_)
      · have hm := ifT hm c4
        exact hB43  _ hm (lv_sub hl [] rfl)
      · have hm := ifT' hm c4
        refine lv_iconst (v := 1) hx hb dX0_isNormal_39 (by decide) ?_
        refine lv_goto (tgt := 44) hx hb dX0_isNormal_40 (by decide) ?_
        exact hB44 (1 : Int32) _ hm (lv_sub hl [] rfl)
  rw [m_X0_isNormal] at hm
  refine lv_iload_n hx hb dX0_isNormal_0 rfl (lv_at hl 0 rfl) ?_
  refine lv_if_eq (tgt := 8) hx hb dX0_isNormal_1 (by decide) (fun c1 => ?_) (fun c1 => ?_)
  · have hm := ifT hm c1
    refine lv_iload_n hx hb dX0_isNormal_8 rfl (lv_at hl 1 rfl) ?_
    refine lv_if_eq (tgt := 16) hx hb dX0_isNormal_9 (by decide) (fun c2 => ?_) (fun c2 => ?_)
    · have hm := ifT hm c2
      refine lv_iload_n hx hb dX0_isNormal_16 rfl (lv_at hl 2 rfl) ?_
      exact hB17 x0 x1 x2 x2 _ hm (lv_sub hl [0, 1, 2] rfl)
    · have hm := ifF hm c2
      refine lv_iload_n hx hb dX0_isNormal_12 rfl (lv_at hl 1 rfl) ?_
      refine lv_goto (tgt := 17) hx hb dX0_isNormal_13 (by decide) ?_
      exact hB17 x0 x1 x2 x1 _ hm (lv_sub hl [0, 1, 2] rfl)
  · have hm := ifF hm c1
    refine lv_iload_n hx hb dX0_isNormal_4 rfl (lv_at hl 0 rfl) ?_
    refine lv_goto (tgt := 17) hx hb dX0_isNormal_5 (by decide) ?_
    exact hB17 x0 x1 x2 x0 _ hm (lv_sub hl [0, 1, 2] rfl)
def m_X2_init_11 (f : Nat) (h : CH) (y0 : Nat) (y1 : Nat) : Option CH := bd (pF h 3 0 y0 (.ref y1)) fun h1 =>
    some h1
theorem mo_X2_init_11 {f : Nat} : ∀ (h : CH) (y0 : Nat) (y1 : Nat) (r : CH), m_X2_init_11 f h y0 y1 = some r → le2 h r := by
  intro h y0 y1 r hm
  rw [m_X2_init_11] at hm
  obtain ⟨h1, eh1, hm⟩ := bdE hm
  have lh1 := pF_le eh1
  cases hm
  exact (lh1.tr le2.rf)
def m_X2_init (f : Nat) (u : CH) (x0 : Nat) : Option CH := nmv (cM u 4 (.inr (1, 3, .inr (.inl (fun _ => 0))))) fun h1 =>
    nmv (u.1 : Nat) fun a2 =>
    m_X2_init_11 f h1 x0 a2
theorem mo_X2_init {f : Nat} {u : CH} {x0 : Nat} {u9 : CH} (hm : m_X2_init f u x0 = some u9) : le2 u u9 := by
  rw [m_X2_init] at hm
  obtain ⟨h1, eh1, hm⟩ := nmE hm
  have lh1 := cM_le eh1
  obtain ⟨a2, ea2, hm⟩ := nmE hm
  exact (lh1.tr (mo_X2_init_11  h1 x0 a2 _ hm))
abbrev rm_X2_init (mc ms : Nat) : Room := { frames := 1, cells := mc, slots := ms, locals := 20 }
theorem cw_X2_init {R : Room} {s : State} {args : Array Value} {own : String} {idx mc ms : Nat} (hts : ∀ w ∈ lw_all, w.before args s = true) (hl : Cond.methodLink own idx yX2_init ∈ lw_all) (hR : 1 + 1 ≤ R.frames ∧ 8 + (1 + 11) + 20 ≤ R.locals) : CallB R s args own idx yX2_init cX2_init 1 none (ws_ yX2_init cX2_init 1 (Option.none : Option Jvm.ClassFile.FieldType)) (rm_X2_init mc ms) mc ms 0 ∧ yX2_init.name = "<init>" ∧ (Cond.instanceMethod yX2_init).before args s = true := cwI 0 hts (lw_meth q201) rfl rfl rfl (hts _ q124) (hts _ hl) (hts _ q200) rfl (by decide +kernel) hR
set_option maxHeartbeats 4000000 in
set_option maxRecDepth 100000 in
theorem w_X2_init (l : Launch) {D : va_G} {dA : Nat → ClassId} {A : Nat → Prop} {f : Nat} {u u9 : CH} {x0 : Nat} (hm : m_X2_init f u x0 = some u9) : Met l yX2_init (ws_ yX2_init cX2_init 1 (Option.none : Option Jvm.ClassFile.FieldType)) (rm_X2_init (u9.1 - u.1) (u9.2.1 - u.2.1)) (va_Pc [.ref x0] (CPre D dA A u)) (va_Qv (fun u => u = u9) (CPost D dA A) A) (u9.1 - u.1) (u9.2.1 - u.2.1) A := by
  refine Met.ofW (cc := cX2_init) (maxL := 1) (ret := (Option.none : Option Jvm.ClassFile.FieldType)) (by decide) rfl ?_
  intro p e s m args below meth c s₁ B hml hv
  have hx := B.exec
  have hb := B.bytes
  have hr := B.returns
  have hts := atoms_spec (ws := (ws_ yX2_init cX2_init 1 (Option.none : Option Jvm.ClassFile.FieldType))) B.pre
  have hts : ∀ w ∈ lw_all, w.before args s = true := fun w h => hts w (List.mem_cons_of_mem _ h)
  have hown : s.vm.findClass RX2 = some m.cls := findClass_of_methodNamed B.named
  have hlocks := B.notSynchronized
  have hin : meth.name = "<init>" := (name_of_methodNamed B.named B.method).1
  obtain ⟨hav, hv⟩ := hv
  have C : CX p s m args c cX2_init RX2 D dA := ⟨hx, hb, hown, hts, hv.2⟩
  have hw : CW D dA A s u s.heap [] := hv.1
  generalize hQ : MQ below (va_Qv (fun u => u = u9) (CPost D dA A) A) args s (u9.1 - u.1) (u9.2.1 - u.2.1) A = QQ
  have hent := lg_entry_eq m [.ref x0] 1
  rw [← hav] at hent
  rw [hent]
  have hl := lv_entry ([.ref x0]) (n := 1) (Nat.le_of_ble_eq_true rfl)
  generalize (lg_sl ([.ref x0]) ++ List.replicate (1 - (lg_sl ([.ref x0])).length) Slot.unset).toArray = ls at hl ⊢
  have hl : lv_has ls 1 [(0, .ref x0)] := hl
  obtain ⟨cc, ecc⟩ : ∃ z : Nat, z = 0 := ⟨0, rfl⟩
  obtain ⟨ss, ess⟩ : ∃ z : Nat, z = 0 := ⟨0, rfl⟩
  have hcc : cc + u.1 = u.1 := by omega
  have hss : ss + u.2.1 = u.2.1 := by omega
  suffices hgo : W p l e (rm_X2_init (u9.1 - u.1) (u9.2.1 - u.2.1)) s m args below meth c s.heap [] cc ss QQ (F0 m 0 ls []) by rw [ecc, ess] at hgo; exact hgo
  have ⟨pu, qu, _, _⟩ := mo_X2_init hm
  have hB11 : ∀ (h : CH) (y0 : Nat) (y1 : Nat) (cc ss : Nat) (H : Heap) (locs : List Loc) (ls : Array Slot), m_X2_init_11 f h y0 y1 = some u9 → CW D dA A s h H locs → cc + u.1 = h.1 → ss + u.2.1 = h.2.1 → lv_has ls 1 [] → W p l e (rm_X2_init (u9.1 - u.1) (u9.2.1 - u.2.1)) s m args below meth c H locs cc ss QQ (F0 m 11 ls [.ref y1, .ref y0]) := by
    intro h y0 y1 cc ss H locs ls hm hw hcc hss hl
    have hmo := mo_X2_init_11  h y0 y1 _ hm
    have sb_ : h.1 ≤ u9.1 := hmo.1
    have tb_ : h.2.1 ≤ u9.2.1 := hmo.2.1
    rw [m_X2_init_11] at hm
    obtain ⟨h1, eh1, hm⟩ := bdE hm
    refine cg_putF C hw eh1 rfl in_X2 tyX2 tyX2_ok nmX2 (by decide) q205 rfl hin rfl rfl rfl dX2_init_11 (fun H locs hw => ?_)
    have zh1 := pF_sz eh1
    have eh := ret1 hm
    have ec : cc = u9.1 - u.1 := by rw [← eh]; omega
    have es : ss = u9.2.1 - u.2.1 := by rw [← eh]; omega
    rw [ec, es, ← hQ]
    exact W.vret hx hb hr (fun t ht hW => ⟨⟨h1, rfl, eh, ⟨by rw [ht]; exact hw.1, by rw [ht]; exact hw.2.1⟩⟩, hw.2.2.1.F ht⟩) hw.2.2.1.2.2 dX2_init_14
  rw [m_X2_init] at hm
  refine lv_aload_n hx hb dX2_init_0 rfl (lv_at hl 0 rfl) ?_
  refine W.objInit hx hb hown (hts _ q202) (hts _ q161) (hts _ q162) rfl (by rw [hml]; exact hl.1) rfl dX2_init_1 (Nat.le_of_ble_eq_true rfl) (Nat.le_of_ble_eq_true rfl) ?_
  refine W.eq (g2 := F0 m 4 ls []) rfl ?_
  refine lv_aload_n hx hb dX2_init_4 rfl (lv_at hl 0 rfl) ?_
  refine lv_iconst (v := 3) hx hb dX2_init_5 (by decide) ?_
  refine lv_iconst (v := 3) hx hb dX2_init_6 (by decide) ?_
  obtain ⟨h1, eh1, hm⟩ := nmE hm
  obtain ⟨_, _, hmq⟩ := nmE hm
  have hmo := mo_X2_init_11   h1 x0 _ _ hmq
  have sh1 : h1.1 ≤ u9.1 := hmo.1
  have th1 : h1.2.1 ≤ u9.2.1 := hmo.2.1
  have zh1 := cM_sz eh1
  refine cg_multi C hw (to_ := 4) (ti := 1) (ty := .long) (inner := (.inr (1, 3, .inr (.inl (fun _ => 0))))) q203 (hw.2.2.2.2.1 _ (List.mem_of_getElem? (i := 92) rfl)) q217 rfl rfl rfl rfl rfl (by decide) rfl rfl rfl (fun _ _ h => h) (show cc + 4 ≤ u9.1 - u.1 by omega) (show ss + 12 ≤ u9.2.1 - u.2.1 by omega) dX2_init_7 (fun H hw => ?_)
  rw [← eh1] at hw
  refine lv_topr (fun a2 ea2 => ?_)
  have hm := nmK hm ea2
  exact hB11 h1 x0 a2 _ _ _ _ _ hm hw (by omega) (by omega) (lv_sub hl [] rfl)
def m_X1_begins_56 (f : Nat) (h : CH) : Option CH := some h
theorem mo_X1_begins_56 {f : Nat} : ∀ (h : CH) (r : CH), m_X1_begins_56 f h = some r → le2 h r := by
  intro h r hm
  rw [m_X1_begins_56] at hm
  cases hm
  exact le2.rf
def m_X1_begins_50 (f : Nat) (k7 : CH → Nat → Int64 → Int32 → Option CH) (h : CH) (x0 : Nat) (x1 : Int64) (x3 : Int32) : Option CH := nmv ((x3 + 1) : Int32) fun v1 =>
    k7 h x0 x1 v1
theorem mo_X1_begins_50 {f : Nat} {k7 : CH → Nat → Int64 → Int32 → Option CH} (hk7 : ∀ (h : CH) (x0 : Nat) (x1 : Int64) (x3 : Int32) (r : CH), k7 h x0 x1 x3 = some r → le2 h r) : ∀ (h : CH) (x0 : Nat) (x1 : Int64) (x3 : Int32) (r : CH), m_X1_begins_50 f k7 h x0 x1 x3 = some r → le2 h r := by
  intro h x0 x1 x3 r hm
  rw [m_X1_begins_50] at hm
  obtain ⟨v1, ev1, hm⟩ := nmE hm
  exact (hk7 h x0 x1 v1 _ hm)
def m_X1_begins_43 (f : Nat) (k7 : CH → Nat → Int64 → Int32 → Option CH) (k15 : CH → Nat → Int64 → Int32 → Int32 → Option CH) (h : CH) (x0 : Nat) (x1 : Int64) (x3 : Int32) (x4 : Int32) (y0 : Nat) (y1 : Int32) (y2 : Int64) : Option CH := bd (uL h 1 y0 y1 y2) fun h1 =>
    nmv ((x4 + 1) : Int32) fun v2 =>
    k15 h1 x0 x1 x3 v2
theorem mo_X1_begins_43 {f : Nat} {k7 : CH → Nat → Int64 → Int32 → Option CH} (hk7 : ∀ (h : CH) (x0 : Nat) (x1 : Int64) (x3 : Int32) (r : CH), k7 h x0 x1 x3 = some r → le2 h r) {k15 : CH → Nat → Int64 → Int32 → Int32 → Option CH} (hk15 : ∀ (h : CH) (x0 : Nat) (x1 : Int64) (x3 : Int32) (x4 : Int32) (r : CH), k15 h x0 x1 x3 x4 = some r → le2 h r) : ∀ (h : CH) (x0 : Nat) (x1 : Int64) (x3 : Int32) (x4 : Int32) (y0 : Nat) (y1 : Int32) (y2 : Int64) (r : CH), m_X1_begins_43 f k7 k15 h x0 x1 x3 x4 y0 y1 y2 = some r → le2 h r := by
  intro h x0 x1 x3 x4 y0 y1 y2 r hm
  rw [m_X1_begins_43] at hm
  obtain ⟨h1, eh1, hm⟩ := bdE hm
  have lh1 := uL_le eh1
  obtain ⟨v2, ev2, hm⟩ := nmE hm
  exact (lh1.tr (hk15 h1 x0 x1 x3 v2 _ hm))
def m_X1_begins_15 (f : Nat) (k7 : CH → Nat → Int64 → Int32 → Option CH) : Nat → CH → Nat → Int64 → Int32 → Int32 → Option CH
  | 0, _, _, _, _, _ => none
  | n15 + 1, h, x0, x1, x3, x4 => if (3 : Int32) ≤ x4 then
    m_X1_begins_50 f k7 h x0 x1 x3
    else bd (oR h 2 0 x0) fun a2 =>
    bd (oR h 3 0 a2) fun a3 =>
    bd (aR h 4 a3 x3) fun a4 =>
    if ¬ x3 = x4 then
    m_X1_begins_43 f k7 (m_X1_begins_15 f k7 n15) h x0 x1 x3 x4 a4 x4 (0 : Int64)
    else m_X1_begins_43 f k7 (m_X1_begins_15 f k7 n15) h x0 x1 x3 x4 a4 x4 x1
theorem mo_X1_begins_15 {f : Nat} {k7 : CH → Nat → Int64 → Int32 → Option CH} (hk7 : ∀ (h : CH) (x0 : Nat) (x1 : Int64) (x3 : Int32) (r : CH), k7 h x0 x1 x3 = some r → le2 h r) : ∀ (n15 : Nat) (h : CH) (x0 : Nat) (x1 : Int64) (x3 : Int32) (x4 : Int32) (r : CH), m_X1_begins_15 f k7 n15 h x0 x1 x3 x4 = some r → le2 h r := by
  intro n15
  induction n15 with
  | zero => intro h x0 x1 x3 x4 r hm; rw [m_X1_begins_15] at hm; exact noE hm
  | succ n15 ihm =>
    intro h x0 x1 x3 x4 r hm
    rw [m_X1_begins_15] at hm
    by_cases c1 : (3 : Int32) ≤ x4
    · have hm := ifT hm c1
      exact (mo_X1_begins_50 hk7 h x0 x1 x3 _ hm)
    · have hm := ifF hm c1
      obtain ⟨a2, ea2, hm⟩ := bdE hm
      obtain ⟨a3, ea3, hm⟩ := bdE hm
      obtain ⟨a4, ea4, hm⟩ := bdE hm
      by_cases c5 : ¬ x3 = x4
      · have hm := ifT hm c5
        exact (mo_X1_begins_43 hk7 ihm h x0 x1 x3 x4 a4 x4 (0 : Int64) _ hm)
      · have hm := ifF hm c5
        exact (mo_X1_begins_43 hk7 ihm h x0 x1 x3 x4 a4 x4 x1 _ hm)
def m_X1_begins_7 (f : Nat) : Nat → CH → Nat → Int64 → Int32 → Option CH
  | 0, _, _, _, _ => none
  | n7 + 1, h, x0, x1, x3 => if (3 : Int32) ≤ x3 then
    m_X1_begins_56 f h
    else m_X1_begins_15 f (m_X1_begins_7 f n7) f h x0 x1 x3 (0 : Int32)
theorem mo_X1_begins_7 {f : Nat} : ∀ (n7 : Nat) (h : CH) (x0 : Nat) (x1 : Int64) (x3 : Int32) (r : CH), m_X1_begins_7 f n7 h x0 x1 x3 = some r → le2 h r := by
  intro n7
  induction n7 with
  | zero => intro h x0 x1 x3 r hm; rw [m_X1_begins_7] at hm; exact noE hm
  | succ n7 ihm =>
    intro h x0 x1 x3 r hm
    rw [m_X1_begins_7] at hm
    by_cases c1 : (3 : Int32) ≤ x3
    · have hm := ifT hm c1
      exact (mo_X1_begins_56  h _ hm)
    · have hm := ifF hm c1
      exact (mo_X1_begins_15 ihm f h x0 x1 x3 (0 : Int32) _ hm)
def m_X1_begins (f : Nat) (u : CH) (x0 : Nat) (x1 : Int64) : Option CH := bd (pF u 2 2 x0 (.long x1)) fun h1 =>
    m_X1_begins_7 f f h1 x0 x1 (0 : Int32)
theorem mo_X1_begins {f : Nat} {u : CH} {x0 : Nat} {x1 : Int64} {u9 : CH} (hm : m_X1_begins f u x0 x1 = some u9) : le2 u u9 := by
  rw [m_X1_begins] at hm
  obtain ⟨h1, eh1, hm⟩ := bdE hm
  have lh1 := pF_le eh1
  exact (lh1.tr (mo_X1_begins_7  f h1 x0 x1 (0 : Int32) _ hm))
abbrev rm_X1_begins (mc ms : Nat) : Room := { frames := 0, cells := mc, slots := ms, locals := 0 }
theorem cw_X1_begins {R : Room} {s : State} {args : Array Value} {own : String} {idx mc ms : Nat} (hts : ∀ w ∈ lw_all, w.before args s = true) (hl : Cond.methodLink own idx yX1_begins ∈ lw_all) (hR : 0 + 1 ≤ R.frames ∧ 8 + (5 + 11) + 0 ≤ R.locals) : CallW R s args own RX1 idx yX1_begins cX1_begins 5 (Option.none : Option Jvm.ClassFile.FieldType) (ws_ yX1_begins cX1_begins 5 (Option.none : Option Jvm.ClassFile.FieldType)) (rm_X1_begins mc ms) mc ms 1 := cwV 1 hts (lw_V hl q219 q220 q123 q221) rfl rfl rfl (by decide +kernel) hR
set_option maxHeartbeats 4000000 in
set_option maxRecDepth 100000 in
theorem w_X1_begins (l : Launch) {D : va_G} {dA : Nat → ClassId} {A : Nat → Prop} {f : Nat} {u u9 : CH} {x0 : Nat} {x1 : Int64} (hm : m_X1_begins f u x0 x1 = some u9) : Met l yX1_begins (ws_ yX1_begins cX1_begins 5 (Option.none : Option Jvm.ClassFile.FieldType)) (rm_X1_begins (u9.1 - u.1) (u9.2.1 - u.2.1)) (va_Pc [.ref x0, .long x1] (CPre D dA A u)) (va_Qv (fun u => u = u9) (CPost D dA A) A) (u9.1 - u.1) (u9.2.1 - u.2.1) A := by
  refine Met.ofW (cc := cX1_begins) (maxL := 5) (ret := (Option.none : Option Jvm.ClassFile.FieldType)) (by decide) rfl ?_
  intro p e s m args below meth c s₁ B hml hv
  have hx := B.exec
  have hb := B.bytes
  have hr := B.returns
  have hts := atoms_spec (ws := (ws_ yX1_begins cX1_begins 5 (Option.none : Option Jvm.ClassFile.FieldType))) B.pre
  have hts : ∀ w ∈ lw_all, w.before args s = true := fun w h => hts w (List.mem_cons_of_mem _ h)
  have hown : s.vm.findClass RX1 = some m.cls := findClass_of_methodNamed B.named
  have hlocks := B.notSynchronized
  obtain ⟨hav, hv⟩ := hv
  have C : CX p s m args c cX1_begins RX1 D dA := ⟨hx, hb, hown, hts, hv.2⟩
  have hw : CW D dA A s u s.heap [] := hv.1
  generalize hQ : MQ below (va_Qv (fun u => u = u9) (CPost D dA A) A) args s (u9.1 - u.1) (u9.2.1 - u.2.1) A = QQ
  have hent := lg_entry_eq m [.ref x0, .long x1] 5
  rw [← hav] at hent
  rw [hent]
  have hl := lv_entry ([.ref x0, .long x1]) (n := 5) (Nat.le_of_ble_eq_true rfl)
  generalize (lg_sl ([.ref x0, .long x1]) ++ List.replicate (5 - (lg_sl ([.ref x0, .long x1])).length) Slot.unset).toArray = ls at hl ⊢
  have hl : lv_has ls 5 [(0, .ref x0), (1, .long x1)] := hl
  obtain ⟨cc, ecc⟩ : ∃ z : Nat, z = 0 := ⟨0, rfl⟩
  obtain ⟨ss, ess⟩ : ∃ z : Nat, z = 0 := ⟨0, rfl⟩
  have hcc : cc + u.1 = u.1 := by omega
  have hss : ss + u.2.1 = u.2.1 := by omega
  suffices hgo : W p l e (rm_X1_begins (u9.1 - u.1) (u9.2.1 - u.2.1)) s m args below meth c s.heap [] cc ss QQ (F0 m 0 ls []) by rw [ecc, ess] at hgo; exact hgo
  have ⟨pu, qu, _, _⟩ := mo_X1_begins hm
  have hB56 : ∀ (h : CH) (cc ss : Nat) (H : Heap) (locs : List Loc) (ls : Array Slot), m_X1_begins_56 f h = some u9 → CW D dA A s h H locs → cc + u.1 = h.1 → ss + u.2.1 = h.2.1 → lv_has ls 5 [] → W p l e (rm_X1_begins (u9.1 - u.1) (u9.2.1 - u.2.1)) s m args below meth c H locs cc ss QQ (F0 m 56 ls []) := by
    intro h cc ss H locs ls hm hw hcc hss hl
    have hmo := mo_X1_begins_56  h _ hm
    have sb_ : h.1 ≤ u9.1 := hmo.1
    have tb_ : h.2.1 ≤ u9.2.1 := hmo.2.1
    rw [m_X1_begins_56] at hm
    have eh := ret1 hm
    have ec : cc = u9.1 - u.1 := by rw [← eh]; omega
    have es : ss = u9.2.1 - u.2.1 := by rw [← eh]; omega
    rw [ec, es, ← hQ]
    exact W.vret hx hb hr (fun t ht hW => ⟨⟨h, rfl, eh, ⟨by rw [ht]; exact hw.1, by rw [ht]; exact hw.2.1⟩⟩, hw.2.2.1.F ht⟩) hw.2.2.1.2.2 dX1_begins_56
  have hB7 : ∀ (n7 : Nat), ∀ (h : CH) (x0 : Nat) (x1 : Int64) (x3 : Int32) (cc ss : Nat) (H : Heap) (locs : List Loc) (ls : Array Slot), m_X1_begins_7 f n7 h x0 x1 x3 = some u9 → CW D dA A s h H locs → cc + u.1 = h.1 → ss + u.2.1 = h.2.1 → lv_has ls 5 [(0, .ref x0), (1, .long x1), (3, .int x3)] → W p l e (rm_X1_begins (u9.1 - u.1) (u9.2.1 - u.2.1)) s m args below meth c H locs cc ss QQ (F0 m 7 ls []) := by
    intro n7
    induction n7 with
    | zero => intro h x0 x1 x3 cc ss H locs ls hm hw hcc hss hl; rw [m_X1_begins_7] at hm; exact noE hm
    | succ n7 ih7 =>
      have hB50 : ∀ (h : CH) (x0 : Nat) (x1 : Int64) (x3 : Int32) (cc ss : Nat) (H : Heap) (locs : List Loc) (ls : Array Slot), m_X1_begins_50 f (m_X1_begins_7 f n7) h x0 x1 x3 = some u9 → CW D dA A s h H locs → cc + u.1 = h.1 → ss + u.2.1 = h.2.1 → lv_has ls 5 [(0, .ref x0), (1, .long x1), (3, .int x3)] → W p l e (rm_X1_begins (u9.1 - u.1) (u9.2.1 - u.2.1)) s m args below meth c H locs cc ss QQ (F0 m 50 ls []) := by
        intro h x0 x1 x3 cc ss H locs ls hm hw hcc hss hl
        have hmo := mo_X1_begins_50 (mo_X1_begins_7 n7) h x0 x1 x3 _ hm
        have sb_ : h.1 ≤ u9.1 := hmo.1
        have tb_ : h.2.1 ≤ u9.2.1 := hmo.2.1
        rw [m_X1_begins_50] at hm
        obtain ⟨v1, ev1, hm⟩ := nmE hm
        refine lv_iinc (v := v1) (lv' := [(3, .int v1), (0, .ref x0), (1, .long x1)]) hx hb dX1_begins_50 hl (k := 2) rfl (by rw [ev1]; rfl) (by decide) rfl (fun ls hl => ?_)
        refine lv_goto (tgt := 7) hx hb dX1_begins_53 (by decide) ?_
        exact ih7 h x0 x1 v1 _ _ _ _ _ hm hw (by omega) (by omega) (lv_sub hl [1, 2, 0] rfl)
      have hB15 : ∀ (n15 : Nat), ∀ (h : CH) (x0 : Nat) (x1 : Int64) (x3 : Int32) (x4 : Int32) (cc ss : Nat) (H : Heap) (locs : List Loc) (ls : Array Slot), m_X1_begins_15 f (m_X1_begins_7 f n7) n15 h x0 x1 x3 x4 = some u9 → CW D dA A s h H locs → cc + u.1 = h.1 → ss + u.2.1 = h.2.1 → lv_has ls 5 [(0, .ref x0), (1, .long x1), (3, .int x3), (4, .int x4)] → W p l e (rm_X1_begins (u9.1 - u.1) (u9.2.1 - u.2.1)) s m args below meth c H locs cc ss QQ (F0 m 15 ls []) := by
        intro n15
        induction n15 with
        | zero => intro h x0 x1 x3 x4 cc ss H locs ls hm hw hcc hss hl; rw [m_X1_begins_15] at hm; exact noE hm
        | succ n15 ih15 =>
          have hB43 : ∀ (h : CH) (x0 : Nat) (x1 : Int64) (x3 : Int32) (x4 : Int32) (y0 : Nat) (y1 : Int32) (y2 : Int64) (cc ss : Nat) (H : Heap) (locs : List Loc) (ls : Array Slot), m_X1_begins_43 f (m_X1_begins_7 f n7) (m_X1_begins_15 f (m_X1_begins_7 f n7) n15) h x0 x1 x3 x4 y0 y1 y2 = some u9 → CW D dA A s h H locs → cc + u.1 = h.1 → ss + u.2.1 = h.2.1 → lv_has ls 5 [(0, .ref x0), (1, .long x1), (3, .int x3), (4, .int x4)] → W p l e (rm_X1_begins (u9.1 - u.1) (u9.2.1 - u.2.1)) s m args below meth c H locs cc ss QQ (F0 m 43 ls [.long y2, .int y1, .ref y0]) := by
            intro h x0 x1 x3 x4 y0 y1 y2 cc ss H locs ls hm hw hcc hss hl
            have hmo := mo_X1_begins_43 (mo_X1_begins_7 n7) (mo_X1_begins_15 (mo_X1_begins_7 n7) n15) h x0 x1 x3 x4 y0 y1 y2 _ hm
            have sb_ : h.1 ≤ u9.1 := hmo.1
            have tb_ : h.2.1 ≤ u9.2.1 := hmo.2.1
            rw [m_X1_begins_43] at hm
            obtain ⟨h1, eh1, hm⟩ := bdE hm
            refine cg_last C hw eh1 dX1_begins_43 (fun H locs hw => ?_)
            have zh1 := uL_sz eh1
            obtain ⟨v2, ev2, hm⟩ := nmE hm
            refine lv_iinc (v := v2) (lv' := [(4, .int v2), (0, .ref x0), (1, .long x1), (3, .int x3)]) hx hb dX1_begins_44 hl (k := 3) rfl (by rw [ev2]; rfl) (by decide) rfl (fun ls hl => ?_)
            refine lv_goto (tgt := 15) hx hb dX1_begins_47 (by decide) ?_
            exact ih15 h1 x0 x1 x3 v2 _ _ _ _ _ hm hw (by omega) (by omega) (lv_sub hl [1, 2, 3, 0] rfl)
          intro h x0 x1 x3 x4 cc ss H locs ls hm hw hcc hss hl
          have hmo := mo_X1_begins_15 (mo_X1_begins_7 n7) (n15 + 1) h x0 x1 x3 x4 _ hm
          have sb_ : h.1 ≤ u9.1 := hmo.1
          have tb_ : h.2.1 ≤ u9.2.1 := hmo.2.1
          rw [m_X1_begins_15] at hm
          refine lv_iload hx hb dX1_begins_15 (lv_at hl 3 rfl) ?_
          refine lv_iconst (v := 3) hx hb dX1_begins_17 (by decide) ?_
          refine lv_icmp_ge (tgt := 50) hx hb dX1_begins_18 (by decide) (fun c1 => ?_) (fun c1 => ?_)
          · have hm := ifT hm c1
            exact hB50 h x0 x1 x3 _ _ _ _ _ hm hw (by omega) (by omega) (lv_sub hl [0, 1, 2] rfl)
          · have hm := ifF hm c1
            refine lv_aload_n hx hb dX1_begins_21 rfl (lv_at hl 0 rfl) ?_
            obtain ⟨a2, ea2, hm⟩ := bdE hm
            refine cg_get C hw (oR_E ea2) rfl in_X1 (by decide) q222 dX1_begins_22 ?_
            obtain ⟨a3, ea3, hm⟩ := bdE hm
            refine cg_getN C hw (by decide) (oR_E ea3) rfl in_X2 (by decide) (hw.2.2.2.2.1 _ (List.mem_of_getElem? (i := 40) rfl)) dX1_begins_25 ?_
            refine lv_iload_n hx hb dX1_begins_28 rfl (lv_at hl 2 rfl) ?_
            obtain ⟨a4, ea4, hm⟩ := bdE hm
            refine cg_aaldA C hw (ty := .array .long) rfl rfl (aR_E ea4) dX1_begins_29 ?_
            refine lv_iload hx hb dX1_begins_30 (lv_at hl 3 rfl) ?_
            refine lv_iload_n hx hb dX1_begins_32 rfl (lv_at hl 2 rfl) ?_
            refine lv_iload hx hb dX1_begins_33 (lv_at hl 3 rfl) ?_
            refine lv_icmp_ne (tgt := 42) hx hb dX1_begins_35 (by decide) (fun c5 => ?_) (fun c5 => ?_)
            · have hm := ifT hm c5
              refine lv_lconst (v := 0) hx hb dX1_begins_42 (by decide) ?_
              exact hB43 h x0 x1 x3 x4 a4 x4 (0 : Int64) _ _ _ _ _ hm hw (by omega) (by omega) (lv_sub hl [0, 1, 2, 3] rfl)
            · have hm := ifT' hm c5
              refine lv_lload_n hx hb dX1_begins_38 rfl (lv_at hl 1 rfl) ?_
              refine lv_goto (tgt := 43) hx hb dX1_begins_39 (by decide) ?_
              exact hB43 h x0 x1 x3 x4 a4 x4 x1 _ _ _ _ _ hm hw (by omega) (by omega) (lv_sub hl [0, 1, 2, 3] rfl)
      intro h x0 x1 x3 cc ss H locs ls hm hw hcc hss hl
      have hmo := mo_X1_begins_7  (n7 + 1) h x0 x1 x3 _ hm
      have sb_ : h.1 ≤ u9.1 := hmo.1
      have tb_ : h.2.1 ≤ u9.2.1 := hmo.2.1
      rw [m_X1_begins_7] at hm
      refine lv_iload_n hx hb dX1_begins_7 rfl (lv_at hl 2 rfl) ?_
      refine lv_iconst (v := 3) hx hb dX1_begins_8 (by decide) ?_
      refine lv_icmp_ge (tgt := 56) hx hb dX1_begins_9 (by decide) (fun c1 => ?_) (fun c1 => ?_)
      · have hm := ifT hm c1
        exact hB56 h _ _ _ _ _ hm hw (by omega) (by omega) (lv_sub hl [] rfl)
      · have hm := ifF hm c1
        refine lv_iconst (v := 0) hx hb dX1_begins_12 (by decide) ?_
        refine lv_istore (lv' := [(4, .int (0 : Int32)), (0, .ref x0), (1, .long x1), (3, .int x3)]) hx hb dX1_begins_13 hl (by decide) rfl (fun ls hl => ?_)
        exact hB15 f h x0 x1 x3 (0 : Int32) _ _ _ _ _ hm hw (by omega) (by omega) (lv_sub hl [1, 2, 3, 0] rfl)
  rw [m_X1_begins] at hm
  refine lv_aload_n hx hb dX1_begins_0 rfl (lv_at hl 0 rfl) ?_
  refine lv_lload_n hx hb dX1_begins_1 rfl (lv_at hl 1 rfl) ?_
  obtain ⟨h1, eh1, hm⟩ := bdE hm
  refine cg_put C hw eh1 rfl in_X1 tyX1 tyX1_ok nmX1 (by decide) q225 rfl rfl rfl dX1_begins_2 (fun H locs hw => ?_)
  have zh1 := pF_sz eh1
  refine lv_iconst (v := 0) hx hb dX1_begins_5 (by decide) ?_
  refine lv_istore_n (lv' := [(3, .int (0 : Int32)), (0, .ref x0), (1, .long x1)]) hx hb dX1_begins_6 rfl hl (by decide) rfl (fun ls hl => ?_)
  exact hB7 f h1 x0 x1 (0 : Int32) _ _ _ _ _ hm hw (by omega) (by omega) (lv_sub hl [1, 2, 0] rfl)
def m_X1_init_27 (f : Nat) (h : CH) : Option CH := some h
theorem mo_X1_init_27 {f : Nat} : ∀ (h : CH) (r : CH), m_X1_init_27 f h = some r → le2 h r := by
  intro h r hm
  rw [m_X1_init_27] at hm
  cases hm
  exact le2.rf
def m_X1_init_19 (f : Nat) (h : CH) (x0 : Nat) (x1 : Int64) (y0 : Nat) (y1 : Nat) : Option CH := bd (pF h 2 1 y0 (.ref y1)) fun h1 =>
    gd (isC h1 x0 2) <|
    bd (m_X1_begins f h1 x0 x1) fun h3 =>
    m_X1_init_27 f h3
theorem mo_X1_init_19 {f : Nat} : ∀ (h : CH) (x0 : Nat) (x1 : Int64) (y0 : Nat) (y1 : Nat) (r : CH), m_X1_init_19 f h x0 x1 y0 y1 = some r → le2 h r := by
  intro h x0 x1 y0 y1 r hm
  rw [m_X1_init_19] at hm
  obtain ⟨h1, eh1, hm⟩ := bdE hm
  have lh1 := pF_le eh1
  obtain ⟨g2, hm⟩ := gdE hm
  obtain ⟨h3, eh3, hm⟩ := bdE hm
  have lh3 := mo_X1_begins eh3
  exact (lh1.tr (lh3.tr (mo_X1_init_27  h3 _ hm)))
def m_X1_init_12 (f : Nat) (h : CH) (x0 : Nat) (x1 : Int64) (y0 : Nat) (y1 : Nat) : Option CH := bd (pF h 2 0 y0 (.ref y1)) fun h1 =>
    nmv (cn h1 3 (.inr (1, 3, .inr (.inl (fun _ => 0))))) fun h2 =>
    nmv (h1.1 : Nat) fun a3 =>
    m_X1_init_19 f h2 x0 x1 x0 a3
theorem mo_X1_init_12 {f : Nat} : ∀ (h : CH) (x0 : Nat) (x1 : Int64) (y0 : Nat) (y1 : Nat) (r : CH), m_X1_init_12 f h x0 x1 y0 y1 = some r → le2 h r := by
  intro h x0 x1 y0 y1 r hm
  rw [m_X1_init_12] at hm
  obtain ⟨h1, eh1, hm⟩ := bdE hm
  have lh1 := pF_le eh1
  obtain ⟨h2, eh2, hm⟩ := nmE hm
  have lh2 := cn_le eh2
  obtain ⟨a3, ea3, hm⟩ := nmE hm
  exact (lh1.tr (lh2.tr (mo_X1_init_19  h2 x0 x1 x0 a3 _ hm)))
def m_X1_init_8 (f : Nat) (h : CH) (x0 : Nat) (x1 : Int64) (y0 : Nat) (y1 : Nat) : Option CH := bd (m_X2_init f h y1) fun h1 =>
    m_X1_init_12 f h1 x0 x1 y0 y1
theorem mo_X1_init_8 {f : Nat} : ∀ (h : CH) (x0 : Nat) (x1 : Int64) (y0 : Nat) (y1 : Nat) (r : CH), m_X1_init_8 f h x0 x1 y0 y1 = some r → le2 h r := by
  intro h x0 x1 y0 y1 r hm
  rw [m_X1_init_8] at hm
  obtain ⟨h1, eh1, hm⟩ := bdE hm
  have lh1 := mo_X2_init eh1
  exact (lh1.tr (mo_X1_init_12  h1 x0 x1 y0 y1 _ hm))
def m_X1_init (f : Nat) (u : CH) (x0 : Nat) (x1 : Int64) : Option CH := nmv (cn u 1 (.inl (3, [.null]))) fun h1 =>
    nmv (u.1 : Nat) fun a2 =>
    m_X1_init_8 f h1 x0 x1 x0 a2
theorem mo_X1_init {f : Nat} {u : CH} {x0 : Nat} {x1 : Int64} {u9 : CH} (hm : m_X1_init f u x0 x1 = some u9) : le2 u u9 := by
  rw [m_X1_init] at hm
  obtain ⟨h1, eh1, hm⟩ := nmE hm
  have lh1 := cn_le eh1
  obtain ⟨a2, ea2, hm⟩ := nmE hm
  exact (lh1.tr (mo_X1_init_8  h1 x0 x1 x0 a2 _ hm))
abbrev rm_X1_init (mc ms : Nat) : Room := { frames := 2, cells := mc, slots := ms, locals := 40 }
theorem cw_X1_init {R : Room} {s : State} {args : Array Value} {own : String} {idx mc ms : Nat} (hts : ∀ w ∈ lw_all, w.before args s = true) (hl : Cond.methodLink own idx yX1_init ∈ lw_all) (hR : 2 + 1 ≤ R.frames ∧ 8 + (3 + 11) + 40 ≤ R.locals) : CallB R s args own idx yX1_init cX1_init 3 none (ws_ yX1_init cX1_init 3 (Option.none : Option Jvm.ClassFile.FieldType)) (rm_X1_init mc ms) mc ms 1 ∧ yX1_init.name = "<init>" ∧ (Cond.instanceMethod yX1_init).before args s = true := cwI 1 hts (lw_meth q195) rfl rfl rfl (hts _ q123) (hts _ hl) (hts _ q194) rfl (by decide +kernel) hR
set_option maxHeartbeats 4000000 in
set_option maxRecDepth 100000 in
theorem w_X1_init (l : Launch) {D : va_G} {dA : Nat → ClassId} {A : Nat → Prop} {f : Nat} {u u9 : CH} {x0 : Nat} {x1 : Int64} (hm : m_X1_init f u x0 x1 = some u9) : Met l yX1_init (ws_ yX1_init cX1_init 3 (Option.none : Option Jvm.ClassFile.FieldType)) (rm_X1_init (u9.1 - u.1) (u9.2.1 - u.2.1)) (va_Pc [.ref x0, .long x1] (CPre D dA A u)) (va_Qv (fun u => u = u9) (CPost D dA A) A) (u9.1 - u.1) (u9.2.1 - u.2.1) A := by
  refine Met.ofW (cc := cX1_init) (maxL := 3) (ret := (Option.none : Option Jvm.ClassFile.FieldType)) (by decide) rfl ?_
  intro p e s m args below meth c s₁ B hml hv
  have hx := B.exec
  have hb := B.bytes
  have hr := B.returns
  have hts := atoms_spec (ws := (ws_ yX1_init cX1_init 3 (Option.none : Option Jvm.ClassFile.FieldType))) B.pre
  have hts : ∀ w ∈ lw_all, w.before args s = true := fun w h => hts w (List.mem_cons_of_mem _ h)
  have hown : s.vm.findClass RX1 = some m.cls := findClass_of_methodNamed B.named
  have hlocks := B.notSynchronized
  have hin : meth.name = "<init>" := (name_of_methodNamed B.named B.method).1
  obtain ⟨hav, hv⟩ := hv
  have C : CX p s m args c cX1_init RX1 D dA := ⟨hx, hb, hown, hts, hv.2⟩
  have hw : CW D dA A s u s.heap [] := hv.1
  generalize hQ : MQ below (va_Qv (fun u => u = u9) (CPost D dA A) A) args s (u9.1 - u.1) (u9.2.1 - u.2.1) A = QQ
  have hent := lg_entry_eq m [.ref x0, .long x1] 3
  rw [← hav] at hent
  rw [hent]
  have hl := lv_entry ([.ref x0, .long x1]) (n := 3) (Nat.le_of_ble_eq_true rfl)
  generalize (lg_sl ([.ref x0, .long x1]) ++ List.replicate (3 - (lg_sl ([.ref x0, .long x1])).length) Slot.unset).toArray = ls at hl ⊢
  have hl : lv_has ls 3 [(0, .ref x0), (1, .long x1)] := hl
  obtain ⟨cc, ecc⟩ : ∃ z : Nat, z = 0 := ⟨0, rfl⟩
  obtain ⟨ss, ess⟩ : ∃ z : Nat, z = 0 := ⟨0, rfl⟩
  have hcc : cc + u.1 = u.1 := by omega
  have hss : ss + u.2.1 = u.2.1 := by omega
  suffices hgo : W p l e (rm_X1_init (u9.1 - u.1) (u9.2.1 - u.2.1)) s m args below meth c s.heap [] cc ss QQ (F0 m 0 ls []) by rw [ecc, ess] at hgo; exact hgo
  have ⟨pu, qu, _, _⟩ := mo_X1_init hm
  have hB27 : ∀ (h : CH) (cc ss : Nat) (H : Heap) (locs : List Loc) (ls : Array Slot), m_X1_init_27 f h = some u9 → CW D dA A s h H locs → cc + u.1 = h.1 → ss + u.2.1 = h.2.1 → lv_has ls 3 [] → W p l e (rm_X1_init (u9.1 - u.1) (u9.2.1 - u.2.1)) s m args below meth c H locs cc ss QQ (F0 m 27 ls []) := by
    intro h cc ss H locs ls hm hw hcc hss hl
    have hmo := mo_X1_init_27  h _ hm
    have sb_ : h.1 ≤ u9.1 := hmo.1
    have tb_ : h.2.1 ≤ u9.2.1 := hmo.2.1
    rw [m_X1_init_27] at hm
    have eh := ret1 hm
    have ec : cc = u9.1 - u.1 := by rw [← eh]; omega
    have es : ss = u9.2.1 - u.2.1 := by rw [← eh]; omega
    rw [ec, es, ← hQ]
    exact W.vret hx hb hr (fun t ht hW => ⟨⟨h, rfl, eh, ⟨by rw [ht]; exact hw.1, by rw [ht]; exact hw.2.1⟩⟩, hw.2.2.1.F ht⟩) hw.2.2.1.2.2 dX1_init_27
  have hB19 : ∀ (h : CH) (x0 : Nat) (x1 : Int64) (y0 : Nat) (y1 : Nat) (cc ss : Nat) (H : Heap) (locs : List Loc) (ls : Array Slot), m_X1_init_19 f h x0 x1 y0 y1 = some u9 → CW D dA A s h H locs → cc + u.1 = h.1 → ss + u.2.1 = h.2.1 → lv_has ls 3 [(0, .ref x0), (1, .long x1)] → W p l e (rm_X1_init (u9.1 - u.1) (u9.2.1 - u.2.1)) s m args below meth c H locs cc ss QQ (F0 m 19 ls [.ref y1, .ref y0]) := by
    intro h x0 x1 y0 y1 cc ss H locs ls hm hw hcc hss hl
    have hmo := mo_X1_init_19  h x0 x1 y0 y1 _ hm
    have sb_ : h.1 ≤ u9.1 := hmo.1
    have tb_ : h.2.1 ≤ u9.2.1 := hmo.2.1
    rw [m_X1_init_19] at hm
    obtain ⟨h1, eh1, hm⟩ := bdE hm
    refine cg_putF C hw eh1 rfl in_X1 tyX1 tyX1_ok nmX1 (by decide) q224 rfl hin rfl rfl rfl dX1_init_19 (fun H locs hw => ?_)
    have zh1 := pF_sz eh1
    refine lv_aload_n hx hb dX1_init_22 rfl (lv_at hl 0 rfl) ?_
    refine lv_lload_n hx hb dX1_init_23 rfl (lv_at hl 1 rfl) ?_
    obtain ⟨g2, hm⟩ := gdE hm
    obtain ⟨h3, eh3, hm⟩ := bdE hm
    have lh3 := mo_X1_begins eh3
    have ph3 : h1.1 ≤ h3.1 := lh3.1
    have qh3 : h1.2.1 ≤ h3.2.1 := lh3.2.1
    have hmo := mo_X1_init_27   h3 _ hm
    have sh3 : h3.1 ≤ u9.1 := hmo.1
    have th3 : h3.2.1 ≤ u9.2.1 := hmo.2.1
    refine cg_callv hw lh3 (va_runV (As := [.long x1]) (rest := []) ⟨hx, hb, hml, hown, hts⟩ (w_X1_begins l eh3) (cw_X1_begins hts q218 ⟨Nat.le_of_ble_eq_true rfl, Nat.le_of_ble_eq_true rfl⟩) (cg_preV C hw g2 rfl _) rfl rfl hl.1 rfl (lv_room (Nat.le_of_ble_eq_true rfl)) dX1_init_24 ⟨show cc + (h3.1 - h1.1) ≤ u9.1 - u.1 by omega, show ss + (h3.2.1 - h1.2.1) ≤ u9.2.1 - u.2.1 by omega⟩) (fun H locs hw => ?_)
    exact hB27 h3 _ _ _ _ _ hm hw (by omega) (by omega) (lv_sub hl [] rfl)
  have hB12 : ∀ (h : CH) (x0 : Nat) (x1 : Int64) (y0 : Nat) (y1 : Nat) (cc ss : Nat) (H : Heap) (locs : List Loc) (ls : Array Slot), m_X1_init_12 f h x0 x1 y0 y1 = some u9 → CW D dA A s h H locs → cc + u.1 = h.1 → ss + u.2.1 = h.2.1 → lv_has ls 3 [(0, .ref x0), (1, .long x1)] → W p l e (rm_X1_init (u9.1 - u.1) (u9.2.1 - u.2.1)) s m args below meth c H locs cc ss QQ (F0 m 12 ls [.ref y1, .ref y0]) := by
    intro h x0 x1 y0 y1 cc ss H locs ls hm hw hcc hss hl
    have hmo := mo_X1_init_12  h x0 x1 y0 y1 _ hm
    have sb_ : h.1 ≤ u9.1 := hmo.1
    have tb_ : h.2.1 ≤ u9.2.1 := hmo.2.1
    rw [m_X1_init_12] at hm
    obtain ⟨h1, eh1, hm⟩ := bdE hm
    refine cg_putF C hw eh1 rfl in_X1 tyX1 tyX1_ok nmX1 (by decide) q222 rfl hin rfl rfl rfl dX1_init_12 (fun H locs hw => ?_)
    have zh1 := pF_sz eh1
    refine lv_aload_n hx hb dX1_init_15 rfl (lv_at hl 0 rfl) ?_
    refine lv_iconst (v := 3) hx hb dX1_init_16 (by decide) ?_
    obtain ⟨h2, eh2, hm⟩ := nmE hm
    obtain ⟨_, _, hmq⟩ := nmE hm
    have hmo := mo_X1_init_19   h2 x0 x1 x0 _ _ hmq
    have sh2 : h2.1 ≤ u9.1 := hmo.1
    have th2 : h2.2.1 ≤ u9.2.1 := hmo.2.1
    have zh2 := cn_sz eh2
    refine cg_newJ (C0 := C) hw (N := 3) (by decide) (by decide) (by decide) (show cc + 1 ≤ u9.1 - u.1 by omega) (show ss + 3 ≤ u9.2.1 - u.2.1 by omega) dX1_init_17 (fun H hw => ?_)
    rw [← eh2] at hw
    refine lv_topr (fun a3 ea3 => ?_)
    have hm := nmK hm ea3
    exact hB19 h2 x0 x1 x0 a3 _ _ _ _ _ hm hw (by omega) (by omega) (lv_sub hl [0, 1] rfl)
  have hB8 : ∀ (h : CH) (x0 : Nat) (x1 : Int64) (y0 : Nat) (y1 : Nat) (cc ss : Nat) (H : Heap) (locs : List Loc) (ls : Array Slot), m_X1_init_8 f h x0 x1 y0 y1 = some u9 → CW D dA A s h H locs → cc + u.1 = h.1 → ss + u.2.1 = h.2.1 → lv_has ls 3 [(0, .ref x0), (1, .long x1)] → W p l e (rm_X1_init (u9.1 - u.1) (u9.2.1 - u.2.1)) s m args below meth c H locs cc ss QQ (F0 m 8 ls [.ref y1, .ref y0]) := by
    intro h x0 x1 y0 y1 cc ss H locs ls hm hw hcc hss hl
    have hmo := mo_X1_init_8  h x0 x1 y0 y1 _ hm
    have sb_ : h.1 ≤ u9.1 := hmo.1
    have tb_ : h.2.1 ≤ u9.2.1 := hmo.2.1
    rw [m_X1_init_8] at hm
    refine lv_dup hx hb dX1_init_8 rfl ?_
    obtain ⟨h1, eh1, hm⟩ := bdE hm
    have lh1 := mo_X2_init eh1
    have ph1 : h.1 ≤ h1.1 := lh1.1
    have qh1 : h.2.1 ≤ h1.2.1 := lh1.2.1
    have hmo := mo_X1_init_12   h1 x0 x1 y0 y1 _ hm
    have sh1 : h1.1 ≤ u9.1 := hmo.1
    have th1 : h1.2.1 ≤ u9.2.1 := hmo.2.1
    refine cg_callv hw lh1 (va_runIN (As := []) (rest := [.ref y1, .ref y0]) ⟨hx, hb, hml, hown, hts⟩ (w_X2_init l eh1) ⟨va_cnB 0 hts (lw_meth q201) rfl rfl rfl (hw.2.2.2.2.1 _ (List.mem_of_getElem? (i := 39) rfl)) (hts _ q124) (by decide +kernel) ⟨Nat.le_of_ble_eq_true rfl, Nat.le_of_ble_eq_true rfl⟩, rfl, hts _ q200⟩ (cg_preS C hw _) rfl rfl hl.1 rfl (lv_room (Nat.le_of_ble_eq_true rfl)) dX1_init_9 ⟨show cc + (h1.1 - h.1) ≤ u9.1 - u.1 by omega, show ss + (h1.2.1 - h.2.1) ≤ u9.2.1 - u.2.1 by omega⟩) (fun H locs hw => ?_)
    exact hB12 h1 x0 x1 y0 y1 _ _ _ _ _ hm hw (by omega) (by omega) (lv_sub hl [0, 1] rfl)
  rw [m_X1_init] at hm
  refine lv_aload_n hx hb dX1_init_0 rfl (lv_at hl 0 rfl) ?_
  refine W.objInit hx hb hown (hts _ q196) (hts _ q161) (hts _ q162) rfl (by rw [hml]; exact hl.1) rfl dX1_init_1 (Nat.le_of_ble_eq_true rfl) (Nat.le_of_ble_eq_true rfl) ?_
  refine W.eq (g2 := F0 m 4 ls []) rfl ?_
  refine lv_aload_n hx hb dX1_init_4 rfl (lv_at hl 0 rfl) ?_
  obtain ⟨h1, eh1, hm⟩ := nmE hm
  obtain ⟨_, _, hmq⟩ := nmE hm
  have hmo := mo_X1_init_8   h1 x0 x1 x0 _ _ hmq
  have sh1 : h1.1 ≤ u9.1 := hmo.1
  have th1 : h1.2.1 ≤ u9.2.1 := hmo.2.1
  have zh1 := cn_sz eh1
  refine cg_new (C0 := C) hw (ci := 3) (fs := [.null]) rfl in_X2 tyX2 tyX2_ok q197 q198 q124 (fun j hj => by rcases (show j = 0 by omega) with rfl <;> rfl) (show cc + 1 ≤ u9.1 - u.1 by omega) (show ss + 1 ≤ u9.2.1 - u.2.1 by omega) dX1_init_5 (fun H hw => ?_)
  rw [← eh1] at hw
  refine lv_topr (fun a2 ea2 => ?_)
  have hm := nmK hm ea2
  exact hB8 h1 x0 x1 x0 a2 _ _ _ _ _ hm hw (by omega) (by omega) (lv_sub hl [0, 1] rfl)
def m_J0_init_J2 (f : Nat) (u : CH) (x0 : Nat) : Option CH := some u
theorem mo_J0_init_J2 {f : Nat} {u : CH} {x0 : Nat} {u9 : CH} (hm : m_J0_init_J2 f u x0 = some u9) : le2 u u9 := by
  rw [m_J0_init_J2] at hm
  cases hm
  exact le2.rf
abbrev rm_J0_init_J2 (mc ms : Nat) : Room := { frames := 1, cells := mc, slots := ms, locals := 20 }
theorem cw_J0_init_J2 {R : Room} {s : State} {args : Array Value} {own : String} {idx mc ms : Nat} (hts : ∀ w ∈ lw_all, w.before args s = true) (hl : Cond.methodLink own idx yJ0_init ∈ lw_all) (hR : 1 + 1 ≤ R.frames ∧ 8 + (1 + 11) + 20 ≤ R.locals) : CallB R s args own idx yJ0_init cJ0_init 1 none (ws_ yJ0_init cJ0_init 1 (Option.none : Option Jvm.ClassFile.FieldType)) (rm_J0_init_J2 mc ms) mc ms 0 ∧ yJ0_init.name = "<init>" ∧ (Cond.instanceMethod yJ0_init).before args s = true := cwI 0 hts (lw_meth q173) rfl rfl rfl (hts _ q120) (hts _ hl) (hts _ q172) rfl (by decide +kernel) hR
set_option maxHeartbeats 4000000 in
set_option maxRecDepth 100000 in
theorem w_J0_init_J2 (l : Launch) {D : va_G} {dA : Nat → ClassId} {A : Nat → Prop} {f : Nat} {u u9 : CH} {x0 : Nat} (hm : m_J0_init_J2 f u x0 = some u9) : Met l yJ0_init (ws_ yJ0_init cJ0_init 1 (Option.none : Option Jvm.ClassFile.FieldType)) (rm_J0_init_J2 (u9.1 - u.1) (u9.2.1 - u.2.1)) (va_Pc [.ref x0] (CPre D dA A u)) (va_Qv (fun u => u = u9) (CPost D dA A) A) (u9.1 - u.1) (u9.2.1 - u.2.1) A := by
  refine metOfWF (cc := cJ0_init) (maxL := 1) (ret := (Option.none : Option Jvm.ClassFile.FieldType)) (by decide +kernel) rfl ?_
  intro p e s m args below meth c s₁ B hml hv
  have hx := B.exec
  have hb := B.bytes
  have hr := B.returns
  have hts := atoms_spec (ws := (ws_ yJ0_init cJ0_init 1 (Option.none : Option Jvm.ClassFile.FieldType))) B.pre
  have hts : ∀ w ∈ lw_all, w.before args s = true := fun w h => hts w (List.mem_cons_of_mem _ h)
  have hown : s.vm.findClass RJ0 = some m.cls := findClass_of_methodNamed B.named
  have hlocks := B.notSynchronized
  have hin : meth.name = "<init>" := (name_of_methodNamed B.named B.method).1
  obtain ⟨hav, hv⟩ := hv
  have C : CX p s m args c cJ0_init RJ0 D dA := ⟨hx, hb, hown, hts, hv.2⟩
  have hw : CW D dA A s u s.heap [] := hv.1
  generalize hQ : MQ below (va_Qv (fun u => u = u9) (CPost D dA A) A) args s (u9.1 - u.1) (u9.2.1 - u.2.1) A = QQ
  have hent := lg_entry_eq m [.ref x0] 1
  rw [← hav] at hent
  rw [hent]
  have hl := lv_entry ([.ref x0]) (n := 1) (Nat.le_of_ble_eq_true rfl)
  generalize (lg_sl ([.ref x0]) ++ List.replicate (1 - (lg_sl ([.ref x0])).length) Slot.unset).toArray = ls at hl ⊢
  have hl : lv_has ls 1 [(0, .ref x0)] := hl
  obtain ⟨cc, ecc⟩ : ∃ z : Nat, z = 0 := ⟨0, rfl⟩
  obtain ⟨ss, ess⟩ : ∃ z : Nat, z = 0 := ⟨0, rfl⟩
  have hcc : cc + u.1 = u.1 := by omega
  have hss : ss + u.2.1 = u.2.1 := by omega
  suffices hgo : W p l e (rm_J0_init_J2 (u9.1 - u.1) (u9.2.1 - u.2.1)) s m args below meth c s.heap [] cc ss QQ (F0 m 0 ls []) by rw [ecc, ess] at hgo; exact hgo
  have ⟨pu, qu, _, _⟩ := mo_J0_init_J2 hm
  rw [m_J0_init_J2] at hm
  refine lv_aload_n hx hb dJ0_init_0 rfl (lv_at hl 0 rfl) ?_
  refine W.objInit hx hb hown (hts _ q174) (hts _ q161) (hts _ q162) rfl (by rw [hml]; exact hl.1) rfl dJ0_init_1 (Nat.le_of_ble_eq_true rfl) (Nat.le_of_ble_eq_true rfl) ?_
  refine W.eq (g2 := F0 m 4 ls []) rfl ?_
  have eh := ret1 hm
  have ec : cc = u9.1 - u.1 := by rw [← eh]; omega
  have es : ss = u9.2.1 - u.2.1 := by rw [← eh]; omega
  rw [ec, es, ← hQ]
  exact W.vret hx hb hr (fun t ht hW => ⟨⟨u, rfl, eh, ⟨by rw [ht]; exact hw.1, by rw [ht]; exact hw.2.1⟩⟩, hw.2.2.1.F ht⟩) hw.2.2.1.2.2 dJ0_init_4
def m_J1_init_J2_4 (f : Nat) (h : CH) (x0 : Nat) : Option CH := bd (pF h 17 0 x0 (.int (0 : Int32))) fun h1 =>
    some h1
theorem mo_J1_init_J2_4 {f : Nat} : ∀ (h : CH) (x0 : Nat) (r : CH), m_J1_init_J2_4 f h x0 = some r → le2 h r := by
  intro h x0 r hm
  rw [m_J1_init_J2_4] at hm
  obtain ⟨h1, eh1, hm⟩ := bdE hm
  have lh1 := pF_le eh1
  cases hm
  exact (lh1.tr le2.rf)
def m_J1_init_J2 (f : Nat) (u : CH) (x0 : Nat) : Option CH := bd (m_J0_init_J2 f u x0) fun h1 =>
    m_J1_init_J2_4 f h1 x0
theorem mo_J1_init_J2 {f : Nat} {u : CH} {x0 : Nat} {u9 : CH} (hm : m_J1_init_J2 f u x0 = some u9) : le2 u u9 := by
  rw [m_J1_init_J2] at hm
  obtain ⟨h1, eh1, hm⟩ := bdE hm
  have lh1 := mo_J0_init_J2 eh1
  exact (lh1.tr (mo_J1_init_J2_4  h1 x0 _ hm))
abbrev rm_J1_init_J2 (mc ms : Nat) : Room := { frames := 2, cells := mc, slots := ms, locals := 40 }
theorem cw_J1_init_J2 {R : Room} {s : State} {args : Array Value} {own : String} {idx mc ms : Nat} (hts : ∀ w ∈ lw_all, w.before args s = true) (hl : Cond.methodLink own idx yJ1_init ∈ lw_all) (hR : 2 + 1 ≤ R.frames ∧ 8 + (1 + 11) + 40 ≤ R.locals) : CallB R s args own idx yJ1_init cJ1_init 1 none (ws_ yJ1_init cJ1_init 1 (Option.none : Option Jvm.ClassFile.FieldType)) (rm_J1_init_J2 mc ms) mc ms 0 ∧ yJ1_init.name = "<init>" ∧ (Cond.instanceMethod yJ1_init).before args s = true := cwI 0 hts (lw_meth q170) rfl rfl rfl (hts _ q121) (hts _ hl) (hts _ q169) rfl (by decide +kernel) hR
set_option maxHeartbeats 4000000 in
set_option maxRecDepth 100000 in
theorem w_J1_init_J2 (l : Launch) {D : va_G} {dA : Nat → ClassId} {A : Nat → Prop} {f : Nat} {u u9 : CH} {x0 : Nat} (hm : m_J1_init_J2 f u x0 = some u9) : Met l yJ1_init (ws_ yJ1_init cJ1_init 1 (Option.none : Option Jvm.ClassFile.FieldType)) (rm_J1_init_J2 (u9.1 - u.1) (u9.2.1 - u.2.1)) (va_Pc [.ref x0] (CPre D dA A u)) (va_Qv (fun u => u = u9) (CPost D dA A) A) (u9.1 - u.1) (u9.2.1 - u.2.1) A := by
  refine metOfWF (cc := cJ1_init) (maxL := 1) (ret := (Option.none : Option Jvm.ClassFile.FieldType)) (by decide +kernel) rfl ?_
  intro p e s m args below meth c s₁ B hml hv
  have hx := B.exec
  have hb := B.bytes
  have hr := B.returns
  have hts := atoms_spec (ws := (ws_ yJ1_init cJ1_init 1 (Option.none : Option Jvm.ClassFile.FieldType))) B.pre
  have hts : ∀ w ∈ lw_all, w.before args s = true := fun w h => hts w (List.mem_cons_of_mem _ h)
  have hown : s.vm.findClass RJ1 = some m.cls := findClass_of_methodNamed B.named
  have hlocks := B.notSynchronized
  have hin : meth.name = "<init>" := (name_of_methodNamed B.named B.method).1
  obtain ⟨hav, hv⟩ := hv
  have C : CX p s m args c cJ1_init RJ1 D dA := ⟨hx, hb, hown, hts, hv.2⟩
  have hw : CW D dA A s u s.heap [] := hv.1
  generalize hQ : MQ below (va_Qv (fun u => u = u9) (CPost D dA A) A) args s (u9.1 - u.1) (u9.2.1 - u.2.1) A = QQ
  have hent := lg_entry_eq m [.ref x0] 1
  rw [← hav] at hent
  rw [hent]
  have hl := lv_entry ([.ref x0]) (n := 1) (Nat.le_of_ble_eq_true rfl)
  generalize (lg_sl ([.ref x0]) ++ List.replicate (1 - (lg_sl ([.ref x0])).length) Slot.unset).toArray = ls at hl ⊢
  have hl : lv_has ls 1 [(0, .ref x0)] := hl
  obtain ⟨cc, ecc⟩ : ∃ z : Nat, z = 0 := ⟨0, rfl⟩
  obtain ⟨ss, ess⟩ : ∃ z : Nat, z = 0 := ⟨0, rfl⟩
  have hcc : cc + u.1 = u.1 := by omega
  have hss : ss + u.2.1 = u.2.1 := by omega
  suffices hgo : W p l e (rm_J1_init_J2 (u9.1 - u.1) (u9.2.1 - u.2.1)) s m args below meth c s.heap [] cc ss QQ (F0 m 0 ls []) by rw [ecc, ess] at hgo; exact hgo
  have ⟨pu, qu, _, _⟩ := mo_J1_init_J2 hm
  have hB4 : ∀ (h : CH) (x0 : Nat) (cc ss : Nat) (H : Heap) (locs : List Loc) (ls : Array Slot), m_J1_init_J2_4 f h x0 = some u9 → CW D dA A s h H locs → cc + u.1 = h.1 → ss + u.2.1 = h.2.1 → lv_has ls 1 [(0, .ref x0)] → W p l e (rm_J1_init_J2 (u9.1 - u.1) (u9.2.1 - u.2.1)) s m args below meth c H locs cc ss QQ (F0 m 4 ls []) := by
    intro h x0 cc ss H locs ls hm hw hcc hss hl
    have hmo := mo_J1_init_J2_4  h x0 _ hm
    have sb_ : h.1 ≤ u9.1 := hmo.1
    have tb_ : h.2.1 ≤ u9.2.1 := hmo.2.1
    rw [m_J1_init_J2_4] at hm
    refine lv_aload_n hx hb dJ1_init_4 rfl (lv_at hl 0 rfl) ?_
    refine lv_iconst (v := 0) hx hb dJ1_init_5 (by decide) ?_
    obtain ⟨h1, eh1, hm⟩ := bdE hm
    refine cg_put C hw eh1 rfl in_J2 tyJ2 tyJ2_ok nmJ2 (by decide) q181 rfl rfl rfl dJ1_init_6 (fun H locs hw => ?_)
    have zh1 := pF_sz eh1
    have eh := ret1 hm
    have ec : cc = u9.1 - u.1 := by rw [← eh]; omega
    have es : ss = u9.2.1 - u.2.1 := by rw [← eh]; omega
    rw [ec, es, ← hQ]
    exact W.vret hx hb hr (fun t ht hW => ⟨⟨h1, rfl, eh, ⟨by rw [ht]; exact hw.1, by rw [ht]; exact hw.2.1⟩⟩, hw.2.2.1.F ht⟩) hw.2.2.1.2.2 dJ1_init_9
  rw [m_J1_init_J2] at hm
  refine lv_aload_n hx hb dJ1_init_0 rfl (lv_at hl 0 rfl) ?_
  obtain ⟨h1, eh1, hm⟩ := bdE hm
  have lh1 := mo_J0_init_J2 eh1
  have ph1 : u.1 ≤ h1.1 := lh1.1
  have qh1 : u.2.1 ≤ h1.2.1 := lh1.2.1
  have hmo := mo_J1_init_J2_4   h1 x0 _ hm
  have sh1 : h1.1 ≤ u9.1 := hmo.1
  have th1 : h1.2.1 ≤ u9.2.1 := hmo.2.1
  refine cg_callv hw lh1 (va_runI (As := []) (rest := []) ⟨hx, hb, hml, hown, hts⟩ (w_J0_init_J2 l eh1) (cw_J0_init_J2 hts q171 ⟨Nat.le_of_ble_eq_true rfl, Nat.le_of_ble_eq_true rfl⟩) (cg_preS C hw _) rfl rfl hl.1 rfl (lv_room (Nat.le_of_ble_eq_true rfl)) dJ1_init_1 ⟨show cc + (h1.1 - u.1) ≤ u9.1 - u.1 by omega, show ss + (h1.2.1 - u.2.1) ≤ u9.2.1 - u.2.1 by omega⟩) (fun H locs hw => ?_)
  exact hB4 h1 x0 _ _ _ _ _ hm hw (by omega) (by omega) (lv_sub hl [0] rfl)
def m_J2_init_60 (f : Nat) (h : CH) : Option CH := some h
theorem mo_J2_init_60 {f : Nat} : ∀ (h : CH) (r : CH), m_J2_init_60 f h = some r → le2 h r := by
  intro h r hm
  rw [m_J2_init_60] at hm
  cases hm
  exact le2.rf
def m_J2_init_13 (f : Nat) (h : CH) (y0 : Nat) (y1 : Nat) : Option CH := bd (pF h 17 1 y0 (.ref y1)) fun h1 =>
    m_J2_init_60 f h1
theorem mo_J2_init_13 {f : Nat} : ∀ (h : CH) (y0 : Nat) (y1 : Nat) (r : CH), m_J2_init_13 f h y0 y1 = some r → le2 h r := by
  intro h y0 y1 r hm
  rw [m_J2_init_13] at hm
  obtain ⟨h1, eh1, hm⟩ := bdE hm
  have lh1 := pF_le eh1
  exact (lh1.tr (mo_J2_init_60  h1 _ hm))
def m_J2_init_4 (f : Nat) (h : CH) (x0 : Nat) (x1 : Int32) : Option CH := if x1 ≤ 0 then
    if ¬ x1 = 0 then
    none
    else bd (sR h 1) fun a3 =>
    bd (pF h 17 1 x0 (.ref a3)) fun h4 =>
    m_J2_init_60 f h4
    else gd (cntok x1) <|
    nmv (cn h (Int32.toNatClampNeg x1) (.inr (3, (Int32.toNatClampNeg x1), .inr (.inr (fun _ => none))))) fun h5 =>
    nmv (h.1 : Nat) fun a7 =>
    m_J2_init_13 f h5 x0 a7
theorem mo_J2_init_4 {f : Nat} : ∀ (h : CH) (x0 : Nat) (x1 : Int32) (r : CH), m_J2_init_4 f h x0 x1 = some r → le2 h r := by
  intro h x0 x1 r hm
  rw [m_J2_init_4] at hm
  by_cases c1 : x1 ≤ 0
  · have hm := ifT hm c1
    by_cases c2 : ¬ x1 = 0
    · have hm := ifT hm c2
      exact noE hm
    · have hm := ifF hm c2
      obtain ⟨a3, ea3, hm⟩ := bdE hm
      obtain ⟨h4, eh4, hm⟩ := bdE hm
      have lh4 := pF_le eh4
      exact (lh4.tr (mo_J2_init_60  h4 _ hm))
  · have hm := ifF hm c1
    obtain ⟨g6, hm⟩ := gdE hm
    obtain ⟨h5, eh5, hm⟩ := nmE hm
    have lh5 := cn_le eh5
    obtain ⟨a7, ea7, hm⟩ := nmE hm
    exact (lh5.tr (mo_J2_init_13  h5 x0 a7 _ hm))
def m_J2_init (f : Nat) (u : CH) (x0 : Nat) (x1 : Int32) : Option CH := bd (m_J1_init_J2 f u x0) fun h1 =>
    m_J2_init_4 f h1 x0 x1
theorem mo_J2_init {f : Nat} {u : CH} {x0 : Nat} {x1 : Int32} {u9 : CH} (hm : m_J2_init f u x0 x1 = some u9) : le2 u u9 := by
  rw [m_J2_init] at hm
  obtain ⟨h1, eh1, hm⟩ := bdE hm
  have lh1 := mo_J1_init_J2 eh1
  exact (lh1.tr (mo_J2_init_4  h1 x0 x1 _ hm))
abbrev rm_J2_init (mc ms : Nat) : Room := { frames := 3, cells := mc, slots := ms, locals := 60 }
theorem cw_J2_init {R : Room} {s : State} {args : Array Value} {own : String} {idx mc ms : Nat} (hts : ∀ w ∈ lw_all, w.before args s = true) (hl : Cond.methodLink own idx yJ2_init ∈ lw_all) (hR : 3 + 1 ≤ R.frames ∧ 8 + (2 + 11) + 60 ≤ R.locals) : CallB R s args own idx yJ2_init cJ2_init 2 none (ws_ yJ2_init cJ2_init 2 (Option.none : Option Jvm.ClassFile.FieldType)) (rm_J2_init mc ms) mc ms 1 ∧ yJ2_init.name = "<init>" ∧ (Cond.instanceMethod yJ2_init).before args s = true := cwI 1 hts (lw_meth q167) rfl rfl rfl (hts _ q122) (hts _ hl) (hts _ q166) rfl (by decide +kernel) hR
set_option maxHeartbeats 4000000 in
set_option maxRecDepth 100000 in
theorem w_J2_init (l : Launch) {D : va_G} {dA : Nat → ClassId} {A : Nat → Prop} {f : Nat} {u u9 : CH} {x0 : Nat} {x1 : Int32} (hm : m_J2_init f u x0 x1 = some u9) : Met l yJ2_init (ws_ yJ2_init cJ2_init 2 (Option.none : Option Jvm.ClassFile.FieldType)) (rm_J2_init (u9.1 - u.1) (u9.2.1 - u.2.1)) (va_Pc [.ref x0, .int x1] (CPre D dA A u)) (va_Qv (fun u => u = u9) (CPost D dA A) A) (u9.1 - u.1) (u9.2.1 - u.2.1) A := by
  refine metOfWF (cc := cJ2_init) (maxL := 2) (ret := (Option.none : Option Jvm.ClassFile.FieldType)) (by decide +kernel) rfl ?_
  intro p e s m args below meth c s₁ B hml hv
  have hx := B.exec
  have hb := B.bytes
  have hr := B.returns
  have hts := atoms_spec (ws := (ws_ yJ2_init cJ2_init 2 (Option.none : Option Jvm.ClassFile.FieldType))) B.pre
  have hts : ∀ w ∈ lw_all, w.before args s = true := fun w h => hts w (List.mem_cons_of_mem _ h)
  have hown : s.vm.findClass RJ2 = some m.cls := findClass_of_methodNamed B.named
  have hlocks := B.notSynchronized
  have hin : meth.name = "<init>" := (name_of_methodNamed B.named B.method).1
  obtain ⟨hav, hv⟩ := hv
  have C : CX p s m args c cJ2_init RJ2 D dA := ⟨hx, hb, hown, hts, hv.2⟩
  have hw : CW D dA A s u s.heap [] := hv.1
  generalize hQ : MQ below (va_Qv (fun u => u = u9) (CPost D dA A) A) args s (u9.1 - u.1) (u9.2.1 - u.2.1) A = QQ
  have hent := lg_entry_eq m [.ref x0, .int x1] 2
  rw [← hav] at hent
  rw [hent]
  have hl := lv_entry ([.ref x0, .int x1]) (n := 2) (Nat.le_of_ble_eq_true rfl)
  generalize (lg_sl ([.ref x0, .int x1]) ++ List.replicate (2 - (lg_sl ([.ref x0, .int x1])).length) Slot.unset).toArray = ls at hl ⊢
  have hl : lv_has ls 2 [(0, .ref x0), (1, .int x1)] := hl
  obtain ⟨cc, ecc⟩ : ∃ z : Nat, z = 0 := ⟨0, rfl⟩
  obtain ⟨ss, ess⟩ : ∃ z : Nat, z = 0 := ⟨0, rfl⟩
  have hcc : cc + u.1 = u.1 := by omega
  have hss : ss + u.2.1 = u.2.1 := by omega
  suffices hgo : W p l e (rm_J2_init (u9.1 - u.1) (u9.2.1 - u.2.1)) s m args below meth c s.heap [] cc ss QQ (F0 m 0 ls []) by rw [ecc, ess] at hgo; exact hgo
  have ⟨pu, qu, _, _⟩ := mo_J2_init hm
  have hB60 : ∀ (h : CH) (cc ss : Nat) (H : Heap) (locs : List Loc) (ls : Array Slot), m_J2_init_60 f h = some u9 → CW D dA A s h H locs → cc + u.1 = h.1 → ss + u.2.1 = h.2.1 → lv_has ls 2 [] → W p l e (rm_J2_init (u9.1 - u.1) (u9.2.1 - u.2.1)) s m args below meth c H locs cc ss QQ (F0 m 60 ls []) := by
    intro h cc ss H locs ls hm hw hcc hss hl
    have hmo := mo_J2_init_60  h _ hm
    have sb_ : h.1 ≤ u9.1 := hmo.1
    have tb_ : h.2.1 ≤ u9.2.1 := hmo.2.1
    rw [m_J2_init_60] at hm
    have eh := ret1 hm
    have ec : cc = u9.1 - u.1 := by rw [← eh]; omega
    have es : ss = u9.2.1 - u.2.1 := by rw [← eh]; omega
    rw [ec, es, ← hQ]
    exact W.vret hx hb hr (fun t ht hW => ⟨⟨h, rfl, eh, ⟨by rw [ht]; exact hw.1, by rw [ht]; exact hw.2.1⟩⟩, hw.2.2.1.F ht⟩) hw.2.2.1.2.2 dJ2_init_60
  have hB13 : ∀ (h : CH) (y0 : Nat) (y1 : Nat) (cc ss : Nat) (H : Heap) (locs : List Loc) (ls : Array Slot), m_J2_init_13 f h y0 y1 = some u9 → CW D dA A s h H locs → cc + u.1 = h.1 → ss + u.2.1 = h.2.1 → lv_has ls 2 [] → W p l e (rm_J2_init (u9.1 - u.1) (u9.2.1 - u.2.1)) s m args below meth c H locs cc ss QQ (F0 m 13 ls [.ref y1, .ref y0]) := by
    intro h y0 y1 cc ss H locs ls hm hw hcc hss hl
    have hmo := mo_J2_init_13  h y0 y1 _ hm
    have sb_ : h.1 ≤ u9.1 := hmo.1
    have tb_ : h.2.1 ≤ u9.2.1 := hmo.2.1
    rw [m_J2_init_13] at hm
    obtain ⟨h1, eh1, hm⟩ := bdE hm
    refine cg_put C hw eh1 rfl in_J2 tyJ2 tyJ2_ok nmJ2 (by decide) q179 rfl rfl rfl dJ2_init_13 (fun H locs hw => ?_)
    have zh1 := pF_sz eh1
    refine lv_goto (tgt := 60) hx hb dJ2_init_16 (by decide) ?_
    exact hB60 h1 _ _ _ _ _ hm hw (by omega) (by omega) (lv_sub hl [] rfl)
  have hB4 : ∀ (h : CH) (x0 : Nat) (x1 : Int32) (cc ss : Nat) (H : Heap) (locs : List Loc) (ls : Array Slot), m_J2_init_4 f h x0 x1 = some u9 → CW D dA A s h H locs → cc + u.1 = h.1 → ss + u.2.1 = h.2.1 → lv_has ls 2 [(0, .ref x0), (1, .int x1)] → W p l e (rm_J2_init (u9.1 - u.1) (u9.2.1 - u.2.1)) s m args below meth c H locs cc ss QQ (F0 m 4 ls []) := by
    intro h x0 x1 cc ss H locs ls hm hw hcc hss hl
    have hmo := mo_J2_init_4  h x0 x1 _ hm
    have sb_ : h.1 ≤ u9.1 := hmo.1
    have tb_ : h.2.1 ≤ u9.2.1 := hmo.2.1
    rw [m_J2_init_4] at hm
    refine lv_iload_n hx hb dJ2_init_4 rfl (lv_at hl 1 rfl) ?_
    refine lv_if_le (tgt := 19) hx hb dJ2_init_5 (by decide) (fun c1 => ?_) (fun c1 => ?_)
    · have hm := ifT hm c1
      refine lv_iload_n hx hb dJ2_init_19 rfl (lv_at hl 1 rfl) ?_
      refine lv_if_ne (tgt := 33) hx hb dJ2_init_20 (by decide) (fun c2 => ?_) (fun c2 => ?_)
      · have hm := ifT hm c2
        exact noE hm
      · have hm := ifT' hm c2
        refine lv_aload_n hx hb dJ2_init_23 rfl (lv_at hl 0 rfl) ?_
        obtain ⟨a3, ea3, hm⟩ := bdE hm
        refine cg_gets C hw (i := 1) ea3 rfl q177 dJ2_init_24 ?_
        obtain ⟨h4, eh4, hm⟩ := bdE hm
        refine cg_put C hw eh4 rfl in_J2 tyJ2 tyJ2_ok nmJ2 (by decide) q179 rfl rfl rfl dJ2_init_27 (fun H locs hw => ?_)
        have zh4 := pF_sz eh4
        refine lv_goto (tgt := 60) hx hb dJ2_init_30 (by decide) ?_
        exact hB60 h4 _ _ _ _ _ hm hw (by omega) (by omega) (lv_sub hl [] rfl)
    · have hm := ifF hm c1
      refine lv_aload_n hx hb dJ2_init_8 rfl (lv_at hl 0 rfl) ?_
      refine lv_iload_n hx hb dJ2_init_9 rfl (lv_at hl 1 rfl) ?_
      obtain ⟨g6, hm⟩ := gdE hm
      obtain ⟨h5, eh5, hm⟩ := nmE hm
      obtain ⟨_, _, hmq⟩ := nmE hm
      have hmo := mo_J2_init_13   h5 x0 _ _ hmq
      have sh5 : h5.1 ≤ u9.1 := hmo.1
      have th5 : h5.2.1 ≤ u9.2.1 := hmo.2.1
      have zh5 := cn_sz eh5
      refine cg_anewO (C0 := C) hw (N := (Int32.toNatClampNeg x1)) q175 (hw.2.2.2.2.1 _ (List.mem_of_getElem? (i := 91) rfl)) (cntok_nn g6) rfl (cntok_le g6) (show cc + 1 ≤ u9.1 - u.1 by omega) (show ss + (Int32.toNatClampNeg x1) ≤ u9.2.1 - u.2.1 by omega) dJ2_init_10 (fun H hw => ?_)
      rw [← eh5] at hw
      refine lv_topr (fun a7 ea7 => ?_)
      have hm := nmK hm ea7
      exact hB13 h5 x0 a7 _ _ _ _ _ hm hw (by omega) (by omega) (lv_sub hl [] rfl)
  rw [m_J2_init] at hm
  refine lv_aload_n hx hb dJ2_init_0 rfl (lv_at hl 0 rfl) ?_
  obtain ⟨h1, eh1, hm⟩ := bdE hm
  have lh1 := mo_J1_init_J2 eh1
  have ph1 : u.1 ≤ h1.1 := lh1.1
  have qh1 : u.2.1 ≤ h1.2.1 := lh1.2.1
  have hmo := mo_J2_init_4   h1 x0 x1 _ hm
  have sh1 : h1.1 ≤ u9.1 := hmo.1
  have th1 : h1.2.1 ≤ u9.2.1 := hmo.2.1
  refine cg_callv hw lh1 (va_runI (As := []) (rest := []) ⟨hx, hb, hml, hown, hts⟩ (w_J1_init_J2 l eh1) (cw_J1_init_J2 hts q168 ⟨Nat.le_of_ble_eq_true rfl, Nat.le_of_ble_eq_true rfl⟩) (cg_preS C hw _) rfl rfl hl.1 rfl (lv_room (Nat.le_of_ble_eq_true rfl)) dJ2_init_1 ⟨show cc + (h1.1 - u.1) ≤ u9.1 - u.1 by omega, show ss + (h1.2.1 - u.2.1) ≤ u9.2.1 - u.2.1 by omega⟩) (fun H locs hw => ?_)
  exact hB4 h1 x0 x1 _ _ _ _ _ hm hw (by omega) (by omega) (lv_sub hl [0, 1] rfl)
def m_X0_init_196 (f : Nat) (h : CH) (y0 : Nat) (y1 : Nat) : Option CH := bd (pF h 1 14 y0 (.ref y1)) fun h1 =>
    some h1
theorem mo_X0_init_196 {f : Nat} : ∀ (h : CH) (y0 : Nat) (y1 : Nat) (r : CH), m_X0_init_196 f h y0 y1 = some r → le2 h r := by
  intro h y0 y1 r hm
  rw [m_X0_init_196] at hm
  obtain ⟨h1, eh1, hm⟩ := bdE hm
  have lh1 := pF_le eh1
  cases hm
  exact (lh1.tr le2.rf)
def m_X0_init_190 (f : Nat) (h : CH) (y0 : Nat) (y1 : Nat) : Option CH := bd (m_J2_init f h y1 (20 : Int32)) fun h1 =>
    m_X0_init_196 f h1 y0 y1
theorem mo_X0_init_190 {f : Nat} : ∀ (h : CH) (y0 : Nat) (y1 : Nat) (r : CH), m_X0_init_190 f h y0 y1 = some r → le2 h r := by
  intro h y0 y1 r hm
  rw [m_X0_init_190] at hm
  obtain ⟨h1, eh1, hm⟩ := bdE hm
  have lh1 := mo_J2_init eh1
  exact (lh1.tr (mo_X0_init_196  h1 y0 y1 _ hm))
def m_X0_init_170 (f : Nat) (h : CH) (x0 : Nat) (y0 : Nat) (y1 : Nat) (y2 : Nat) (y3 : Int32) (y4 : Nat) : Option CH := bd (uI h 0 y4 (0 : Int32) (2 : Int32)) fun h1 =>
    bd (uI h1 0 y4 (1 : Int32) (1 : Int32)) fun h2 =>
    bd (uI h2 0 y4 (2 : Int32) (0 : Int32)) fun h3 =>
    bd (aN h3 0 y4) fun n4 =>
    bd (uQ h3 5 y2 y3 (some y4)) fun h5 =>
    bd (pF h5 1 12 y0 (.ref y1)) fun h6 =>
    nmv (cn h6 3 (.inl (17, [.int 0, .null, .int 0]))) fun h7 =>
    nmv (h6.1 : Nat) fun a8 =>
    m_X0_init_190 f h7 x0 a8
theorem mo_X0_init_170 {f : Nat} : ∀ (h : CH) (x0 : Nat) (y0 : Nat) (y1 : Nat) (y2 : Nat) (y3 : Int32) (y4 : Nat) (r : CH), m_X0_init_170 f h x0 y0 y1 y2 y3 y4 = some r → le2 h r := by
  intro h x0 y0 y1 y2 y3 y4 r hm
  rw [m_X0_init_170] at hm
  obtain ⟨h1, eh1, hm⟩ := bdE hm
  have lh1 := uI_le eh1
  obtain ⟨h2, eh2, hm⟩ := bdE hm
  have lh2 := uI_le eh2
  obtain ⟨h3, eh3, hm⟩ := bdE hm
  have lh3 := uI_le eh3
  obtain ⟨n4, en4, hm⟩ := bdE hm
  obtain ⟨h5, eh5, hm⟩ := bdE hm
  have lh5 := uQ_le eh5
  obtain ⟨h6, eh6, hm⟩ := bdE hm
  have lh6 := pF_le eh6
  obtain ⟨h7, eh7, hm⟩ := nmE hm
  have lh7 := cn_le eh7
  obtain ⟨a8, ea8, hm⟩ := nmE hm
  exact (lh1.tr (lh2.tr (lh3.tr (lh5.tr (lh6.tr (lh7.tr (mo_X0_init_190  h7 x0 a8 _ hm)))))))
def m_X0_init_152 (f : Nat) (h : CH) (x0 : Nat) (y0 : Nat) (y1 : Nat) (y2 : Nat) (y3 : Int32) (y4 : Nat) : Option CH := bd (uI h 0 y4 (0 : Int32) (2 : Int32)) fun h1 =>
    bd (uI h1 0 y4 (1 : Int32) (0 : Int32)) fun h2 =>
    bd (uI h2 0 y4 (2 : Int32) (1 : Int32)) fun h3 =>
    bd (aN h3 0 y4) fun n4 =>
    bd (uQ h3 5 y2 y3 (some y4)) fun h5 =>
    nmv (cn h5 3 (.inr (0, 3, .inl (fun _ => 0)))) fun h6 =>
    nmv (h5.1 : Nat) fun a7 =>
    m_X0_init_170 f h6 x0 y0 y1 y1 (5 : Int32) a7
theorem mo_X0_init_152 {f : Nat} : ∀ (h : CH) (x0 : Nat) (y0 : Nat) (y1 : Nat) (y2 : Nat) (y3 : Int32) (y4 : Nat) (r : CH), m_X0_init_152 f h x0 y0 y1 y2 y3 y4 = some r → le2 h r := by
  intro h x0 y0 y1 y2 y3 y4 r hm
  rw [m_X0_init_152] at hm
  obtain ⟨h1, eh1, hm⟩ := bdE hm
  have lh1 := uI_le eh1
  obtain ⟨h2, eh2, hm⟩ := bdE hm
  have lh2 := uI_le eh2
  obtain ⟨h3, eh3, hm⟩ := bdE hm
  have lh3 := uI_le eh3
  obtain ⟨n4, en4, hm⟩ := bdE hm
  obtain ⟨h5, eh5, hm⟩ := bdE hm
  have lh5 := uQ_le eh5
  obtain ⟨h6, eh6, hm⟩ := nmE hm
  have lh6 := cn_le eh6
  obtain ⟨a7, ea7, hm⟩ := nmE hm
  exact (lh1.tr (lh2.tr (lh3.tr (lh5.tr (lh6.tr (mo_X0_init_170  h6 x0 y0 y1 y1 (5 : Int32) a7 _ hm))))))
def m_X0_init_134 (f : Nat) (h : CH) (x0 : Nat) (y0 : Nat) (y1 : Nat) (y2 : Nat) (y3 : Int32) (y4 : Nat) : Option CH := bd (uI h 0 y4 (0 : Int32) (1 : Int32)) fun h1 =>
    bd (uI h1 0 y4 (1 : Int32) (2 : Int32)) fun h2 =>
    bd (uI h2 0 y4 (2 : Int32) (0 : Int32)) fun h3 =>
    bd (aN h3 0 y4) fun n4 =>
    bd (uQ h3 5 y2 y3 (some y4)) fun h5 =>
    nmv (cn h5 3 (.inr (0, 3, .inl (fun _ => 0)))) fun h6 =>
    nmv (h5.1 : Nat) fun a7 =>
    m_X0_init_152 f h6 x0 y0 y1 y1 (4 : Int32) a7
theorem mo_X0_init_134 {f : Nat} : ∀ (h : CH) (x0 : Nat) (y0 : Nat) (y1 : Nat) (y2 : Nat) (y3 : Int32) (y4 : Nat) (r : CH), m_X0_init_134 f h x0 y0 y1 y2 y3 y4 = some r → le2 h r := by
  intro h x0 y0 y1 y2 y3 y4 r hm
  rw [m_X0_init_134] at hm
  obtain ⟨h1, eh1, hm⟩ := bdE hm
  have lh1 := uI_le eh1
  obtain ⟨h2, eh2, hm⟩ := bdE hm
  have lh2 := uI_le eh2
  obtain ⟨h3, eh3, hm⟩ := bdE hm
  have lh3 := uI_le eh3
  obtain ⟨n4, en4, hm⟩ := bdE hm
  obtain ⟨h5, eh5, hm⟩ := bdE hm
  have lh5 := uQ_le eh5
  obtain ⟨h6, eh6, hm⟩ := nmE hm
  have lh6 := cn_le eh6
  obtain ⟨a7, ea7, hm⟩ := nmE hm
  exact (lh1.tr (lh2.tr (lh3.tr (lh5.tr (lh6.tr (mo_X0_init_152  h6 x0 y0 y1 y1 (4 : Int32) a7 _ hm))))))
def m_X0_init_116 (f : Nat) (h : CH) (x0 : Nat) (y0 : Nat) (y1 : Nat) (y2 : Nat) (y3 : Int32) (y4 : Nat) : Option CH := bd (uI h 0 y4 (0 : Int32) (1 : Int32)) fun h1 =>
    bd (uI h1 0 y4 (1 : Int32) (0 : Int32)) fun h2 =>
    bd (uI h2 0 y4 (2 : Int32) (2 : Int32)) fun h3 =>
    bd (aN h3 0 y4) fun n4 =>
    bd (uQ h3 5 y2 y3 (some y4)) fun h5 =>
    nmv (cn h5 3 (.inr (0, 3, .inl (fun _ => 0)))) fun h6 =>
    nmv (h5.1 : Nat) fun a7 =>
    m_X0_init_134 f h6 x0 y0 y1 y1 (3 : Int32) a7
theorem mo_X0_init_116 {f : Nat} : ∀ (h : CH) (x0 : Nat) (y0 : Nat) (y1 : Nat) (y2 : Nat) (y3 : Int32) (y4 : Nat) (r : CH), m_X0_init_116 f h x0 y0 y1 y2 y3 y4 = some r → le2 h r := by
  intro h x0 y0 y1 y2 y3 y4 r hm
  rw [m_X0_init_116] at hm
  obtain ⟨h1, eh1, hm⟩ := bdE hm
  have lh1 := uI_le eh1
  obtain ⟨h2, eh2, hm⟩ := bdE hm
  have lh2 := uI_le eh2
  obtain ⟨h3, eh3, hm⟩ := bdE hm
  have lh3 := uI_le eh3
  obtain ⟨n4, en4, hm⟩ := bdE hm
  obtain ⟨h5, eh5, hm⟩ := bdE hm
  have lh5 := uQ_le eh5
  obtain ⟨h6, eh6, hm⟩ := nmE hm
  have lh6 := cn_le eh6
  obtain ⟨a7, ea7, hm⟩ := nmE hm
  exact (lh1.tr (lh2.tr (lh3.tr (lh5.tr (lh6.tr (mo_X0_init_134  h6 x0 y0 y1 y1 (3 : Int32) a7 _ hm))))))
def m_X0_init_98 (f : Nat) (h : CH) (x0 : Nat) (y0 : Nat) (y1 : Nat) (y2 : Nat) (y3 : Int32) (y4 : Nat) : Option CH := bd (uI h 0 y4 (0 : Int32) (0 : Int32)) fun h1 =>
    bd (uI h1 0 y4 (1 : Int32) (2 : Int32)) fun h2 =>
    bd (uI h2 0 y4 (2 : Int32) (1 : Int32)) fun h3 =>
    bd (aN h3 0 y4) fun n4 =>
    bd (uQ h3 5 y2 y3 (some y4)) fun h5 =>
    nmv (cn h5 3 (.inr (0, 3, .inl (fun _ => 0)))) fun h6 =>
    nmv (h5.1 : Nat) fun a7 =>
    m_X0_init_116 f h6 x0 y0 y1 y1 (2 : Int32) a7
theorem mo_X0_init_98 {f : Nat} : ∀ (h : CH) (x0 : Nat) (y0 : Nat) (y1 : Nat) (y2 : Nat) (y3 : Int32) (y4 : Nat) (r : CH), m_X0_init_98 f h x0 y0 y1 y2 y3 y4 = some r → le2 h r := by
  intro h x0 y0 y1 y2 y3 y4 r hm
  rw [m_X0_init_98] at hm
  obtain ⟨h1, eh1, hm⟩ := bdE hm
  have lh1 := uI_le eh1
  obtain ⟨h2, eh2, hm⟩ := bdE hm
  have lh2 := uI_le eh2
  obtain ⟨h3, eh3, hm⟩ := bdE hm
  have lh3 := uI_le eh3
  obtain ⟨n4, en4, hm⟩ := bdE hm
  obtain ⟨h5, eh5, hm⟩ := bdE hm
  have lh5 := uQ_le eh5
  obtain ⟨h6, eh6, hm⟩ := nmE hm
  have lh6 := cn_le eh6
  obtain ⟨a7, ea7, hm⟩ := nmE hm
  exact (lh1.tr (lh2.tr (lh3.tr (lh5.tr (lh6.tr (mo_X0_init_116  h6 x0 y0 y1 y1 (2 : Int32) a7 _ hm))))))
def m_X0_init_80 (f : Nat) (h : CH) (x0 : Nat) (y0 : Nat) (y1 : Nat) (y2 : Nat) (y3 : Int32) (y4 : Nat) : Option CH := bd (uI h 0 y4 (0 : Int32) (0 : Int32)) fun h1 =>
    bd (uI h1 0 y4 (1 : Int32) (1 : Int32)) fun h2 =>
    bd (uI h2 0 y4 (2 : Int32) (2 : Int32)) fun h3 =>
    bd (aN h3 0 y4) fun n4 =>
    bd (uQ h3 5 y2 y3 (some y4)) fun h5 =>
    nmv (cn h5 3 (.inr (0, 3, .inl (fun _ => 0)))) fun h6 =>
    nmv (h5.1 : Nat) fun a7 =>
    m_X0_init_98 f h6 x0 y0 y1 y1 (1 : Int32) a7
theorem mo_X0_init_80 {f : Nat} : ∀ (h : CH) (x0 : Nat) (y0 : Nat) (y1 : Nat) (y2 : Nat) (y3 : Int32) (y4 : Nat) (r : CH), m_X0_init_80 f h x0 y0 y1 y2 y3 y4 = some r → le2 h r := by
  intro h x0 y0 y1 y2 y3 y4 r hm
  rw [m_X0_init_80] at hm
  obtain ⟨h1, eh1, hm⟩ := bdE hm
  have lh1 := uI_le eh1
  obtain ⟨h2, eh2, hm⟩ := bdE hm
  have lh2 := uI_le eh2
  obtain ⟨h3, eh3, hm⟩ := bdE hm
  have lh3 := uI_le eh3
  obtain ⟨n4, en4, hm⟩ := bdE hm
  obtain ⟨h5, eh5, hm⟩ := bdE hm
  have lh5 := uQ_le eh5
  obtain ⟨h6, eh6, hm⟩ := nmE hm
  have lh6 := cn_le eh6
  obtain ⟨a7, ea7, hm⟩ := nmE hm
  exact (lh1.tr (lh2.tr (lh3.tr (lh5.tr (lh6.tr (mo_X0_init_98  h6 x0 y0 y1 y1 (1 : Int32) a7 _ hm))))))
def m_X0_init_75 (f : Nat) (h : CH) (x0 : Nat) (y0 : Nat) (y1 : Nat) : Option CH := nmv (cn h 3 (.inr (0, 3, .inl (fun _ => 0)))) fun h1 =>
    nmv (h.1 : Nat) fun a2 =>
    m_X0_init_80 f h1 x0 y0 y1 y1 (0 : Int32) a2
theorem mo_X0_init_75 {f : Nat} : ∀ (h : CH) (x0 : Nat) (y0 : Nat) (y1 : Nat) (r : CH), m_X0_init_75 f h x0 y0 y1 = some r → le2 h r := by
  intro h x0 y0 y1 r hm
  rw [m_X0_init_75] at hm
  obtain ⟨h1, eh1, hm⟩ := nmE hm
  have lh1 := cn_le eh1
  obtain ⟨a2, ea2, hm⟩ := nmE hm
  exact (lh1.tr (mo_X0_init_80  h1 x0 y0 y1 y1 (0 : Int32) a2 _ hm))
def m_X0_init_66 (f : Nat) (h : CH) (x0 : Nat) (y0 : Nat) (y1 : Nat) : Option CH := bd (pF h 1 9 y0 (.ref y1)) fun h1 =>
    nmv (cn h1 6 (.inr (5, 6, .inr (.inr (fun _ => none))))) fun h2 =>
    nmv (h1.1 : Nat) fun a3 =>
    m_X0_init_75 f h2 x0 x0 a3
theorem mo_X0_init_66 {f : Nat} : ∀ (h : CH) (x0 : Nat) (y0 : Nat) (y1 : Nat) (r : CH), m_X0_init_66 f h x0 y0 y1 = some r → le2 h r := by
  intro h x0 y0 y1 r hm
  rw [m_X0_init_66] at hm
  obtain ⟨h1, eh1, hm⟩ := bdE hm
  have lh1 := pF_le eh1
  obtain ⟨h2, eh2, hm⟩ := nmE hm
  have lh2 := cn_le eh2
  obtain ⟨a3, ea3, hm⟩ := nmE hm
  exact (lh1.tr (lh2.tr (mo_X0_init_75  h2 x0 x0 a3 _ hm)))
def m_X0_init_56 (f : Nat) (h : CH) (x0 : Nat) (y0 : Nat) (y1 : Nat) : Option CH := bd (pF h 1 8 y0 (.ref y1)) fun h1 =>
    nmv (cM h1 4 (.inr (1, 3, .inr (.inl (fun _ => 0))))) fun h2 =>
    nmv (h1.1 : Nat) fun a3 =>
    m_X0_init_66 f h2 x0 x0 a3
theorem mo_X0_init_56 {f : Nat} : ∀ (h : CH) (x0 : Nat) (y0 : Nat) (y1 : Nat) (r : CH), m_X0_init_56 f h x0 y0 y1 = some r → le2 h r := by
  intro h x0 y0 y1 r hm
  rw [m_X0_init_56] at hm
  obtain ⟨h1, eh1, hm⟩ := bdE hm
  have lh1 := pF_le eh1
  obtain ⟨h2, eh2, hm⟩ := nmE hm
  have lh2 := cM_le eh2
  obtain ⟨a3, ea3, hm⟩ := nmE hm
  exact (lh1.tr (lh2.tr (mo_X0_init_66  h2 x0 x0 a3 _ hm)))
def m_X0_init_46 (f : Nat) (h : CH) (x0 : Nat) (y0 : Nat) (y1 : Nat) : Option CH := bd (pF h 1 7 y0 (.ref y1)) fun h1 =>
    nmv (cM h1 5 (.inr (0, 3, .inl (fun _ => 0)))) fun h2 =>
    nmv (h1.1 : Nat) fun a3 =>
    m_X0_init_56 f h2 x0 x0 a3
theorem mo_X0_init_46 {f : Nat} : ∀ (h : CH) (x0 : Nat) (y0 : Nat) (y1 : Nat) (r : CH), m_X0_init_46 f h x0 y0 y1 = some r → le2 h r := by
  intro h x0 y0 y1 r hm
  rw [m_X0_init_46] at hm
  obtain ⟨h1, eh1, hm⟩ := bdE hm
  have lh1 := pF_le eh1
  obtain ⟨h2, eh2, hm⟩ := nmE hm
  have lh2 := cM_le eh2
  obtain ⟨a3, ea3, hm⟩ := nmE hm
  exact (lh1.tr (lh2.tr (mo_X0_init_56  h2 x0 x0 a3 _ hm)))
def m_X0_init_41 (f : Nat) (h : CH) (x0 : Nat) (y0 : Nat) (y1 : Nat) : Option CH := bd (m_X1_init f h y1 (1 : Int64)) fun h1 =>
    m_X0_init_46 f h1 x0 y0 y1
theorem mo_X0_init_41 {f : Nat} : ∀ (h : CH) (x0 : Nat) (y0 : Nat) (y1 : Nat) (r : CH), m_X0_init_41 f h x0 y0 y1 = some r → le2 h r := by
  intro h x0 y0 y1 r hm
  rw [m_X0_init_41] at hm
  obtain ⟨h1, eh1, hm⟩ := bdE hm
  have lh1 := mo_X1_init eh1
  exact (lh1.tr (mo_X0_init_46  h1 x0 y0 y1 _ hm))
def m_X0_init_34 (f : Nat) (h : CH) (x0 : Nat) (y0 : Nat) (y1 : Nat) : Option CH := bd (pF h 1 6 y0 (.ref y1)) fun h1 =>
    nmv (cn h1 3 (.inl (2, [.null, .null, .long 0]))) fun h2 =>
    nmv (h1.1 : Nat) fun a3 =>
    m_X0_init_41 f h2 x0 x0 a3
theorem mo_X0_init_34 {f : Nat} : ∀ (h : CH) (x0 : Nat) (y0 : Nat) (y1 : Nat) (r : CH), m_X0_init_34 f h x0 y0 y1 = some r → le2 h r := by
  intro h x0 y0 y1 r hm
  rw [m_X0_init_34] at hm
  obtain ⟨h1, eh1, hm⟩ := bdE hm
  have lh1 := pF_le eh1
  obtain ⟨h2, eh2, hm⟩ := nmE hm
  have lh2 := cn_le eh2
  obtain ⟨a3, ea3, hm⟩ := nmE hm
  exact (lh1.tr (lh2.tr (mo_X0_init_41  h2 x0 x0 a3 _ hm)))
def m_X0_init_22 (f : Nat) (h : CH) (x0 : Nat) (y0 : Nat) (y1 : Nat) : Option CH := bd (pF h 1 2 y0 (.ref y1)) fun h1 =>
    bd (pF h1 1 5 x0 (.int (-1 : Int32))) fun h2 =>
    nmv (cn h2 3 (.inr (0, 3, .inl (fun _ => 0)))) fun h3 =>
    nmv (h2.1 : Nat) fun a4 =>
    m_X0_init_34 f h3 x0 x0 a4
theorem mo_X0_init_22 {f : Nat} : ∀ (h : CH) (x0 : Nat) (y0 : Nat) (y1 : Nat) (r : CH), m_X0_init_22 f h x0 y0 y1 = some r → le2 h r := by
  intro h x0 y0 y1 r hm
  rw [m_X0_init_22] at hm
  obtain ⟨h1, eh1, hm⟩ := bdE hm
  have lh1 := pF_le eh1
  obtain ⟨h2, eh2, hm⟩ := bdE hm
  have lh2 := pF_le eh2
  obtain ⟨h3, eh3, hm⟩ := nmE hm
  have lh3 := cn_le eh3
  obtain ⟨a4, ea4, hm⟩ := nmE hm
  exact (lh1.tr (lh2.tr (lh3.tr (mo_X0_init_34  h3 x0 x0 a4 _ hm))))
def m_X0_init_13 (f : Nat) (h : CH) (x0 : Nat) (y0 : Nat) (y1 : Nat) : Option CH := bd (pF h 1 0 y0 (.ref y1)) fun h1 =>
    nmv (cn h1 500 (.inr (2, 500, .inl (fun _ => 0)))) fun h2 =>
    nmv (h1.1 : Nat) fun a3 =>
    m_X0_init_22 f h2 x0 x0 a3
theorem mo_X0_init_13 {f : Nat} : ∀ (h : CH) (x0 : Nat) (y0 : Nat) (y1 : Nat) (r : CH), m_X0_init_13 f h x0 y0 y1 = some r → le2 h r := by
  intro h x0 y0 y1 r hm
  rw [m_X0_init_13] at hm
  obtain ⟨h1, eh1, hm⟩ := bdE hm
  have lh1 := pF_le eh1
  obtain ⟨h2, eh2, hm⟩ := nmE hm
  have lh2 := cn_le eh2
  obtain ⟨a3, ea3, hm⟩ := nmE hm
  exact (lh1.tr (lh2.tr (mo_X0_init_22  h2 x0 x0 a3 _ hm)))
def m_X0_init_8 (f : Nat) (h : CH) (x0 : Nat) (y0 : Nat) (y1 : Nat) : Option CH := bd (m_J2_init f h y1 (5 : Int32)) fun h1 =>
    m_X0_init_13 f h1 x0 y0 y1
theorem mo_X0_init_8 {f : Nat} : ∀ (h : CH) (x0 : Nat) (y0 : Nat) (y1 : Nat) (r : CH), m_X0_init_8 f h x0 y0 y1 = some r → le2 h r := by
  intro h x0 y0 y1 r hm
  rw [m_X0_init_8] at hm
  obtain ⟨h1, eh1, hm⟩ := bdE hm
  have lh1 := mo_J2_init eh1
  exact (lh1.tr (mo_X0_init_13  h1 x0 y0 y1 _ hm))
def m_X0_init (f : Nat) (u : CH) (x0 : Nat) : Option CH := nmv (cn u 3 (.inl (17, [.int 0, .null, .int 0]))) fun h1 =>
    nmv (u.1 : Nat) fun a2 =>
    m_X0_init_8 f h1 x0 x0 a2
theorem mo_X0_init {f : Nat} {u : CH} {x0 : Nat} {u9 : CH} (hm : m_X0_init f u x0 = some u9) : le2 u u9 := by
  rw [m_X0_init] at hm
  obtain ⟨h1, eh1, hm⟩ := nmE hm
  have lh1 := cn_le eh1
  obtain ⟨a2, ea2, hm⟩ := nmE hm
  exact (lh1.tr (mo_X0_init_8  h1 x0 x0 a2 _ hm))
abbrev rm_X0_init (mc ms : Nat) : Room := { frames := 4, cells := mc, slots := ms, locals := 81 }
theorem cw_X0_init {R : Room} {s : State} {args : Array Value} {own : String} {idx mc ms : Nat} (hts : ∀ w ∈ lw_all, w.before args s = true) (hl : Cond.methodLink own idx yX0_init ∈ lw_all) (hR : 4 + 1 ≤ R.frames ∧ 8 + (1 + 11) + 81 ≤ R.locals) : CallB R s args own idx yX0_init cX0_init 1 none (ws_ yX0_init cX0_init 1 (Option.none : Option Jvm.ClassFile.FieldType)) (rm_X0_init mc ms) mc ms 0 ∧ yX0_init.name = "<init>" ∧ (Cond.instanceMethod yX0_init).before args s = true := cwI 0 hts (lw_meth q159) rfl rfl rfl (hts _ q119) (hts _ hl) (hts _ q158) rfl (by decide +kernel) hR
set_option maxHeartbeats 4000000 in
set_option maxRecDepth 100000 in
theorem w_X0_init (l : Launch) {D : va_G} {dA : Nat → ClassId} {A : Nat → Prop} {f : Nat} {u u9 : CH} {x0 : Nat} (hm : m_X0_init f u x0 = some u9) : Met l yX0_init (ws_ yX0_init cX0_init 1 (Option.none : Option Jvm.ClassFile.FieldType)) (rm_X0_init (u9.1 - u.1) (u9.2.1 - u.2.1)) (va_Pc [.ref x0] (CPre D dA A u)) (va_Qv (fun u => u = u9) (CPost D dA A) A) (u9.1 - u.1) (u9.2.1 - u.2.1) A := by
  refine Met.ofW (cc := cX0_init) (maxL := 1) (ret := (Option.none : Option Jvm.ClassFile.FieldType)) (by decide) rfl ?_
  intro p e s m args below meth c s₁ B hml hv
  have hx := B.exec
  have hb := B.bytes
  have hr := B.returns
  have hts := atoms_spec (ws := (ws_ yX0_init cX0_init 1 (Option.none : Option Jvm.ClassFile.FieldType))) B.pre
  have hts : ∀ w ∈ lw_all, w.before args s = true := fun w h => hts w (List.mem_cons_of_mem _ h)
  have hown : s.vm.findClass RX0 = some m.cls := findClass_of_methodNamed B.named
  have hlocks := B.notSynchronized
  have hin : meth.name = "<init>" := (name_of_methodNamed B.named B.method).1
  obtain ⟨hav, hv⟩ := hv
  have C : CX p s m args c cX0_init RX0 D dA := ⟨hx, hb, hown, hts, hv.2⟩
  have hw : CW D dA A s u s.heap [] := hv.1
  generalize hQ : MQ below (va_Qv (fun u => u = u9) (CPost D dA A) A) args s (u9.1 - u.1) (u9.2.1 - u.2.1) A = QQ
  have hent := lg_entry_eq m [.ref x0] 1
  rw [← hav] at hent
  rw [hent]
  have hl := lv_entry ([.ref x0]) (n := 1) (Nat.le_of_ble_eq_true rfl)
  generalize (lg_sl ([.ref x0]) ++ List.replicate (1 - (lg_sl ([.ref x0])).length) Slot.unset).toArray = ls at hl ⊢
  have hl : lv_has ls 1 [(0, .ref x0)] := hl
  obtain ⟨cc, ecc⟩ : ∃ z : Nat, z = 0 := ⟨0, rfl⟩
  obtain ⟨ss, ess⟩ : ∃ z : Nat, z = 0 := ⟨0, rfl⟩
  have hcc : cc + u.1 = u.1 := by omega
  have hss : ss + u.2.1 = u.2.1 := by omega
  suffices hgo : W p l e (rm_X0_init (u9.1 - u.1) (u9.2.1 - u.2.1)) s m args below meth c s.heap [] cc ss QQ (F0 m 0 ls []) by rw [ecc, ess] at hgo; exact hgo
  have ⟨pu, qu, _, _⟩ := mo_X0_init hm
  have hB196 : ∀ (h : CH) (y0 : Nat) (y1 : Nat) (cc ss : Nat) (H : Heap) (locs : List Loc) (ls : Array Slot), m_X0_init_196 f h y0 y1 = some u9 → CW D dA A s h H locs → cc + u.1 = h.1 → ss + u.2.1 = h.2.1 → lv_has ls 1 [] → W p l e (rm_X0_init (u9.1 - u.1) (u9.2.1 - u.2.1)) s m args below meth c H locs cc ss QQ (F0 m 196 ls [.ref y1, .ref y0]) := by
    intro h y0 y1 cc ss H locs ls hm hw hcc hss hl
    have hmo := mo_X0_init_196  h y0 y1 _ hm
    have sb_ : h.1 ≤ u9.1 := hmo.1
    have tb_ : h.2.1 ≤ u9.2.1 := hmo.2.1
    rw [m_X0_init_196] at hm
    obtain ⟨h1, eh1, hm⟩ := bdE hm
    refine cg_putF C hw eh1 rfl in_X0 tyX0 tyX0_ok nmX0 (by decide) q253 rfl hin rfl rfl rfl dX0_init_196 (fun H locs hw => ?_)
    have zh1 := pF_sz eh1
    have eh := ret1 hm
    have ec : cc = u9.1 - u.1 := by rw [← eh]; omega
    have es : ss = u9.2.1 - u.2.1 := by rw [← eh]; omega
    rw [ec, es, ← hQ]
    exact W.vret hx hb hr (fun t ht hW => ⟨⟨h1, rfl, eh, ⟨by rw [ht]; exact hw.1, by rw [ht]; exact hw.2.1⟩⟩, hw.2.2.1.F ht⟩) hw.2.2.1.2.2 dX0_init_199
  have hB190 : ∀ (h : CH) (y0 : Nat) (y1 : Nat) (cc ss : Nat) (H : Heap) (locs : List Loc) (ls : Array Slot), m_X0_init_190 f h y0 y1 = some u9 → CW D dA A s h H locs → cc + u.1 = h.1 → ss + u.2.1 = h.2.1 → lv_has ls 1 [] → W p l e (rm_X0_init (u9.1 - u.1) (u9.2.1 - u.2.1)) s m args below meth c H locs cc ss QQ (F0 m 190 ls [.ref y1, .ref y0]) := by
    intro h y0 y1 cc ss H locs ls hm hw hcc hss hl
    have hmo := mo_X0_init_190  h y0 y1 _ hm
    have sb_ : h.1 ≤ u9.1 := hmo.1
    have tb_ : h.2.1 ≤ u9.2.1 := hmo.2.1
    rw [m_X0_init_190] at hm
    refine lv_dup hx hb dX0_init_190 rfl ?_
    refine lv_bipush (v := 20) hx hb dX0_init_191 (by decide) ?_
    obtain ⟨h1, eh1, hm⟩ := bdE hm
    have lh1 := mo_J2_init eh1
    have ph1 : h.1 ≤ h1.1 := lh1.1
    have qh1 : h.2.1 ≤ h1.2.1 := lh1.2.1
    have hmo := mo_X0_init_196   h1 y0 y1 _ hm
    have sh1 : h1.1 ≤ u9.1 := hmo.1
    have th1 : h1.2.1 ≤ u9.2.1 := hmo.2.1
    refine cg_callv hw lh1 (va_runI (As := [.int (20 : Int32)]) (rest := [.ref y1, .ref y0]) ⟨hx, hb, hml, hown, hts⟩ (w_J2_init l eh1) (cw_J2_init hts q165 ⟨Nat.le_of_ble_eq_true rfl, Nat.le_of_ble_eq_true rfl⟩) (cg_preS C hw _) rfl rfl hl.1 rfl (lv_room (Nat.le_of_ble_eq_true rfl)) dX0_init_193 ⟨show cc + (h1.1 - h.1) ≤ u9.1 - u.1 by omega, show ss + (h1.2.1 - h.2.1) ≤ u9.2.1 - u.2.1 by omega⟩) (fun H locs hw => ?_)
    exact hB196 h1 y0 y1 _ _ _ _ _ hm hw (by omega) (by omega) (lv_sub hl [] rfl)
  have hB170 : ∀ (h : CH) (x0 : Nat) (y0 : Nat) (y1 : Nat) (y2 : Nat) (y3 : Int32) (y4 : Nat) (cc ss : Nat) (H : Heap) (locs : List Loc) (ls : Array Slot), m_X0_init_170 f h x0 y0 y1 y2 y3 y4 = some u9 → CW D dA A s h H locs → cc + u.1 = h.1 → ss + u.2.1 = h.2.1 → lv_has ls 1 [(0, .ref x0)] → W p l e (rm_X0_init (u9.1 - u.1) (u9.2.1 - u.2.1)) s m args below meth c H locs cc ss QQ (F0 m 170 ls [.ref y4, .int y3, .ref y2, .ref y1, .ref y0]) := by
    intro h x0 y0 y1 y2 y3 y4 cc ss H locs ls hm hw hcc hss hl
    have hmo := mo_X0_init_170  h x0 y0 y1 y2 y3 y4 _ hm
    have sb_ : h.1 ≤ u9.1 := hmo.1
    have tb_ : h.2.1 ≤ u9.2.1 := hmo.2.1
    rw [m_X0_init_170] at hm
    refine lv_dup hx hb dX0_init_170 rfl ?_
    refine lv_iconst (v := 0) hx hb dX0_init_171 (by decide) ?_
    refine lv_iconst (v := 2) hx hb dX0_init_172 (by decide) ?_
    obtain ⟨h1, eh1, hm⟩ := bdE hm
    refine cg_iast C hw eh1 dX0_init_173 (fun H locs hw => ?_)
    have zh1 := uI_sz eh1
    refine lv_dup hx hb dX0_init_174 rfl ?_
    refine lv_iconst (v := 1) hx hb dX0_init_175 (by decide) ?_
    refine lv_iconst (v := 1) hx hb dX0_init_176 (by decide) ?_
    obtain ⟨h2, eh2, hm⟩ := bdE hm
    refine cg_iast C hw eh2 dX0_init_177 (fun H locs hw => ?_)
    have zh2 := uI_sz eh2
    refine lv_dup hx hb dX0_init_178 rfl ?_
    refine lv_iconst (v := 2) hx hb dX0_init_179 (by decide) ?_
    refine lv_iconst (v := 0) hx hb dX0_init_180 (by decide) ?_
    obtain ⟨h3, eh3, hm⟩ := bdE hm
    refine cg_iast C hw eh3 dX0_init_181 (fun H locs hw => ?_)
    have zh3 := uI_sz eh3
    obtain ⟨n4, en4, hm⟩ := bdE hm
    obtain ⟨h5, eh5, hm⟩ := bdE hm
    refine cg_aastA C hw en4 eh5 (hw.2.2.2.2.1 _ (List.mem_of_getElem? (i := 93) rfl)) dX0_init_182 (fun H locs hw => ?_)
    have zh5 := uQ_sz eh5
    obtain ⟨h6, eh6, hm⟩ := bdE hm
    refine cg_putF C hw eh6 rfl in_X0 tyX0 tyX0_ok nmX0 (by decide) q251 rfl hin rfl rfl rfl dX0_init_183 (fun H locs hw => ?_)
    have zh6 := pF_sz eh6
    refine lv_aload_n hx hb dX0_init_186 rfl (lv_at hl 0 rfl) ?_
    obtain ⟨h7, eh7, hm⟩ := nmE hm
    obtain ⟨_, _, hmq⟩ := nmE hm
    have hmo := mo_X0_init_190   h7 x0 _ _ hmq
    have sh7 : h7.1 ≤ u9.1 := hmo.1
    have th7 : h7.2.1 ≤ u9.2.1 := hmo.2.1
    have zh7 := cn_sz eh7
    refine cg_new (C0 := C) hw (ci := 17) (fs := [.int 0, .null, .int 0]) rfl in_J2 tyJ2 tyJ2_ok q163 q164 q122 (fun j hj => by rcases (show j = 0 ∨ j = 1 ∨ j = 2 by omega) with rfl | rfl | rfl <;> rfl) (show cc + 1 ≤ u9.1 - u.1 by omega) (show ss + 3 ≤ u9.2.1 - u.2.1 by omega) dX0_init_187 (fun H hw => ?_)
    rw [← eh7] at hw
    refine lv_topr (fun a8 ea8 => ?_)
    have hm := nmK hm ea8
    exact hB190 h7 x0 a8 _ _ _ _ _ hm hw (by omega) (by omega) (lv_sub hl [] rfl)
  have hB152 : ∀ (h : CH) (x0 : Nat) (y0 : Nat) (y1 : Nat) (y2 : Nat) (y3 : Int32) (y4 : Nat) (cc ss : Nat) (H : Heap) (locs : List Loc) (ls : Array Slot), m_X0_init_152 f h x0 y0 y1 y2 y3 y4 = some u9 → CW D dA A s h H locs → cc + u.1 = h.1 → ss + u.2.1 = h.2.1 → lv_has ls 1 [(0, .ref x0)] → W p l e (rm_X0_init (u9.1 - u.1) (u9.2.1 - u.2.1)) s m args below meth c H locs cc ss QQ (F0 m 152 ls [.ref y4, .int y3, .ref y2, .ref y1, .ref y0]) := by
    intro h x0 y0 y1 y2 y3 y4 cc ss H locs ls hm hw hcc hss hl
    have hmo := mo_X0_init_152  h x0 y0 y1 y2 y3 y4 _ hm
    have sb_ : h.1 ≤ u9.1 := hmo.1
    have tb_ : h.2.1 ≤ u9.2.1 := hmo.2.1
    rw [m_X0_init_152] at hm
    refine lv_dup hx hb dX0_init_152 rfl ?_
    refine lv_iconst (v := 0) hx hb dX0_init_153 (by decide) ?_
    refine lv_iconst (v := 2) hx hb dX0_init_154 (by decide) ?_
    obtain ⟨h1, eh1, hm⟩ := bdE hm
    refine cg_iast C hw eh1 dX0_init_155 (fun H locs hw => ?_)
    have zh1 := uI_sz eh1
    refine lv_dup hx hb dX0_init_156 rfl ?_
    refine lv_iconst (v := 1) hx hb dX0_init_157 (by decide) ?_
    refine lv_iconst (v := 0) hx hb dX0_init_158 (by decide) ?_
    obtain ⟨h2, eh2, hm⟩ := bdE hm
    refine cg_iast C hw eh2 dX0_init_159 (fun H locs hw => ?_)
    have zh2 := uI_sz eh2
    refine lv_dup hx hb dX0_init_160 rfl ?_
    refine lv_iconst (v := 2) hx hb dX0_init_161 (by decide) ?_
    refine lv_iconst (v := 1) hx hb dX0_init_162 (by decide) ?_
    obtain ⟨h3, eh3, hm⟩ := bdE hm
    refine cg_iast C hw eh3 dX0_init_163 (fun H locs hw => ?_)
    have zh3 := uI_sz eh3
    obtain ⟨n4, en4, hm⟩ := bdE hm
    obtain ⟨h5, eh5, hm⟩ := bdE hm
    refine cg_aastA C hw en4 eh5 (hw.2.2.2.2.1 _ (List.mem_of_getElem? (i := 93) rfl)) dX0_init_164 (fun H locs hw => ?_)
    have zh5 := uQ_sz eh5
    refine lv_dup hx hb dX0_init_165 rfl ?_
    refine lv_iconst (v := 5) hx hb dX0_init_166 (by decide) ?_
    refine lv_iconst (v := 3) hx hb dX0_init_167 (by decide) ?_
    obtain ⟨h6, eh6, hm⟩ := nmE hm
    obtain ⟨_, _, hmq⟩ := nmE hm
    have hmo := mo_X0_init_170   h6 x0 y0 y1 y1 (5 : Int32) _ _ hmq
    have sh6 : h6.1 ≤ u9.1 := hmo.1
    have th6 : h6.2.1 ≤ u9.2.1 := hmo.2.1
    have zh6 := cn_sz eh6
    refine cg_newI (C0 := C) hw (N := 3) (by decide) (by decide) (by decide) (show cc + 1 ≤ u9.1 - u.1 by omega) (show ss + 3 ≤ u9.2.1 - u.2.1 by omega) dX0_init_168 (fun H hw => ?_)
    rw [← eh6] at hw
    refine lv_topr (fun a7 ea7 => ?_)
    have hm := nmK hm ea7
    exact hB170 h6 x0 y0 y1 y1 (5 : Int32) a7 _ _ _ _ _ hm hw (by omega) (by omega) (lv_sub hl [0] rfl)
  have hB134 : ∀ (h : CH) (x0 : Nat) (y0 : Nat) (y1 : Nat) (y2 : Nat) (y3 : Int32) (y4 : Nat) (cc ss : Nat) (H : Heap) (locs : List Loc) (ls : Array Slot), m_X0_init_134 f h x0 y0 y1 y2 y3 y4 = some u9 → CW D dA A s h H locs → cc + u.1 = h.1 → ss + u.2.1 = h.2.1 → lv_has ls 1 [(0, .ref x0)] → W p l e (rm_X0_init (u9.1 - u.1) (u9.2.1 - u.2.1)) s m args below meth c H locs cc ss QQ (F0 m 134 ls [.ref y4, .int y3, .ref y2, .ref y1, .ref y0]) := by
    intro h x0 y0 y1 y2 y3 y4 cc ss H locs ls hm hw hcc hss hl
    have hmo := mo_X0_init_134  h x0 y0 y1 y2 y3 y4 _ hm
    have sb_ : h.1 ≤ u9.1 := hmo.1
    have tb_ : h.2.1 ≤ u9.2.1 := hmo.2.1
    rw [m_X0_init_134] at hm
    refine lv_dup hx hb dX0_init_134 rfl ?_
    refine lv_iconst (v := 0) hx hb dX0_init_135 (by decide) ?_
    refine lv_iconst (v := 1) hx hb dX0_init_136 (by decide) ?_
    obtain ⟨h1, eh1, hm⟩ := bdE hm
    refine cg_iast C hw eh1 dX0_init_137 (fun H locs hw => ?_)
    have zh1 := uI_sz eh1
    refine lv_dup hx hb dX0_init_138 rfl ?_
    refine lv_iconst (v := 1) hx hb dX0_init_139 (by decide) ?_
    refine lv_iconst (v := 2) hx hb dX0_init_140 (by decide) ?_
    obtain ⟨h2, eh2, hm⟩ := bdE hm
    refine cg_iast C hw eh2 dX0_init_141 (fun H locs hw => ?_)
    have zh2 := uI_sz eh2
    refine lv_dup hx hb dX0_init_142 rfl ?_
    refine lv_iconst (v := 2) hx hb dX0_init_143 (by decide) ?_
    refine lv_iconst (v := 0) hx hb dX0_init_144 (by decide) ?_
    obtain ⟨h3, eh3, hm⟩ := bdE hm
    refine cg_iast C hw eh3 dX0_init_145 (fun H locs hw => ?_)
    have zh3 := uI_sz eh3
    obtain ⟨n4, en4, hm⟩ := bdE hm
    obtain ⟨h5, eh5, hm⟩ := bdE hm
    refine cg_aastA C hw en4 eh5 (hw.2.2.2.2.1 _ (List.mem_of_getElem? (i := 93) rfl)) dX0_init_146 (fun H locs hw => ?_)
    have zh5 := uQ_sz eh5
    refine lv_dup hx hb dX0_init_147 rfl ?_
    refine lv_iconst (v := 4) hx hb dX0_init_148 (by decide) ?_
    refine lv_iconst (v := 3) hx hb dX0_init_149 (by decide) ?_
    obtain ⟨h6, eh6, hm⟩ := nmE hm
    obtain ⟨_, _, hmq⟩ := nmE hm
    have hmo := mo_X0_init_152   h6 x0 y0 y1 y1 (4 : Int32) _ _ hmq
    have sh6 : h6.1 ≤ u9.1 := hmo.1
    have th6 : h6.2.1 ≤ u9.2.1 := hmo.2.1
    have zh6 := cn_sz eh6
    refine cg_newI (C0 := C) hw (N := 3) (by decide) (by decide) (by decide) (show cc + 1 ≤ u9.1 - u.1 by omega) (show ss + 3 ≤ u9.2.1 - u.2.1 by omega) dX0_init_150 (fun H hw => ?_)
    rw [← eh6] at hw
    refine lv_topr (fun a7 ea7 => ?_)
    have hm := nmK hm ea7
    exact hB152 h6 x0 y0 y1 y1 (4 : Int32) a7 _ _ _ _ _ hm hw (by omega) (by omega) (lv_sub hl [0] rfl)
  have hB116 : ∀ (h : CH) (x0 : Nat) (y0 : Nat) (y1 : Nat) (y2 : Nat) (y3 : Int32) (y4 : Nat) (cc ss : Nat) (H : Heap) (locs : List Loc) (ls : Array Slot), m_X0_init_116 f h x0 y0 y1 y2 y3 y4 = some u9 → CW D dA A s h H locs → cc + u.1 = h.1 → ss + u.2.1 = h.2.1 → lv_has ls 1 [(0, .ref x0)] → W p l e (rm_X0_init (u9.1 - u.1) (u9.2.1 - u.2.1)) s m args below meth c H locs cc ss QQ (F0 m 116 ls [.ref y4, .int y3, .ref y2, .ref y1, .ref y0]) := by
    intro h x0 y0 y1 y2 y3 y4 cc ss H locs ls hm hw hcc hss hl
    have hmo := mo_X0_init_116  h x0 y0 y1 y2 y3 y4 _ hm
    have sb_ : h.1 ≤ u9.1 := hmo.1
    have tb_ : h.2.1 ≤ u9.2.1 := hmo.2.1
    rw [m_X0_init_116] at hm
    refine lv_dup hx hb dX0_init_116 rfl ?_
    refine lv_iconst (v := 0) hx hb dX0_init_117 (by decide) ?_
    refine lv_iconst (v := 1) hx hb dX0_init_118 (by decide) ?_
    obtain ⟨h1, eh1, hm⟩ := bdE hm
    refine cg_iast C hw eh1 dX0_init_119 (fun H locs hw => ?_)
    have zh1 := uI_sz eh1
    refine lv_dup hx hb dX0_init_120 rfl ?_
    refine lv_iconst (v := 1) hx hb dX0_init_121 (by decide) ?_
    refine lv_iconst (v := 0) hx hb dX0_init_122 (by decide) ?_
    obtain ⟨h2, eh2, hm⟩ := bdE hm
    refine cg_iast C hw eh2 dX0_init_123 (fun H locs hw => ?_)
    have zh2 := uI_sz eh2
    refine lv_dup hx hb dX0_init_124 rfl ?_
    refine lv_iconst (v := 2) hx hb dX0_init_125 (by decide) ?_
    refine lv_iconst (v := 2) hx hb dX0_init_126 (by decide) ?_
    obtain ⟨h3, eh3, hm⟩ := bdE hm
    refine cg_iast C hw eh3 dX0_init_127 (fun H locs hw => ?_)
    have zh3 := uI_sz eh3
    obtain ⟨n4, en4, hm⟩ := bdE hm
    obtain ⟨h5, eh5, hm⟩ := bdE hm
    refine cg_aastA C hw en4 eh5 (hw.2.2.2.2.1 _ (List.mem_of_getElem? (i := 93) rfl)) dX0_init_128 (fun H locs hw => ?_)
    have zh5 := uQ_sz eh5
    refine lv_dup hx hb dX0_init_129 rfl ?_
    refine lv_iconst (v := 3) hx hb dX0_init_130 (by decide) ?_
    refine lv_iconst (v := 3) hx hb dX0_init_131 (by decide) ?_
    obtain ⟨h6, eh6, hm⟩ := nmE hm
    obtain ⟨_, _, hmq⟩ := nmE hm
    have hmo := mo_X0_init_134   h6 x0 y0 y1 y1 (3 : Int32) _ _ hmq
    have sh6 : h6.1 ≤ u9.1 := hmo.1
    have th6 : h6.2.1 ≤ u9.2.1 := hmo.2.1
    have zh6 := cn_sz eh6
    refine cg_newI (C0 := C) hw (N := 3) (by decide) (by decide) (by decide) (show cc + 1 ≤ u9.1 - u.1 by omega) (show ss + 3 ≤ u9.2.1 - u.2.1 by omega) dX0_init_132 (fun H hw => ?_)
    rw [← eh6] at hw
    refine lv_topr (fun a7 ea7 => ?_)
    have hm := nmK hm ea7
    exact hB134 h6 x0 y0 y1 y1 (3 : Int32) a7 _ _ _ _ _ hm hw (by omega) (by omega) (lv_sub hl [0] rfl)
  have hB98 : ∀ (h : CH) (x0 : Nat) (y0 : Nat) (y1 : Nat) (y2 : Nat) (y3 : Int32) (y4 : Nat) (cc ss : Nat) (H : Heap) (locs : List Loc) (ls : Array Slot), m_X0_init_98 f h x0 y0 y1 y2 y3 y4 = some u9 → CW D dA A s h H locs → cc + u.1 = h.1 → ss + u.2.1 = h.2.1 → lv_has ls 1 [(0, .ref x0)] → W p l e (rm_X0_init (u9.1 - u.1) (u9.2.1 - u.2.1)) s m args below meth c H locs cc ss QQ (F0 m 98 ls [.ref y4, .int y3, .ref y2, .ref y1, .ref y0]) := by
    intro h x0 y0 y1 y2 y3 y4 cc ss H locs ls hm hw hcc hss hl
    have hmo := mo_X0_init_98  h x0 y0 y1 y2 y3 y4 _ hm
    have sb_ : h.1 ≤ u9.1 := hmo.1
    have tb_ : h.2.1 ≤ u9.2.1 := hmo.2.1
    rw [m_X0_init_98] at hm
    refine lv_dup hx hb dX0_init_98 rfl ?_
    refine lv_iconst (v := 0) hx hb dX0_init_99 (by decide) ?_
    refine lv_iconst (v := 0) hx hb dX0_init_100 (by decide) ?_
    obtain ⟨h1, eh1, hm⟩ := bdE hm
    refine cg_iast C hw eh1 dX0_init_101 (fun H locs hw => ?_)
    have zh1 := uI_sz eh1
    refine lv_dup hx hb dX0_init_102 rfl ?_
    refine lv_iconst (v := 1) hx hb dX0_init_103 (by decide) ?_
    refine lv_iconst (v := 2) hx hb dX0_init_104 (by decide) ?_
    obtain ⟨h2, eh2, hm⟩ := bdE hm
    refine cg_iast C hw eh2 dX0_init_105 (fun H locs hw => ?_)
    have zh2 := uI_sz eh2
    refine lv_dup hx hb dX0_init_106 rfl ?_
    refine lv_iconst (v := 2) hx hb dX0_init_107 (by decide) ?_
    refine lv_iconst (v := 1) hx hb dX0_init_108 (by decide) ?_
    obtain ⟨h3, eh3, hm⟩ := bdE hm
    refine cg_iast C hw eh3 dX0_init_109 (fun H locs hw => ?_)
    have zh3 := uI_sz eh3
    obtain ⟨n4, en4, hm⟩ := bdE hm
    obtain ⟨h5, eh5, hm⟩ := bdE hm
    refine cg_aastA C hw en4 eh5 (hw.2.2.2.2.1 _ (List.mem_of_getElem? (i := 93) rfl)) dX0_init_110 (fun H locs hw => ?_)
    have zh5 := uQ_sz eh5
    refine lv_dup hx hb dX0_init_111 rfl ?_
    refine lv_iconst (v := 2) hx hb dX0_init_112 (by decide) ?_
    refine lv_iconst (v := 3) hx hb dX0_init_113 (by decide) ?_
    obtain ⟨h6, eh6, hm⟩ := nmE hm
    obtain ⟨_, _, hmq⟩ := nmE hm
    have hmo := mo_X0_init_116   h6 x0 y0 y1 y1 (2 : Int32) _ _ hmq
    have sh6 : h6.1 ≤ u9.1 := hmo.1
    have th6 : h6.2.1 ≤ u9.2.1 := hmo.2.1
    have zh6 := cn_sz eh6
    refine cg_newI (C0 := C) hw (N := 3) (by decide) (by decide) (by decide) (show cc + 1 ≤ u9.1 - u.1 by omega) (show ss + 3 ≤ u9.2.1 - u.2.1 by omega) dX0_init_114 (fun H hw => ?_)
    rw [← eh6] at hw
    refine lv_topr (fun a7 ea7 => ?_)
    have hm := nmK hm ea7
    exact hB116 h6 x0 y0 y1 y1 (2 : Int32) a7 _ _ _ _ _ hm hw (by omega) (by omega) (lv_sub hl [0] rfl)
  have hB80 : ∀ (h : CH) (x0 : Nat) (y0 : Nat) (y1 : Nat) (y2 : Nat) (y3 : Int32) (y4 : Nat) (cc ss : Nat) (H : Heap) (locs : List Loc) (ls : Array Slot), m_X0_init_80 f h x0 y0 y1 y2 y3 y4 = some u9 → CW D dA A s h H locs → cc + u.1 = h.1 → ss + u.2.1 = h.2.1 → lv_has ls 1 [(0, .ref x0)] → W p l e (rm_X0_init (u9.1 - u.1) (u9.2.1 - u.2.1)) s m args below meth c H locs cc ss QQ (F0 m 80 ls [.ref y4, .int y3, .ref y2, .ref y1, .ref y0]) := by
    intro h x0 y0 y1 y2 y3 y4 cc ss H locs ls hm hw hcc hss hl
    have hmo := mo_X0_init_80  h x0 y0 y1 y2 y3 y4 _ hm
    have sb_ : h.1 ≤ u9.1 := hmo.1
    have tb_ : h.2.1 ≤ u9.2.1 := hmo.2.1
    rw [m_X0_init_80] at hm
    refine lv_dup hx hb dX0_init_80 rfl ?_
    refine lv_iconst (v := 0) hx hb dX0_init_81 (by decide) ?_
    refine lv_iconst (v := 0) hx hb dX0_init_82 (by decide) ?_
    obtain ⟨h1, eh1, hm⟩ := bdE hm
    refine cg_iast C hw eh1 dX0_init_83 (fun H locs hw => ?_)
    have zh1 := uI_sz eh1
    refine lv_dup hx hb dX0_init_84 rfl ?_
    refine lv_iconst (v := 1) hx hb dX0_init_85 (by decide) ?_
    refine lv_iconst (v := 1) hx hb dX0_init_86 (by decide) ?_
    obtain ⟨h2, eh2, hm⟩ := bdE hm
    refine cg_iast C hw eh2 dX0_init_87 (fun H locs hw => ?_)
    have zh2 := uI_sz eh2
    refine lv_dup hx hb dX0_init_88 rfl ?_
    refine lv_iconst (v := 2) hx hb dX0_init_89 (by decide) ?_
    refine lv_iconst (v := 2) hx hb dX0_init_90 (by decide) ?_
    obtain ⟨h3, eh3, hm⟩ := bdE hm
    refine cg_iast C hw eh3 dX0_init_91 (fun H locs hw => ?_)
    have zh3 := uI_sz eh3
    obtain ⟨n4, en4, hm⟩ := bdE hm
    obtain ⟨h5, eh5, hm⟩ := bdE hm
    refine cg_aastA C hw en4 eh5 (hw.2.2.2.2.1 _ (List.mem_of_getElem? (i := 93) rfl)) dX0_init_92 (fun H locs hw => ?_)
    have zh5 := uQ_sz eh5
    refine lv_dup hx hb dX0_init_93 rfl ?_
    refine lv_iconst (v := 1) hx hb dX0_init_94 (by decide) ?_
    refine lv_iconst (v := 3) hx hb dX0_init_95 (by decide) ?_
    obtain ⟨h6, eh6, hm⟩ := nmE hm
    obtain ⟨_, _, hmq⟩ := nmE hm
    have hmo := mo_X0_init_98   h6 x0 y0 y1 y1 (1 : Int32) _ _ hmq
    have sh6 : h6.1 ≤ u9.1 := hmo.1
    have th6 : h6.2.1 ≤ u9.2.1 := hmo.2.1
    have zh6 := cn_sz eh6
    refine cg_newI (C0 := C) hw (N := 3) (by decide) (by decide) (by decide) (show cc + 1 ≤ u9.1 - u.1 by omega) (show ss + 3 ≤ u9.2.1 - u.2.1 by omega) dX0_init_96 (fun H hw => ?_)
    rw [← eh6] at hw
    refine lv_topr (fun a7 ea7 => ?_)
    have hm := nmK hm ea7
    exact hB98 h6 x0 y0 y1 y1 (1 : Int32) a7 _ _ _ _ _ hm hw (by omega) (by omega) (lv_sub hl [0] rfl)
  have hB75 : ∀ (h : CH) (x0 : Nat) (y0 : Nat) (y1 : Nat) (cc ss : Nat) (H : Heap) (locs : List Loc) (ls : Array Slot), m_X0_init_75 f h x0 y0 y1 = some u9 → CW D dA A s h H locs → cc + u.1 = h.1 → ss + u.2.1 = h.2.1 → lv_has ls 1 [(0, .ref x0)] → W p l e (rm_X0_init (u9.1 - u.1) (u9.2.1 - u.2.1)) s m args below meth c H locs cc ss QQ (F0 m 75 ls [.ref y1, .ref y0]) := by
    intro h x0 y0 y1 cc ss H locs ls hm hw hcc hss hl
    have hmo := mo_X0_init_75  h x0 y0 y1 _ hm
    have sb_ : h.1 ≤ u9.1 := hmo.1
    have tb_ : h.2.1 ≤ u9.2.1 := hmo.2.1
    rw [m_X0_init_75] at hm
    refine lv_dup hx hb dX0_init_75 rfl ?_
    refine lv_iconst (v := 0) hx hb dX0_init_76 (by decide) ?_
    refine lv_iconst (v := 3) hx hb dX0_init_77 (by decide) ?_
    obtain ⟨h1, eh1, hm⟩ := nmE hm
    obtain ⟨_, _, hmq⟩ := nmE hm
    have hmo := mo_X0_init_80   h1 x0 y0 y1 y1 (0 : Int32) _ _ hmq
    have sh1 : h1.1 ≤ u9.1 := hmo.1
    have th1 : h1.2.1 ≤ u9.2.1 := hmo.2.1
    have zh1 := cn_sz eh1
    refine cg_newI (C0 := C) hw (N := 3) (by decide) (by decide) (by decide) (show cc + 1 ≤ u9.1 - u.1 by omega) (show ss + 3 ≤ u9.2.1 - u.2.1 by omega) dX0_init_78 (fun H hw => ?_)
    rw [← eh1] at hw
    refine lv_topr (fun a2 ea2 => ?_)
    have hm := nmK hm ea2
    exact hB80 h1 x0 y0 y1 y1 (0 : Int32) a2 _ _ _ _ _ hm hw (by omega) (by omega) (lv_sub hl [0] rfl)
  have hB66 : ∀ (h : CH) (x0 : Nat) (y0 : Nat) (y1 : Nat) (cc ss : Nat) (H : Heap) (locs : List Loc) (ls : Array Slot), m_X0_init_66 f h x0 y0 y1 = some u9 → CW D dA A s h H locs → cc + u.1 = h.1 → ss + u.2.1 = h.2.1 → lv_has ls 1 [(0, .ref x0)] → W p l e (rm_X0_init (u9.1 - u.1) (u9.2.1 - u.2.1)) s m args below meth c H locs cc ss QQ (F0 m 66 ls [.ref y1, .ref y0]) := by
    intro h x0 y0 y1 cc ss H locs ls hm hw hcc hss hl
    have hmo := mo_X0_init_66  h x0 y0 y1 _ hm
    have sb_ : h.1 ≤ u9.1 := hmo.1
    have tb_ : h.2.1 ≤ u9.2.1 := hmo.2.1
    rw [m_X0_init_66] at hm
    obtain ⟨h1, eh1, hm⟩ := bdE hm
    refine cg_putF C hw eh1 rfl in_X0 tyX0 tyX0_ok nmX0 (by decide) q248 rfl hin rfl rfl rfl dX0_init_66 (fun H locs hw => ?_)
    have zh1 := pF_sz eh1
    refine lv_aload_n hx hb dX0_init_69 rfl (lv_at hl 0 rfl) ?_
    refine lv_bipush (v := 6) hx hb dX0_init_70 (by decide) ?_
    obtain ⟨h2, eh2, hm⟩ := nmE hm
    obtain ⟨_, _, hmq⟩ := nmE hm
    have hmo := mo_X0_init_75   h2 x0 x0 _ _ hmq
    have sh2 : h2.1 ≤ u9.1 := hmo.1
    have th2 : h2.2.1 ≤ u9.2.1 := hmo.2.1
    have zh2 := cn_sz eh2
    refine cg_anewA (C0 := C) hw (N := 6) q236 (hw.2.2.2.2.1 _ (List.mem_of_getElem? (i := 93) rfl)) (by decide) (by decide) (by decide) (show cc + 1 ≤ u9.1 - u.1 by omega) (show ss + 6 ≤ u9.2.1 - u.2.1 by omega) dX0_init_72 (fun H hw => ?_)
    rw [← eh2] at hw
    refine lv_topr (fun a3 ea3 => ?_)
    have hm := nmK hm ea3
    exact hB75 h2 x0 x0 a3 _ _ _ _ _ hm hw (by omega) (by omega) (lv_sub hl [0] rfl)
  have hB56 : ∀ (h : CH) (x0 : Nat) (y0 : Nat) (y1 : Nat) (cc ss : Nat) (H : Heap) (locs : List Loc) (ls : Array Slot), m_X0_init_56 f h x0 y0 y1 = some u9 → CW D dA A s h H locs → cc + u.1 = h.1 → ss + u.2.1 = h.2.1 → lv_has ls 1 [(0, .ref x0)] → W p l e (rm_X0_init (u9.1 - u.1) (u9.2.1 - u.2.1)) s m args below meth c H locs cc ss QQ (F0 m 56 ls [.ref y1, .ref y0]) := by
    intro h x0 y0 y1 cc ss H locs ls hm hw hcc hss hl
    have hmo := mo_X0_init_56  h x0 y0 y1 _ hm
    have sb_ : h.1 ≤ u9.1 := hmo.1
    have tb_ : h.2.1 ≤ u9.2.1 := hmo.2.1
    rw [m_X0_init_56] at hm
    obtain ⟨h1, eh1, hm⟩ := bdE hm
    refine cg_putF C hw eh1 rfl in_X0 tyX0 tyX0_ok nmX0 (by decide) q247 rfl hin rfl rfl rfl dX0_init_56 (fun H locs hw => ?_)
    have zh1 := pF_sz eh1
    refine lv_aload_n hx hb dX0_init_59 rfl (lv_at hl 0 rfl) ?_
    refine lv_iconst (v := 3) hx hb dX0_init_60 (by decide) ?_
    refine lv_iconst (v := 3) hx hb dX0_init_61 (by decide) ?_
    obtain ⟨h2, eh2, hm⟩ := nmE hm
    obtain ⟨_, _, hmq⟩ := nmE hm
    have hmo := mo_X0_init_66   h2 x0 x0 _ _ hmq
    have sh2 : h2.1 ≤ u9.1 := hmo.1
    have th2 : h2.2.1 ≤ u9.2.1 := hmo.2.1
    have zh2 := cM_sz eh2
    refine cg_multi C hw (to_ := 4) (ti := 1) (ty := .long) (inner := (.inr (1, 3, .inr (.inl (fun _ => 0))))) q235 (hw.2.2.2.2.1 _ (List.mem_of_getElem? (i := 92) rfl)) q217 rfl rfl rfl rfl rfl (by decide) rfl rfl rfl (fun _ _ h => h) (show cc + 4 ≤ u9.1 - u.1 by omega) (show ss + 12 ≤ u9.2.1 - u.2.1 by omega) dX0_init_62 (fun H hw => ?_)
    rw [← eh2] at hw
    refine lv_topr (fun a3 ea3 => ?_)
    have hm := nmK hm ea3
    exact hB66 h2 x0 x0 a3 _ _ _ _ _ hm hw (by omega) (by omega) (lv_sub hl [0] rfl)
  have hB46 : ∀ (h : CH) (x0 : Nat) (y0 : Nat) (y1 : Nat) (cc ss : Nat) (H : Heap) (locs : List Loc) (ls : Array Slot), m_X0_init_46 f h x0 y0 y1 = some u9 → CW D dA A s h H locs → cc + u.1 = h.1 → ss + u.2.1 = h.2.1 → lv_has ls 1 [(0, .ref x0)] → W p l e (rm_X0_init (u9.1 - u.1) (u9.2.1 - u.2.1)) s m args below meth c H locs cc ss QQ (F0 m 46 ls [.ref y1, .ref y0]) := by
    intro h x0 y0 y1 cc ss H locs ls hm hw hcc hss hl
    have hmo := mo_X0_init_46  h x0 y0 y1 _ hm
    have sb_ : h.1 ≤ u9.1 := hmo.1
    have tb_ : h.2.1 ≤ u9.2.1 := hmo.2.1
    rw [m_X0_init_46] at hm
    obtain ⟨h1, eh1, hm⟩ := bdE hm
    refine cg_putF C hw eh1 rfl in_X0 tyX0 tyX0_ok nmX0 (by decide) q246 rfl hin rfl rfl rfl dX0_init_46 (fun H locs hw => ?_)
    have zh1 := pF_sz eh1
    refine lv_aload_n hx hb dX0_init_49 rfl (lv_at hl 0 rfl) ?_
    refine lv_iconst (v := 3) hx hb dX0_init_50 (by decide) ?_
    refine lv_iconst (v := 3) hx hb dX0_init_51 (by decide) ?_
    obtain ⟨h2, eh2, hm⟩ := nmE hm
    obtain ⟨_, _, hmq⟩ := nmE hm
    have hmo := mo_X0_init_56   h2 x0 x0 _ _ hmq
    have sh2 : h2.1 ≤ u9.1 := hmo.1
    have th2 : h2.2.1 ≤ u9.2.1 := hmo.2.1
    have zh2 := cM_sz eh2
    refine cg_multi C hw (to_ := 5) (ti := 0) (ty := .int) (inner := (.inr (0, 3, .inl (fun _ => 0)))) q233 (hw.2.2.2.2.1 _ (List.mem_of_getElem? (i := 93) rfl)) q216 rfl rfl rfl rfl rfl (by decide) rfl rfl rfl (fun _ _ h => h) (show cc + 4 ≤ u9.1 - u.1 by omega) (show ss + 12 ≤ u9.2.1 - u.2.1 by omega) dX0_init_52 (fun H hw => ?_)
    rw [← eh2] at hw
    refine lv_topr (fun a3 ea3 => ?_)
    have hm := nmK hm ea3
    exact hB56 h2 x0 x0 a3 _ _ _ _ _ hm hw (by omega) (by omega) (lv_sub hl [0] rfl)
  have hB41 : ∀ (h : CH) (x0 : Nat) (y0 : Nat) (y1 : Nat) (cc ss : Nat) (H : Heap) (locs : List Loc) (ls : Array Slot), m_X0_init_41 f h x0 y0 y1 = some u9 → CW D dA A s h H locs → cc + u.1 = h.1 → ss + u.2.1 = h.2.1 → lv_has ls 1 [(0, .ref x0)] → W p l e (rm_X0_init (u9.1 - u.1) (u9.2.1 - u.2.1)) s m args below meth c H locs cc ss QQ (F0 m 41 ls [.ref y1, .ref y0]) := by
    intro h x0 y0 y1 cc ss H locs ls hm hw hcc hss hl
    have hmo := mo_X0_init_41  h x0 y0 y1 _ hm
    have sb_ : h.1 ≤ u9.1 := hmo.1
    have tb_ : h.2.1 ≤ u9.2.1 := hmo.2.1
    rw [m_X0_init_41] at hm
    refine lv_dup hx hb dX0_init_41 rfl ?_
    refine lv_lconst (v := 1) hx hb dX0_init_42 (by decide) ?_
    obtain ⟨h1, eh1, hm⟩ := bdE hm
    have lh1 := mo_X1_init eh1
    have ph1 : h.1 ≤ h1.1 := lh1.1
    have qh1 : h.2.1 ≤ h1.2.1 := lh1.2.1
    have hmo := mo_X0_init_46   h1 x0 y0 y1 _ hm
    have sh1 : h1.1 ≤ u9.1 := hmo.1
    have th1 : h1.2.1 ≤ u9.2.1 := hmo.2.1
    refine cg_callv hw lh1 (va_runI (As := [.long (1 : Int64)]) (rest := [.ref y1, .ref y0]) ⟨hx, hb, hml, hown, hts⟩ (w_X1_init l eh1) (cw_X1_init hts q193 ⟨Nat.le_of_ble_eq_true rfl, Nat.le_of_ble_eq_true rfl⟩) (cg_preS C hw _) rfl rfl hl.1 rfl (lv_room (Nat.le_of_ble_eq_true rfl)) dX0_init_43 ⟨show cc + (h1.1 - h.1) ≤ u9.1 - u.1 by omega, show ss + (h1.2.1 - h.2.1) ≤ u9.2.1 - u.2.1 by omega⟩) (fun H locs hw => ?_)
    exact hB46 h1 x0 y0 y1 _ _ _ _ _ hm hw (by omega) (by omega) (lv_sub hl [0] rfl)
  have hB34 : ∀ (h : CH) (x0 : Nat) (y0 : Nat) (y1 : Nat) (cc ss : Nat) (H : Heap) (locs : List Loc) (ls : Array Slot), m_X0_init_34 f h x0 y0 y1 = some u9 → CW D dA A s h H locs → cc + u.1 = h.1 → ss + u.2.1 = h.2.1 → lv_has ls 1 [(0, .ref x0)] → W p l e (rm_X0_init (u9.1 - u.1) (u9.2.1 - u.2.1)) s m args below meth c H locs cc ss QQ (F0 m 34 ls [.ref y1, .ref y0]) := by
    intro h x0 y0 y1 cc ss H locs ls hm hw hcc hss hl
    have hmo := mo_X0_init_34  h x0 y0 y1 _ hm
    have sb_ : h.1 ≤ u9.1 := hmo.1
    have tb_ : h.2.1 ≤ u9.2.1 := hmo.2.1
    rw [m_X0_init_34] at hm
    obtain ⟨h1, eh1, hm⟩ := bdE hm
    refine cg_putF C hw eh1 rfl in_X0 tyX0 tyX0_ok nmX0 (by decide) q245 rfl hin rfl rfl rfl dX0_init_34 (fun H locs hw => ?_)
    have zh1 := pF_sz eh1
    refine lv_aload_n hx hb dX0_init_37 rfl (lv_at hl 0 rfl) ?_
    obtain ⟨h2, eh2, hm⟩ := nmE hm
    obtain ⟨_, _, hmq⟩ := nmE hm
    have hmo := mo_X0_init_41   h2 x0 x0 _ _ hmq
    have sh2 : h2.1 ≤ u9.1 := hmo.1
    have th2 : h2.2.1 ≤ u9.2.1 := hmo.2.1
    have zh2 := cn_sz eh2
    refine cg_new (C0 := C) hw (ci := 2) (fs := [.null, .null, .long 0]) rfl in_X1 tyX1 tyX1_ok q191 q192 q123 (fun j hj => by rcases (show j = 0 ∨ j = 1 ∨ j = 2 by omega) with rfl | rfl | rfl <;> rfl) (show cc + 1 ≤ u9.1 - u.1 by omega) (show ss + 3 ≤ u9.2.1 - u.2.1 by omega) dX0_init_38 (fun H hw => ?_)
    rw [← eh2] at hw
    refine lv_topr (fun a3 ea3 => ?_)
    have hm := nmK hm ea3
    exact hB41 h2 x0 x0 a3 _ _ _ _ _ hm hw (by omega) (by omega) (lv_sub hl [0] rfl)
  have hB22 : ∀ (h : CH) (x0 : Nat) (y0 : Nat) (y1 : Nat) (cc ss : Nat) (H : Heap) (locs : List Loc) (ls : Array Slot), m_X0_init_22 f h x0 y0 y1 = some u9 → CW D dA A s h H locs → cc + u.1 = h.1 → ss + u.2.1 = h.2.1 → lv_has ls 1 [(0, .ref x0)] → W p l e (rm_X0_init (u9.1 - u.1) (u9.2.1 - u.2.1)) s m args below meth c H locs cc ss QQ (F0 m 22 ls [.ref y1, .ref y0]) := by
    intro h x0 y0 y1 cc ss H locs ls hm hw hcc hss hl
    have hmo := mo_X0_init_22  h x0 y0 y1 _ hm
    have sb_ : h.1 ≤ u9.1 := hmo.1
    have tb_ : h.2.1 ≤ u9.2.1 := hmo.2.1
    rw [m_X0_init_22] at hm
    obtain ⟨h1, eh1, hm⟩ := bdE hm
    refine cg_putF C hw eh1 rfl in_X0 tyX0 tyX0_ok nmX0 (by decide) q240 rfl hin rfl rfl rfl dX0_init_22 (fun H locs hw => ?_)
    have zh1 := pF_sz eh1
    refine lv_aload_n hx hb dX0_init_25 rfl (lv_at hl 0 rfl) ?_
    refine lv_iconst (v := -1) hx hb dX0_init_26 (by decide) ?_
    obtain ⟨h2, eh2, hm⟩ := bdE hm
    refine cg_put C hw eh2 rfl in_X0 tyX0 tyX0_ok nmX0 (by decide) q244 rfl rfl rfl dX0_init_27 (fun H locs hw => ?_)
    have zh2 := pF_sz eh2
    refine lv_aload_n hx hb dX0_init_30 rfl (lv_at hl 0 rfl) ?_
    refine lv_iconst (v := 3) hx hb dX0_init_31 (by decide) ?_
    obtain ⟨h3, eh3, hm⟩ := nmE hm
    obtain ⟨_, _, hmq⟩ := nmE hm
    have hmo := mo_X0_init_34   h3 x0 x0 _ _ hmq
    have sh3 : h3.1 ≤ u9.1 := hmo.1
    have th3 : h3.2.1 ≤ u9.2.1 := hmo.2.1
    have zh3 := cn_sz eh3
    refine cg_newI (C0 := C) hw (N := 3) (by decide) (by decide) (by decide) (show cc + 1 ≤ u9.1 - u.1 by omega) (show ss + 3 ≤ u9.2.1 - u.2.1 by omega) dX0_init_32 (fun H hw => ?_)
    rw [← eh3] at hw
    refine lv_topr (fun a4 ea4 => ?_)
    have hm := nmK hm ea4
    exact hB34 h3 x0 x0 a4 _ _ _ _ _ hm hw (by omega) (by omega) (lv_sub hl [0] rfl)
  have hB13 : ∀ (h : CH) (x0 : Nat) (y0 : Nat) (y1 : Nat) (cc ss : Nat) (H : Heap) (locs : List Loc) (ls : Array Slot), m_X0_init_13 f h x0 y0 y1 = some u9 → CW D dA A s h H locs → cc + u.1 = h.1 → ss + u.2.1 = h.2.1 → lv_has ls 1 [(0, .ref x0)] → W p l e (rm_X0_init (u9.1 - u.1) (u9.2.1 - u.2.1)) s m args below meth c H locs cc ss QQ (F0 m 13 ls [.ref y1, .ref y0]) := by
    intro h x0 y0 y1 cc ss H locs ls hm hw hcc hss hl
    have hmo := mo_X0_init_13  h x0 y0 y1 _ hm
    have sb_ : h.1 ≤ u9.1 := hmo.1
    have tb_ : h.2.1 ≤ u9.2.1 := hmo.2.1
    rw [m_X0_init_13] at hm
    obtain ⟨h1, eh1, hm⟩ := bdE hm
    refine cg_putF C hw eh1 rfl in_X0 tyX0 tyX0_ok nmX0 (by decide) q237 rfl hin rfl rfl rfl dX0_init_13 (fun H locs hw => ?_)
    have zh1 := pF_sz eh1
    refine lv_aload_n hx hb dX0_init_16 rfl (lv_at hl 0 rfl) ?_
    refine lv_sipush (v := 500) hx hb dX0_init_17 (by decide) ?_
    obtain ⟨h2, eh2, hm⟩ := nmE hm
    obtain ⟨_, _, hmq⟩ := nmE hm
    have hmo := mo_X0_init_22   h2 x0 x0 _ _ hmq
    have sh2 : h2.1 ≤ u9.1 := hmo.1
    have th2 : h2.2.1 ≤ u9.2.1 := hmo.2.1
    have zh2 := cn_sz eh2
    refine cg_newB (C0 := C) hw (N := 500) (by decide) (by decide) (by decide) (show cc + 1 ≤ u9.1 - u.1 by omega) (show ss + 500 ≤ u9.2.1 - u.2.1 by omega) dX0_init_20 (fun H hw => ?_)
    rw [← eh2] at hw
    refine lv_topr (fun a3 ea3 => ?_)
    have hm := nmK hm ea3
    exact hB22 h2 x0 x0 a3 _ _ _ _ _ hm hw (by omega) (by omega) (lv_sub hl [0] rfl)
  have hB8 : ∀ (h : CH) (x0 : Nat) (y0 : Nat) (y1 : Nat) (cc ss : Nat) (H : Heap) (locs : List Loc) (ls : Array Slot), m_X0_init_8 f h x0 y0 y1 = some u9 → CW D dA A s h H locs → cc + u.1 = h.1 → ss + u.2.1 = h.2.1 → lv_has ls 1 [(0, .ref x0)] → W p l e (rm_X0_init (u9.1 - u.1) (u9.2.1 - u.2.1)) s m args below meth c H locs cc ss QQ (F0 m 8 ls [.ref y1, .ref y0]) := by
    intro h x0 y0 y1 cc ss H locs ls hm hw hcc hss hl
    have hmo := mo_X0_init_8  h x0 y0 y1 _ hm
    have sb_ : h.1 ≤ u9.1 := hmo.1
    have tb_ : h.2.1 ≤ u9.2.1 := hmo.2.1
    rw [m_X0_init_8] at hm
    refine lv_dup hx hb dX0_init_8 rfl ?_
    refine lv_iconst (v := 5) hx hb dX0_init_9 (by decide) ?_
    obtain ⟨h1, eh1, hm⟩ := bdE hm
    have lh1 := mo_J2_init eh1
    have ph1 : h.1 ≤ h1.1 := lh1.1
    have qh1 : h.2.1 ≤ h1.2.1 := lh1.2.1
    have hmo := mo_X0_init_13   h1 x0 y0 y1 _ hm
    have sh1 : h1.1 ≤ u9.1 := hmo.1
    have th1 : h1.2.1 ≤ u9.2.1 := hmo.2.1
    refine cg_callv hw lh1 (va_runI (As := [.int (5 : Int32)]) (rest := [.ref y1, .ref y0]) ⟨hx, hb, hml, hown, hts⟩ (w_J2_init l eh1) (cw_J2_init hts q165 ⟨Nat.le_of_ble_eq_true rfl, Nat.le_of_ble_eq_true rfl⟩) (cg_preS C hw _) rfl rfl hl.1 rfl (lv_room (Nat.le_of_ble_eq_true rfl)) dX0_init_10 ⟨show cc + (h1.1 - h.1) ≤ u9.1 - u.1 by omega, show ss + (h1.2.1 - h.2.1) ≤ u9.2.1 - u.2.1 by omega⟩) (fun H locs hw => ?_)
    exact hB13 h1 x0 y0 y1 _ _ _ _ _ hm hw (by omega) (by omega) (lv_sub hl [0] rfl)
  rw [m_X0_init] at hm
  refine lv_aload_n hx hb dX0_init_0 rfl (lv_at hl 0 rfl) ?_
  refine W.objInit hx hb hown (hts _ q160) (hts _ q161) (hts _ q162) rfl (by rw [hml]; exact hl.1) rfl dX0_init_1 (Nat.le_of_ble_eq_true rfl) (Nat.le_of_ble_eq_true rfl) ?_
  refine W.eq (g2 := F0 m 4 ls []) rfl ?_
  refine lv_aload_n hx hb dX0_init_4 rfl (lv_at hl 0 rfl) ?_
  obtain ⟨h1, eh1, hm⟩ := nmE hm
  obtain ⟨_, _, hmq⟩ := nmE hm
  have hmo := mo_X0_init_8   h1 x0 x0 _ _ hmq
  have sh1 : h1.1 ≤ u9.1 := hmo.1
  have th1 : h1.2.1 ≤ u9.2.1 := hmo.2.1
  have zh1 := cn_sz eh1
  refine cg_new (C0 := C) hw (ci := 17) (fs := [.int 0, .null, .int 0]) rfl in_J2 tyJ2 tyJ2_ok q163 q164 q122 (fun j hj => by rcases (show j = 0 ∨ j = 1 ∨ j = 2 by omega) with rfl | rfl | rfl <;> rfl) (show cc + 1 ≤ u9.1 - u.1 by omega) (show ss + 3 ≤ u9.2.1 - u.2.1 by omega) dX0_init_5 (fun H hw => ?_)
  rw [← eh1] at hw
  refine lv_topr (fun a2 ea2 => ?_)
  have hm := nmK hm ea2
  exact hB8 h1 x0 x0 a2 _ _ _ _ _ hm hw (by omega) (by omega) (lv_sub hl [0] rfl)
def m_X0_puts_36 (f : Nat) (h : CH) : Option CH := some h
theorem mo_X0_puts_36 {f : Nat} : ∀ (h : CH) (r : CH), m_X0_puts_36 f h = some r → le2 h r := by
  intro h r hm
  rw [m_X0_puts_36] at hm
  cases hm
  exact le2.rf
def m_X0_puts_3 (f : Nat) : Nat → CH → Nat → Int32 → Int32 → Option CH
  | 0, _, _, _, _ => none
  | n3 + 1, h, x0, x1, x2 => if x2 < 0 then
    m_X0_puts_36 f h
    else bd (oR h 1 2 x0) fun a2 =>
    bd (oI h 1 3 x0) fun v3 =>
    bd (uI h 2 a2 v3 (vp_nar .byte (Int8.toInt32 (Int32.toInt8 (x1 >>> (x2 &&& 31)))))) fun h4 =>
    bd (oI h4 1 3 x0) fun v5 =>
    bd (pF h4 1 3 x0 (.int (v5 + (1 : Int32)))) fun h6 =>
    nmv ((x2 + (-8)) : Int32) fun v7 =>
    m_X0_puts_3 f n3 h6 x0 x1 v7
theorem mo_X0_puts_3 {f : Nat} : ∀ (n3 : Nat) (h : CH) (x0 : Nat) (x1 : Int32) (x2 : Int32) (r : CH), m_X0_puts_3 f n3 h x0 x1 x2 = some r → le2 h r := by
  intro n3
  induction n3 with
  | zero => intro h x0 x1 x2 r hm; rw [m_X0_puts_3] at hm; exact noE hm
  | succ n3 ihm =>
    intro h x0 x1 x2 r hm
    rw [m_X0_puts_3] at hm
    by_cases c1 : x2 < 0
    · have hm := ifT hm c1
      exact (mo_X0_puts_36  h _ hm)
    · have hm := ifF hm c1
      obtain ⟨a2, ea2, hm⟩ := bdE hm
      obtain ⟨v3, ev3, hm⟩ := bdE hm
      obtain ⟨h4, eh4, hm⟩ := bdE hm
      have lh4 := uI_le eh4
      obtain ⟨v5, ev5, hm⟩ := bdE hm
      obtain ⟨h6, eh6, hm⟩ := bdE hm
      have lh6 := pF_le eh6
      obtain ⟨v7, ev7, hm⟩ := nmE hm
      exact (lh4.tr (lh6.tr (ihm h6 x0 x1 v7 _ hm)))
def m_X0_puts (f : Nat) (u : CH) (x0 : Nat) (x1 : Int32) : Option CH := m_X0_puts_3 f f u x0 x1 (24 : Int32)
theorem mo_X0_puts {f : Nat} {u : CH} {x0 : Nat} {x1 : Int32} {u9 : CH} (hm : m_X0_puts f u x0 x1 = some u9) : le2 u u9 := by
  rw [m_X0_puts] at hm
  exact (mo_X0_puts_3  f u x0 x1 (24 : Int32) _ hm)
abbrev rm_X0_puts (mc ms : Nat) : Room := { frames := 0, cells := mc, slots := ms, locals := 0 }
theorem cw_X0_puts {R : Room} {s : State} {args : Array Value} {own : String} {idx mc ms : Nat} (hts : ∀ w ∈ lw_all, w.before args s = true) (hl : Cond.methodLink own idx yX0_puts ∈ lw_all) (hR : 0 + 1 ≤ R.frames ∧ 8 + (3 + 11) + 0 ≤ R.locals) : CallW R s args own RX0 idx yX0_puts cX0_puts 3 (Option.none : Option Jvm.ClassFile.FieldType) (ws_ yX0_puts cX0_puts 3 (Option.none : Option Jvm.ClassFile.FieldType)) (rm_X0_puts mc ms) mc ms 1 := cwV 1 hts (lw_V hl q291 qs0 q119 q292) rfl rfl rfl (by decide +kernel) hR
set_option maxHeartbeats 4000000 in
set_option maxRecDepth 100000 in
theorem w_X0_puts (l : Launch) {D : va_G} {dA : Nat → ClassId} {A : Nat → Prop} {f : Nat} {u u9 : CH} {x0 : Nat} {x1 : Int32} (hm : m_X0_puts f u x0 x1 = some u9) : Met l yX0_puts (ws_ yX0_puts cX0_puts 3 (Option.none : Option Jvm.ClassFile.FieldType)) (rm_X0_puts (u9.1 - u.1) (u9.2.1 - u.2.1)) (va_Pc [.ref x0, .int x1] (CPre D dA A u)) (va_Qv (fun u => u = u9) (CPost D dA A) A) (u9.1 - u.1) (u9.2.1 - u.2.1) A := by
  refine Met.ofW (cc := cX0_puts) (maxL := 3) (ret := (Option.none : Option Jvm.ClassFile.FieldType)) (by decide) rfl ?_
  intro p e s m args below meth c s₁ B hml hv
  have hx := B.exec
  have hb := B.bytes
  have hr := B.returns
  have hts := atoms_spec (ws := (ws_ yX0_puts cX0_puts 3 (Option.none : Option Jvm.ClassFile.FieldType))) B.pre
  have hts : ∀ w ∈ lw_all, w.before args s = true := fun w h => hts w (List.mem_cons_of_mem _ h)
  have hown : s.vm.findClass RX0 = some m.cls := findClass_of_methodNamed B.named
  have hlocks := B.notSynchronized
  obtain ⟨hav, hv⟩ := hv
  have C : CX p s m args c cX0_puts RX0 D dA := ⟨hx, hb, hown, hts, hv.2⟩
  have hw : CW D dA A s u s.heap [] := hv.1
  generalize hQ : MQ below (va_Qv (fun u => u = u9) (CPost D dA A) A) args s (u9.1 - u.1) (u9.2.1 - u.2.1) A = QQ
  have hent := lg_entry_eq m [.ref x0, .int x1] 3
  rw [← hav] at hent
  rw [hent]
  have hl := lv_entry ([.ref x0, .int x1]) (n := 3) (Nat.le_of_ble_eq_true rfl)
  generalize (lg_sl ([.ref x0, .int x1]) ++ List.replicate (3 - (lg_sl ([.ref x0, .int x1])).length) Slot.unset).toArray = ls at hl ⊢
  have hl : lv_has ls 3 [(0, .ref x0), (1, .int x1)] := hl
  obtain ⟨cc, ecc⟩ : ∃ z : Nat, z = 0 := ⟨0, rfl⟩
  obtain ⟨ss, ess⟩ : ∃ z : Nat, z = 0 := ⟨0, rfl⟩
  have hcc : cc + u.1 = u.1 := by omega
  have hss : ss + u.2.1 = u.2.1 := by omega
  suffices hgo : W p l e (rm_X0_puts (u9.1 - u.1) (u9.2.1 - u.2.1)) s m args below meth c s.heap [] cc ss QQ (F0 m 0 ls []) by rw [ecc, ess] at hgo; exact hgo
  have ⟨pu, qu, _, _⟩ := mo_X0_puts hm
  have hB36 : ∀ (h : CH) (cc ss : Nat) (H : Heap) (locs : List Loc) (ls : Array Slot), m_X0_puts_36 f h = some u9 → CW D dA A s h H locs → cc + u.1 = h.1 → ss + u.2.1 = h.2.1 → lv_has ls 3 [] → W p l e (rm_X0_puts (u9.1 - u.1) (u9.2.1 - u.2.1)) s m args below meth c H locs cc ss QQ (F0 m 36 ls []) := by
    intro h cc ss H locs ls hm hw hcc hss hl
    have hmo := mo_X0_puts_36  h _ hm
    have sb_ : h.1 ≤ u9.1 := hmo.1
    have tb_ : h.2.1 ≤ u9.2.1 := hmo.2.1
    rw [m_X0_puts_36] at hm
    have eh := ret1 hm
    have ec : cc = u9.1 - u.1 := by rw [← eh]; omega
    have es : ss = u9.2.1 - u.2.1 := by rw [← eh]; omega
    rw [ec, es, ← hQ]
    exact W.vret hx hb hr (fun t ht hW => ⟨⟨h, rfl, eh, ⟨by rw [ht]; exact hw.1, by rw [ht]; exact hw.2.1⟩⟩, hw.2.2.1.F ht⟩) hw.2.2.1.2.2 dX0_puts_36
  have hB3 : ∀ (n3 : Nat), ∀ (h : CH) (x0 : Nat) (x1 : Int32) (x2 : Int32) (cc ss : Nat) (H : Heap) (locs : List Loc) (ls : Array Slot), m_X0_puts_3 f n3 h x0 x1 x2 = some u9 → CW D dA A s h H locs → cc + u.1 = h.1 → ss + u.2.1 = h.2.1 → lv_has ls 3 [(0, .ref x0), (1, .int x1), (2, .int x2)] → W p l e (rm_X0_puts (u9.1 - u.1) (u9.2.1 - u.2.1)) s m args below meth c H locs cc ss QQ (F0 m 3 ls []) := by
    intro n3
    induction n3 with
    | zero => intro h x0 x1 x2 cc ss H locs ls hm hw hcc hss hl; rw [m_X0_puts_3] at hm; exact noE hm
    | succ n3 ih3 =>
      intro h x0 x1 x2 cc ss H locs ls hm hw hcc hss hl
      have hmo := mo_X0_puts_3  (n3 + 1) h x0 x1 x2 _ hm
      have sb_ : h.1 ≤ u9.1 := hmo.1
      have tb_ : h.2.1 ≤ u9.2.1 := hmo.2.1
      rw [m_X0_puts_3] at hm
      refine lv_iload_n hx hb dX0_puts_3 rfl (lv_at hl 2 rfl) ?_
      refine lv_if_lt (tgt := 36) hx hb dX0_puts_4 (by decide) (fun c1 => ?_) (fun c1 => ?_)
      · have hm := ifT hm c1
        exact hB36 h _ _ _ _ _ hm hw (by omega) (by omega) (lv_sub hl [] rfl)
      · have hm := ifF hm c1
        refine lv_aload_n hx hb dX0_puts_7 rfl (lv_at hl 0 rfl) ?_
        obtain ⟨a2, ea2, hm⟩ := bdE hm
        refine cg_get C hw (oR_E ea2) rfl in_X0 (by decide) q240 dX0_puts_8 ?_
        refine lv_aload_n hx hb dX0_puts_11 rfl (lv_at hl 0 rfl) ?_
        obtain ⟨v3, ev3, hm⟩ := bdE hm
        refine cg_get C hw (oI_E ev3) rfl in_X0 (by decide) q242 dX0_puts_12 ?_
        refine lv_iload_n hx hb dX0_puts_15 rfl (lv_at hl 1 rfl) ?_
        refine lv_iload_n hx hb dX0_puts_16 rfl (lv_at hl 2 rfl) ?_
        refine lv_ishr hx hb dX0_puts_17 ?_
        refine lv_i2b hx hb dX0_puts_18 rfl ?_
        obtain ⟨h4, eh4, hm⟩ := bdE hm
        refine cg_bast C hw eh4 dX0_puts_19 (fun H locs hw => ?_)
        have zh4 := uI_sz eh4
        refine lv_aload_n hx hb dX0_puts_20 rfl (lv_at hl 0 rfl) ?_
        refine lv_dup hx hb dX0_puts_21 rfl ?_
        obtain ⟨v5, ev5, hm⟩ := bdE hm
        refine cg_get C hw (oI_E ev5) rfl in_X0 (by decide) q242 dX0_puts_22 ?_
        refine lv_iconst (v := 1) hx hb dX0_puts_25 (by decide) ?_
        refine lv_iadd hx hb dX0_puts_26 ?_
        obtain ⟨h6, eh6, hm⟩ := bdE hm
        refine cg_put C hw eh6 rfl in_X0 tyX0 tyX0_ok nmX0 (by decide) q242 rfl rfl rfl dX0_puts_27 (fun H locs hw => ?_)
        have zh6 := pF_sz eh6
        obtain ⟨v7, ev7, hm⟩ := nmE hm
        refine lv_iinc (v := v7) (lv' := [(2, .int v7), (0, .ref x0), (1, .int x1)]) hx hb dX0_puts_30 hl (k := 2) rfl (by rw [ev7]; rfl) (by decide) rfl (fun ls hl => ?_)
        refine lv_goto (tgt := 3) hx hb dX0_puts_33 (by decide) ?_
        exact ih3 h6 x0 x1 v7 _ _ _ _ _ hm hw (by omega) (by omega) (lv_sub hl [1, 2, 0] rfl)
  rw [m_X0_puts] at hm
  refine lv_bipush (v := 24) hx hb dX0_puts_0 (by decide) ?_
  refine lv_istore_n (lv' := [(2, .int (24 : Int32)), (0, .ref x0), (1, .int x1)]) hx hb dX0_puts_2 rfl hl (by decide) rfl (fun ls hl => ?_)
  exact hB3 f u x0 x1 (24 : Int32) _ _ _ _ _ hm hw (by omega) (by omega) (lv_sub hl [1, 2, 0] rfl)
def m_X0_feed_42 (f : Nat) (h : CH) (x0 : Nat) : Option (Int32 × CH) := bd (oI h 1 3 x0) fun v1 =>
    some (v1, h)
theorem mo_X0_feed_42 {f : Nat} : ∀ (h : CH) (x0 : Nat) (r : (Int32 × CH)), m_X0_feed_42 f h x0 = some r → le2 h r.2 := by
  intro h x0 r hm
  rw [m_X0_feed_42] at hm
  obtain ⟨v1, ev1, hm⟩ := bdE hm
  cases hm
  exact le2.rf
def m_X0_feed_36 (f : Nat) (h : CH) (x0 : Nat) (x5 : Int32) : Option (Int32 × CH) := gd (isC h x0 1) <|
    bd (m_X0_puts f h x0 x5) fun h2 =>
    m_X0_feed_42 f h2 x0
theorem mo_X0_feed_36 {f : Nat} : ∀ (h : CH) (x0 : Nat) (x5 : Int32) (r : (Int32 × CH)), m_X0_feed_36 f h x0 x5 = some r → le2 h r.2 := by
  intro h x0 x5 r hm
  rw [m_X0_feed_36] at hm
  obtain ⟨g1, hm⟩ := gdE hm
  obtain ⟨h2, eh2, hm⟩ := bdE hm
  have lh2 := mo_X0_puts eh2
  exact (lh2.tr (mo_X0_feed_42  h2 x0 _ hm))
def m_X0_feed_30 (f : Nat) (h : CH) (x0 : Nat) (x4 : Int32) (x5 : Int32) : Option (Int32 × CH) := gd (isC h x0 1) <|
    bd (m_X0_puts f h x0 x4) fun h2 =>
    m_X0_feed_36 f h2 x0 x5
theorem mo_X0_feed_30 {f : Nat} : ∀ (h : CH) (x0 : Nat) (x4 : Int32) (x5 : Int32) (r : (Int32 × CH)), m_X0_feed_30 f h x0 x4 x5 = some r → le2 h r.2 := by
  intro h x0 x4 x5 r hm
  rw [m_X0_feed_30] at hm
  obtain ⟨g1, hm⟩ := gdE hm
  obtain ⟨h2, eh2, hm⟩ := bdE hm
  have lh2 := mo_X0_puts eh2
  exact (lh2.tr (mo_X0_feed_36  h2 x0 x5 _ hm))
def m_X0_feed_25 (f : Nat) (h : CH) (x0 : Nat) (x3 : Int32) (x4 : Int32) (x5 : Int32) : Option (Int32 × CH) := gd (isC h x0 1) <|
    bd (m_X0_puts f h x0 x3) fun h2 =>
    m_X0_feed_30 f h2 x0 x4 x5
theorem mo_X0_feed_25 {f : Nat} : ∀ (h : CH) (x0 : Nat) (x3 : Int32) (x4 : Int32) (x5 : Int32) (r : (Int32 × CH)), m_X0_feed_25 f h x0 x3 x4 x5 = some r → le2 h r.2 := by
  intro h x0 x3 x4 x5 r hm
  rw [m_X0_feed_25] at hm
  obtain ⟨g1, hm⟩ := gdE hm
  obtain ⟨h2, eh2, hm⟩ := bdE hm
  have lh2 := mo_X0_puts eh2
  exact (lh2.tr (mo_X0_feed_30  h2 x0 x4 x5 _ hm))
def m_X0_feed_20 (f : Nat) (h : CH) (x0 : Nat) (x2 : Int32) (x3 : Int32) (x4 : Int32) (x5 : Int32) : Option (Int32 × CH) := gd (isC h x0 1) <|
    bd (m_X0_puts f h x0 x2) fun h2 =>
    m_X0_feed_25 f h2 x0 x3 x4 x5
theorem mo_X0_feed_20 {f : Nat} : ∀ (h : CH) (x0 : Nat) (x2 : Int32) (x3 : Int32) (x4 : Int32) (x5 : Int32) (r : (Int32 × CH)), m_X0_feed_20 f h x0 x2 x3 x4 x5 = some r → le2 h r.2 := by
  intro h x0 x2 x3 x4 x5 r hm
  rw [m_X0_feed_20] at hm
  obtain ⟨g1, hm⟩ := gdE hm
  obtain ⟨h2, eh2, hm⟩ := bdE hm
  have lh2 := mo_X0_puts eh2
  exact (lh2.tr (mo_X0_feed_25  h2 x0 x3 x4 x5 _ hm))
def m_X0_feed (f : Nat) (u : CH) (x0 : Nat) (x1 : Int32) (x2 : Int32) (x3 : Int32) (x4 : Int32) (x5 : Int32) : Option (Int32 × CH) := bd (oI u 1 3 x0) fun v1 =>
    if (v1 + (20 : Int32)) ≤ (500 : Int32) then
    gd (isC u x0 1) <|
    bd (m_X0_puts f u x0 x1) fun h4 =>
    m_X0_feed_20 f h4 x0 x2 x3 x4 x5
    else some ((-1 : Int32), u)
theorem mo_X0_feed {f : Nat} {u : CH} {x0 : Nat} {x1 : Int32} {x2 : Int32} {x3 : Int32} {x4 : Int32} {x5 : Int32} {r0 : Int32} {u9 : CH} (hm : m_X0_feed f u x0 x1 x2 x3 x4 x5 = some (r0, u9)) : le2 u u9 := by
  rw [m_X0_feed] at hm
  obtain ⟨v1, ev1, hm⟩ := bdE hm
  by_cases c2 : (v1 + (20 : Int32)) ≤ (500 : Int32)
  · have hm := ifT hm c2
    obtain ⟨g3, hm⟩ := gdE hm
    obtain ⟨h4, eh4, hm⟩ := bdE hm
    have lh4 := mo_X0_puts eh4
    exact (lh4.tr (mo_X0_feed_20  h4 x0 x2 x3 x4 x5 _ hm))
  · have hm := ifF hm c2
    cases hm
    exact le2.rf
abbrev rm_X0_feed (mc ms : Nat) : Room := { frames := 1, cells := mc, slots := ms, locals := 22 }
theorem cw_X0_feed {R : Room} {s : State} {args : Array Value} {own : String} {idx mc ms : Nat} (hts : ∀ w ∈ lw_all, w.before args s = true) (hl : Cond.methodLink own idx yX0_feed ∈ lw_all) (hR : 1 + 1 ≤ R.frames ∧ 8 + (6 + 11) + 22 ≤ R.locals) : CallW R s args own RX0 idx yX0_feed cX0_feed 6 (Option.some Jvm.ClassFile.FieldType.int) (ws_ yX0_feed cX0_feed 6 (Option.some Jvm.ClassFile.FieldType.int)) (rm_X0_feed mc ms) mc ms 5 := cwV 5 hts (lw_V hl q286 q287 q119 q288) rfl rfl rfl (by decide +kernel) hR
set_option maxHeartbeats 4000000 in
set_option maxRecDepth 100000 in
theorem w_X0_feed (l : Launch) {D : va_G} {dA : Nat → ClassId} {A : Nat → Prop} {f : Nat} {u u9 : CH} {r0 : Int32} {x0 : Nat} {x1 : Int32} {x2 : Int32} {x3 : Int32} {x4 : Int32} {x5 : Int32} (hm : m_X0_feed f u x0 x1 x2 x3 x4 x5 = some (r0, u9)) : Met l yX0_feed (ws_ yX0_feed cX0_feed 6 (Option.some Jvm.ClassFile.FieldType.int)) (rm_X0_feed (u9.1 - u.1) (u9.2.1 - u.2.1)) (va_Pc [.ref x0, .int x1, .int x2, .int x3, .int x4, .int x5] (CPre D dA A u)) (va_Qi (fun r u => r = r0 ∧ u = u9) (CPost D dA A) A) (u9.1 - u.1) (u9.2.1 - u.2.1) A := by
  refine Met.ofW (cc := cX0_feed) (maxL := 6) (ret := (Option.some Jvm.ClassFile.FieldType.int)) (by decide) rfl ?_
  intro p e s m args below meth c s₁ B hml hv
  have hx := B.exec
  have hb := B.bytes
  have hr := B.returns
  have hts := atoms_spec (ws := (ws_ yX0_feed cX0_feed 6 (Option.some Jvm.ClassFile.FieldType.int))) B.pre
  have hts : ∀ w ∈ lw_all, w.before args s = true := fun w h => hts w (List.mem_cons_of_mem _ h)
  have hown : s.vm.findClass RX0 = some m.cls := findClass_of_methodNamed B.named
  have hlocks := B.notSynchronized
  obtain ⟨hav, hv⟩ := hv
  have C : CX p s m args c cX0_feed RX0 D dA := ⟨hx, hb, hown, hts, hv.2⟩
  have hw : CW D dA A s u s.heap [] := hv.1
  generalize hQ : MQ below (va_Qi (fun r u => r = r0 ∧ u = u9) (CPost D dA A) A) args s (u9.1 - u.1) (u9.2.1 - u.2.1) A = QQ
  have hent := lg_entry_eq m [.ref x0, .int x1, .int x2, .int x3, .int x4, .int x5] 6
  rw [← hav] at hent
  rw [hent]
  have hl := lv_entry ([.ref x0, .int x1, .int x2, .int x3, .int x4, .int x5]) (n := 6) (Nat.le_of_ble_eq_true rfl)
  generalize (lg_sl ([.ref x0, .int x1, .int x2, .int x3, .int x4, .int x5]) ++ List.replicate (6 - (lg_sl ([.ref x0, .int x1, .int x2, .int x3, .int x4, .int x5])).length) Slot.unset).toArray = ls at hl ⊢
  have hl : lv_has ls 6 [(0, .ref x0), (1, .int x1), (2, .int x2), (3, .int x3), (4, .int x4), (5, .int x5)] := hl
  obtain ⟨cc, ecc⟩ : ∃ z : Nat, z = 0 := ⟨0, rfl⟩
  obtain ⟨ss, ess⟩ : ∃ z : Nat, z = 0 := ⟨0, rfl⟩
  have hcc : cc + u.1 = u.1 := by omega
  have hss : ss + u.2.1 = u.2.1 := by omega
  suffices hgo : W p l e (rm_X0_feed (u9.1 - u.1) (u9.2.1 - u.2.1)) s m args below meth c s.heap [] cc ss QQ (F0 m 0 ls []) by rw [ecc, ess] at hgo; exact hgo
  have ⟨pu, qu, _, _⟩ := mo_X0_feed hm
  have hB42 : ∀ (h : CH) (x0 : Nat) (cc ss : Nat) (H : Heap) (locs : List Loc) (ls : Array Slot), m_X0_feed_42 f h x0 = some (r0, u9) → CW D dA A s h H locs → cc + u.1 = h.1 → ss + u.2.1 = h.2.1 → lv_has ls 6 [(0, .ref x0)] → W p l e (rm_X0_feed (u9.1 - u.1) (u9.2.1 - u.2.1)) s m args below meth c H locs cc ss QQ (F0 m 42 ls []) := by
    intro h x0 cc ss H locs ls hm hw hcc hss hl
    have hmo := mo_X0_feed_42  h x0 _ hm
    have sb_ : h.1 ≤ u9.1 := hmo.1
    have tb_ : h.2.1 ≤ u9.2.1 := hmo.2.1
    rw [m_X0_feed_42] at hm
    refine lv_aload_n hx hb dX0_feed_42 rfl (lv_at hl 0 rfl) ?_
    obtain ⟨v1, ev1, hm⟩ := bdE hm
    refine cg_get C hw (oI_E ev1) rfl in_X0 (by decide) q242 dX0_feed_43 ?_
    obtain ⟨er, eh⟩ := retE hm
    have ec : cc = u9.1 - u.1 := by rw [← eh]; omega
    have es : ss = u9.2.1 - u.2.1 := by rw [← eh]; omega
    rw [ec, es, ← hQ]
    exact W.iret (v := v1) hx hb hr (fun t ht hW => ⟨⟨v1, h, rfl, ⟨er, eh⟩, ⟨by rw [ht]; exact hw.1, by rw [ht]; exact hw.2.1⟩⟩, hw.2.2.1.F ht⟩) hw.2.2.1.2.2 dX0_feed_46
  have hB36 : ∀ (h : CH) (x0 : Nat) (x5 : Int32) (cc ss : Nat) (H : Heap) (locs : List Loc) (ls : Array Slot), m_X0_feed_36 f h x0 x5 = some (r0, u9) → CW D dA A s h H locs → cc + u.1 = h.1 → ss + u.2.1 = h.2.1 → lv_has ls 6 [(0, .ref x0), (5, .int x5)] → W p l e (rm_X0_feed (u9.1 - u.1) (u9.2.1 - u.2.1)) s m args below meth c H locs cc ss QQ (F0 m 36 ls []) := by
    intro h x0 x5 cc ss H locs ls hm hw hcc hss hl
    have hmo := mo_X0_feed_36  h x0 x5 _ hm
    have sb_ : h.1 ≤ u9.1 := hmo.1
    have tb_ : h.2.1 ≤ u9.2.1 := hmo.2.1
    rw [m_X0_feed_36] at hm
    refine lv_aload_n hx hb dX0_feed_36 rfl (lv_at hl 0 rfl) ?_
    refine lv_iload hx hb dX0_feed_37 (lv_at hl 1 rfl) ?_
    obtain ⟨g1, hm⟩ := gdE hm
    obtain ⟨h2, eh2, hm⟩ := bdE hm
    have lh2 := mo_X0_puts eh2
    have ph2 : h.1 ≤ h2.1 := lh2.1
    have qh2 : h.2.1 ≤ h2.2.1 := lh2.2.1
    have hmo := mo_X0_feed_42   h2 x0 _ hm
    have sh2 : h2.1 ≤ u9.1 := hmo.1
    have th2 : h2.2.1 ≤ u9.2.1 := hmo.2.1
    refine cg_callv hw lh2 (va_runV (As := [.int x5]) (rest := []) ⟨hx, hb, hml, hown, hts⟩ (w_X0_puts l eh2) (cw_X0_puts hts q289 ⟨Nat.le_of_ble_eq_true rfl, Nat.le_of_ble_eq_true rfl⟩) (cg_preV C hw g1 rfl _) rfl rfl hl.1 rfl (lv_room (Nat.le_of_ble_eq_true rfl)) dX0_feed_39 ⟨show cc + (h2.1 - h.1) ≤ u9.1 - u.1 by omega, show ss + (h2.2.1 - h.2.1) ≤ u9.2.1 - u.2.1 by omega⟩) (fun H locs hw => ?_)
    exact hB42 h2 x0 _ _ _ _ _ hm hw (by omega) (by omega) (lv_sub hl [0] rfl)
  have hB30 : ∀ (h : CH) (x0 : Nat) (x4 : Int32) (x5 : Int32) (cc ss : Nat) (H : Heap) (locs : List Loc) (ls : Array Slot), m_X0_feed_30 f h x0 x4 x5 = some (r0, u9) → CW D dA A s h H locs → cc + u.1 = h.1 → ss + u.2.1 = h.2.1 → lv_has ls 6 [(0, .ref x0), (4, .int x4), (5, .int x5)] → W p l e (rm_X0_feed (u9.1 - u.1) (u9.2.1 - u.2.1)) s m args below meth c H locs cc ss QQ (F0 m 30 ls []) := by
    intro h x0 x4 x5 cc ss H locs ls hm hw hcc hss hl
    have hmo := mo_X0_feed_30  h x0 x4 x5 _ hm
    have sb_ : h.1 ≤ u9.1 := hmo.1
    have tb_ : h.2.1 ≤ u9.2.1 := hmo.2.1
    rw [m_X0_feed_30] at hm
    refine lv_aload_n hx hb dX0_feed_30 rfl (lv_at hl 0 rfl) ?_
    refine lv_iload hx hb dX0_feed_31 (lv_at hl 1 rfl) ?_
    obtain ⟨g1, hm⟩ := gdE hm
    obtain ⟨h2, eh2, hm⟩ := bdE hm
    have lh2 := mo_X0_puts eh2
    have ph2 : h.1 ≤ h2.1 := lh2.1
    have qh2 : h.2.1 ≤ h2.2.1 := lh2.2.1
    have hmo := mo_X0_feed_36   h2 x0 x5 _ hm
    have sh2 : h2.1 ≤ u9.1 := hmo.1
    have th2 : h2.2.1 ≤ u9.2.1 := hmo.2.1
    refine cg_callv hw lh2 (va_runV (As := [.int x4]) (rest := []) ⟨hx, hb, hml, hown, hts⟩ (w_X0_puts l eh2) (cw_X0_puts hts q289 ⟨Nat.le_of_ble_eq_true rfl, Nat.le_of_ble_eq_true rfl⟩) (cg_preV C hw g1 rfl _) rfl rfl hl.1 rfl (lv_room (Nat.le_of_ble_eq_true rfl)) dX0_feed_33 ⟨show cc + (h2.1 - h.1) ≤ u9.1 - u.1 by omega, show ss + (h2.2.1 - h.2.1) ≤ u9.2.1 - u.2.1 by omega⟩) (fun H locs hw => ?_)
    exact hB36 h2 x0 x5 _ _ _ _ _ hm hw (by omega) (by omega) (lv_sub hl [0, 2] rfl)
  have hB25 : ∀ (h : CH) (x0 : Nat) (x3 : Int32) (x4 : Int32) (x5 : Int32) (cc ss : Nat) (H : Heap) (locs : List Loc) (ls : Array Slot), m_X0_feed_25 f h x0 x3 x4 x5 = some (r0, u9) → CW D dA A s h H locs → cc + u.1 = h.1 → ss + u.2.1 = h.2.1 → lv_has ls 6 [(0, .ref x0), (3, .int x3), (4, .int x4), (5, .int x5)] → W p l e (rm_X0_feed (u9.1 - u.1) (u9.2.1 - u.2.1)) s m args below meth c H locs cc ss QQ (F0 m 25 ls []) := by
    intro h x0 x3 x4 x5 cc ss H locs ls hm hw hcc hss hl
    have hmo := mo_X0_feed_25  h x0 x3 x4 x5 _ hm
    have sb_ : h.1 ≤ u9.1 := hmo.1
    have tb_ : h.2.1 ≤ u9.2.1 := hmo.2.1
    rw [m_X0_feed_25] at hm
    refine lv_aload_n hx hb dX0_feed_25 rfl (lv_at hl 0 rfl) ?_
    refine lv_iload_n hx hb dX0_feed_26 rfl (lv_at hl 1 rfl) ?_
    obtain ⟨g1, hm⟩ := gdE hm
    obtain ⟨h2, eh2, hm⟩ := bdE hm
    have lh2 := mo_X0_puts eh2
    have ph2 : h.1 ≤ h2.1 := lh2.1
    have qh2 : h.2.1 ≤ h2.2.1 := lh2.2.1
    have hmo := mo_X0_feed_30   h2 x0 x4 x5 _ hm
    have sh2 : h2.1 ≤ u9.1 := hmo.1
    have th2 : h2.2.1 ≤ u9.2.1 := hmo.2.1
    refine cg_callv hw lh2 (va_runV (As := [.int x3]) (rest := []) ⟨hx, hb, hml, hown, hts⟩ (w_X0_puts l eh2) (cw_X0_puts hts q289 ⟨Nat.le_of_ble_eq_true rfl, Nat.le_of_ble_eq_true rfl⟩) (cg_preV C hw g1 rfl _) rfl rfl hl.1 rfl (lv_room (Nat.le_of_ble_eq_true rfl)) dX0_feed_27 ⟨show cc + (h2.1 - h.1) ≤ u9.1 - u.1 by omega, show ss + (h2.2.1 - h.2.1) ≤ u9.2.1 - u.2.1 by omega⟩) (fun H locs hw => ?_)
    exact hB30 h2 x0 x4 x5 _ _ _ _ _ hm hw (by omega) (by omega) (lv_sub hl [0, 2, 3] rfl)
  have hB20 : ∀ (h : CH) (x0 : Nat) (x2 : Int32) (x3 : Int32) (x4 : Int32) (x5 : Int32) (cc ss : Nat) (H : Heap) (locs : List Loc) (ls : Array Slot), m_X0_feed_20 f h x0 x2 x3 x4 x5 = some (r0, u9) → CW D dA A s h H locs → cc + u.1 = h.1 → ss + u.2.1 = h.2.1 → lv_has ls 6 [(0, .ref x0), (2, .int x2), (3, .int x3), (4, .int x4), (5, .int x5)] → W p l e (rm_X0_feed (u9.1 - u.1) (u9.2.1 - u.2.1)) s m args below meth c H locs cc ss QQ (F0 m 20 ls []) := by
    intro h x0 x2 x3 x4 x5 cc ss H locs ls hm hw hcc hss hl
    have hmo := mo_X0_feed_20  h x0 x2 x3 x4 x5 _ hm
    have sb_ : h.1 ≤ u9.1 := hmo.1
    have tb_ : h.2.1 ≤ u9.2.1 := hmo.2.1
    rw [m_X0_feed_20] at hm
    refine lv_aload_n hx hb dX0_feed_20 rfl (lv_at hl 0 rfl) ?_
    refine lv_iload_n hx hb dX0_feed_21 rfl (lv_at hl 1 rfl) ?_
    obtain ⟨g1, hm⟩ := gdE hm
    obtain ⟨h2, eh2, hm⟩ := bdE hm
    have lh2 := mo_X0_puts eh2
    have ph2 : h.1 ≤ h2.1 := lh2.1
    have qh2 : h.2.1 ≤ h2.2.1 := lh2.2.1
    have hmo := mo_X0_feed_25   h2 x0 x3 x4 x5 _ hm
    have sh2 : h2.1 ≤ u9.1 := hmo.1
    have th2 : h2.2.1 ≤ u9.2.1 := hmo.2.1
    refine cg_callv hw lh2 (va_runV (As := [.int x2]) (rest := []) ⟨hx, hb, hml, hown, hts⟩ (w_X0_puts l eh2) (cw_X0_puts hts q289 ⟨Nat.le_of_ble_eq_true rfl, Nat.le_of_ble_eq_true rfl⟩) (cg_preV C hw g1 rfl _) rfl rfl hl.1 rfl (lv_room (Nat.le_of_ble_eq_true rfl)) dX0_feed_22 ⟨show cc + (h2.1 - h.1) ≤ u9.1 - u.1 by omega, show ss + (h2.2.1 - h.2.1) ≤ u9.2.1 - u.2.1 by omega⟩) (fun H locs hw => ?_)
    exact hB25 h2 x0 x3 x4 x5 _ _ _ _ _ hm hw (by omega) (by omega) (lv_sub hl [0, 2, 3, 4] rfl)
  rw [m_X0_feed] at hm
  refine lv_aload_n hx hb dX0_feed_0 rfl (lv_at hl 0 rfl) ?_
  obtain ⟨v1, ev1, hm⟩ := bdE hm
  refine cg_get C hw (oI_E ev1) rfl in_X0 (by decide) q242 dX0_feed_1 ?_
  refine lv_bipush (v := 20) hx hb dX0_feed_4 (by decide) ?_
  refine lv_iadd hx hb dX0_feed_6 ?_
  refine lv_sipush (v := 500) hx hb dX0_feed_7 (by decide) ?_
  refine lv_icmp_le (tgt := 15) hx hb dX0_feed_10 (by decide) (fun c2 => ?_) (fun c2 => ?_)
  · have hm := ifT hm c2
    refine lv_aload_n hx hb dX0_feed_15 rfl (lv_at hl 0 rfl) ?_
    refine lv_iload_n hx hb dX0_feed_16 rfl (lv_at hl 1 rfl) ?_
    obtain ⟨g3, hm⟩ := gdE hm
    obtain ⟨h4, eh4, hm⟩ := bdE hm
    have lh4 := mo_X0_puts eh4
    have ph4 : u.1 ≤ h4.1 := lh4.1
    have qh4 : u.2.1 ≤ h4.2.1 := lh4.2.1
    have hmo := mo_X0_feed_20   h4 x0 x2 x3 x4 x5 _ hm
    have sh4 : h4.1 ≤ u9.1 := hmo.1
    have th4 : h4.2.1 ≤ u9.2.1 := hmo.2.1
    refine cg_callv hw lh4 (va_runV (As := [.int x1]) (rest := []) ⟨hx, hb, hml, hown, hts⟩ (w_X0_puts l eh4) (cw_X0_puts hts q289 ⟨Nat.le_of_ble_eq_true rfl, Nat.le_of_ble_eq_true rfl⟩) (cg_preV C hw g3 rfl _) rfl rfl hl.1 rfl (lv_room (Nat.le_of_ble_eq_true rfl)) dX0_feed_17 ⟨show cc + (h4.1 - u.1) ≤ u9.1 - u.1 by omega, show ss + (h4.2.1 - u.2.1) ≤ u9.2.1 - u.2.1 by omega⟩) (fun H locs hw => ?_)
    exact hB20 h4 x0 x2 x3 x4 x5 _ _ _ _ _ hm hw (by omega) (by omega) (lv_sub hl [0, 2, 3, 4, 5] rfl)
  · have hm := ifF hm c2
    refine lv_iconst (v := -1) hx hb dX0_feed_13 (by decide) ?_
    obtain ⟨er, eh⟩ := retE hm
    have ec : cc = u9.1 - u.1 := by rw [← eh]; omega
    have es : ss = u9.2.1 - u.2.1 := by rw [← eh]; omega
    rw [ec, es, ← hQ]
    exact W.iret (v := (-1 : Int32)) hx hb hr (fun t ht hW => ⟨⟨(-1 : Int32), u, rfl, ⟨er, eh⟩, ⟨by rw [ht]; exact hw.1, by rw [ht]; exact hw.2.1⟩⟩, hw.2.2.1.F ht⟩) hw.2.2.1.2.2 dX0_feed_14
def m_X0_end (f : Nat) (u : CH) (x0 : Nat) (x1 : Int32) : Option (Int32 × CH) := bd (oI u 1 3 x0) fun v1 =>
    bd (m_X0_isIn f (Int32.toInt64 x1) (0 : Int64) (Int32.toInt64 v1)) fun r2 =>
    if ¬ r2 = 0 then
    bd (pF u 1 3 x0 (.int x1)) fun h4 =>
    some (x1, h4)
    else some ((-1 : Int32), u)
theorem mo_X0_end {f : Nat} {u : CH} {x0 : Nat} {x1 : Int32} {r0 : Int32} {u9 : CH} (hm : m_X0_end f u x0 x1 = some (r0, u9)) : le2 u u9 := by
  rw [m_X0_end] at hm
  obtain ⟨v1, ev1, hm⟩ := bdE hm
  obtain ⟨r2, er2, hm⟩ := bdE hm
  by_cases c3 : ¬ r2 = 0
  · have hm := ifT hm c3
    obtain ⟨h4, eh4, hm⟩ := bdE hm
    have lh4 := pF_le eh4
    cases hm
    exact (lh4.tr le2.rf)
  · have hm := ifF hm c3
    cases hm
    exact le2.rf
abbrev rm_X0_end (mc ms : Nat) : Room := { frames := 1, cells := mc, slots := ms, locals := 25 }
theorem cw_X0_end {R : Room} {s : State} {args : Array Value} {own : String} {idx mc ms : Nat} (hts : ∀ w ∈ lw_all, w.before args s = true) (hl : Cond.methodLink own idx yX0_end ∈ lw_all) (hR : 1 + 1 ≤ R.frames ∧ 8 + (2 + 11) + 25 ≤ R.locals) : CallW R s args own RX0 idx yX0_end cX0_end 2 (Option.some Jvm.ClassFile.FieldType.int) (ws_ yX0_end cX0_end 2 (Option.some Jvm.ClassFile.FieldType.int)) (rm_X0_end mc ms) mc ms 1 := cwV 1 hts (lw_V hl q294 q295 q119 q296) rfl rfl rfl (by decide +kernel) hR
set_option maxHeartbeats 4000000 in
set_option maxRecDepth 100000 in
theorem w_X0_end (l : Launch) {D : va_G} {dA : Nat → ClassId} {A : Nat → Prop} {f : Nat} {u u9 : CH} {r0 : Int32} {x0 : Nat} {x1 : Int32} (hm : m_X0_end f u x0 x1 = some (r0, u9)) : Met l yX0_end (ws_ yX0_end cX0_end 2 (Option.some Jvm.ClassFile.FieldType.int)) (rm_X0_end (u9.1 - u.1) (u9.2.1 - u.2.1)) (va_Pc [.ref x0, .int x1] (CPre D dA A u)) (va_Qi (fun r u => r = r0 ∧ u = u9) (CPost D dA A) A) (u9.1 - u.1) (u9.2.1 - u.2.1) A := by
  refine Met.ofW (cc := cX0_end) (maxL := 2) (ret := (Option.some Jvm.ClassFile.FieldType.int)) (by decide) rfl ?_
  intro p e s m args below meth c s₁ B hml hv
  have hx := B.exec
  have hb := B.bytes
  have hr := B.returns
  have hts := atoms_spec (ws := (ws_ yX0_end cX0_end 2 (Option.some Jvm.ClassFile.FieldType.int))) B.pre
  have hts : ∀ w ∈ lw_all, w.before args s = true := fun w h => hts w (List.mem_cons_of_mem _ h)
  have hown : s.vm.findClass RX0 = some m.cls := findClass_of_methodNamed B.named
  have hlocks := B.notSynchronized
  obtain ⟨hav, hv⟩ := hv
  have C : CX p s m args c cX0_end RX0 D dA := ⟨hx, hb, hown, hts, hv.2⟩
  have hw : CW D dA A s u s.heap [] := hv.1
  generalize hQ : MQ below (va_Qi (fun r u => r = r0 ∧ u = u9) (CPost D dA A) A) args s (u9.1 - u.1) (u9.2.1 - u.2.1) A = QQ
  have hent := lg_entry_eq m [.ref x0, .int x1] 2
  rw [← hav] at hent
  rw [hent]
  have hl := lv_entry ([.ref x0, .int x1]) (n := 2) (Nat.le_of_ble_eq_true rfl)
  generalize (lg_sl ([.ref x0, .int x1]) ++ List.replicate (2 - (lg_sl ([.ref x0, .int x1])).length) Slot.unset).toArray = ls at hl ⊢
  have hl : lv_has ls 2 [(0, .ref x0), (1, .int x1)] := hl
  obtain ⟨cc, ecc⟩ : ∃ z : Nat, z = 0 := ⟨0, rfl⟩
  obtain ⟨ss, ess⟩ : ∃ z : Nat, z = 0 := ⟨0, rfl⟩
  have hcc : cc + u.1 = u.1 := by omega
  have hss : ss + u.2.1 = u.2.1 := by omega
  suffices hgo : W p l e (rm_X0_end (u9.1 - u.1) (u9.2.1 - u.2.1)) s m args below meth c s.heap [] cc ss QQ (F0 m 0 ls []) by rw [ecc, ess] at hgo; exact hgo
  have ⟨pu, qu, _, _⟩ := mo_X0_end hm
  rw [m_X0_end] at hm
  refine lv_iload_n hx hb dX0_end_0 rfl (lv_at hl 1 rfl) ?_
  refine lv_i2l hx hb dX0_end_1 rfl ?_
  refine lv_lconst (v := 0) hx hb dX0_end_2 (by decide) ?_
  refine lv_aload_n hx hb dX0_end_3 rfl (lv_at hl 0 rfl) ?_
  obtain ⟨v1, ev1, hm⟩ := bdE hm
  refine cg_get C hw (oI_E ev1) rfl in_X0 (by decide) q242 dX0_end_4 ?_
  refine lv_i2l hx hb dX0_end_7 rfl ?_
  obtain ⟨r2, er2, hm⟩ := bdE hm
  refine sci (va_runS (As := [.long (Int32.toInt64 x1), .long (0 : Int64), .long (Int32.toInt64 v1)]) (rest := []) ⟨hx, hb, hml, hown, hts⟩ (w_X0_isIn l er2) (cw_X0_isIn hts q297 ⟨Nat.le_of_ble_eq_true rfl, Nat.le_of_ble_eq_true rfl⟩) (pre_s _) rfl rfl hl.1 rfl (lv_room (Nat.le_of_ble_eq_true rfl)) dX0_end_8 ⟨show cc + 0 ≤ u9.1 - u.1 by omega, show ss + 0 ≤ u9.2.1 - u.2.1 by omega⟩) ?_
  refine lv_if_ne (tgt := 16) hx hb dX0_end_11 (by decide) (fun c3 => ?_) (fun c3 => ?_)
  · have hm := ifT hm c3
    refine lv_aload_n hx hb dX0_end_16 rfl (lv_at hl 0 rfl) ?_
    refine lv_iload_n hx hb dX0_end_17 rfl (lv_at hl 1 rfl) ?_
    obtain ⟨h4, eh4, hm⟩ := bdE hm
    refine cg_put C hw eh4 rfl in_X0 tyX0 tyX0_ok nmX0 (by decide) q242 rfl rfl rfl dX0_end_18 (fun H locs hw => ?_)
    have zh4 := pF_sz eh4
    refine lv_iload_n hx hb dX0_end_21 rfl (lv_at hl 1 rfl) ?_
    obtain ⟨er, eh⟩ := retE hm
    have ec : cc = u9.1 - u.1 := by rw [← eh]; omega
    have es : ss = u9.2.1 - u.2.1 := by rw [← eh]; omega
    rw [ec, es, ← hQ]
    exact W.iret (v := x1) hx hb hr (fun t ht hW => ⟨⟨x1, h4, rfl, ⟨er, eh⟩, ⟨by rw [ht]; exact hw.1, by rw [ht]; exact hw.2.1⟩⟩, hw.2.2.1.F ht⟩) hw.2.2.1.2.2 dX0_end_22
  · have hm := ifT' hm c3
    refine lv_iconst (v := -1) hx hb dX0_end_14 (by decide) ?_
    obtain ⟨er, eh⟩ := retE hm
    have ec : cc = u9.1 - u.1 := by rw [← eh]; omega
    have es : ss = u9.2.1 - u.2.1 := by rw [← eh]; omega
    rw [ec, es, ← hQ]
    exact W.iret (v := (-1 : Int32)) hx hb hr (fun t ht hW => ⟨⟨(-1 : Int32), u, rfl, ⟨er, eh⟩, ⟨by rw [ht]; exact hw.1, by rw [ht]; exact hw.2.1⟩⟩, hw.2.2.1.F ht⟩) hw.2.2.1.2.2 dX0_end_15
def m_X4_init_30 (f : Nat) (h : CH) (x0 : Nat) (y0 : Nat) (y1 : Nat) : Option CH := bd (pF h 4 1 y0 (.ref y1)) fun h1 =>
    bd (sR h1 (20 + 1)) fun a2 =>
    bd (pF h1 4 8 x0 (.ref a2)) fun h3 =>
    some h3
theorem mo_X4_init_30 {f : Nat} : ∀ (h : CH) (x0 : Nat) (y0 : Nat) (y1 : Nat) (r : CH), m_X4_init_30 f h x0 y0 y1 = some r → le2 h r := by
  intro h x0 y0 y1 r hm
  rw [m_X4_init_30] at hm
  obtain ⟨h1, eh1, hm⟩ := bdE hm
  have lh1 := pF_le eh1
  obtain ⟨a2, ea2, hm⟩ := bdE hm
  obtain ⟨h3, eh3, hm⟩ := bdE hm
  have lh3 := pF_le eh3
  cases hm
  exact (lh1.tr (lh3.tr le2.rf))
def m_X4_init_25 (f : Nat) (h : CH) (x0 : Nat) (y0 : Nat) (y1 : Nat) : Option CH := bd (m_J2_init f h y1 (5 : Int32)) fun h1 =>
    m_X4_init_30 f h1 x0 y0 y1
theorem mo_X4_init_25 {f : Nat} : ∀ (h : CH) (x0 : Nat) (y0 : Nat) (y1 : Nat) (r : CH), m_X4_init_25 f h x0 y0 y1 = some r → le2 h r := by
  intro h x0 y0 y1 r hm
  rw [m_X4_init_25] at hm
  obtain ⟨h1, eh1, hm⟩ := bdE hm
  have lh1 := mo_J2_init eh1
  exact (lh1.tr (mo_X4_init_30  h1 x0 y0 y1 _ hm))
def m_X4_init_18 (f : Nat) (h : CH) (x0 : Nat) (y0 : Nat) (y1 : Nat) : Option CH := bd (pF h 4 0 y0 (.ref y1)) fun h1 =>
    nmv (cn h1 3 (.inl (17, [.int 0, .null, .int 0]))) fun h2 =>
    nmv (h1.1 : Nat) fun a3 =>
    m_X4_init_25 f h2 x0 x0 a3
theorem mo_X4_init_18 {f : Nat} : ∀ (h : CH) (x0 : Nat) (y0 : Nat) (y1 : Nat) (r : CH), m_X4_init_18 f h x0 y0 y1 = some r → le2 h r := by
  intro h x0 y0 y1 r hm
  rw [m_X4_init_18] at hm
  obtain ⟨h1, eh1, hm⟩ := bdE hm
  have lh1 := pF_le eh1
  obtain ⟨h2, eh2, hm⟩ := nmE hm
  have lh2 := cn_le eh2
  obtain ⟨a3, ea3, hm⟩ := nmE hm
  exact (lh1.tr (lh2.tr (mo_X4_init_25  h2 x0 x0 a3 _ hm)))
def m_X4_init_13 (f : Nat) (h : CH) (x0 : Nat) (y0 : Nat) (y1 : Nat) : Option CH := bd (m_J2_init f h y1 (5 : Int32)) fun h1 =>
    m_X4_init_18 f h1 x0 y0 y1
theorem mo_X4_init_13 {f : Nat} : ∀ (h : CH) (x0 : Nat) (y0 : Nat) (y1 : Nat) (r : CH), m_X4_init_13 f h x0 y0 y1 = some r → le2 h r := by
  intro h x0 y0 y1 r hm
  rw [m_X4_init_13] at hm
  obtain ⟨h1, eh1, hm⟩ := bdE hm
  have lh1 := mo_J2_init eh1
  exact (lh1.tr (mo_X4_init_18  h1 x0 y0 y1 _ hm))
def m_X4_init (f : Nat) (u : CH) (x0 : Nat) (x1 : Nat) : Option CH := bd (pF u 4 9 x0 (.ref x1)) fun h1 =>
    nmv (cn h1 3 (.inl (17, [.int 0, .null, .int 0]))) fun h2 =>
    nmv (h1.1 : Nat) fun a3 =>
    m_X4_init_13 f h2 x0 x0 a3
theorem mo_X4_init {f : Nat} {u : CH} {x0 : Nat} {x1 : Nat} {u9 : CH} (hm : m_X4_init f u x0 x1 = some u9) : le2 u u9 := by
  rw [m_X4_init] at hm
  obtain ⟨h1, eh1, hm⟩ := bdE hm
  have lh1 := pF_le eh1
  obtain ⟨h2, eh2, hm⟩ := nmE hm
  have lh2 := cn_le eh2
  obtain ⟨a3, ea3, hm⟩ := nmE hm
  exact (lh1.tr (lh2.tr (mo_X4_init_13  h2 x0 x0 a3 _ hm)))
abbrev rm_X4_init (mc ms : Nat) : Room := { frames := 4, cells := mc, slots := ms, locals := 81 }
theorem cw_X4_init {R : Room} {s : State} {args : Array Value} {own : String} {idx mc ms : Nat} (hts : ∀ w ∈ lw_all, w.before args s = true) (hl : Cond.methodLink own idx yX4_init ∈ lw_all) (hR : 4 + 1 ≤ R.frames ∧ 8 + (2 + 11) + 81 ≤ R.locals) : CallB R s args own idx yX4_init cX4_init 2 none (ws_ yX4_init cX4_init 2 (Option.none : Option Jvm.ClassFile.FieldType)) (rm_X4_init mc ms) mc ms 1 ∧ yX4_init.name = "<init>" ∧ (Cond.instanceMethod yX4_init).before args s = true := cwI 1 hts (lw_meth q309) rfl rfl rfl (hts _ q126) (hts _ hl) (hts _ q308) rfl (by decide +kernel) hR
set_option maxHeartbeats 4000000 in
set_option maxRecDepth 100000 in
theorem w_X4_init (l : Launch) {D : va_G} {dA : Nat → ClassId} {A : Nat → Prop} {f : Nat} {u u9 : CH} {x0 : Nat} {x1 : Nat} (hm : m_X4_init f u x0 x1 = some u9) : Met l yX4_init (ws_ yX4_init cX4_init 2 (Option.none : Option Jvm.ClassFile.FieldType)) (rm_X4_init (u9.1 - u.1) (u9.2.1 - u.2.1)) (va_Pc [.ref x0, .ref x1] (CPre D dA A u)) (va_Qv (fun u => u = u9) (CPost D dA A) A) (u9.1 - u.1) (u9.2.1 - u.2.1) A := by
  refine Met.ofW (cc := cX4_init) (maxL := 2) (ret := (Option.none : Option Jvm.ClassFile.FieldType)) (by decide) rfl ?_
  intro p e s m args below meth c s₁ B hml hv
  have hx := B.exec
  have hb := B.bytes
  have hr := B.returns
  have hts := atoms_spec (ws := (ws_ yX4_init cX4_init 2 (Option.none : Option Jvm.ClassFile.FieldType))) B.pre
  have hts : ∀ w ∈ lw_all, w.before args s = true := fun w h => hts w (List.mem_cons_of_mem _ h)
  have hown : s.vm.findClass RX4 = some m.cls := findClass_of_methodNamed B.named
  have hlocks := B.notSynchronized
  have hin : meth.name = "<init>" := (name_of_methodNamed B.named B.method).1
  obtain ⟨hav, hv⟩ := hv
  have C : CX p s m args c cX4_init RX4 D dA := ⟨hx, hb, hown, hts, hv.2⟩
  have hw : CW D dA A s u s.heap [] := hv.1
  generalize hQ : MQ below (va_Qv (fun u => u = u9) (CPost D dA A) A) args s (u9.1 - u.1) (u9.2.1 - u.2.1) A = QQ
  have hent := lg_entry_eq m [.ref x0, .ref x1] 2
  rw [← hav] at hent
  rw [hent]
  have hl := lv_entry ([.ref x0, .ref x1]) (n := 2) (Nat.le_of_ble_eq_true rfl)
  generalize (lg_sl ([.ref x0, .ref x1]) ++ List.replicate (2 - (lg_sl ([.ref x0, .ref x1])).length) Slot.unset).toArray = ls at hl ⊢
  have hl : lv_has ls 2 [(0, .ref x0), (1, .ref x1)] := hl
  obtain ⟨cc, ecc⟩ : ∃ z : Nat, z = 0 := ⟨0, rfl⟩
  obtain ⟨ss, ess⟩ : ∃ z : Nat, z = 0 := ⟨0, rfl⟩
  have hcc : cc + u.1 = u.1 := by omega
  have hss : ss + u.2.1 = u.2.1 := by omega
  suffices hgo : W p l e (rm_X4_init (u9.1 - u.1) (u9.2.1 - u.2.1)) s m args below meth c s.heap [] cc ss QQ (F0 m 0 ls []) by rw [ecc, ess] at hgo; exact hgo
  have ⟨pu, qu, _, _⟩ := mo_X4_init hm
  have hB30 : ∀ (h : CH) (x0 : Nat) (y0 : Nat) (y1 : Nat) (cc ss : Nat) (H : Heap) (locs : List Loc) (ls : Array Slot), m_X4_init_30 f h x0 y0 y1 = some u9 → CW D dA A s h H locs → cc + u.1 = h.1 → ss + u.2.1 = h.2.1 → lv_has ls 2 [(0, .ref x0)] → W p l e (rm_X4_init (u9.1 - u.1) (u9.2.1 - u.2.1)) s m args below meth c H locs cc ss QQ (F0 m 30 ls [.ref y1, .ref y0]) := by
    intro h x0 y0 y1 cc ss H locs ls hm hw hcc hss hl
    have hmo := mo_X4_init_30  h x0 y0 y1 _ hm
    have sb_ : h.1 ≤ u9.1 := hmo.1
    have tb_ : h.2.1 ≤ u9.2.1 := hmo.2.1
    rw [m_X4_init_30] at hm
    obtain ⟨h1, eh1, hm⟩ := bdE hm
    refine cg_putF C hw eh1 rfl in_X4 tyX4 tyX4_ok nmX4 (by decide) q316 rfl hin rfl rfl rfl dX4_init_30 (fun H locs hw => ?_)
    have zh1 := pF_sz eh1
    refine lv_aload_n hx hb dX4_init_33 rfl (lv_at hl 0 rfl) ?_
    obtain ⟨a2, ea2, hm⟩ := bdE hm
    refine cg_ldcs C hw (i := 1) ea2 rfl dX4_init_34 ?_
    obtain ⟨h3, eh3, hm⟩ := bdE hm
    refine cg_put C hw eh3 rfl in_X4 tyX4 tyX4_ok nmX4 (by decide) q324 rfl rfl rfl dX4_init_36 (fun H locs hw => ?_)
    have zh3 := pF_sz eh3
    have eh := ret1 hm
    have ec : cc = u9.1 - u.1 := by rw [← eh]; omega
    have es : ss = u9.2.1 - u.2.1 := by rw [← eh]; omega
    rw [ec, es, ← hQ]
    exact W.vret hx hb hr (fun t ht hW => ⟨⟨h3, rfl, eh, ⟨by rw [ht]; exact hw.1, by rw [ht]; exact hw.2.1⟩⟩, hw.2.2.1.F ht⟩) hw.2.2.1.2.2 dX4_init_39
  have hB25 : ∀ (h : CH) (x0 : Nat) (y0 : Nat) (y1 : Nat) (cc ss : Nat) (H : Heap) (locs : List Loc) (ls : Array Slot), m_X4_init_25 f h x0 y0 y1 = some u9 → CW D dA A s h H locs → cc + u.1 = h.1 → ss + u.2.1 = h.2.1 → lv_has ls 2 [(0, .ref x0)] → W p l e (rm_X4_init (u9.1 - u.1) (u9.2.1 - u.2.1)) s m args below meth c H locs cc ss QQ (F0 m 25 ls [.ref y1, .ref y0]) := by
    intro h x0 y0 y1 cc ss H locs ls hm hw hcc hss hl
    have hmo := mo_X4_init_25  h x0 y0 y1 _ hm
    have sb_ : h.1 ≤ u9.1 := hmo.1
    have tb_ : h.2.1 ≤ u9.2.1 := hmo.2.1
    rw [m_X4_init_25] at hm
    refine lv_dup hx hb dX4_init_25 rfl ?_
    refine lv_iconst (v := 5) hx hb dX4_init_26 (by decide) ?_
    obtain ⟨h1, eh1, hm⟩ := bdE hm
    have lh1 := mo_J2_init eh1
    have ph1 : h.1 ≤ h1.1 := lh1.1
    have qh1 : h.2.1 ≤ h1.2.1 := lh1.2.1
    have hmo := mo_X4_init_30   h1 x0 y0 y1 _ hm
    have sh1 : h1.1 ≤ u9.1 := hmo.1
    have th1 : h1.2.1 ≤ u9.2.1 := hmo.2.1
    refine cg_callv hw lh1 (va_runI (As := [.int (5 : Int32)]) (rest := [.ref y1, .ref y0]) ⟨hx, hb, hml, hown, hts⟩ (w_J2_init l eh1) (cw_J2_init hts q312 ⟨Nat.le_of_ble_eq_true rfl, Nat.le_of_ble_eq_true rfl⟩) (cg_preS C hw _) rfl rfl hl.1 rfl (lv_room (Nat.le_of_ble_eq_true rfl)) dX4_init_27 ⟨show cc + (h1.1 - h.1) ≤ u9.1 - u.1 by omega, show ss + (h1.2.1 - h.2.1) ≤ u9.2.1 - u.2.1 by omega⟩) (fun H locs hw => ?_)
    exact hB30 h1 x0 y0 y1 _ _ _ _ _ hm hw (by omega) (by omega) (lv_sub hl [0] rfl)
  have hB18 : ∀ (h : CH) (x0 : Nat) (y0 : Nat) (y1 : Nat) (cc ss : Nat) (H : Heap) (locs : List Loc) (ls : Array Slot), m_X4_init_18 f h x0 y0 y1 = some u9 → CW D dA A s h H locs → cc + u.1 = h.1 → ss + u.2.1 = h.2.1 → lv_has ls 2 [(0, .ref x0)] → W p l e (rm_X4_init (u9.1 - u.1) (u9.2.1 - u.2.1)) s m args below meth c H locs cc ss QQ (F0 m 18 ls [.ref y1, .ref y0]) := by
    intro h x0 y0 y1 cc ss H locs ls hm hw hcc hss hl
    have hmo := mo_X4_init_18  h x0 y0 y1 _ hm
    have sb_ : h.1 ≤ u9.1 := hmo.1
    have tb_ : h.2.1 ≤ u9.2.1 := hmo.2.1
    rw [m_X4_init_18] at hm
    obtain ⟨h1, eh1, hm⟩ := bdE hm
    refine cg_putF C hw eh1 rfl in_X4 tyX4 tyX4_ok nmX4 (by decide) q314 rfl hin rfl rfl rfl dX4_init_18 (fun H locs hw => ?_)
    have zh1 := pF_sz eh1
    refine lv_aload_n hx hb dX4_init_21 rfl (lv_at hl 0 rfl) ?_
    obtain ⟨h2, eh2, hm⟩ := nmE hm
    obtain ⟨_, _, hmq⟩ := nmE hm
    have hmo := mo_X4_init_25   h2 x0 x0 _ _ hmq
    have sh2 : h2.1 ≤ u9.1 := hmo.1
    have th2 : h2.2.1 ≤ u9.2.1 := hmo.2.1
    have zh2 := cn_sz eh2
    refine cg_new (C0 := C) hw (ci := 17) (fs := [.int 0, .null, .int 0]) rfl in_J2 tyJ2 tyJ2_ok q311 q164 q122 (fun j hj => by rcases (show j = 0 ∨ j = 1 ∨ j = 2 by omega) with rfl | rfl | rfl <;> rfl) (show cc + 1 ≤ u9.1 - u.1 by omega) (show ss + 3 ≤ u9.2.1 - u.2.1 by omega) dX4_init_22 (fun H hw => ?_)
    rw [← eh2] at hw
    refine lv_topr (fun a3 ea3 => ?_)
    have hm := nmK hm ea3
    exact hB25 h2 x0 x0 a3 _ _ _ _ _ hm hw (by omega) (by omega) (lv_sub hl [0] rfl)
  have hB13 : ∀ (h : CH) (x0 : Nat) (y0 : Nat) (y1 : Nat) (cc ss : Nat) (H : Heap) (locs : List Loc) (ls : Array Slot), m_X4_init_13 f h x0 y0 y1 = some u9 → CW D dA A s h H locs → cc + u.1 = h.1 → ss + u.2.1 = h.2.1 → lv_has ls 2 [(0, .ref x0)] → W p l e (rm_X4_init (u9.1 - u.1) (u9.2.1 - u.2.1)) s m args below meth c H locs cc ss QQ (F0 m 13 ls [.ref y1, .ref y0]) := by
    intro h x0 y0 y1 cc ss H locs ls hm hw hcc hss hl
    have hmo := mo_X4_init_13  h x0 y0 y1 _ hm
    have sb_ : h.1 ≤ u9.1 := hmo.1
    have tb_ : h.2.1 ≤ u9.2.1 := hmo.2.1
    rw [m_X4_init_13] at hm
    refine lv_dup hx hb dX4_init_13 rfl ?_
    refine lv_iconst (v := 5) hx hb dX4_init_14 (by decide) ?_
    obtain ⟨h1, eh1, hm⟩ := bdE hm
    have lh1 := mo_J2_init eh1
    have ph1 : h.1 ≤ h1.1 := lh1.1
    have qh1 : h.2.1 ≤ h1.2.1 := lh1.2.1
    have hmo := mo_X4_init_18   h1 x0 y0 y1 _ hm
    have sh1 : h1.1 ≤ u9.1 := hmo.1
    have th1 : h1.2.1 ≤ u9.2.1 := hmo.2.1
    refine cg_callv hw lh1 (va_runI (As := [.int (5 : Int32)]) (rest := [.ref y1, .ref y0]) ⟨hx, hb, hml, hown, hts⟩ (w_J2_init l eh1) (cw_J2_init hts q312 ⟨Nat.le_of_ble_eq_true rfl, Nat.le_of_ble_eq_true rfl⟩) (cg_preS C hw _) rfl rfl hl.1 rfl (lv_room (Nat.le_of_ble_eq_true rfl)) dX4_init_15 ⟨show cc + (h1.1 - h.1) ≤ u9.1 - u.1 by omega, show ss + (h1.2.1 - h.2.1) ≤ u9.2.1 - u.2.1 by omega⟩) (fun H locs hw => ?_)
    exact hB18 h1 x0 y0 y1 _ _ _ _ _ hm hw (by omega) (by omega) (lv_sub hl [0] rfl)
  rw [m_X4_init] at hm
  refine lv_aload_n hx hb dX4_init_0 rfl (lv_at hl 0 rfl) ?_
  refine lv_aload_n hx hb dX4_init_1 rfl (lv_at hl 1 rfl) ?_
  obtain ⟨h1, eh1, hm⟩ := bdE hm
  refine cg_putF C hw eh1 rfl in_X4 tyX4 tyX4_ok nmX4 (by decide) q325 rfl hin rfl rfl rfl dX4_init_2 (fun H locs hw => ?_)
  have zh1 := pF_sz eh1
  refine lv_aload_n hx hb dX4_init_5 rfl (lv_at hl 0 rfl) ?_
  refine W.objInit hx hb hown (hts _ q310) (hts _ q161) (hts _ q162) rfl (by rw [hml]; exact hl.1) rfl dX4_init_6 (Nat.le_of_ble_eq_true rfl) (Nat.le_of_ble_eq_true rfl) ?_
  refine W.eq (g2 := F0 m 9 ls []) rfl ?_
  refine lv_aload_n hx hb dX4_init_9 rfl (lv_at hl 0 rfl) ?_
  obtain ⟨h2, eh2, hm⟩ := nmE hm
  obtain ⟨_, _, hmq⟩ := nmE hm
  have hmo := mo_X4_init_13   h2 x0 x0 _ _ hmq
  have sh2 : h2.1 ≤ u9.1 := hmo.1
  have th2 : h2.2.1 ≤ u9.2.1 := hmo.2.1
  have zh2 := cn_sz eh2
  refine cg_new (C0 := C) hw (ci := 17) (fs := [.int 0, .null, .int 0]) rfl in_J2 tyJ2 tyJ2_ok q311 q164 q122 (fun j hj => by rcases (show j = 0 ∨ j = 1 ∨ j = 2 by omega) with rfl | rfl | rfl <;> rfl) (show cc + 1 ≤ u9.1 - u.1 by omega) (show ss + 3 ≤ u9.2.1 - u.2.1 by omega) dX4_init_10 (fun H hw => ?_)
  rw [← eh2] at hw
  refine lv_topr (fun a3 ea3 => ?_)
  have hm := nmK hm ea3
  exact hB13 h2 x0 x0 a3 _ _ _ _ _ hm hw (by omega) (by omega) (lv_sub hl [0] rfl)
def m_X4_byteAt_28 (f : Nat) (h : CH) (y0 : Int32) : Option (Int32 × CH) := some (y0, h)
theorem mo_X4_byteAt_28 {f : Nat} : ∀ (h : CH) (y0 : Int32) (r : (Int32 × CH)), m_X4_byteAt_28 f h y0 = some r → le2 h r.2 := by
  intro h y0 r hm
  rw [m_X4_byteAt_28] at hm
  cases hm
  exact le2.rf
def m_X4_byteAt (f : Nat) (u : CH) (x0 : Nat) (x1 : Int32) : Option (Int32 × CH) := bd (oR u 4 9 x0) fun a1 =>
    bd (oI u 1 3 a1) fun v2 =>
    if v2 ≤ x1 then
    m_X4_byteAt_28 f u (-1 : Int32)
    else bd (oR u 4 9 x0) fun a4 =>
    bd (oR u 1 2 a4) fun a5 =>
    bd (aI u 2 a5 x1) fun v6 =>
    m_X4_byteAt_28 f u (v6 &&& (255 : Int32))
theorem mo_X4_byteAt {f : Nat} {u : CH} {x0 : Nat} {x1 : Int32} {r0 : Int32} {u9 : CH} (hm : m_X4_byteAt f u x0 x1 = some (r0, u9)) : le2 u u9 := by
  rw [m_X4_byteAt] at hm
  obtain ⟨a1, ea1, hm⟩ := bdE hm
  obtain ⟨v2, ev2, hm⟩ := bdE hm
  by_cases c3 : v2 ≤ x1
  · have hm := ifT hm c3
    exact (mo_X4_byteAt_28  u (-1 : Int32) _ hm)
  · have hm := ifF hm c3
    obtain ⟨a4, ea4, hm⟩ := bdE hm
    obtain ⟨a5, ea5, hm⟩ := bdE hm
    obtain ⟨v6, ev6, hm⟩ := bdE hm
    exact (mo_X4_byteAt_28  u (v6 &&& (255 : Int32)) _ hm)
abbrev rm_X4_byteAt (mc ms : Nat) : Room := { frames := 0, cells := mc, slots := ms, locals := 0 }
theorem cw_X4_byteAt {R : Room} {s : State} {args : Array Value} {own : String} {idx mc ms : Nat} (hts : ∀ w ∈ lw_all, w.before args s = true) (hl : Cond.methodLink own idx yX4_byteAt ∈ lw_all) (hR : 0 + 1 ≤ R.frames ∧ 8 + (2 + 11) + 0 ≤ R.locals) : CallW R s args own RX4 idx yX4_byteAt cX4_byteAt 2 (Option.some Jvm.ClassFile.FieldType.int) (ws_ yX4_byteAt cX4_byteAt 2 (Option.some Jvm.ClassFile.FieldType.int)) (rm_X4_byteAt mc ms) mc ms 1 := cwV 1 hts (lw_V hl q357 qs2 q126 q358) rfl rfl rfl (by decide +kernel) hR
set_option maxHeartbeats 4000000 in
set_option maxRecDepth 100000 in
theorem w_X4_byteAt (l : Launch) {D : va_G} {dA : Nat → ClassId} {A : Nat → Prop} {f : Nat} {u u9 : CH} {r0 : Int32} {x0 : Nat} {x1 : Int32} (hm : m_X4_byteAt f u x0 x1 = some (r0, u9)) : Met l yX4_byteAt (ws_ yX4_byteAt cX4_byteAt 2 (Option.some Jvm.ClassFile.FieldType.int)) (rm_X4_byteAt (u9.1 - u.1) (u9.2.1 - u.2.1)) (va_Pc [.ref x0, .int x1] (CPre D dA A u)) (va_Qi (fun r u => r = r0 ∧ u = u9) (CPost D dA A) A) (u9.1 - u.1) (u9.2.1 - u.2.1) A := by
  refine Met.ofW (cc := cX4_byteAt) (maxL := 2) (ret := (Option.some Jvm.ClassFile.FieldType.int)) (by decide) rfl ?_
  intro p e s m args below meth c s₁ B hml hv
  have hx := B.exec
  have hb := B.bytes
  have hr := B.returns
  have hts := atoms_spec (ws := (ws_ yX4_byteAt cX4_byteAt 2 (Option.some Jvm.ClassFile.FieldType.int))) B.pre
  have hts : ∀ w ∈ lw_all, w.before args s = true := fun w h => hts w (List.mem_cons_of_mem _ h)
  have hown : s.vm.findClass RX4 = some m.cls := findClass_of_methodNamed B.named
  have hlocks := B.notSynchronized
  obtain ⟨hav, hv⟩ := hv
  have C : CX p s m args c cX4_byteAt RX4 D dA := ⟨hx, hb, hown, hts, hv.2⟩
  have hw : CW D dA A s u s.heap [] := hv.1
  generalize hQ : MQ below (va_Qi (fun r u => r = r0 ∧ u = u9) (CPost D dA A) A) args s (u9.1 - u.1) (u9.2.1 - u.2.1) A = QQ
  have hent := lg_entry_eq m [.ref x0, .int x1] 2
  rw [← hav] at hent
  rw [hent]
  have hl := lv_entry ([.ref x0, .int x1]) (n := 2) (Nat.le_of_ble_eq_true rfl)
  generalize (lg_sl ([.ref x0, .int x1]) ++ List.replicate (2 - (lg_sl ([.ref x0, .int x1])).length) Slot.unset).toArray = ls at hl ⊢
  have hl : lv_has ls 2 [(0, .ref x0), (1, .int x1)] := hl
  obtain ⟨cc, ecc⟩ : ∃ z : Nat, z = 0 := ⟨0, rfl⟩
  obtain ⟨ss, ess⟩ : ∃ z : Nat, z = 0 := ⟨0, rfl⟩
  have hcc : cc + u.1 = u.1 := by omega
  have hss : ss + u.2.1 = u.2.1 := by omega
  suffices hgo : W p l e (rm_X4_byteAt (u9.1 - u.1) (u9.2.1 - u.2.1)) s m args below meth c s.heap [] cc ss QQ (F0 m 0 ls []) by rw [ecc, ess] at hgo; exact hgo
  have ⟨pu, qu, _, _⟩ := mo_X4_byteAt hm
  have hB28 : ∀ (h : CH) (y0 : Int32) (cc ss : Nat) (H : Heap) (locs : List Loc) (ls : Array Slot), m_X4_byteAt_28 f h y0 = some (r0, u9) → CW D dA A s h H locs → cc + u.1 = h.1 → ss + u.2.1 = h.2.1 → lv_has ls 2 [] → W p l e (rm_X4_byteAt (u9.1 - u.1) (u9.2.1 - u.2.1)) s m args below meth c H locs cc ss QQ (F0 m 28 ls [.int y0]) := by
    intro h y0 cc ss H locs ls hm hw hcc hss hl
    have hmo := mo_X4_byteAt_28  h y0 _ hm
    have sb_ : h.1 ≤ u9.1 := hmo.1
    have tb_ : h.2.1 ≤ u9.2.1 := hmo.2.1
    rw [m_X4_byteAt_28] at hm
    obtain ⟨er, eh⟩ := retE hm
    have ec : cc = u9.1 - u.1 := by rw [← eh]; omega
    have es : ss = u9.2.1 - u.2.1 := by rw [← eh]; omega
    rw [ec, es, ← hQ]
    exact W.iret (v := y0) hx hb hr (fun t ht hW => ⟨⟨y0, h, rfl, ⟨er, eh⟩, ⟨by rw [ht]; exact hw.1, by rw [ht]; exact hw.2.1⟩⟩, hw.2.2.1.F ht⟩) hw.2.2.1.2.2 dX4_byteAt_28
  rw [m_X4_byteAt] at hm
  refine lv_iload_n hx hb dX4_byteAt_0 rfl (lv_at hl 1 rfl) ?_
  refine lv_aload_n hx hb dX4_byteAt_1 rfl (lv_at hl 0 rfl) ?_
  obtain ⟨a1, ea1, hm⟩ := bdE hm
  refine cg_get C hw (oR_E ea1) rfl in_X4 (by decide) q325 dX4_byteAt_2 ?_
  obtain ⟨v2, ev2, hm⟩ := bdE hm
  refine cg_getN C hw (by decide) (oI_E ev2) rfl in_X0 (by decide) (hw.2.2.2.2.1 _ (List.mem_of_getElem? (i := 64) rfl)) dX4_byteAt_5 ?_
  refine lv_icmp_ge (tgt := 27) hx hb dX4_byteAt_8 (by decide) (fun c3 => ?_) (fun c3 => ?_)
  · have hm := ifT hm c3
    refine lv_iconst (v := -1) hx hb dX4_byteAt_27 (by decide) ?_
    exact hB28 u (-1 : Int32) _ _ _ _ _ hm hw (by omega) (by omega) (lv_sub hl [] rfl)
  · have hm := ifF hm c3
    refine lv_aload_n hx hb dX4_byteAt_11 rfl (lv_at hl 0 rfl) ?_
    obtain ⟨a4, ea4, hm⟩ := bdE hm
    refine cg_get C hw (oR_E ea4) rfl in_X4 (by decide) q325 dX4_byteAt_12 ?_
    obtain ⟨a5, ea5, hm⟩ := bdE hm
    refine cg_getN C hw (by decide) (oR_E ea5) rfl in_X0 (by decide) (hw.2.2.2.2.1 _ (List.mem_of_getElem? (i := 63) rfl)) dX4_byteAt_15 ?_
    refine lv_iload_n hx hb dX4_byteAt_18 rfl (lv_at hl 1 rfl) ?_
    obtain ⟨v6, ev6, hm⟩ := bdE hm
    refine cg_bald C hw ev6 dX4_byteAt_19 ?_
    refine lv_sipush (v := 255) hx hb dX4_byteAt_20 (by decide) ?_
    refine lv_iand hx hb dX4_byteAt_23 ?_
    refine lv_goto (tgt := 28) hx hb dX4_byteAt_24 (by decide) ?_
    exact hB28 u (v6 &&& (255 : Int32)) _ _ _ _ _ hm hw (by omega) (by omega) (lv_sub hl [] rfl)
def m_J10_checkLength (f : Nat) (u : CH) (x0 : Int32) (x1 : Int32) : Option CH := if x0 ≤ x1 then
    some u
    else none
theorem mo_J10_checkLength {f : Nat} {u : CH} {x0 : Int32} {x1 : Int32} {u9 : CH} (hm : m_J10_checkLength f u x0 x1 = some u9) : le2 u u9 := by
  rw [m_J10_checkLength] at hm
  by_cases c1 : x0 ≤ x1
  · have hm := ifT hm c1
    cases hm
    exact le2.rf
  · have hm := ifF hm c1
    exact noE hm
abbrev rm_J10_checkLength (mc ms : Nat) : Room := { frames := 0, cells := mc, slots := ms, locals := 0 }
theorem cw_J10_checkLength {R : Room} {s : State} {args : Array Value} {own : String} {idx mc ms : Nat} (hts : ∀ w ∈ lw_all, w.before args s = true) (hl : Cond.methodLink own idx yJ10_checkLength ∈ lw_all) (hR : 0 + 1 ≤ R.frames ∧ 8 + (2 + 11) + 0 ≤ R.locals) : CallB R s args own idx yJ10_checkLength cJ10_checkLength 2 (Option.none : Option Jvm.ClassFile.FieldType) (ws_ yJ10_checkLength cJ10_checkLength 2 (Option.none : Option Jvm.ClassFile.FieldType)) (rm_J10_checkLength mc ms) mc ms 2 ∧ (Cond.static yJ10_checkLength).before args s = true := va_cwS 2 hts (lw_S hl q524 q135 q525) rfl rfl rfl (by decide +kernel) hR
set_option maxHeartbeats 4000000 in
set_option maxRecDepth 100000 in
theorem w_J10_checkLength (l : Launch) {D : va_G} {dA : Nat → ClassId} {A : Nat → Prop} {f : Nat} {u u9 : CH} {x0 : Int32} {x1 : Int32} (hm : m_J10_checkLength f u x0 x1 = some u9) : Met l yJ10_checkLength (ws_ yJ10_checkLength cJ10_checkLength 2 (Option.none : Option Jvm.ClassFile.FieldType)) (rm_J10_checkLength (u9.1 - u.1) (u9.2.1 - u.2.1)) (va_Pc [.int x0, .int x1] (CPre D dA A u)) (va_Qv (fun u => u = u9) (CPost D dA A) A) (u9.1 - u.1) (u9.2.1 - u.2.1) A := by
  refine metOfWF (cc := cJ10_checkLength) (maxL := 2) (ret := (Option.none : Option Jvm.ClassFile.FieldType)) (by decide +kernel) rfl ?_
  intro p e s m args below meth c s₁ B hml hv
  have hx := B.exec
  have hb := B.bytes
  have hr := B.returns
  have hts := atoms_spec (ws := (ws_ yJ10_checkLength cJ10_checkLength 2 (Option.none : Option Jvm.ClassFile.FieldType))) B.pre
  have hts : ∀ w ∈ lw_all, w.before args s = true := fun w h => hts w (List.mem_cons_of_mem _ h)
  have hown : s.vm.findClass RJ10 = some m.cls := findClass_of_methodNamed B.named
  have hlocks := B.notSynchronized
  obtain ⟨hav, hv⟩ := hv
  have C : CX p s m args c cJ10_checkLength RJ10 D dA := ⟨hx, hb, hown, hts, hv.2⟩
  have hw : CW D dA A s u s.heap [] := hv.1
  generalize hQ : MQ below (va_Qv (fun u => u = u9) (CPost D dA A) A) args s (u9.1 - u.1) (u9.2.1 - u.2.1) A = QQ
  have hent := lg_entry_eq m [.int x0, .int x1] 2
  rw [← hav] at hent
  rw [hent]
  have hl := lv_entry ([.int x0, .int x1]) (n := 2) (Nat.le_of_ble_eq_true rfl)
  generalize (lg_sl ([.int x0, .int x1]) ++ List.replicate (2 - (lg_sl ([.int x0, .int x1])).length) Slot.unset).toArray = ls at hl ⊢
  have hl : lv_has ls 2 [(0, .int x0), (1, .int x1)] := hl
  obtain ⟨cc, ecc⟩ : ∃ z : Nat, z = 0 := ⟨0, rfl⟩
  obtain ⟨ss, ess⟩ : ∃ z : Nat, z = 0 := ⟨0, rfl⟩
  have hcc : cc + u.1 = u.1 := by omega
  have hss : ss + u.2.1 = u.2.1 := by omega
  suffices hgo : W p l e (rm_J10_checkLength (u9.1 - u.1) (u9.2.1 - u.2.1)) s m args below meth c s.heap [] cc ss QQ (F0 m 0 ls []) by rw [ecc, ess] at hgo; exact hgo
  have ⟨pu, qu, _, _⟩ := mo_J10_checkLength hm
  rw [m_J10_checkLength] at hm
  refine lv_iload_n hx hb dJ10_checkLength_0 rfl (lv_at hl 1 rfl) ?_
  refine lv_iload_n hx hb dJ10_checkLength_1 rfl (lv_at hl 0 rfl) ?_
  refine lv_icmp_ge (tgt := 37) hx hb dJ10_checkLength_2 (by decide) (fun c1 => ?_) (fun c1 => ?_)
  · have hm := ifT hm c1
    have eh := ret1 hm
    have ec : cc = u9.1 - u.1 := by rw [← eh]; omega
    have es : ss = u9.2.1 - u.2.1 := by rw [← eh]; omega
    rw [ec, es, ← hQ]
    exact W.vret hx hb hr (fun t ht hW => ⟨⟨u, rfl, eh, ⟨by rw [ht]; exact hw.1, by rw [ht]; exact hw.2.1⟩⟩, hw.2.2.1.F ht⟩) hw.2.2.1.2.2 dJ10_checkLength_37
  · have hm := ifF hm c1
    exact noE hm
